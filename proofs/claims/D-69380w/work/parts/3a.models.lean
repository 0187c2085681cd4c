noncomputable def fb_3_2 (k2 : (am_G × Int32 × Int32) → Option (am_G)) (g : am_G) (u1 : Int32) (u2 : Int32) : Option (am_G) := if (4 : Int32) ≤ u2 then some g else lo_g (ai_in (am_i g 32 1) 6000) (k2 ((am_si (am_si g 34 ((am_i g 32 1)).toNatClampNeg (((u1 >>> ((24 - (8 * u2)) &&& 31)).toInt8.toInt32).toInt8.toInt32)) 32 1 ((am_i g 32 1) + 1)), u1, (u2 + 1)))
theorem db_3_2 (L : Nat) {k2 : (am_G × Int32 × Int32) → Option (am_G)} (hk2 : ∀ (x : am_G × Int32 × Int32) (R : am_G), k2 x = some R → ai_ev ap_P 3 (2, [some (.ref 32), some (.int x.2.1), some (.int x.2.2)], [], (v0 L, x.1)) (.inl none) (v0 L, R)) (g : am_G) (u1 : Int32) (u2 : Int32) (R : am_G) : fb_3_2 k2 g u1 u2 = some R → ai_ev ap_P 3 (2, [some (.ref 32), some (.int u1), some (.int u2)], [], (v0 L, g)) (.inl none) (v0 L, R) := by
  unfold fb_3_2
  refine ev_if 2 (p := (4 : Int32) ≤ u2) (a := 45) (b := 7) (T := ([some (.ref 32), some (.int u1), some (.int u2)], [], (v0 L, g))) rfl ?_ ?_
  · exact fun hR => by cases hR; exact ev_rt 0 rfl
  · refine ev_gd (c := ai_in (am_i g 32 1) 6000) (fun hc1 => ?_)
    refine ev_jm 13 (t := (29, [some (.ref 32), some (.int u1), some (.int u2)], [], (v0 L, (am_si g 34 ((am_i g 32 1)).toNatClampNeg (((u1 >>> ((24 - (8 * u2)) &&& 31)).toInt8.toInt32).toInt8.toInt32))))) (ai_gd (c := ai_in (am_i g 32 1) 6000) rfl hc1) ?_
    refine ev_jm 7 (t := (2, [some (.ref 32), some (.int u1), some (.int (u2 + 1))], [], (v0 L, (am_si (am_si g 34 ((am_i g 32 1)).toNatClampNeg (((u1 >>> ((24 - (8 * u2)) &&& 31)).toInt8.toInt32).toInt8.toInt32)) 32 1 ((am_i g 32 1) + 1))))) rfl ?_
    exact hk2 ((am_si (am_si g 34 ((am_i g 32 1)).toNatClampNeg (((u1 >>> ((24 - (8 * u2)) &&& 31)).toInt8.toInt32).toInt8.toInt32)) 32 1 ((am_i g 32 1) + 1)), u1, (u2 + 1)) _
noncomputable def fh_3_2  (x : am_G × Int32 × Int32) : Option (am_G) := lo_it (fun k x => fb_3_2 k x.1 x.2.1 x.2.2) nf_F x
theorem dh_3_2 (L : Nat)   (x : am_G × Int32 × Int32) (R : am_G) : fh_3_2  x = some R → ai_ev ap_P 3 (2, [some (.ref 32), some (.int x.2.1), some (.int x.2.2)], [], (v0 L, x.1)) (.inl none) (v0 L, R) :=
  fun hr => lo_ev (E := fun x R => ai_ev ap_P 3 (2, [some (.ref 32), some (.int x.2.1), some (.int x.2.2)], [], (v0 L, x.1)) (.inl none) (v0 L, R)) (fun k hk x R hr => db_3_2 L hk x.1 x.2.1 x.2.2  R hr) nf_F x R hr
/-- DeclaredMarkup.put(I)V -/
noncomputable def fm_3 (g : am_G) (u1 : Int32) : Option (am_G) := fh_3_2 (g, u1, 0)
theorem dm_3 (L : Nat) (g : am_G) (u1 : Int32) (R : am_G) : fm_3 g u1 = some R → ai_ev ap_P 3 (ai_e0 ap_P 3 [.ref 32, .int u1] (v0 L, g)) (.inl none) (v0 L, R) := by
  show _ → ai_ev ap_P 3 (0, [some (.ref 32), some (.int u1), none], [], (v0 L, g)) _ _
  unfold fm_3
  refine ev_jm 1 (t := (2, [some (.ref 32), some (.int u1), some (.int 0)], [], (v0 L, g))) rfl ?_
  exact dh_3_2 L (g, u1, 0) _
/-- DeclaredMarkup.feed(IIIII)Z -/
noncomputable def fm_4 (g : am_G) (u1 : Int32) (u2 : Int32) (u3 : Int32) (u4 : Int32) (u5 : Int32) : Option (Int32 × am_G) := if ((am_i g 32 1) + 20) ≤ 6000 then lo_p (fm_3 g u1) fun g2 => lo_p (fm_3 g2 u2) fun g4 => lo_p (fm_3 g4 u3) fun g6 => lo_p (fm_3 g6 u4) fun g8 => lo_p (fm_3 g8 u5) fun g10 => some (1, g10) else some (0, g)
theorem dm_4 (L : Nat) (g : am_G) (u1 : Int32) (u2 : Int32) (u3 : Int32) (u4 : Int32) (u5 : Int32) (R : Int32 × am_G) : fm_4 g u1 u2 u3 u4 u5 = some R → ai_ev ap_P 4 (ai_e0 ap_P 4 [.ref 32, .int u1, .int u2, .int u3, .int u4, .int u5] (v0 L, g)) (.inl (ez_i R.1)) (v0 L, R.2) := by
  show _ → ai_ev ap_P 4 (0, [some (.ref 32), some (.int u1), some (.int u2), some (.int u3), some (.int u4), some (.int u5)], [], (v0 L, g)) _ _
  unfold fm_4
  refine ev_if 5 (p := ((am_i g 32 1) + 20) ≤ 6000) (a := 15) (b := 13) (T := ([some (.ref 32), some (.int u1), some (.int u2), some (.int u3), some (.int u4), some (.int u5)], [], (v0 L, g))) rfl ?_ ?_
  · refine ev_ov0 2 (as := [.ref 32, .int u1]) (pc := 20) (Lc := [some (.ref 32), some (.int u1), some (.int u2), some (.int u3), some (.int u4), some (.int u5)]) (st := []) (V := v0 L) (g1 := g) rfl (dm_3 L g u1) (fun g2 => ?_)
    refine ev_ov0 2 (as := [.ref 32, .int u2]) (pc := 25) (Lc := [some (.ref 32), some (.int u1), some (.int u2), some (.int u3), some (.int u4), some (.int u5)]) (st := []) (V := v0 L) (g1 := g2) rfl (dm_3 L g2 u2) (fun g4 => ?_)
    refine ev_ov0 2 (as := [.ref 32, .int u3]) (pc := 30) (Lc := [some (.ref 32), some (.int u1), some (.int u2), some (.int u3), some (.int u4), some (.int u5)]) (st := []) (V := v0 L) (g1 := g4) rfl (dm_3 L g4 u3) (fun g6 => ?_)
    refine ev_ov0 2 (as := [.ref 32, .int u4]) (pc := 36) (Lc := [some (.ref 32), some (.int u1), some (.int u2), some (.int u3), some (.int u4), some (.int u5)]) (st := []) (V := v0 L) (g1 := g6) rfl (dm_3 L g6 u4) (fun g8 => ?_)
    refine ev_ov0 2 (as := [.ref 32, .int u5]) (pc := 42) (Lc := [some (.ref 32), some (.int u1), some (.int u2), some (.int u3), some (.int u4), some (.int u5)]) (st := []) (V := v0 L) (g1 := g8) rfl (dm_3 L g8 u5) (fun g10 => ?_)
    exact fun hR => by cases hR; exact ev_rt 1 rfl
  · exact fun hR => by cases hR; exact ev_rt 1 rfl
noncomputable def fb_13_2 (k2 : (am_G × Int32 × Int32) → Option (am_G)) (g : am_G) (u1 : Int32) (u2 : Int32) : Option (am_G) := if (4 : Int32) ≤ u2 then some (am_si g 943 1 ((am_i g 943 1) + 4)) else lo_g (ai_in ((am_i g 943 1) + u2) 6020) (k2 ((am_si g 944 (((am_i g 943 1) + u2)).toNatClampNeg ((u1 >>> ((24 - (8 * u2)) &&& 31)) &&& 255)), u1, (u2 + 1)))
theorem db_13_2 (L : Nat) {k2 : (am_G × Int32 × Int32) → Option (am_G)} (hk2 : ∀ (x : am_G × Int32 × Int32) (R : am_G), k2 x = some R → ai_ev ap_P 13 (2, [some (.ref 943), some (.int x.2.1), some (.int x.2.2)], [], (v0 L, x.1)) (.inl none) (v0 L, R)) (g : am_G) (u1 : Int32) (u2 : Int32) (R : am_G) : fb_13_2 k2 g u1 u2 = some R → ai_ev ap_P 13 (2, [some (.ref 943), some (.int u1), some (.int u2)], [], (v0 L, g)) (.inl none) (v0 L, R) := by
  unfold fb_13_2
  refine ev_if 2 (p := (4 : Int32) ≤ u2) (a := 37) (b := 7) (T := ([some (.ref 943), some (.int u1), some (.int u2)], [], (v0 L, g))) rfl ?_ ?_
  · exact fun hR => by cases hR; exact ev_rt 6 rfl
  · refine ev_gd (c := ai_in ((am_i g 943 1) + u2) 6020) (fun hc1 => ?_)
    refine ev_jm 15 (t := (31, [some (.ref 943), some (.int u1), some (.int u2)], [], (v0 L, (am_si g 944 (((am_i g 943 1) + u2)).toNatClampNeg ((u1 >>> ((24 - (8 * u2)) &&& 31)) &&& 255))))) (ai_gd (c := ai_in ((am_i g 943 1) + u2) 6020) rfl hc1) ?_
    refine ev_jm 1 (t := (2, [some (.ref 943), some (.int u1), some (.int (u2 + 1))], [], (v0 L, (am_si g 944 (((am_i g 943 1) + u2)).toNatClampNeg ((u1 >>> ((24 - (8 * u2)) &&& 31)) &&& 255))))) rfl ?_
    exact hk2 ((am_si g 944 (((am_i g 943 1) + u2)).toNatClampNeg ((u1 >>> ((24 - (8 * u2)) &&& 31)) &&& 255)), u1, (u2 + 1)) _
noncomputable def fh_13_2  (x : am_G × Int32 × Int32) : Option (am_G) := lo_it (fun k x => fb_13_2 k x.1 x.2.1 x.2.2) nf_F x
theorem dh_13_2 (L : Nat)   (x : am_G × Int32 × Int32) (R : am_G) : fh_13_2  x = some R → ai_ev ap_P 13 (2, [some (.ref 943), some (.int x.2.1), some (.int x.2.2)], [], (v0 L, x.1)) (.inl none) (v0 L, R) :=
  fun hr => lo_ev (E := fun x R => ai_ev ap_P 13 (2, [some (.ref 943), some (.int x.2.1), some (.int x.2.2)], [], (v0 L, x.1)) (.inl none) (v0 L, R)) (fun k hk x R hr => db_13_2 L hk x.1 x.2.1 x.2.2  R hr) nf_F x R hr
/-- DeclaredMarkupModel.lay(I)V -/
noncomputable def fm_13 (g : am_G) (u1 : Int32) : Option (am_G) := fh_13_2 (g, u1, 0)
theorem dm_13 (L : Nat) (g : am_G) (u1 : Int32) (R : am_G) : fm_13 g u1 = some R → ai_ev ap_P 13 (ai_e0 ap_P 13 [.ref 943, .int u1] (v0 L, g)) (.inl none) (v0 L, R) := by
  show _ → ai_ev ap_P 13 (0, [some (.ref 943), some (.int u1), none], [], (v0 L, g)) _ _
  unfold fm_13
  refine ev_jm 1 (t := (2, [some (.ref 943), some (.int u1), some (.int 0)], [], (v0 L, g))) rfl ?_
  exact dh_13_2 L (g, u1, 0) _
/-- DeclaredMarkupModel.feed(IIIII)Z -/
noncomputable def fm_14 (g : am_G) (u1 : Int32) (u2 : Int32) (u3 : Int32) (u4 : Int32) (u5 : Int32) : Option (Int32 × am_G) := if ((am_i g 943 1) + 20) ≤ 6000 then lo_p (fm_13 g u1) fun g2 => lo_p (fm_13 g2 u2) fun g4 => lo_p (fm_13 g4 u3) fun g6 => lo_p (fm_13 g6 u4) fun g8 => lo_p (fm_13 g8 u5) fun g10 => some (1, g10) else some (0, g)
theorem dm_14 (L : Nat) (g : am_G) (u1 : Int32) (u2 : Int32) (u3 : Int32) (u4 : Int32) (u5 : Int32) (R : Int32 × am_G) : fm_14 g u1 u2 u3 u4 u5 = some R → ai_ev ap_P 14 (ai_e0 ap_P 14 [.ref 943, .int u1, .int u2, .int u3, .int u4, .int u5] (v0 L, g)) (.inl (ez_i R.1)) (v0 L, R.2) := by
  show _ → ai_ev ap_P 14 (0, [some (.ref 943), some (.int u1), some (.int u2), some (.int u3), some (.int u4), some (.int u5)], [], (v0 L, g)) _ _
  unfold fm_14
  refine ev_if 5 (p := ((am_i g 943 1) + 20) ≤ 6000) (a := 15) (b := 13) (T := ([some (.ref 943), some (.int u1), some (.int u2), some (.int u3), some (.int u4), some (.int u5)], [], (v0 L, g))) rfl ?_ ?_
  · refine ev_ov0 2 (as := [.ref 943, .int u1]) (pc := 20) (Lc := [some (.ref 943), some (.int u1), some (.int u2), some (.int u3), some (.int u4), some (.int u5)]) (st := []) (V := v0 L) (g1 := g) rfl (dm_13 L g u1) (fun g2 => ?_)
    refine ev_ov0 2 (as := [.ref 943, .int u2]) (pc := 25) (Lc := [some (.ref 943), some (.int u1), some (.int u2), some (.int u3), some (.int u4), some (.int u5)]) (st := []) (V := v0 L) (g1 := g2) rfl (dm_13 L g2 u2) (fun g4 => ?_)
    refine ev_ov0 2 (as := [.ref 943, .int u3]) (pc := 30) (Lc := [some (.ref 943), some (.int u1), some (.int u2), some (.int u3), some (.int u4), some (.int u5)]) (st := []) (V := v0 L) (g1 := g4) rfl (dm_13 L g4 u3) (fun g6 => ?_)
    refine ev_ov0 2 (as := [.ref 943, .int u4]) (pc := 36) (Lc := [some (.ref 943), some (.int u1), some (.int u2), some (.int u3), some (.int u4), some (.int u5)]) (st := []) (V := v0 L) (g1 := g6) rfl (dm_13 L g6 u4) (fun g8 => ?_)
    refine ev_ov0 2 (as := [.ref 943, .int u5]) (pc := 42) (Lc := [some (.ref 943), some (.int u1), some (.int u2), some (.int u3), some (.int u4), some (.int u5)]) (st := []) (V := v0 L) (g1 := g8) rfl (dm_13 L g8 u5) (fun g10 => ?_)
    exact fun hR => by cases hR; exact ev_rt 1 rfl
  · exact fun hR => by cases hR; exact ev_rt 1 rfl
noncomputable def fb_227_17 (k17 : (am_G × Int32) → Option (am_G)) (g : am_G) (u1 : Int32) : Option (am_G) := if (1024 : Int32) ≤ u1 then some g else lo_g (ai_in u1 1024) (k17 ((am_si g 48 u1.toNatClampNeg (((-1) : Int32).toInt16.toInt32)), (u1 + 1)))
theorem db_227_17 (L : Nat) {k17 : (am_G × Int32) → Option (am_G)} (hk17 : ∀ (x : am_G × Int32) (R : am_G), k17 x = some R → ai_ev ap_P 227 (17, [some (.ref 43), some (.int x.2)], [], (v0 L, x.1)) (.inl none) (v0 L, R)) (g : am_G) (u1 : Int32) (R : am_G) : fb_227_17 k17 g u1 = some R → ai_ev ap_P 227 (17, [some (.ref 43), some (.int u1)], [], (v0 L, g)) (.inl none) (v0 L, R) := by
  unfold fb_227_17
  refine ev_if 2 (p := (1024 : Int32) ≤ u1) (a := 37) (b := 24) (T := ([some (.ref 43), some (.int u1)], [], (v0 L, g))) rfl ?_ ?_
  · exact fun hR => by cases hR; exact ev_rt 0 rfl
  · refine ev_gd (c := ai_in u1 1024) (fun hc1 => ?_)
    refine ev_jm 4 (t := (31, [some (.ref 43), some (.int u1)], [], (v0 L, (am_si g 48 u1.toNatClampNeg (((-1) : Int32).toInt16.toInt32))))) (ai_gd (c := ai_in u1 1024) rfl hc1) ?_
    refine ev_jm 1 (t := (17, [some (.ref 43), some (.int (u1 + 1))], [], (v0 L, (am_si g 48 u1.toNatClampNeg (((-1) : Int32).toInt16.toInt32))))) rfl ?_
    exact hk17 ((am_si g 48 u1.toNatClampNeg (((-1) : Int32).toInt16.toInt32)), (u1 + 1)) _
noncomputable def fh_227_17  (x : am_G × Int32) : Option (am_G) := lo_it (fun k x => fb_227_17 k x.1 x.2) nf_F x
theorem dh_227_17 (L : Nat)   (x : am_G × Int32) (R : am_G) : fh_227_17  x = some R → ai_ev ap_P 227 (17, [some (.ref 43), some (.int x.2)], [], (v0 L, x.1)) (.inl none) (v0 L, R) :=
  fun hr => lo_ev (E := fun x R => ai_ev ap_P 227 (17, [some (.ref 43), some (.int x.2)], [], (v0 L, x.1)) (.inl none) (v0 L, R)) (fun k hk x R hr => db_227_17 L hk x.1 x.2  R hr) nf_F x R hr
/-- DeclaredMarkup$NamePool.clear()V -/
noncomputable def fm_227 (g : am_G)  : Option (am_G) := fh_227_17 ((am_si (am_si (am_si g 43 5 0) 43 6 0) 43 7 0), 0)
theorem dm_227 (L : Nat) (g : am_G)  (R : am_G) : fm_227 g  = some R → ai_ev ap_P 227 (ai_e0 ap_P 227 [.ref 43] (v0 L, g)) (.inl none) (v0 L, R) := by
  show _ → ai_ev ap_P 227 (0, [some (.ref 43), none], [], (v0 L, g)) _ _
  unfold fm_227
  refine ev_jm 10 (t := (17, [some (.ref 43), some (.int 0)], [], (v0 L, (am_si (am_si (am_si g 43 5 0) 43 6 0) 43 7 0)))) rfl ?_
  exact dh_227_17 L ((am_si (am_si (am_si g 43 5 0) 43 6 0) 43 7 0), 0) _
/-- DeclaredMarkup$Declared.clear()V -/
noncomputable def fm_162 (g : am_G)  : Option (am_G) := some (am_si (am_si (am_si (am_si (am_si g 49 5 0) 49 6 0) 49 7 0) 49 8 0) 49 9 0)
theorem dm_162 (L : Nat) (g : am_G)  (R : am_G) : fm_162 g  = some R → ai_ev ap_P 162 (ai_e0 ap_P 162 [.ref 49] (v0 L, g)) (.inl none) (v0 L, R) := by
  show _ → ai_ev ap_P 162 (0, [some (.ref 49)], [], (v0 L, g)) _ _
  unfold fm_162
  exact fun hR => by cases hR; exact ev_rt 15 rfl
/-- DeclaredMarkup$EntityTable.clear()V -/
noncomputable def fm_171 (g : am_G) (u0 : Nat) : Option (am_G) := lo_g ((Nat.beq (v0_kd u0) 12 && Nat.ble 32 u0)) (some (am_si (am_si g u0 5 0) u0 6 0))
theorem dm_171 (L : Nat) (g : am_G) (u0 : Nat) (R : am_G) : fm_171 g u0 = some R → ai_ev ap_P 171 (ai_e0 ap_P 171 [.ref u0] (v0 L, g)) (.inl none) (v0 L, R) := by
  show _ → ai_ev ap_P 171 (0, [some (.ref u0)], [], (v0 L, g)) _ _
  unfold fm_171
  refine ev_gd (c := (Nat.beq (v0_kd u0) 12 && Nat.ble 32 u0)) (fun hc1 => ?_)
  refine ev_jm 2 (t := (5, [some (.ref u0)], [], (v0 L, (am_si g u0 5 0)))) (ai_gd (c := (Nat.beq (v0_kd u0) 12 && Nat.ble 32 u0)) rfl hc1) ?_
  refine ev_jm 2 (t := (10, [some (.ref u0)], [], (v0 L, (am_si (am_si g u0 5 0) u0 6 0)))) (ai_gd (c := (Nat.beq (v0_kd u0) 12 && Nat.ble 32 u0)) rfl hc1) ?_
  exact fun hR => by cases hR; exact ev_rt 0 rfl
/-- DeclaredMarkup$Marks.clear()V -/
noncomputable def fm_200 (g : am_G)  : Option (am_G) := some (am_si (am_si g 867 4 0) 867 5 0)
theorem dm_200 (L : Nat) (g : am_G)  (R : am_G) : fm_200 g  = some R → ai_ev ap_P 200 (ai_e0 ap_P 200 [.ref 867] (v0 L, g)) (.inl none) (v0 L, R) := by
  show _ → ai_ev ap_P 200 (0, [some (.ref 867)], [], (v0 L, g)) _ _
  unfold fm_200
  exact fun hR => by cases hR; exact ev_rt 6 rfl
/-- DeclaredMarkup$Lines.clear()V -/
noncomputable def fm_189 (g : am_G)  : Option (am_G) := some (am_si (am_si (am_si (am_si (am_si (am_sr g 872 1 none) 872 2 0) 872 3 0) 872 4 0) 872 5 0) 872 6 1)
theorem dm_189 (L : Nat) (g : am_G)  (R : am_G) : fm_189 g  = some R → ai_ev ap_P 189 (ai_e0 ap_P 189 [.ref 872] (v0 L, g)) (.inl none) (v0 L, R) := by
  show _ → ai_ev ap_P 189 (0, [some (.ref 872)], [], (v0 L, g)) _ _
  unfold fm_189
  exact fun hR => by cases hR; exact ev_rt 18 rfl
/-- DeclaredMarkup$Feed.begin()V -/
noncomputable def fm_175 (g : am_G)  : Option (am_G) := some (am_si (am_si (am_si g 39 4 0) 42 0 0) 39 6 0)
theorem dm_175 (L : Nat) (g : am_G)  (R : am_G) : fm_175 g  = some R → ai_ev ap_P 175 (ai_e0 ap_P 175 [.ref 39] (v0 L, g)) (.inl none) (v0 L, R) := by
  show _ → ai_ev ap_P 175 (0, [some (.ref 39)], [], (v0 L, g)) _ _
  unfold fm_175
  exact fun hR => by cases hR; exact ev_rt 11 rfl
/-- DeclaredMarkup$Processor.forget()V -/
noncomputable def fm_253 (g : am_G)  : Option (am_G) := lo_p (fm_227 (am_si (am_si (am_si (am_si (am_si g 33 14 0) 33 15 0) 33 16 0) 33 17 0) 33 24 0) ) fun g2 => lo_p (fm_162 g2 ) fun g4 => lo_p (fm_171 g4 855) fun g6 => lo_p (fm_171 g6 861) fun g8 => lo_p (fm_200 g8 ) fun g10 => lo_p (fm_189 g10 ) fun g12 => lo_p (fm_175 g12 ) fun g14 => some g14
theorem dm_253 (L : Nat) (g : am_G)  (R : am_G) : fm_253 g  = some R → ai_ev ap_P 253 (ai_e0 ap_P 253 [.ref 33] (v0 L, g)) (.inl none) (v0 L, R) := by
  show _ → ai_ev ap_P 253 (0, [some (.ref 33)], [], (v0 L, g)) _ _
  unfold fm_253
  refine ev_ov0 17 (as := [.ref 43]) (pc := 32) (Lc := [some (.ref 33)]) (st := []) (V := v0 L) (g1 := (am_si (am_si (am_si (am_si (am_si g 33 14 0) 33 15 0) 33 16 0) 33 17 0) 33 24 0)) rfl (dm_227 L (am_si (am_si (am_si (am_si (am_si g 33 14 0) 33 15 0) 33 16 0) 33 17 0) 33 24 0) ) (fun g2 => ?_)
  refine ev_ov0 2 (as := [.ref 49]) (pc := 39) (Lc := [some (.ref 33)]) (st := []) (V := v0 L) (g1 := g2) rfl (dm_162 L g2 ) (fun g4 => ?_)
  refine ev_ov0 2 (as := [.ref 855]) (pc := 46) (Lc := [some (.ref 33)]) (st := []) (V := v0 L) (g1 := g4) rfl (dm_171 L g4 855) (fun g6 => ?_)
  refine ev_ov0 2 (as := [.ref 861]) (pc := 53) (Lc := [some (.ref 33)]) (st := []) (V := v0 L) (g1 := g6) rfl (dm_171 L g6 861) (fun g8 => ?_)
  refine ev_ov0 2 (as := [.ref 867]) (pc := 60) (Lc := [some (.ref 33)]) (st := []) (V := v0 L) (g1 := g8) rfl (dm_200 L g8 ) (fun g10 => ?_)
  refine ev_ov0 2 (as := [.ref 872]) (pc := 67) (Lc := [some (.ref 33)]) (st := []) (V := v0 L) (g1 := g10) rfl (dm_189 L g10 ) (fun g12 => ?_)
  refine ev_ov0 2 (as := [.ref 39]) (pc := 74) (Lc := [some (.ref 33)]) (st := []) (V := v0 L) (g1 := g12) rfl (dm_175 L g12 ) (fun g14 => ?_)
  exact fun hR => by cases hR; exact ev_rt 0 rfl
/-- DeclaredMarkup$Processor.begin(I)V -/
noncomputable def fm_252 (g : am_G) (u1 : Int32) : Option (am_G) := lo_p (fm_253 (am_si g 33 10 u1) ) fun g2 => some (am_si (am_si (am_si g2 33 11 0) 33 12 (-1)) 33 13 0)
theorem dm_252 (L : Nat) (g : am_G) (u1 : Int32) (R : am_G) : fm_252 g u1 = some R → ai_ev ap_P 252 (ai_e0 ap_P 252 [.ref 33, .int u1] (v0 L, g)) (.inl none) (v0 L, R) := by
  show _ → ai_ev ap_P 252 (0, [some (.ref 33), some (.int u1)], [], (v0 L, g)) _ _
  unfold fm_252
  refine ev_ov0 4 (as := [.ref 33]) (pc := 9) (Lc := [some (.ref 33), some (.int u1)]) (st := []) (V := v0 L) (g1 := (am_si g 33 10 u1)) rfl (dm_253 L (am_si g 33 10 u1) ) (fun g2 => ?_)
  exact fun hR => by cases hR; exact ev_rt 9 rfl
/-- DeclaredMarkup$Coder.begins(I)I -/
noncomputable def fm_159 (g : am_G) (u0 : Int32) : Option (Int32) := if (128 : Int32) ≤ u0 then if (194 : Int32) ≤ u0 then if (224 : Int32) ≤ u0 then if (240 : Int32) ≤ u0 then if (245 : Int32) ≤ u0 then some 0 else some 4 else some 3 else some 2 else some 0 else some 1
theorem dm_159 (L : Nat) (g : am_G) (u0 : Int32) (R : Int32) : fm_159 g u0 = some R → ai_ev ap_P 159 (ai_e0 ap_P 159 [.int u0] (v0 L, g)) (.inl (ez_i R)) (v0 L, g) := by
  show _ → ai_ev ap_P 159 (0, [some (.int u0)], [], (v0 L, g)) _ _
  unfold fm_159
  refine ev_if 2 (p := (128 : Int32) ≤ u0) (a := 11) (b := 7) (T := ([some (.int u0)], [], (v0 L, g))) rfl ?_ ?_
  · refine ev_if 2 (p := (194 : Int32) ≤ u0) (a := 22) (b := 18) (T := ([some (.int u0)], [], (v0 L, g))) rfl ?_ ?_
    · refine ev_if 2 (p := (224 : Int32) ≤ u0) (a := 33) (b := 29) (T := ([some (.int u0)], [], (v0 L, g))) rfl ?_ ?_
      · refine ev_if 2 (p := (240 : Int32) ≤ u0) (a := 44) (b := 40) (T := ([some (.int u0)], [], (v0 L, g))) rfl ?_ ?_
        · refine ev_if 2 (p := (245 : Int32) ≤ u0) (a := 55) (b := 51) (T := ([some (.int u0)], [], (v0 L, g))) rfl ?_ ?_
          · exact fun hR => by cases hR; exact ev_rt 1 rfl
          · exact fun hR => by cases hR; exact ev_rt 2 rfl
        · exact fun hR => by cases hR; exact ev_rt 2 rfl
      · exact fun hR => by cases hR; exact ev_rt 2 rfl
    · exact fun hR => by cases hR; exact ev_rt 2 rfl
  · exact fun hR => by cases hR; exact ev_rt 2 rfl
/-- DeclaredMarkup$Coder.has(I)Z -/
noncomputable def fm_157 (g : am_G) (u0 : Int32) : Option (Int32) := if u0 < 0 then some 0 else if (1114111 : Int32) < u0 then some 0 else if u0 < 55296 then some 1 else if u0 < 57344 then some 0 else some 1
theorem dm_157 (L : Nat) (g : am_G) (u0 : Int32) (R : Int32) : fm_157 g u0 = some R → ai_ev ap_P 157 (ai_e0 ap_P 157 [.int u0] (v0 L, g)) (.inl (ez_i R)) (v0 L, g) := by
  show _ → ai_ev ap_P 157 (0, [some (.int u0)], [], (v0 L, g)) _ _
  unfold fm_157
  refine ev_if 1 (p := u0 < 0) (a := 26) (b := 4) (T := ([some (.int u0)], [], (v0 L, g))) rfl ?_ ?_
  · exact fun hR => by cases hR; exact ev_rt 1 rfl
  · refine ev_if 2 (p := (1114111 : Int32) < u0) (a := 26) (b := 10) (T := ([some (.int u0)], [], (v0 L, g))) rfl ?_ ?_
    · exact fun hR => by cases hR; exact ev_rt 1 rfl
    · refine ev_if 2 (p := u0 < 55296) (a := 22) (b := 16) (T := ([some (.int u0)], [], (v0 L, g))) rfl ?_ ?_
      · exact fun hR => by cases hR; exact ev_rt 2 rfl
      · refine ev_if 2 (p := u0 < 57344) (a := 26) (b := 22) (T := ([some (.int u0)], [], (v0 L, g))) rfl ?_ ?_
        · exact fun hR => by cases hR; exact ev_rt 1 rfl
        · exact fun hR => by cases hR; exact ev_rt 2 rfl
/-- DeclaredMarkup$Coder.sizeOf(I)I -/
noncomputable def fm_158 (g : am_G) (u0 : Int32) : Option (Int32) := if (128 : Int32) ≤ u0 then if (2048 : Int32) ≤ u0 then if (65536 : Int32) ≤ u0 then some 4 else some 3 else some 2 else some 1
theorem dm_158 (L : Nat) (g : am_G) (u0 : Int32) (R : Int32) : fm_158 g u0 = some R → ai_ev ap_P 158 (ai_e0 ap_P 158 [.int u0] (v0 L, g)) (.inl (ez_i R)) (v0 L, g) := by
  show _ → ai_ev ap_P 158 (0, [some (.int u0)], [], (v0 L, g)) _ _
  unfold fm_158
  refine ev_if 2 (p := (128 : Int32) ≤ u0) (a := 11) (b := 7) (T := ([some (.int u0)], [], (v0 L, g))) rfl ?_ ?_
  · refine ev_if 2 (p := (2048 : Int32) ≤ u0) (a := 22) (b := 18) (T := ([some (.int u0)], [], (v0 L, g))) rfl ?_ ?_
    · refine ev_if 2 (p := (65536 : Int32) ≤ u0) (a := 32) (b := 28) (T := ([some (.int u0)], [], (v0 L, g))) rfl ?_ ?_
      · exact fun hR => by cases hR; exact ev_rt 1 rfl
      · exact fun hR => by cases hR; exact ev_rt 2 rfl
    · exact fun hR => by cases hR; exact ev_rt 2 rfl
  · exact fun hR => by cases hR; exact ev_rt 2 rfl
noncomputable def fb_160_65 (k65 : (am_G × Int32 × Int32 × Int32) → Option (Int32 × am_G)) (g : am_G) (u2 : Int32) (u5 : Int32) (u6 : Int32) : Option (Int32 × am_G) := if (am_i g 36 0) ≤ u6 then lo_p (fm_157 g u5) fun y1 => if y1 = 0 then some ((-1), g) else lo_p (fm_158 g u5) fun y3 => if y3 = (am_i g 36 0) then some (u5, g) else some ((-1), g) else lo_g (ai_in (u2 + u6) 6000) (lo_l ((am_i g 34 ((u2 + u6)).toNatClampNeg) &&& 255) fun x6 => if (x6 >>> (6 &&& 31)) = 2 then lo_l ((u5 <<< (6 &&& 31)) ||| (x6 &&& 63)) fun x7 => k65 (g, u2, x7, (u6 + 1)) else some ((-1), g))
theorem db_160_65 (L : Nat) {k65 : (am_G × Int32 × Int32 × Int32) → Option (Int32 × am_G)} (hk65 : ∀ (x : am_G × Int32 × Int32 × Int32) (w3 w4 w7 : Option Value) (R : Int32 × am_G), k65 x = some R → ai_ev ap_P 160 (65, [some (.ref 36), some (.ref 34), some (.int x.2.1), w3, w4, some (.int x.2.2.1), some (.int x.2.2.2), w7], [], (v0 L, x.1)) (.inl (ez_i R.1)) (v0 L, R.2)) (g : am_G) (u2 : Int32) (u5 : Int32) (u6 : Int32) (w3 w4 w7 : Option Value) (R : Int32 × am_G) : fb_160_65 k65 g u2 u5 u6 = some R → ai_ev ap_P 160 (65, [some (.ref 36), some (.ref 34), some (.int u2), w3, w4, some (.int u5), some (.int u6), w7], [], (v0 L, g)) (.inl (ez_i R.1)) (v0 L, R.2) := by
  unfold fb_160_65
  refine ev_if 3 (p := (am_i g 36 0) ≤ u6) (a := 116) (b := 74) (T := ([some (.ref 36), some (.ref 34), some (.int u2), none, none, some (.int u5), some (.int u6), none], [], (v0 L, g))) rfl ?_ ?_
  · refine ev_op 1 (as := [.int u5]) (pc := 121) (Lc := [some (.ref 36), some (.ref 34), some (.int u2), none, none, some (.int u5), some (.int u6), none]) (st := []) (h1 := (v0 L, g)) (e := ez_i) rfl (dm_157 L g u5) (fun y1 => ?_)
    refine ev_if 0 (p := y1 = 0) (a := 141) (b := 124) (T := ([some (.ref 36), some (.ref 34), some (.int u2), none, none, some (.int u5), some (.int u6), none], [], (v0 L, g))) rfl ?_ ?_
    · exact fun hR => by cases hR; exact ev_rt 1 rfl
    · refine ev_op 1 (as := [.int u5]) (pc := 129) (Lc := [some (.ref 36), some (.ref 34), some (.int u2), none, none, some (.int u5), some (.int u6), none]) (st := []) (h1 := (v0 L, g)) (e := ez_i) rfl (dm_158 L g u5) (fun y3 => ?_)
      refine ev_in 2 (p := y3 = (am_i g 36 0)) (a := 141) (b := 136) (T := ([some (.ref 36), some (.ref 34), some (.int u2), none, none, some (.int u5), some (.int u6), none], [], (v0 L, g))) rfl ?_ ?_
      · exact fun hR => by cases hR; exact ev_rt 2 rfl
      · exact fun hR => by cases hR; exact ev_rt 1 rfl
  · refine ev_gd (c := ai_in (u2 + u6) 6000) (fun hc5 => ?_)
    refine ev_jm 4 (t := (80, [some (.ref 36), some (.ref 34), some (.int u2), none, none, some (.int u5), some (.int u6), none], [.int (am_i g 34 ((u2 + u6)).toNatClampNeg)], (v0 L, g))) (ai_gd (c := ai_in (u2 + u6) 6000) rfl hc5) ?_
    refine ev_jm 1 (t := (84, [some (.ref 36), some (.ref 34), some (.int u2), none, none, some (.int u5), some (.int u6), none], [.int ((am_i g 34 ((u2 + u6)).toNatClampNeg) &&& 255)], (v0 L, g))) rfl ?_
    refine lo_e (S := fun (x6 : Int32) => (84, [some (.ref 36), some (.ref 34), some (.int u2), none, none, some (.int u5), some (.int u6), none], [.int x6], (v0 L, g))) (fun x6 => ?_)
    refine ev_if 5 (p := (x6 >>> (6 &&& 31)) = 2) (a := 97) (b := 95) (T := ([some (.ref 36), some (.ref 34), some (.int u2), none, none, some (.int u5), some (.int u6), some (.int x6)], [], (v0 L, g))) rfl ?_ ?_
    · refine ev_jm 6 (t := (108, [some (.ref 36), some (.ref 34), some (.int u2), none, none, some (.int u5), some (.int u6), some (.int x6)], [.int ((u5 <<< (6 &&& 31)) ||| (x6 &&& 63))], (v0 L, g))) rfl ?_
      refine lo_e (S := fun (x7 : Int32) => (108, [some (.ref 36), some (.ref 34), some (.int u2), none, none, some (.int u5), some (.int u6), some (.int x6)], [.int x7], (v0 L, g))) (fun x7 => ?_)
      refine ev_jm 2 (t := (65, [some (.ref 36), some (.ref 34), some (.int u2), none, none, some (.int x7), some (.int (u6 + 1)), some (.int x6)], [], (v0 L, g))) rfl ?_
      exact hk65 (g, u2, x7, (u6 + 1)) none none (some (.int x6)) _
    · exact fun hR => by cases hR; exact ev_rt 1 rfl
noncomputable def fh_160_65  (x : am_G × Int32 × Int32 × Int32) : Option (Int32 × am_G) := lo_it (fun k x => fb_160_65 k x.1 x.2.1 x.2.2.1 x.2.2.2) nf_F x
theorem dh_160_65 (L : Nat)   (x : am_G × Int32 × Int32 × Int32) (w3 w4 w7 : Option Value) (R : Int32 × am_G) : fh_160_65  x = some R → ai_ev ap_P 160 (65, [some (.ref 36), some (.ref 34), some (.int x.2.1), w3, w4, some (.int x.2.2.1), some (.int x.2.2.2), w7], [], (v0 L, x.1)) (.inl (ez_i R.1)) (v0 L, R.2) :=
  fun hr => lo_ev (E := fun x R => ∀ (w3 w4 w7 : Option Value), ai_ev ap_P 160 (65, [some (.ref 36), some (.ref 34), some (.int x.2.1), w3, w4, some (.int x.2.2.1), some (.int x.2.2.2), w7], [], (v0 L, x.1)) (.inl (ez_i R.1)) (v0 L, R.2)) (fun k hk x R hr => fun w3 w4 w7 => db_160_65 L (fun x w3 w4 w7 R hr => hk x R hr w3 w4 w7) x.1 x.2.1 x.2.2.1 x.2.2.2 w3 w4 w7 R hr) nf_F x R hr w3 w4 w7
/-- DeclaredMarkup$Coder.read([BII)I -/
noncomputable def fm_160 (g : am_G) (u2 : Int32) (u3 : Int32) : Option (Int32 × am_G) := lo_g (ai_in u2 6000) (lo_l ((am_i g 34 u2.toNatClampNeg) &&& 255) fun x2 => lo_p (fm_159 g x2) fun y3 => if y3 = 0 then some ((-1), (am_si g 36 0 y3)) else if (u2 + y3) ≤ u3 then if y3 = 1 then fh_160_65 ((am_si g 36 0 y3), u2, x2, 1) else lo_l (x2 &&& (127 >>> (y3 &&& 31))) fun x5 => fh_160_65 ((am_si g 36 0 y3), u2, x5, 1) else some ((-1), (am_si g 36 0 y3)))
theorem dm_160 (L : Nat) (g : am_G) (u2 : Int32) (u3 : Int32) (R : Int32 × am_G) : fm_160 g u2 u3 = some R → ai_ev ap_P 160 (ai_e0 ap_P 160 [.ref 36, .ref 34, .int u2, .int u3] (v0 L, g)) (.inl (ez_i R.1)) (v0 L, R.2) := by
  show _ → ai_ev ap_P 160 (0, [some (.ref 36), some (.ref 34), some (.int u2), some (.int u3), none, none, none, none], [], (v0 L, g)) _ _
  unfold fm_160
  refine ev_gd (c := ai_in u2 6000) (fun hc1 => ?_)
  refine ev_jm 2 (t := (3, [some (.ref 36), some (.ref 34), some (.int u2), some (.int u3), none, none, none, none], [.int (am_i g 34 u2.toNatClampNeg)], (v0 L, g))) (ai_gd (c := ai_in u2 6000) rfl hc1) ?_
  refine ev_jm 1 (t := (7, [some (.ref 36), some (.ref 34), some (.int u2), some (.int u3), none, none, none, none], [.int ((am_i g 34 u2.toNatClampNeg) &&& 255)], (v0 L, g))) rfl ?_
  refine lo_e (S := fun (x2 : Int32) => (7, [some (.ref 36), some (.ref 34), some (.int u2), some (.int u3), none, none, none, none], [.int x2], (v0 L, g))) (fun x2 => ?_)
  refine ev_op 3 (as := [.int x2]) (pc := 15) (Lc := [some (.ref 36), some (.ref 34), some (.int u2), some (.int u3), some (.int x2), none, none, none]) (st := [.ref 36]) (h1 := (v0 L, g)) (e := ez_i) rfl (dm_159 L g x2) (fun y3 => ?_)
  refine ev_if 3 (p := y3 = 0) (a := 35) (b := 25) (T := ([some (.ref 36), some (.ref 34), some (.int u2), some (.int u3), some (.int x2), none, none, none], [], (v0 L, (am_si g 36 0 y3)))) rfl ?_ ?_
  · exact fun hR => by cases hR; exact ev_rt 1 rfl
  · refine ev_if 5 (p := (u2 + y3) ≤ u3) (a := 37) (b := 35) (T := ([some (.ref 36), some (.ref 34), some (.int u2), some (.int u3), some (.int x2), none, none, none], [], (v0 L, (am_si g 36 0 y3)))) rfl ?_ ?_
    · refine ev_in 3 (p := y3 = 1) (a := 50) (b := 45) (T := ([some (.ref 36), some (.ref 34), some (.int u2), some (.int u3), some (.int x2), none, none, none], [], (v0 L, (am_si g 36 0 y3)))) rfl ?_ ?_
      · refine ev_jm 4 (t := (65, [some (.ref 36), some (.ref 34), some (.int u2), none, none, some (.int x2), some (.int 1), none], [], (v0 L, (am_si g 36 0 y3)))) rfl ?_
        exact dh_160_65 L ((am_si g 36 0 y3), u2, x2, 1) none none none _
      · refine ev_jm 5 (t := (60, [some (.ref 36), some (.ref 34), some (.int u2), some (.int u3), some (.int x2), none, none, none], [.int (x2 &&& (127 >>> (y3 &&& 31)))], (v0 L, (am_si g 36 0 y3)))) rfl ?_
        refine lo_e (S := fun (x5 : Int32) => (60, [some (.ref 36), some (.ref 34), some (.int u2), some (.int u3), some (.int x2), none, none, none], [.int x5], (v0 L, (am_si g 36 0 y3)))) (fun x5 => ?_)
        refine ev_jm 2 (t := (65, [some (.ref 36), some (.ref 34), some (.int u2), none, none, some (.int x5), some (.int 1), none], [], (v0 L, (am_si g 36 0 y3)))) rfl ?_
        exact dh_160_65 L ((am_si g 36 0 y3), u2, x5, 1) none none none _
    · exact fun hR => by cases hR; exact ev_rt 1 rfl
/-- DeclaredMarkup$Chars.fail(I)I -/
noncomputable def fm_154 (g : am_G) (u1 : Int32) : Option (Int32 × am_G) := some (u1, (am_si g 35 3 0))
theorem dm_154 (L : Nat) (g : am_G) (u1 : Int32) (R : Int32 × am_G) : fm_154 g u1 = some R → ai_ev ap_P 154 (ai_e0 ap_P 154 [.ref 35, .int u1] (v0 L, g)) (.inl (ez_i R.1)) (v0 L, R.2) := by
  show _ → ai_ev ap_P 154 (0, [some (.ref 35), some (.int u1)], [], (v0 L, g)) _ _
  unfold fm_154
  exact fun hR => by cases hR; exact ev_rt 4 rfl
noncomputable def fb_183_5 (g : am_G) (k5 : (Nat × Int32 × Int32 × Int32) → Option (Int32)) (u0 : Nat) (u1 : Int32) (u2 : Int32) (u3 : Int32) : Option (Int32) := if u3 ≤ u2 then if (u2 - u2 / 2 * 2) = 1 then some 1 else some 0 else lo_l ((u2 + u3) / 2) fun x1 => lo_g (vk_in u0 101 x1) (if u1 < (am_i g u0 x1.toNatClampNeg) then k5 (u0, u1, u2, x1) else lo_l (x1 + 1) fun x3 => k5 (u0, u1, x3, u3))
theorem db_183_5 (L : Nat) (g : am_G) {k5 : (Nat × Int32 × Int32 × Int32) → Option (Int32)} (hk5 : ∀ (x : Nat × Int32 × Int32 × Int32) (w4 : Option Value) (R : Int32), k5 x = some R → ai_ev ap_P 183 (5, [some (.ref x.1), some (.int x.2.1), some (.int x.2.2.1), some (.int x.2.2.2), w4], [], (v0 L, g)) (.inl (ez_i R)) (v0 L, g)) (u0 : Nat) (u1 : Int32) (u2 : Int32) (u3 : Int32) (w4 : Option Value) (R : Int32) : fb_183_5 g k5 u0 u1 u2 u3 = some R → ai_ev ap_P 183 (5, [some (.ref u0), some (.int u1), some (.int u2), some (.int u3), w4], [], (v0 L, g)) (.inl (ez_i R)) (v0 L, g) := by
  unfold fb_183_5
  refine ev_if 2 (p := u3 ≤ u2) (a := 39) (b := 10) (T := ([some (.ref u0), some (.int u1), some (.int u2), some (.int u3), none], [], (v0 L, g))) rfl ?_ ?_
  · refine ev_in 4 (p := (u2 - u2 / 2 * 2) = 1) (a := 50) (b := 46) (T := ([some (.ref u0), some (.int u1), some (.int u2), some (.int u3), none], [], (v0 L, g))) rfl ?_ ?_
    · exact fun hR => by cases hR; exact ev_rt 2 rfl
    · exact fun hR => by cases hR; exact ev_rt 1 rfl
  · refine ev_jm 4 (t := (15, [some (.ref u0), some (.int u1), some (.int u2), some (.int u3), none], [.int ((u2 + u3) / 2)], (v0 L, g))) rfl ?_
    refine lo_e (S := fun (x1 : Int32) => (15, [some (.ref u0), some (.int u1), some (.int u2), some (.int u3), none], [.int x1], (v0 L, g))) (fun x1 => ?_)
    refine ev_gd (c := vk_in u0 101 x1) (fun hc2 => ?_)
    refine ev_jm 3 (t := (21, [some (.ref u0), some (.int u1), some (.int u2), some (.int u3), some (.int x1)], [.int (am_i g u0 x1.toNatClampNeg)], (v0 L, g))) (ai_gd (c := Nat.beq (v0_kd u0) 101 && ai_in x1 (v0_ln L u0)) rfl (vk_ld hc2)) ?_
    refine ev_if 1 (p := u1 < (am_i g u0 x1.toNatClampNeg)) (a := 33) (b := 25) (T := ([some (.ref u0), some (.int u1), some (.int u2), some (.int u3), some (.int x1)], [], (v0 L, g))) rfl ?_ ?_
    · refine ev_jm 2 (t := (5, [some (.ref u0), some (.int u1), some (.int u2), some (.int x1), none], [], (v0 L, g))) rfl ?_
      exact hk5 (u0, u1, u2, x1) none _
    · refine ev_jm 2 (t := (29, [some (.ref u0), some (.int u1), some (.int u2), some (.int u3), some (.int x1)], [.int (x1 + 1)], (v0 L, g))) rfl ?_
      refine lo_e (S := fun (x3 : Int32) => (29, [some (.ref u0), some (.int u1), some (.int u2), some (.int u3), some (.int x1)], [.int x3], (v0 L, g))) (fun x3 => ?_)
      refine ev_jm 2 (t := (5, [some (.ref u0), some (.int u1), some (.int x3), some (.int u3), none], [], (v0 L, g))) rfl ?_
      exact hk5 (u0, u1, x3, u3) none _
noncomputable def fh_183_5 (g : am_G)  (x : Nat × Int32 × Int32 × Int32) : Option (Int32) := lo_it (fun k x => fb_183_5 g k x.1 x.2.1 x.2.2.1 x.2.2.2) nf_F x
theorem dh_183_5 (L : Nat) (g : am_G)   (x : Nat × Int32 × Int32 × Int32) (w4 : Option Value) (R : Int32) : fh_183_5 g  x = some R → ai_ev ap_P 183 (5, [some (.ref x.1), some (.int x.2.1), some (.int x.2.2.1), some (.int x.2.2.2), w4], [], (v0 L, g)) (.inl (ez_i R)) (v0 L, g) :=
  fun hr => lo_ev (E := fun x R => ∀ (w4 : Option Value), ai_ev ap_P 183 (5, [some (.ref x.1), some (.int x.2.1), some (.int x.2.2.1), some (.int x.2.2.2), w4], [], (v0 L, g)) (.inl (ez_i R)) (v0 L, g)) (fun k hk x R hr => fun w4 => db_183_5 L g (fun x w4 R hr => hk x R hr w4) x.1 x.2.1 x.2.2.1 x.2.2.2 w4 R hr) nf_F x R hr w4
/-- DeclaredMarkup$Letters.isIn([II)Z -/
noncomputable def fm_183 (g : am_G) (u0 : Nat) (u1 : Int32) : Option (Int32) := lo_g (Nat.blt 0 u0 && Nat.beq (v0_kd u0) 101) (lo_l (nI (v0_ln 0 u0)) fun x2 => fh_183_5 g (u0, u1, 0, x2))
theorem dm_183 (L : Nat) (g : am_G) (u0 : Nat) (u1 : Int32) (R : Int32) : fm_183 g u0 u1 = some R → ai_ev ap_P 183 (ai_e0 ap_P 183 [.ref u0, .int u1] (v0 L, g)) (.inl (ez_i R)) (v0 L, g) := by
  show _ → ai_ev ap_P 183 (0, [some (.ref u0), some (.int u1), none, none, none], [], (v0 L, g)) _ _
  unfold fm_183
  refine ev_gd (c := Nat.blt 0 u0 && Nat.beq (v0_kd u0) 101) (fun hc1 => ?_)
  refine ev_ln (S := fun (n : Nat) => (4, [some (.ref u0), some (.int u1), some (.int 0), none, none], [.int (nI n)], (v0 L, g))) 3 (ai_gd (c := Nat.beq (v0_kd u0) 101) rfl (vk_l1 hc1)) (vk_l2 hc1) ?_
  refine lo_e (S := fun (x2 : Int32) => (4, [some (.ref u0), some (.int u1), some (.int 0), none, none], [.int x2], (v0 L, g))) (fun x2 => ?_)
  refine ev_jm 0 (t := (5, [some (.ref u0), some (.int u1), some (.int 0), some (.int x2), none], [], (v0 L, g))) rfl ?_
  exact dh_183_5 L g (u0, u1, 0, x2) none _
/-- DeclaredMarkup$Letters.isAllowed(I)Z -/
noncomputable def fm_184 (g : am_G) (u0 : Int32) : Option (Int32) := lo_p (fm_183 g 17 u0) fun y1 => some (vp_nar .boolean y1)
theorem dm_184 (L : Nat) (g : am_G) (u0 : Int32) (R : Int32) : fm_184 g u0 = some R → ai_ev ap_P 184 (ai_e0 ap_P 184 [.int u0] (v0 L, g)) (.inl (ez_i R)) (v0 L, g) := by
  show _ → ai_ev ap_P 184 (0, [some (.int u0)], [], (v0 L, g)) _ _
  unfold fm_184
  refine ev_op 2 (as := [.ref 17, .int u0]) (pc := 7) (Lc := [some (.int u0)]) (st := []) (h1 := (v0 L, g)) (e := ez_i) rfl (dm_183 L g 17 u0) (fun y1 => ?_)
  exact fun hR => by cases hR; exact ev_rt 0 rfl
/-- DeclaredMarkup$Chars.add(I)V -/
noncomputable def fm_155 (g : am_G) (u1 : Int32) : Option (am_G) := lo_g (ai_in (am_i g 35 3) 6000) (lo_g (ai_in (am_i g 35 3) 6001) (some (am_si (am_si (am_si g 37 ((am_i g 35 3)).toNatClampNeg u1) 38 ((am_i g 35 3)).toNatClampNeg (am_i g 35 4)) 35 3 ((am_i g 35 3) + 1))))
theorem dm_155 (L : Nat) (g : am_G) (u1 : Int32) (R : am_G) : fm_155 g u1 = some R → ai_ev ap_P 155 (ai_e0 ap_P 155 [.ref 35, .int u1] (v0 L, g)) (.inl none) (v0 L, R) := by
  show _ → ai_ev ap_P 155 (0, [some (.ref 35), some (.int u1)], [], (v0 L, g)) _ _
  unfold fm_155
  refine ev_gd (c := ai_in (am_i g 35 3) 6000) (fun hc1 => ?_)
  refine ev_jm 5 (t := (10, [some (.ref 35), some (.int u1)], [], (v0 L, (am_si g 37 ((am_i g 35 3)).toNatClampNeg u1)))) (ai_gd (c := ai_in (am_i g 35 3) 6000) rfl hc1) ?_
  refine ev_gd (c := ai_in (am_i g 35 3) 6001) (fun hc2 => ?_)
  refine ev_jm 6 (t := (23, [some (.ref 35), some (.int u1)], [], (v0 L, (am_si (am_si g 37 ((am_i g 35 3)).toNatClampNeg u1) 38 ((am_i g 35 3)).toNatClampNeg (am_i g 35 4))))) (ai_gd (c := ai_in (am_i g 35 3) 6001) rfl hc2) ?_
  exact fun hR => by cases hR; exact ev_rt 6 rfl
noncomputable def fj_153_115 (k10 : (am_G × Int32) → Option (Int32 × am_G)) (g : am_G) (u2 : Int32) (u4 : Int32) : Option (Int32 × am_G) := k10 ((am_si g 35 4 u4), u2)
theorem dj_153_115 (L : Nat) {k10 : (am_G × Int32) → Option (Int32 × am_G)} (hk10 : ∀ (x : am_G × Int32) (w3 w4 : Option Value) (R : Int32 × am_G), k10 x = some R → ai_ev ap_P 153 (10, [some (.ref 35), some (.ref 34), some (.int x.2), w3, w4], [], (v0 L, x.1)) (.inl (ez_i R.1)) (v0 L, R.2)) (g : am_G) (u2 : Int32) (u4 : Int32) (w3 : Option Value) (R : Int32 × am_G) : fj_153_115 k10 g u2 u4 = some R → ai_ev ap_P 153 (115, [some (.ref 35), some (.ref 34), some (.int u2), w3, some (.int u4)], [], (v0 L, g)) (.inl (ez_i R.1)) (v0 L, R.2) := by
  unfold fj_153_115
  refine ev_jm 3 (t := (10, [some (.ref 35), some (.ref 34), some (.int u2), none, some (.int u4)], [], (v0 L, (am_si g 35 4 u4)))) rfl ?_
  exact hk10 ((am_si g 35 4 u4), u2) none (some (.int u4)) _
noncomputable def fj_153_110 (k10 : (am_G × Int32) → Option (Int32 × am_G)) (g : am_G) (u2 : Int32) (u3 : Int32) (u4 : Int32) : Option (Int32 × am_G) := lo_p (fm_155 g u3) fun g2 => fj_153_115 k10 g2 u2 u4
theorem dj_153_110 (L : Nat) {k10 : (am_G × Int32) → Option (Int32 × am_G)} (hk10 : ∀ (x : am_G × Int32) (w3 w4 : Option Value) (R : Int32 × am_G), k10 x = some R → ai_ev ap_P 153 (10, [some (.ref 35), some (.ref 34), some (.int x.2), w3, w4], [], (v0 L, x.1)) (.inl (ez_i R.1)) (v0 L, R.2)) (g : am_G) (u2 : Int32) (u3 : Int32) (u4 : Int32) (R : Int32 × am_G) : fj_153_110 k10 g u2 u3 u4 = some R → ai_ev ap_P 153 (110, [some (.ref 35), some (.ref 34), some (.int u2), some (.int u3), some (.int u4)], [], (v0 L, g)) (.inl (ez_i R.1)) (v0 L, R.2) := by
  unfold fj_153_110
  refine ev_ov0 2 (as := [.ref 35, .int u3]) (pc := 115) (Lc := [some (.ref 35), some (.ref 34), some (.int u2), some (.int u3), some (.int u4)]) (st := []) (V := v0 L) (g1 := g) rfl (dm_155 L g u3) (fun g2 => ?_)
  exact dj_153_115 L hk10 g2 u2 u4 (some (.int u3)) _
noncomputable def fj_153_97 (k10 : (am_G × Int32) → Option (Int32 × am_G)) (g : am_G) (u2 : Int32) (u3 : Int32) (u4 : Int32) : Option (Int32 × am_G) := if (0 : Int32) < (am_i g 35 4) then fj_153_110 k10 g u2 u3 u4 else if u3 = 65279 then fj_153_115 k10 g u2 u4 else fj_153_110 k10 g u2 u3 u4
theorem dj_153_97 (L : Nat) {k10 : (am_G × Int32) → Option (Int32 × am_G)} (hk10 : ∀ (x : am_G × Int32) (w3 w4 : Option Value) (R : Int32 × am_G), k10 x = some R → ai_ev ap_P 153 (10, [some (.ref 35), some (.ref 34), some (.int x.2), w3, w4], [], (v0 L, x.1)) (.inl (ez_i R.1)) (v0 L, R.2)) (g : am_G) (u2 : Int32) (u3 : Int32) (u4 : Int32) (R : Int32 × am_G) : fj_153_97 k10 g u2 u3 u4 = some R → ai_ev ap_P 153 (97, [some (.ref 35), some (.ref 34), some (.int u2), some (.int u3), some (.int u4)], [], (v0 L, g)) (.inl (ez_i R.1)) (v0 L, R.2) := by
  unfold fj_153_97
  refine ev_if 2 (p := (0 : Int32) < (am_i g 35 4)) (a := 110) (b := 104) (T := ([some (.ref 35), some (.ref 34), some (.int u2), some (.int u3), some (.int u4)], [], (v0 L, g))) rfl ?_ ?_
  · exact dj_153_110 L hk10 g u2 u3 u4 _
  · refine ev_if 2 (p := u3 = 65279) (a := 115) (b := 110) (T := ([some (.ref 35), some (.ref 34), some (.int u2), some (.int u3), some (.int u4)], [], (v0 L, g))) rfl ?_ ?_
    · exact dj_153_115 L hk10 g u2 u4 (some (.int u3)) _
    · exact dj_153_110 L hk10 g u2 u3 u4 _
noncomputable def fb_153_10 (k10 : (am_G × Int32) → Option (Int32 × am_G)) (g : am_G) (u2 : Int32) : Option (Int32 × am_G) := if u2 ≤ (am_i g 35 4) then lo_g (ai_in (am_i g 35 3) 6001) (some (0, (am_si g 38 ((am_i g 35 3)).toNatClampNeg u2))) else lo_i (fm_160 g (am_i g 35 4) u2) fun y2 g3 => if y2 = (-1) then lo_i (fm_154 g3 1) fun y10 g11 => some (y10, g11) else lo_p (fm_184 g3 y2) fun y4 => if y4 = 0 then lo_i (fm_154 g3 2) fun y8 g9 => some (y8, g9) else lo_l ((am_i g3 35 4) + (am_i g3 36 0)) fun x6 => if y2 = 13 then if u2 ≤ x6 then fj_153_97 k10 g3 u2 10 x6 else lo_g (ai_in x6 6000) (if (am_i g3 34 x6.toNatClampNeg) = 10 then fj_153_97 k10 g3 u2 10 (x6 + 1) else fj_153_97 k10 g3 u2 10 x6) else fj_153_97 k10 g3 u2 y2 x6
theorem db_153_10 (L : Nat) {k10 : (am_G × Int32) → Option (Int32 × am_G)} (hk10 : ∀ (x : am_G × Int32) (w3 w4 : Option Value) (R : Int32 × am_G), k10 x = some R → ai_ev ap_P 153 (10, [some (.ref 35), some (.ref 34), some (.int x.2), w3, w4], [], (v0 L, x.1)) (.inl (ez_i R.1)) (v0 L, R.2)) (g : am_G) (u2 : Int32) (w3 w4 : Option Value) (R : Int32 × am_G) : fb_153_10 k10 g u2 = some R → ai_ev ap_P 153 (10, [some (.ref 35), some (.ref 34), some (.int u2), w3, w4], [], (v0 L, g)) (.inl (ez_i R.1)) (v0 L, R.2) := by
  unfold fb_153_10
  refine ev_if 3 (p := u2 ≤ (am_i g 35 4)) (a := 124) (b := 18) (T := ([some (.ref 35), some (.ref 34), some (.int u2), none, none], [], (v0 L, g))) rfl ?_ ?_
  · refine ev_gd (c := ai_in (am_i g 35 3) 6001) (fun hc1 => ?_)
    refine ev_jm 5 (t := (134, [some (.ref 35), some (.ref 34), some (.int u2), none, none], [], (v0 L, (am_si g 38 ((am_i g 35 3)).toNatClampNeg u2)))) (ai_gd (c := ai_in (am_i g 35 3) 6001) rfl hc1) ?_
    exact fun hR => by cases hR; exact ev_rt 1 rfl
  · refine ev_oi 6 (as := [.ref 36, .ref 34, .int (am_i g 35 4), .int u2]) (pc := 31) (Lc := [some (.ref 35), some (.ref 34), some (.int u2), none, none]) (st := []) (V := v0 L) (g1 := g) (e := ez_i) rfl (dm_160 L g (am_i g 35 4) u2) (fun y2 g3 => ?_)
    refine ev_in 3 (p := y2 = (-1)) (a := 43) (b := 37) (T := ([some (.ref 35), some (.ref 34), some (.int u2), some (.int y2), none], [], (v0 L, g3))) rfl ?_ ?_
    · refine ev_oi 2 (as := [.ref 35, .int 1]) (pc := 42) (Lc := [some (.ref 35), some (.ref 34), some (.int u2), some (.int y2), none]) (st := []) (V := v0 L) (g1 := g3) (e := ez_i) rfl (dm_154 L g3 1) (fun y10 g11 => ?_)
      exact fun hR => by cases hR; exact ev_rt 0 rfl
    · refine ev_op 1 (as := [.int y2]) (pc := 47) (Lc := [some (.ref 35), some (.ref 34), some (.int u2), some (.int y2), none]) (st := []) (h1 := (v0 L, g3)) (e := ez_i) rfl (dm_184 L g3 y2) (fun y4 => ?_)
      refine ev_in 0 (p := y4 = 0) (a := 56) (b := 50) (T := ([some (.ref 35), some (.ref 34), some (.int u2), some (.int y2), none], [], (v0 L, g3))) rfl ?_ ?_
      · refine ev_oi 2 (as := [.ref 35, .int 2]) (pc := 55) (Lc := [some (.ref 35), some (.ref 34), some (.int u2), some (.int y2), none]) (st := []) (V := v0 L) (g1 := g3) (e := ez_i) rfl (dm_154 L g3 2) (fun y8 g9 => ?_)
        exact fun hR => by cases hR; exact ev_rt 0 rfl
      · refine ev_jm 5 (t := (68, [some (.ref 35), some (.ref 34), some (.int u2), some (.int y2), none], [.int ((am_i g3 35 4) + (am_i g3 36 0))], (v0 L, g3))) rfl ?_
        refine lo_e (S := fun (x6 : Int32) => (68, [some (.ref 35), some (.ref 34), some (.int u2), some (.int y2), none], [.int x6], (v0 L, g3))) (fun x6 => ?_)
        refine ev_in 3 (p := y2 = 13) (a := 97) (b := 76) (T := ([some (.ref 35), some (.ref 34), some (.int u2), some (.int y2), some (.int x6)], [], (v0 L, g3))) rfl ?_ ?_
        · refine ev_if 4 (p := u2 ≤ x6) (a := 97) (b := 85) (T := ([some (.ref 35), some (.ref 34), some (.int u2), some (.int 10), some (.int x6)], [], (v0 L, g3))) rfl ?_ ?_
          · exact dj_153_97 L hk10 g3 u2 10 x6 _
          · refine ev_gd (c := ai_in x6 6000) (fun hc7 => ?_)
            refine ev_jm 2 (t := (89, [some (.ref 35), some (.ref 34), some (.int u2), some (.int 10), some (.int x6)], [.int (am_i g3 34 x6.toNatClampNeg)], (v0 L, g3))) (ai_gd (c := ai_in x6 6000) rfl hc7) ?_
            refine ev_in 1 (p := (am_i g3 34 x6.toNatClampNeg) = 10) (a := 97) (b := 94) (T := ([some (.ref 35), some (.ref 34), some (.int u2), some (.int 10), some (.int x6)], [], (v0 L, g3))) rfl ?_ ?_
            · refine ev_jm 0 (t := (97, [some (.ref 35), some (.ref 34), some (.int u2), some (.int 10), some (.int (x6 + 1))], [], (v0 L, g3))) rfl ?_
              exact dj_153_97 L hk10 g3 u2 10 (x6 + 1) _
            · exact dj_153_97 L hk10 g3 u2 10 x6 _
        · exact dj_153_97 L hk10 g3 u2 y2 x6 _
noncomputable def fh_153_10  (x : am_G × Int32) : Option (Int32 × am_G) := lo_it (fun k x => fb_153_10 k x.1 x.2) nf_F x
theorem dh_153_10 (L : Nat)   (x : am_G × Int32) (w3 w4 : Option Value) (R : Int32 × am_G) : fh_153_10  x = some R → ai_ev ap_P 153 (10, [some (.ref 35), some (.ref 34), some (.int x.2), w3, w4], [], (v0 L, x.1)) (.inl (ez_i R.1)) (v0 L, R.2) :=
  fun hr => lo_ev (E := fun x R => ∀ (w3 w4 : Option Value), ai_ev ap_P 153 (10, [some (.ref 35), some (.ref 34), some (.int x.2), w3, w4], [], (v0 L, x.1)) (.inl (ez_i R.1)) (v0 L, R.2)) (fun k hk x R hr => fun w3 w4 => db_153_10 L (fun x w3 w4 R hr => hk x R hr w3 w4) x.1 x.2 w3 w4 R hr) nf_F x R hr w3 w4
/-- DeclaredMarkup$Chars.read([BI)I -/
noncomputable def fm_153 (g : am_G) (u2 : Int32) : Option (Int32 × am_G) := fh_153_10 ((am_si (am_si g 35 3 0) 35 4 0), u2)
theorem dm_153 (L : Nat) (g : am_G) (u2 : Int32) (R : Int32 × am_G) : fm_153 g u2 = some R → ai_ev ap_P 153 (ai_e0 ap_P 153 [.ref 35, .ref 34, .int u2] (v0 L, g)) (.inl (ez_i R.1)) (v0 L, R.2) := by
  show _ → ai_ev ap_P 153 (0, [some (.ref 35), some (.ref 34), some (.int u2), none, none], [], (v0 L, g)) _ _
  unfold fm_153
  refine ev_jm 5 (t := (10, [some (.ref 35), some (.ref 34), some (.int u2), none, none], [], (v0 L, (am_si (am_si g 35 3 0) 35 4 0)))) rfl ?_
  exact dh_153_10 L ((am_si (am_si g 35 3 0) 35 4 0), u2) none none _
/-- DeclaredMarkup$Letters.isBlank(I)Z -/
noncomputable def fm_185 (g : am_G) (u0 : Int32) : Option (Int32) := if u0 = 32 then some 1 else if u0 = 9 then some 1 else if u0 = 10 then some 1 else if u0 = 13 then some 1 else some 0
theorem dm_185 (L : Nat) (g : am_G) (u0 : Int32) (R : Int32) : fm_185 g u0 = some R → ai_ev ap_P 185 (ai_e0 ap_P 185 [.int u0] (v0 L, g)) (.inl (ez_i R)) (v0 L, g) := by
  show _ → ai_ev ap_P 185 (0, [some (.int u0)], [], (v0 L, g)) _ _
  unfold fm_185
  refine ev_if 2 (p := u0 = 32) (a := 24) (b := 6) (T := ([some (.int u0)], [], (v0 L, g))) rfl ?_ ?_
  · exact fun hR => by cases hR; exact ev_rt 2 rfl
  · refine ev_if 2 (p := u0 = 9) (a := 24) (b := 12) (T := ([some (.int u0)], [], (v0 L, g))) rfl ?_ ?_
    · exact fun hR => by cases hR; exact ev_rt 2 rfl
    · refine ev_if 2 (p := u0 = 10) (a := 24) (b := 18) (T := ([some (.int u0)], [], (v0 L, g))) rfl ?_ ?_
      · exact fun hR => by cases hR; exact ev_rt 2 rfl
      · refine ev_in 2 (p := u0 = 13) (a := 28) (b := 24) (T := ([some (.int u0)], [], (v0 L, g))) rfl ?_ ?_
        · exact fun hR => by cases hR; exact ev_rt 2 rfl
        · exact fun hR => by cases hR; exact ev_rt 1 rfl
noncomputable def fb_256_39 (g : am_G) (k39 : (Int64 × Int32 × Int32) → Option (Int32)) (u1 : Int64) (u3 : Int32) (u4 : Int32) : Option (Int32) := if (5 : Int32) ≤ u4 then some (vp_nar .boolean u3) else if u3 = 0 then some (vp_nar .boolean u3) else lo_g (ai_in u4 6000) (if (lg_cmp ((am_i g 37 u4.toNatClampNeg).toInt64) ((u1 >>> ((32 - (8 * u4)).toInt64 &&& 63)) &&& 255)) = 0 then k39 (u1, 1, (u4 + 1)) else k39 (u1, 0, (u4 + 1)))
theorem db_256_39 (L : Nat) (g : am_G) {k39 : (Int64 × Int32 × Int32) → Option (Int32)} (hk39 : ∀ (x : Int64 × Int32 × Int32) (w2 : Option Value) (R : Int32), k39 x = some R → ai_ev ap_P 256 (39, [some (.ref 33), some (.long x.1), w2, some (.int x.2.1), some (.int x.2.2)], [], (v0 L, g)) (.inl (ez_i R)) (v0 L, g)) (u1 : Int64) (u3 : Int32) (u4 : Int32) (w2 : Option Value) (R : Int32) : fb_256_39 g k39 u1 u3 u4 = some R → ai_ev ap_P 256 (39, [some (.ref 33), some (.long u1), w2, some (.int u3), some (.int u4)], [], (v0 L, g)) (.inl (ez_i R)) (v0 L, g) := by
  unfold fb_256_39
  refine ev_if 2 (p := (5 : Int32) ≤ u4) (a := 90) (b := 45) (T := ([some (.ref 33), some (.long u1), none, some (.int u3), some (.int u4)], [], (v0 L, g))) rfl ?_ ?_
  · exact fun hR => by cases hR; exact ev_rt 1 rfl
  · refine ev_if 1 (p := u3 = 0) (a := 90) (b := 49) (T := ([some (.ref 33), some (.long u1), none, some (.int u3), some (.int u4)], [], (v0 L, g))) rfl ?_ ?_
    · exact fun hR => by cases hR; exact ev_rt 1 rfl
    · refine ev_gd (c := ai_in u4 6000) (fun hc1 => ?_)
      refine ev_jm 4 (t := (59, [some (.ref 33), some (.long u1), none, some (.int u3), some (.int u4)], [.int (am_i g 37 u4.toNatClampNeg)], (v0 L, g))) (ai_gd (c := ai_in u4 6000) rfl hc1) ?_
      refine ev_in 11 (p := (lg_cmp ((am_i g 37 u4.toNatClampNeg).toInt64) ((u1 >>> ((32 - (8 * u4)).toInt64 &&& 63)) &&& 255)) = 0) (a := 82) (b := 78) (T := ([some (.ref 33), some (.long u1), none, some (.int u3), some (.int u4)], [], (v0 L, g))) rfl ?_ ?_
      · refine ev_jm 4 (t := (39, [some (.ref 33), some (.long u1), none, some (.int 1), some (.int (u4 + 1))], [], (v0 L, g))) rfl ?_
        exact hk39 (u1, 1, (u4 + 1)) none _
      · refine ev_jm 3 (t := (39, [some (.ref 33), some (.long u1), none, some (.int 0), some (.int (u4 + 1))], [], (v0 L, g))) rfl ?_
        exact hk39 (u1, 0, (u4 + 1)) none _
noncomputable def fh_256_39 (g : am_G)  (x : Int64 × Int32 × Int32) : Option (Int32) := lo_it (fun k x => fb_256_39 g k x.1 x.2.1 x.2.2) nf_F x
theorem dh_256_39 (L : Nat) (g : am_G)   (x : Int64 × Int32 × Int32) (w2 : Option Value) (R : Int32) : fh_256_39 g  x = some R → ai_ev ap_P 256 (39, [some (.ref 33), some (.long x.1), w2, some (.int x.2.1), some (.int x.2.2)], [], (v0 L, g)) (.inl (ez_i R)) (v0 L, g) :=
  fun hr => lo_ev (E := fun x R => ∀ (w2 : Option Value), ai_ev ap_P 256 (39, [some (.ref 33), some (.long x.1), w2, some (.int x.2.1), some (.int x.2.2)], [], (v0 L, g)) (.inl (ez_i R)) (v0 L, g)) (fun k hk x R hr => fun w2 => db_256_39 L g (fun x w2 R hr => hk x R hr w2) x.1 x.2.1 x.2.2 w2 R hr) nf_F x R hr w2
/-- DeclaredMarkup$Processor.isDeclaration()Z -/
noncomputable def fm_256 (g : am_G)  : Option (Int32) := if (am_i g 35 3) ≤ 5 then fh_256_39 g (258762894700, 0, 0) else lo_p (fm_185 g (am_i g 37 5)) fun y1 => if y1 = 0 then fh_256_39 g (258762894700, 0, 0) else fh_256_39 g (258762894700, 1, 0)
theorem dm_256 (L : Nat) (g : am_G)  (R : Int32) : fm_256 g  = some R → ai_ev ap_P 256 (ai_e0 ap_P 256 [.ref 33] (v0 L, g)) (.inl (ez_i R)) (v0 L, g) := by
  show _ → ai_ev ap_P 256 (0, [some (.ref 33), none, none, none, none], [], (v0 L, g)) _ _
  unfold fm_256
  refine ev_if 6 (p := (am_i g 35 3) ≤ 5) (a := 34) (b := 15) (T := ([some (.ref 33), some (.long 258762894700), none, none, none], [], (v0 L, g))) rfl ?_ ?_
  · refine ev_jm 3 (t := (39, [some (.ref 33), some (.long 258762894700), none, some (.int 0), some (.int 0)], [], (v0 L, g))) rfl ?_
    exact dh_256_39 L g (258762894700, 0, 0) none _
  · refine ev_op 5 (as := [.int (am_i g 37 5)]) (pc := 27) (Lc := [some (.ref 33), some (.long 258762894700), none, none, none]) (st := []) (h1 := (v0 L, g)) (e := ez_i) rfl (dm_185 L g (am_i g 37 5)) (fun y1 => ?_)
    refine ev_if 0 (p := y1 = 0) (a := 34) (b := 30) (T := ([some (.ref 33), some (.long 258762894700), none, none, none], [], (v0 L, g))) rfl ?_ ?_
    · refine ev_jm 3 (t := (39, [some (.ref 33), some (.long 258762894700), none, some (.int 0), some (.int 0)], [], (v0 L, g))) rfl ?_
      exact dh_256_39 L g (258762894700, 0, 0) none _
    · refine ev_jm 4 (t := (39, [some (.ref 33), some (.long 258762894700), none, some (.int 1), some (.int 0)], [], (v0 L, g))) rfl ?_
      exact dh_256_39 L g (258762894700, 1, 0) none _
/-- DeclaredMarkup$Feed.here()I -/
noncomputable def fm_176 (g : am_G)  : Option (Int32) := if (am_i g 39 4) = 0 then if (am_i g 35 3) ≤ (am_i g 42 0) then some (-1) else lo_g (ai_in (am_i g 42 0) 6000) (some (am_i g 37 ((am_i g 42 0)).toNatClampNeg)) else lo_g (ai_in (am_i g 39 4) 17) (lo_m (am_r g 40 ((am_i g 39 4)).toNatClampNeg) (none) fun o2 => lo_l (am_i g 41 ((am_i g 39 4)).toNatClampNeg) fun x3 => lo_g (Nat.beq (v0_kd o2) 12) (lo_m (v0_fr o2 2) (none) fun o5 => lo_g (vk_in o5 101 x3) (if (am_i g o5 x3.toNatClampNeg) ≤ (am_i g 42 ((am_i g 39 4)).toNatClampNeg) then some (-1) else lo_m (v0_fr o2 4) (none) fun o7 => lo_m (v0_fr o2 1) (none) fun o8 => lo_g (vk_in o8 101 x3) (lo_g (vk_in o7 101 ((am_i g o8 x3.toNatClampNeg) + (am_i g 42 ((am_i g 39 4)).toNatClampNeg))) (some (am_i g o7 (((am_i g o8 x3.toNatClampNeg) + (am_i g 42 ((am_i g 39 4)).toNatClampNeg))).toNatClampNeg))))))
theorem dm_176 (L : Nat) (g : am_G)  (R : Int32) : fm_176 g  = some R → ai_ev ap_P 176 (ai_e0 ap_P 176 [.ref 39] (v0 L, g)) (.inl (ez_i R)) (v0 L, g) := by
  show _ → ai_ev ap_P 176 (0, [some (.ref 39), none, none], [], (v0 L, g)) _ _
  unfold fm_176
  refine ev_in 2 (p := (am_i g 39 4) = 0) (a := 42) (b := 7) (T := ([some (.ref 39), none, none], [], (v0 L, g))) rfl ?_ ?_
  · refine ev_if 7 (p := (am_i g 35 3) ≤ (am_i g 42 0)) (a := 40) (b := 23) (T := ([some (.ref 39), none, none], [], (v0 L, g))) rfl ?_ ?_
    · exact fun hR => by cases hR; exact ev_rt 1 rfl
    · refine ev_gd (c := ai_in (am_i g 42 0) 6000) (fun hc11 => ?_)
      refine ev_jm 7 (t := (37, [some (.ref 39), none, none], [.int (am_i g 37 ((am_i g 42 0)).toNatClampNeg)], (v0 L, g))) (ai_gd (c := ai_in (am_i g 42 0) 6000) rfl hc11) ?_
      exact fun hR => by cases hR; exact ev_rt 1 rfl
  · refine ev_gd (c := ai_in (am_i g 39 4) 17) (fun hc1 => ?_)
    refine ev_jm 4 (t := (51, [some (.ref 39), none, none], [am_v (am_r g 40 ((am_i g 39 4)).toNatClampNeg)], (v0 L, g))) (ai_gd (c := ai_in (am_i g 39 4) 17) rfl hc1) ?_
    refine ev_om (S := fun (o : Option Nat) => (51, [some (.ref 39), none, none], [am_v o], (v0 L, g))) ?_ (fun o2 => ?_)
    · exact fun hR => nomatch hR
    · refine ev_jm 5 (t := (61, [some (.ref 39), some (.ref o2), none], [.int (am_i g 41 ((am_i g 39 4)).toNatClampNeg)], (v0 L, g))) (ai_gd (c := ai_in (am_i g 39 4) 17) rfl hc1) ?_
      refine lo_e (S := fun (x3 : Int32) => (61, [some (.ref 39), some (.ref o2), none], [.int x3], (v0 L, g))) (fun x3 => ?_)
      refine ev_jm 5 (t := (71, [some (.ref 39), some (.ref o2), some (.int x3)], [.int (am_i g 42 ((am_i g 39 4)).toNatClampNeg)], (v0 L, g))) (ai_gd (c := ai_in (am_i g 39 4) 17) rfl hc1) ?_
      refine ev_gd (c := Nat.beq (v0_kd o2) 12) (fun hc4 => ?_)
      refine ev_jm 1 (t := (75, [some (.ref 39), some (.ref o2), some (.int x3)], [am_v (v0_fr o2 2), .int (am_i g 42 ((am_i g 39 4)).toNatClampNeg)], (v0 L, g))) (ai_gd (c := Nat.beq (v0_kd o2) 12) rfl hc4) ?_
      refine ev_om (S := fun (o : Option Nat) => (75, [some (.ref 39), some (.ref o2), some (.int x3)], [am_v o, .int (am_i g 42 ((am_i g 39 4)).toNatClampNeg)], (v0 L, g))) ?_ (fun o5 => ?_)
      · exact fun hR => nomatch hR
      · refine ev_gd (c := vk_in o5 101 x3) (fun hc6 => ?_)
        refine ev_jm 1 (t := (77, [some (.ref 39), some (.ref o2), some (.int x3)], [.int (am_i g o5 x3.toNatClampNeg), .int (am_i g 42 ((am_i g 39 4)).toNatClampNeg)], (v0 L, g))) (ai_gd (c := Nat.beq (v0_kd o5) 101 && ai_in x3 (v0_ln L o5)) rfl (vk_ld hc6)) ?_
        refine ev_if 0 (p := (am_i g o5 x3.toNatClampNeg) ≤ (am_i g 42 ((am_i g 39 4)).toNatClampNeg)) (a := 104) (b := 80) (T := ([some (.ref 39), some (.ref o2), some (.int x3)], [], (v0 L, g))) rfl ?_ ?_
        · exact fun hR => by cases hR; exact ev_rt 1 rfl
        · refine ev_jm 1 (t := (84, [some (.ref 39), some (.ref o2), some (.int x3)], [am_v (v0_fr o2 4)], (v0 L, g))) (ai_gd (c := Nat.beq (v0_kd o2) 12) rfl hc4) ?_
          refine ev_om (S := fun (o : Option Nat) => (84, [some (.ref 39), some (.ref o2), some (.int x3)], [am_v o], (v0 L, g))) ?_ (fun o7 => ?_)
          · exact fun hR => nomatch hR
          · refine ev_jm 1 (t := (88, [some (.ref 39), some (.ref o2), some (.int x3)], [am_v (v0_fr o2 1), .ref o7], (v0 L, g))) (ai_gd (c := Nat.beq (v0_kd o2) 12) rfl hc4) ?_
            refine ev_om (S := fun (o : Option Nat) => (88, [some (.ref 39), some (.ref o2), some (.int x3)], [am_v o, .ref o7], (v0 L, g))) ?_ (fun o8 => ?_)
            · exact fun hR => nomatch hR
            · refine ev_gd (c := vk_in o8 101 x3) (fun hc9 => ?_)
              refine ev_jm 1 (t := (90, [some (.ref 39), some (.ref o2), some (.int x3)], [.int (am_i g o8 x3.toNatClampNeg), .ref o7], (v0 L, g))) (ai_gd (c := Nat.beq (v0_kd o8) 101 && ai_in x3 (v0_ln L o8)) rfl (vk_ld hc9)) ?_
              refine ev_jm 4 (t := (99, [some (.ref 39), some (.ref o2), some (.int x3)], [.int (am_i g 42 ((am_i g 39 4)).toNatClampNeg), .int (am_i g o8 x3.toNatClampNeg), .ref o7], (v0 L, g))) (ai_gd (c := ai_in (am_i g 39 4) 17) rfl hc1) ?_
              refine ev_gd (c := vk_in o7 101 ((am_i g o8 x3.toNatClampNeg) + (am_i g 42 ((am_i g 39 4)).toNatClampNeg))) (fun hc10 => ?_)
              refine ev_jm 1 (t := (101, [some (.ref 39), some (.ref o2), some (.int x3)], [.int (am_i g o7 (((am_i g o8 x3.toNatClampNeg) + (am_i g 42 ((am_i g 39 4)).toNatClampNeg))).toNatClampNeg)], (v0 L, g))) (ai_gd (c := Nat.beq (v0_kd o7) 101 && ai_in ((am_i g o8 x3.toNatClampNeg) + (am_i g 42 ((am_i g 39 4)).toNatClampNeg)) (v0_ln L o7)) rfl (vk_ld hc10)) ?_
              exact fun hR => by cases hR; exact ev_rt 1 rfl
/-- DeclaredMarkup$Processor.isBlankHere()Z -/
noncomputable def fm_241 (g : am_G)  : Option (Int32) := lo_p (fm_176 g ) fun y1 => lo_p (fm_185 g y1) fun y3 => some (vp_nar .boolean y3)
theorem dm_241 (L : Nat) (g : am_G)  (R : Int32) : fm_241 g  = some R → ai_ev ap_P 241 (ai_e0 ap_P 241 [.ref 33] (v0 L, g)) (.inl (ez_i R)) (v0 L, g) := by
  show _ → ai_ev ap_P 241 (0, [some (.ref 33)], [], (v0 L, g)) _ _
  unfold fm_241
  refine ev_op 2 (as := [.ref 39]) (pc := 7) (Lc := [some (.ref 33)]) (st := []) (h1 := (v0 L, g)) (e := ez_i) rfl (dm_176 L g ) (fun y1 => ?_)
  refine ev_op 0 (as := [.int y1]) (pc := 10) (Lc := [some (.ref 33)]) (st := []) (h1 := (v0 L, g)) (e := ez_i) rfl (dm_185 L g y1) (fun y3 => ?_)
  exact fun hR => by cases hR; exact ev_rt 0 rfl
/-- DeclaredMarkup$Feed.place()I -/
noncomputable def fm_178 (g : am_G)  : Option (Int32) := if (am_i g 39 4) = 0 then lo_g (ai_in (am_i g 42 0) 6001) (some (am_i g 38 ((am_i g 42 0)).toNatClampNeg)) else some (am_i g 39 5)
theorem dm_178 (L : Nat) (g : am_G)  (R : Int32) : fm_178 g  = some R → ai_ev ap_P 178 (ai_e0 ap_P 178 [.ref 39] (v0 L, g)) (.inl (ez_i R)) (v0 L, g) := by
  show _ → ai_ev ap_P 178 (0, [some (.ref 39)], [], (v0 L, g)) _ _
  unfold fm_178
  refine ev_in 2 (p := (am_i g 39 4) = 0) (a := 24) (b := 7) (T := ([some (.ref 39)], [], (v0 L, g))) rfl ?_ ?_
  · refine ev_gd (c := ai_in (am_i g 42 0) 6001) (fun hc1 => ?_)
    refine ev_jm 7 (t := (21, [some (.ref 39)], [.int (am_i g 38 ((am_i g 42 0)).toNatClampNeg)], (v0 L, g))) (ai_gd (c := ai_in (am_i g 42 0) 6001) rfl hc1) ?_
    exact fun hR => by cases hR; exact ev_rt 1 rfl
  · exact fun hR => by cases hR; exact ev_rt 2 rfl
/-- DeclaredMarkup$Processor.fail(II)Ljava/lang/IllegalStateException; -/
noncomputable def fm_236 (g : am_G) (u1 : Int32) (u2 : Int32) : Option (Nat × am_G) := some ((am_sz (am_si (am_si g 33 11 u1) 33 12 u2)), (am_ex (am_si (am_si g 33 11 u1) 33 12 u2)))
theorem dm_236 (L : Nat) (g : am_G) (u1 : Int32) (u2 : Int32) (R : Nat × am_G) : fm_236 g u1 u2 = some R → ai_ev ap_P 236 (ai_e0 ap_P 236 [.ref 33, .int u1, .int u2] (v0 L, g)) (.inl (ez_a R.1)) (v0 L, R.2) := by
  show _ → ai_ev ap_P 236 (0, [some (.ref 33), some (.int u1), some (.int u2)], [], (v0 L, g)) _ _
  unfold fm_236
  exact fun hR => by cases hR; exact ev_rt 7 rfl
noncomputable def fj_238_32  (g : am_G) (t1 : Int32) : Option ((Unit ⊕ Nat) × am_G) := lo_p (fm_178 g ) fun y1 => lo_i (fm_236 g t1 y1) fun y3 g4 => lo_g (Nat.ble 1008 y3 && Nat.blt y3 (am_sz g4)) (some (.inr y3, g4))
theorem dj_238_32 (L : Nat)   (g : am_G) (t1 : Int32) (w1 : Option Value) (R : (Unit ⊕ Nat) × am_G) : fj_238_32  g t1 = some R → ai_ev ap_P 238 (32, [some (.ref 33), w1], [.int t1, .ref 33], (v0 L, g)) (oz_r ez_v R.1) (v0 L, R.2) := by
  unfold fj_238_32
  refine ev_op 2 (as := [.ref 39]) (pc := 39) (Lc := [some (.ref 33), none]) (st := [.int t1, .ref 33]) (h1 := (v0 L, g)) (e := ez_i) rfl (dm_178 L g ) (fun y1 => ?_)
  refine ev_oi 0 (as := [.ref 33, .int t1, .int y1]) (pc := 42) (Lc := [some (.ref 33), none]) (st := []) (V := v0 L) (g1 := g) (e := ez_a) rfl (dm_236 L g t1 y1) (fun y3 g4 => ?_)
  exact ev_at 0 (a := y3) (g1 := g4) rfl
noncomputable def fj_238_31  (g : am_G) : Option ((Unit ⊕ Nat) × am_G) := fj_238_32 g 2
theorem dj_238_31 (L : Nat)   (g : am_G) (w1 : Option Value) (R : (Unit ⊕ Nat) × am_G) : fj_238_31  g = some R → ai_ev ap_P 238 (31, [some (.ref 33), w1], [.ref 33], (v0 L, g)) (oz_r ez_v R.1) (v0 L, R.2) := by
  unfold fj_238_31
  refine ev_jm 0 (t := (32, [some (.ref 33), none], [.int 2, .ref 33], (v0 L, g))) rfl ?_
  exact dj_238_32 L g 2 none _
/-- DeclaredMarkup$Processor.need(Z)V -/
noncomputable def fm_238 (g : am_G) (u1 : Int32) : Option ((Unit ⊕ Nat) × am_G) := if u1 = 0 then if (am_i g 39 4) ≤ 0 then fj_238_31 g else lo_p (fm_176 g ) fun y1 => if y1 = (-1) then fj_238_32 g 13 else fj_238_31 g else some (.inl (), g)
theorem dm_238 (L : Nat) (g : am_G) (u1 : Int32) (R : (Unit ⊕ Nat) × am_G) : fm_238 g u1 = some R → ai_ev ap_P 238 (ai_e0 ap_P 238 [.ref 33, .int u1] (v0 L, g)) (oz_r ez_v R.1) (v0 L, R.2) := by
  show _ → ai_ev ap_P 238 (0, [some (.ref 33), some (.int u1)], [], (v0 L, g)) _ _
  unfold fm_238
  refine ev_in 1 (p := u1 = 0) (a := 43) (b := 4) (T := ([some (.ref 33), some (.int u1)], [], (v0 L, g))) rfl ?_ ?_
  · refine ev_if 4 (p := (am_i g 39 4) ≤ 0) (a := 31) (b := 15) (T := ([some (.ref 33), some (.int u1)], [.ref 33], (v0 L, g))) rfl ?_ ?_
    · exact dj_238_31 L g (some (.int u1)) _
    · refine ev_op 2 (as := [.ref 39]) (pc := 22) (Lc := [some (.ref 33), some (.int u1)]) (st := [.ref 33]) (h1 := (v0 L, g)) (e := ez_i) rfl (dm_176 L g ) (fun y1 => ?_)
      refine ev_in 1 (p := y1 = (-1)) (a := 31) (b := 26) (T := ([some (.ref 33), some (.int u1)], [.ref 33], (v0 L, g))) rfl ?_ ?_
      · refine ev_jm 1 (t := (32, [some (.ref 33), some (.int u1)], [.int 13, .ref 33], (v0 L, g))) rfl ?_
        exact dj_238_32 L g 13 (some (.int u1)) _
      · exact dj_238_31 L g (some (.int u1)) _
  · exact fun hR => by cases hR; exact ev_rt 0 rfl
/-- DeclaredMarkup$Feed.pass()V -/
noncomputable def fm_177 (g : am_G)  : Option (am_G) := lo_g (ai_in (am_i g 39 4) 17) (some (am_si g 42 ((am_i g 39 4)).toNatClampNeg ((am_i g 42 ((am_i g 39 4)).toNatClampNeg) + 1)))
theorem dm_177 (L : Nat) (g : am_G)  (R : am_G) : fm_177 g  = some R → ai_ev ap_P 177 (ai_e0 ap_P 177 [.ref 39] (v0 L, g)) (.inl none) (v0 L, R) := by
  show _ → ai_ev ap_P 177 (0, [some (.ref 39)], [], (v0 L, g)) _ _
  unfold fm_177
  refine ev_gd (c := ai_in (am_i g 39 4) 17) (fun hc1 => ?_)
  refine ev_jm 5 (t := (10, [some (.ref 39)], [.int (am_i g 42 ((am_i g 39 4)).toNatClampNeg), .int (am_i g 39 4), .ref 42], (v0 L, g))) (ai_gd (c := ai_in (am_i g 39 4) 17) rfl hc1) ?_
  refine ev_jm 2 (t := (13, [some (.ref 39)], [], (v0 L, (am_si g 42 ((am_i g 39 4)).toNatClampNeg ((am_i g 42 ((am_i g 39 4)).toNatClampNeg) + 1))))) (ai_gd (c := ai_in (am_i g 39 4) 17) rfl hc1) ?_
  exact fun hR => by cases hR; exact ev_rt 0 rfl
noncomputable def fb_242_2 (k2 : (am_G × Int32) → Option (Int32 × am_G)) (g : am_G) (u1 : Int32) : Option (Int32 × am_G) := lo_p (fm_241 g ) fun y1 => if y1 = 0 then some ((vp_nar .boolean u1), g) else lo_p (fm_177 g ) fun g4 => k2 (g4, 1)
theorem db_242_2 (L : Nat) {k2 : (am_G × Int32) → Option (Int32 × am_G)} (hk2 : ∀ (x : am_G × Int32) (R : Int32 × am_G), k2 x = some R → ai_ev ap_P 242 (2, [some (.ref 33), some (.int x.2)], [], (v0 L, x.1)) (.inl (ez_i R.1)) (v0 L, R.2)) (g : am_G) (u1 : Int32) (R : Int32 × am_G) : fb_242_2 k2 g u1 = some R → ai_ev ap_P 242 (2, [some (.ref 33), some (.int u1)], [], (v0 L, g)) (.inl (ez_i R.1)) (v0 L, R.2) := by
  unfold fb_242_2
  refine ev_op 1 (as := [.ref 33]) (pc := 6) (Lc := [some (.ref 33), some (.int u1)]) (st := []) (h1 := (v0 L, g)) (e := ez_i) rfl (dm_241 L g ) (fun y1 => ?_)
  refine ev_if 0 (p := y1 = 0) (a := 21) (b := 9) (T := ([some (.ref 33), some (.int u1)], [], (v0 L, g))) rfl ?_ ?_
  · exact fun hR => by cases hR; exact ev_rt 1 rfl
  · refine ev_ov0 2 (as := [.ref 39]) (pc := 16) (Lc := [some (.ref 33), some (.int u1)]) (st := []) (V := v0 L) (g1 := g) rfl (dm_177 L g ) (fun g4 => ?_)
    refine ev_jm 2 (t := (2, [some (.ref 33), some (.int 1)], [], (v0 L, g4))) rfl ?_
    exact hk2 (g4, 1) _
noncomputable def fh_242_2  (x : am_G × Int32) : Option (Int32 × am_G) := lo_it (fun k x => fb_242_2 k x.1 x.2) nf_F x
theorem dh_242_2 (L : Nat)   (x : am_G × Int32) (R : Int32 × am_G) : fh_242_2  x = some R → ai_ev ap_P 242 (2, [some (.ref 33), some (.int x.2)], [], (v0 L, x.1)) (.inl (ez_i R.1)) (v0 L, R.2) :=
  fun hr => lo_ev (E := fun x R => ai_ev ap_P 242 (2, [some (.ref 33), some (.int x.2)], [], (v0 L, x.1)) (.inl (ez_i R.1)) (v0 L, R.2)) (fun k hk x R hr => db_242_2 L hk x.1 x.2  R hr) nf_F x R hr
/-- DeclaredMarkup$Processor.blanks()Z -/
noncomputable def fm_242 (g : am_G)  : Option (Int32 × am_G) := fh_242_2 (g, 0)
theorem dm_242 (L : Nat) (g : am_G)  (R : Int32 × am_G) : fm_242 g  = some R → ai_ev ap_P 242 (ai_e0 ap_P 242 [.ref 33] (v0 L, g)) (.inl (ez_i R.1)) (v0 L, R.2) := by
  show _ → ai_ev ap_P 242 (0, [some (.ref 33), none], [], (v0 L, g)) _ _
  unfold fm_242
  refine ev_jm 1 (t := (2, [some (.ref 33), some (.int 0)], [], (v0 L, g))) rfl ?_
  exact dh_242_2 L (g, 0) _
/-- DeclaredMarkup$Processor.space()V -/
noncomputable def fm_243 (g : am_G)  : Option ((Unit ⊕ Nat) × am_G) := lo_p (fm_241 g ) fun y1 => lo_t (fm_238 g y1) fun y3 g4 => lo_i (fm_242 g4 ) fun y5 g6 => some (.inl (), g6)
theorem dm_243 (L : Nat) (g : am_G)  (R : (Unit ⊕ Nat) × am_G) : fm_243 g  = some R → ai_ev ap_P 243 (ai_e0 ap_P 243 [.ref 33] (v0 L, g)) (oz_r ez_v R.1) (v0 L, R.2) := by
  show _ → ai_ev ap_P 243 (0, [some (.ref 33)], [], (v0 L, g)) _ _
  unfold fm_243
  refine ev_op 2 (as := [.ref 33]) (pc := 5) (Lc := [some (.ref 33)]) (st := [.ref 33]) (h1 := (v0 L, g)) (e := ez_i) rfl (dm_241 L g ) (fun y1 => ?_)
  refine ev_ot 0 (as := [.ref 33, .int y1]) (pc := 8) (Lc := [some (.ref 33)]) (st := []) (V := v0 L) (g1 := g) (e := ez_v) rfl (dm_238 L g y1) (fun _ => rfl) (fun y3 g4 => ?_)
  refine ev_oi 1 (as := [.ref 33]) (pc := 12) (Lc := [some (.ref 33)]) (st := []) (V := v0 L) (g1 := g4) (e := ez_i) rfl (dm_242 L g4 ) (fun y5 g6 => ?_)
  exact fun hR => by cases hR; exact ev_rt 1 rfl
/-- DeclaredMarkup$Processor.isHere(I)Z -/
noncomputable def fm_240 (g : am_G) (u1 : Int32) : Option (Int32) := lo_p (fm_176 g ) fun y1 => if y1 = u1 then some 1 else some 0
theorem dm_240 (L : Nat) (g : am_G) (u1 : Int32) (R : Int32) : fm_240 g u1 = some R → ai_ev ap_P 240 (ai_e0 ap_P 240 [.ref 33, .int u1] (v0 L, g)) (.inl (ez_i R)) (v0 L, g) := by
  show _ → ai_ev ap_P 240 (0, [some (.ref 33), some (.int u1)], [], (v0 L, g)) _ _
  unfold fm_240
  refine ev_op 2 (as := [.ref 39]) (pc := 7) (Lc := [some (.ref 33), some (.int u1)]) (st := []) (h1 := (v0 L, g)) (e := ez_i) rfl (dm_176 L g ) (fun y1 => ?_)
  refine ev_in 1 (p := y1 = u1) (a := 15) (b := 11) (T := ([some (.ref 33), some (.int u1)], [], (v0 L, g))) rfl ?_ ?_
  · exact fun hR => by cases hR; exact ev_rt 2 rfl
  · exact fun hR => by cases hR; exact ev_rt 1 rfl
/-- DeclaredMarkup$Processor.one(I)V -/
noncomputable def fm_244 (g : am_G) (u1 : Int32) : Option ((Unit ⊕ Nat) × am_G) := lo_p (fm_240 g u1) fun y1 => lo_t (fm_238 g y1) fun y3 g4 => lo_p (fm_177 g4 ) fun g6 => some (.inl (), g6)
theorem dm_244 (L : Nat) (g : am_G) (u1 : Int32) (R : (Unit ⊕ Nat) × am_G) : fm_244 g u1 = some R → ai_ev ap_P 244 (ai_e0 ap_P 244 [.ref 33, .int u1] (v0 L, g)) (oz_r ez_v R.1) (v0 L, R.2) := by
  show _ → ai_ev ap_P 244 (0, [some (.ref 33), some (.int u1)], [], (v0 L, g)) _ _
  unfold fm_244
  refine ev_op 3 (as := [.ref 33, .int u1]) (pc := 6) (Lc := [some (.ref 33), some (.int u1)]) (st := [.ref 33]) (h1 := (v0 L, g)) (e := ez_i) rfl (dm_240 L g u1) (fun y1 => ?_)
  refine ev_ot 0 (as := [.ref 33, .int y1]) (pc := 9) (Lc := [some (.ref 33), some (.int u1)]) (st := []) (V := v0 L) (g1 := g) (e := ez_v) rfl (dm_238 L g y1) (fun _ => rfl) (fun y3 g4 => ?_)
  refine ev_ov0 2 (as := [.ref 39]) (pc := 16) (Lc := [some (.ref 33), some (.int u1)]) (st := []) (V := v0 L) (g1 := g4) rfl (dm_177 L g4 ) (fun g6 => ?_)
  exact fun hR => by cases hR; exact ev_rt 0 rfl
noncomputable def fb_245_3 (k3 : (am_G × Int64 × Int32) → Option ((Unit ⊕ Nat) × am_G)) (g : am_G) (u1 : Int64) (u3 : Int32) : Option ((Unit ⊕ Nat) × am_G) := if u3 < 0 then some (.inl (), g) else lo_l (((u1.toUInt64 >>> ((8 * u3).toInt64.toUInt64 &&& Int64.toUInt64 63)).toInt64).toInt32 &&& 255) fun x1 => if x1 ≤ 0 then k3 (g, u1, (u3 + (-1))) else lo_t (fm_244 g x1) fun y2 g3 => k3 (g3, u1, (u3 + (-1)))
theorem db_245_3 (L : Nat) {k3 : (am_G × Int64 × Int32) → Option ((Unit ⊕ Nat) × am_G)} (hk3 : ∀ (x : am_G × Int64 × Int32) (w2 w4 : Option Value) (R : (Unit ⊕ Nat) × am_G), k3 x = some R → ai_ev ap_P 245 (3, [some (.ref 33), some (.long x.2.1), w2, some (.int x.2.2), w4], [], (v0 L, x.1)) (oz_r ez_v R.1) (v0 L, R.2)) (g : am_G) (u1 : Int64) (u3 : Int32) (w2 w4 : Option Value) (R : (Unit ⊕ Nat) × am_G) : fb_245_3 k3 g u1 u3 = some R → ai_ev ap_P 245 (3, [some (.ref 33), some (.long u1), w2, some (.int u3), w4], [], (v0 L, g)) (oz_r ez_v R.1) (v0 L, R.2) := by
  unfold fb_245_3
  refine ev_if 1 (p := u3 < 0) (a := 37) (b := 7) (T := ([some (.ref 33), some (.long u1), none, some (.int u3), none], [], (v0 L, g))) rfl ?_ ?_
  · exact fun hR => by cases hR; exact ev_rt 0 rfl
  · refine ev_jm 7 (t := (18, [some (.ref 33), some (.long u1), none, some (.int u3), none], [.int (((u1.toUInt64 >>> ((8 * u3).toInt64.toUInt64 &&& Int64.toUInt64 63)).toInt64).toInt32 &&& 255)], (v0 L, g))) rfl ?_
    refine lo_e (S := fun (x1 : Int32) => (18, [some (.ref 33), some (.long u1), none, some (.int u3), none], [.int x1], (v0 L, g))) (fun x1 => ?_)
    refine ev_if 2 (p := x1 ≤ 0) (a := 31) (b := 25) (T := ([some (.ref 33), some (.long u1), none, some (.int u3), some (.int x1)], [], (v0 L, g))) rfl ?_ ?_
    · refine ev_jm 1 (t := (3, [some (.ref 33), some (.long u1), none, some (.int (u3 + (-1))), none], [], (v0 L, g))) rfl ?_
      exact hk3 (g, u1, (u3 + (-1))) none none _
    · refine ev_ot 2 (as := [.ref 33, .int x1]) (pc := 31) (Lc := [some (.ref 33), some (.long u1), none, some (.int u3), some (.int x1)]) (st := []) (V := v0 L) (g1 := g) (e := ez_v) rfl (dm_244 L g x1) (fun _ => rfl) (fun y2 g3 => ?_)
      refine ev_jm 1 (t := (3, [some (.ref 33), some (.long u1), none, some (.int (u3 + (-1))), none], [], (v0 L, g3))) rfl ?_
      exact hk3 (g3, u1, (u3 + (-1))) none none _
noncomputable def fh_245_3  (x : am_G × Int64 × Int32) : Option ((Unit ⊕ Nat) × am_G) := lo_it (fun k x => fb_245_3 k x.1 x.2.1 x.2.2) nf_F x
theorem dh_245_3 (L : Nat)   (x : am_G × Int64 × Int32) (w2 w4 : Option Value) (R : (Unit ⊕ Nat) × am_G) : fh_245_3  x = some R → ai_ev ap_P 245 (3, [some (.ref 33), some (.long x.2.1), w2, some (.int x.2.2), w4], [], (v0 L, x.1)) (oz_r ez_v R.1) (v0 L, R.2) :=
  fun hr => lo_ev (E := fun x R => ∀ (w2 w4 : Option Value), ai_ev ap_P 245 (3, [some (.ref 33), some (.long x.2.1), w2, some (.int x.2.2), w4], [], (v0 L, x.1)) (oz_r ez_v R.1) (v0 L, R.2)) (fun k hk x R hr => fun w2 w4 => db_245_3 L (fun x w2 w4 R hr => hk x R hr w2 w4) x.1 x.2.1 x.2.2 w2 w4 R hr) nf_F x R hr w2 w4
/-- DeclaredMarkup$Processor.word(J)V -/
noncomputable def fm_245 (g : am_G) (u1 : Int64) : Option ((Unit ⊕ Nat) × am_G) := fh_245_3 (g, u1, 7)
theorem dm_245 (L : Nat) (g : am_G) (u1 : Int64) (R : (Unit ⊕ Nat) × am_G) : fm_245 g u1 = some R → ai_ev ap_P 245 (ai_e0 ap_P 245 [.ref 33, .long u1] (v0 L, g)) (oz_r ez_v R.1) (v0 L, R.2) := by
  show _ → ai_ev ap_P 245 (0, [some (.ref 33), some (.long u1), none, none, none], [], (v0 L, g)) _ _
  unfold fm_245
  refine ev_jm 1 (t := (3, [some (.ref 33), some (.long u1), none, some (.int 7), none], [], (v0 L, g))) rfl ?_
  exact dh_245_3 L (g, u1, 7) none none _
noncomputable def fj_250_26  (g : am_G) (u1 : Int32) (t1 : Int32) : Option ((Int32 ⊕ Nat) × am_G) := lo_t (fm_238 g t1) fun y1 g2 => lo_p (fm_177 g2 ) fun g4 => some (.inl u1, g4)
theorem dj_250_26 (L : Nat)   (g : am_G) (u1 : Int32) (t1 : Int32) (R : (Int32 ⊕ Nat) × am_G) : fj_250_26  g u1 t1 = some R → ai_ev ap_P 250 (26, [some (.ref 33), some (.int u1)], [.int t1, .ref 33], (v0 L, g)) (oz_r ez_i R.1) (v0 L, R.2) := by
  unfold fj_250_26
  refine ev_ot 0 (as := [.ref 33, .int t1]) (pc := 29) (Lc := [some (.ref 33), some (.int u1)]) (st := []) (V := v0 L) (g1 := g) (e := ez_v) rfl (dm_238 L g t1) (fun _ => rfl) (fun y1 g2 => ?_)
  refine ev_ov0 2 (as := [.ref 39]) (pc := 36) (Lc := [some (.ref 33), some (.int u1)]) (st := []) (V := v0 L) (g1 := g2) rfl (dm_177 L g2 ) (fun g4 => ?_)
  exact fun hR => by cases hR; exact ev_rt 1 rfl
noncomputable def fj_250_21  (g : am_G) (u1 : Int32) : Option ((Int32 ⊕ Nat) × am_G) := fj_250_26 g u1 1
theorem dj_250_21 (L : Nat)   (g : am_G) (u1 : Int32) (R : (Int32 ⊕ Nat) × am_G) : fj_250_21  g u1 = some R → ai_ev ap_P 250 (21, [some (.ref 33), some (.int u1)], [.ref 33], (v0 L, g)) (oz_r ez_i R.1) (v0 L, R.2) := by
  unfold fj_250_21
  refine ev_jm 1 (t := (26, [some (.ref 33), some (.int u1)], [.int 1, .ref 33], (v0 L, g))) rfl ?_
  exact dj_250_26 L g u1 1 _
/-- DeclaredMarkup$Processor.quote()I -/
noncomputable def fm_250 (g : am_G)  : Option ((Int32 ⊕ Nat) × am_G) := lo_p (fm_176 g ) fun y1 => if y1 = 34 then fj_250_21 g y1 else if y1 = 39 then fj_250_21 g y1 else fj_250_26 g y1 0
theorem dm_250 (L : Nat) (g : am_G)  (R : (Int32 ⊕ Nat) × am_G) : fm_250 g  = some R → ai_ev ap_P 250 (ai_e0 ap_P 250 [.ref 33] (v0 L, g)) (oz_r ez_i R.1) (v0 L, R.2) := by
  show _ → ai_ev ap_P 250 (0, [some (.ref 33), none], [], (v0 L, g)) _ _
  unfold fm_250
  refine ev_op 2 (as := [.ref 39]) (pc := 7) (Lc := [some (.ref 33), none]) (st := []) (h1 := (v0 L, g)) (e := ez_i) rfl (dm_176 L g ) (fun y1 => ?_)
  refine ev_if 4 (p := y1 = 34) (a := 21) (b := 15) (T := ([some (.ref 33), some (.int y1)], [.ref 33], (v0 L, g))) rfl ?_ ?_
  · exact dj_250_21 L g y1 _
  · refine ev_in 2 (p := y1 = 39) (a := 25) (b := 21) (T := ([some (.ref 33), some (.int y1)], [.ref 33], (v0 L, g))) rfl ?_ ?_
    · exact dj_250_21 L g y1 _
    · refine ev_jm 0 (t := (26, [some (.ref 33), some (.int y1)], [.int 0, .ref 33], (v0 L, g))) rfl ?_
      exact dj_250_26 L g y1 0 _
/-- DeclaredMarkup$Processor.equalQuote()I -/
noncomputable def fm_257 (g : am_G)  : Option ((Int32 ⊕ Nat) × am_G) := lo_i (fm_242 g ) fun y1 g2 => lo_t (fm_244 g2 61) fun y3 g4 => lo_i (fm_242 g4 ) fun y5 g6 => lo_t (fm_250 g6 ) fun y7 g8 => some (.inl y7, g8)
theorem dm_257 (L : Nat) (g : am_G)  (R : (Int32 ⊕ Nat) × am_G) : fm_257 g  = some R → ai_ev ap_P 257 (ai_e0 ap_P 257 [.ref 33] (v0 L, g)) (oz_r ez_i R.1) (v0 L, R.2) := by
  show _ → ai_ev ap_P 257 (0, [some (.ref 33)], [], (v0 L, g)) _ _
  unfold fm_257
  refine ev_oi 1 (as := [.ref 33]) (pc := 4) (Lc := [some (.ref 33)]) (st := []) (V := v0 L) (g1 := g) (e := ez_i) rfl (dm_242 L g ) (fun y1 g2 => ?_)
  refine ev_ot 3 (as := [.ref 33, .int 61]) (pc := 11) (Lc := [some (.ref 33)]) (st := []) (V := v0 L) (g1 := g2) (e := ez_v) rfl (dm_244 L g2 61) (fun _ => rfl) (fun y3 g4 => ?_)
  refine ev_oi 1 (as := [.ref 33]) (pc := 15) (Lc := [some (.ref 33)]) (st := []) (V := v0 L) (g1 := g4) (e := ez_i) rfl (dm_242 L g4 ) (fun y5 g6 => ?_)
  refine ev_ot 2 (as := [.ref 33]) (pc := 20) (Lc := [some (.ref 33)]) (st := []) (V := v0 L) (g1 := g6) (e := ez_i) rfl (dm_250 L g6 ) (fun _ => rfl) (fun y7 g8 => ?_)
  exact fun hR => by cases hR; exact ev_rt 0 rfl
/-- DeclaredMarkup$Processor.isDigit(I)Z -/
noncomputable def fm_259 (g : am_G) (u0 : Int32) : Option (Int32) := if u0 < 48 then some 0 else if (57 : Int32) < u0 then some 0 else some 1
theorem dm_259 (L : Nat) (g : am_G) (u0 : Int32) (R : Int32) : fm_259 g u0 = some R → ai_ev ap_P 259 (ai_e0 ap_P 259 [.int u0] (v0 L, g)) (.inl (ez_i R)) (v0 L, g) := by
  show _ → ai_ev ap_P 259 (0, [some (.int u0)], [], (v0 L, g)) _ _
  unfold fm_259
  refine ev_if 2 (p := u0 < 48) (a := 16) (b := 6) (T := ([some (.int u0)], [], (v0 L, g))) rfl ?_ ?_
  · exact fun hR => by cases hR; exact ev_rt 1 rfl
  · refine ev_if 2 (p := (57 : Int32) < u0) (a := 16) (b := 12) (T := ([some (.int u0)], [], (v0 L, g))) rfl ?_ ?_
    · exact fun hR => by cases hR; exact ev_rt 1 rfl
    · exact fun hR => by cases hR; exact ev_rt 2 rfl
noncomputable def fj_260_12 (g : am_G)  (u0 : Int32) : Option (Int32) := if u0 < 97 then some 0 else if (122 : Int32) < u0 then some 0 else some 1
theorem dj_260_12 (L : Nat) (g : am_G)   (u0 : Int32) (R : Int32) : fj_260_12 g  u0 = some R → ai_ev ap_P 260 (12, [some (.int u0)], [], (v0 L, g)) (.inl (ez_i R)) (v0 L, g) := by
  unfold fj_260_12
  refine ev_if 2 (p := u0 < 97) (a := 28) (b := 18) (T := ([some (.int u0)], [], (v0 L, g))) rfl ?_ ?_
  · exact fun hR => by cases hR; exact ev_rt 1 rfl
  · refine ev_if 2 (p := (122 : Int32) < u0) (a := 28) (b := 24) (T := ([some (.int u0)], [], (v0 L, g))) rfl ?_ ?_
    · exact fun hR => by cases hR; exact ev_rt 1 rfl
    · exact fun hR => by cases hR; exact ev_rt 2 rfl
/-- DeclaredMarkup$Processor.isLetter(I)Z -/
noncomputable def fm_260 (g : am_G) (u0 : Int32) : Option (Int32) := if u0 < 65 then fj_260_12 g u0 else if u0 ≤ 90 then some 1 else fj_260_12 g u0
theorem dm_260 (L : Nat) (g : am_G) (u0 : Int32) (R : Int32) : fm_260 g u0 = some R → ai_ev ap_P 260 (ai_e0 ap_P 260 [.int u0] (v0 L, g)) (.inl (ez_i R)) (v0 L, g) := by
  show _ → ai_ev ap_P 260 (0, [some (.int u0)], [], (v0 L, g)) _ _
  unfold fm_260
  refine ev_if 2 (p := u0 < 65) (a := 12) (b := 6) (T := ([some (.int u0)], [], (v0 L, g))) rfl ?_ ?_
  · exact dj_260_12 L g u0 _
  · refine ev_if 2 (p := u0 ≤ 90) (a := 24) (b := 12) (T := ([some (.int u0)], [], (v0 L, g))) rfl ?_ ?_
    · exact fun hR => by cases hR; exact ev_rt 2 rfl
    · exact dj_260_12 L g u0 _
/-- DeclaredMarkup$Processor.low(I)I -/
noncomputable def fm_261 (g : am_G) (u0 : Int32) : Option (Int32) := if u0 < 65 then some u0 else if (90 : Int32) < u0 then some u0 else some (u0 + 32)
theorem dm_261 (L : Nat) (g : am_G) (u0 : Int32) (R : Int32) : fm_261 g u0 = some R → ai_ev ap_P 261 (ai_e0 ap_P 261 [.int u0] (v0 L, g)) (.inl (ez_i R)) (v0 L, g) := by
  show _ → ai_ev ap_P 261 (0, [some (.int u0)], [], (v0 L, g)) _ _
  unfold fm_261
  refine ev_if 2 (p := u0 < 65) (a := 19) (b := 6) (T := ([some (.int u0)], [], (v0 L, g))) rfl ?_ ?_
  · exact fun hR => by cases hR; exact ev_rt 1 rfl
  · refine ev_if 2 (p := (90 : Int32) < u0) (a := 19) (b := 12) (T := ([some (.int u0)], [], (v0 L, g))) rfl ?_ ?_
    · exact fun hR => by cases hR; exact ev_rt 1 rfl
    · exact fun hR => by cases hR; exact ev_rt 4 rfl
noncomputable def fj_262_104 (k51 : (am_G × Int32 × Int32 × Int32) → Option ((Unit ⊕ Nat) × am_G)) (g : am_G) (u1 : Int32) (u2 : Int32) (u3 : Int32) : Option ((Unit ⊕ Nat) × am_G) := lo_p (fm_177 g ) fun g2 => k51 (g2, u1, u2, u3)
theorem dj_262_104 (L : Nat) {k51 : (am_G × Int32 × Int32 × Int32) → Option ((Unit ⊕ Nat) × am_G)} (hk51 : ∀ (x : am_G × Int32 × Int32 × Int32) (w4 w5 w6 w7 w8 : Option Value) (R : (Unit ⊕ Nat) × am_G), k51 x = some R → ai_ev ap_P 262 (51, [some (.ref 33), some (.int x.2.1), some (.int x.2.2.1), some (.int x.2.2.2), w4, w5, w6, w7, w8], [], (v0 L, x.1)) (oz_r ez_v R.1) (v0 L, R.2)) (g : am_G) (u1 : Int32) (u2 : Int32) (u3 : Int32) (w4 w5 w6 w7 w8 : Option Value) (R : (Unit ⊕ Nat) × am_G) : fj_262_104 k51 g u1 u2 u3 = some R → ai_ev ap_P 262 (104, [some (.ref 33), some (.int u1), some (.int u2), some (.int u3), w4, w5, w6, w7, w8], [], (v0 L, g)) (oz_r ez_v R.1) (v0 L, R.2) := by
  unfold fj_262_104
  refine ev_ov0 2 (as := [.ref 39]) (pc := 111) (Lc := [some (.ref 33), some (.int u1), some (.int u2), some (.int u3), none, none, none, none, none]) (st := []) (V := v0 L) (g1 := g) rfl (dm_177 L g ) (fun g2 => ?_)
  refine ev_jm 0 (t := (51, [some (.ref 33), some (.int u1), some (.int u2), some (.int u3), none, none, none, none, none], [], (v0 L, g2))) rfl ?_
  exact hk51 (g2, u1, u2, u3) none none none none none _
noncomputable def fj_262_212  (g : am_G) (u3 : Int32) (u7 : Int32) : Option ((Unit ⊕ Nat) × am_G) := if u7 = 0 then lo_i (fm_236 g 12 u3) fun y1 g2 => lo_g (Nat.ble 1008 y1 && Nat.blt y1 (am_sz g2)) (some (.inr y1, g2)) else some (.inl (), g)
theorem dj_262_212 (L : Nat)   (g : am_G) (u3 : Int32) (u7 : Int32) (w1 w2 w4 w5 w6 w8 : Option Value) (R : (Unit ⊕ Nat) × am_G) : fj_262_212  g u3 u7 = some R → ai_ev ap_P 262 (212, [some (.ref 33), w1, w2, some (.int u3), w4, w5, w6, some (.int u7), w8], [], (v0 L, g)) (oz_r ez_v R.1) (v0 L, R.2) := by
  unfold fj_262_212
  refine ev_in 1 (p := u7 = 0) (a := 225) (b := 217) (T := ([some (.ref 33), none, none, some (.int u3), none, none, none, some (.int u7), none], [], (v0 L, g))) rfl ?_ ?_
  · refine ev_oi 3 (as := [.ref 33, .int 12, .int u3]) (pc := 224) (Lc := [some (.ref 33), none, none, some (.int u3), none, none, none, some (.int u7), none]) (st := []) (V := v0 L) (g1 := g) (e := ez_a) rfl (dm_236 L g 12 u3) (fun y1 g2 => ?_)
    exact ev_at 0 (a := y1) (g1 := g2) rfl
  · exact fun hR => by cases hR; exact ev_rt 0 rfl
noncomputable def fb_262_153 (k153 : (am_G × Int32 × Int32 × Int64 × Int32 × Int32) → Option ((Unit ⊕ Nat) × am_G)) (g : am_G) (u2 : Int32) (u3 : Int32) (u5 : Int64) (u7 : Int32) (u8 : Int32) : Option ((Unit ⊕ Nat) × am_G) := if (5 : Int32) ≤ u8 then fj_262_212 g u3 u7 else if u7 = 0 then fj_262_212 g u3 u7 else lo_g (ai_in (u2 + u8) 6000) (lo_p (fm_261 g (am_i g 37 ((u2 + u8)).toNatClampNeg)) fun y2 => if (lg_cmp y2.toInt64 ((u5 >>> ((32 - (8 * u8)).toInt64 &&& 63)) &&& 255)) = 0 then k153 (g, u2, u3, u5, 1, (u8 + 1)) else k153 (g, u2, u3, u5, 0, (u8 + 1)))
theorem db_262_153 (L : Nat) {k153 : (am_G × Int32 × Int32 × Int64 × Int32 × Int32) → Option ((Unit ⊕ Nat) × am_G)} (hk153 : ∀ (x : am_G × Int32 × Int32 × Int64 × Int32 × Int32) (w1 w4 w6 : Option Value) (R : (Unit ⊕ Nat) × am_G), k153 x = some R → ai_ev ap_P 262 (153, [some (.ref 33), w1, some (.int x.2.1), some (.int x.2.2.1), w4, some (.long x.2.2.2.1), w6, some (.int x.2.2.2.2.1), some (.int x.2.2.2.2.2)], [], (v0 L, x.1)) (oz_r ez_v R.1) (v0 L, R.2)) (g : am_G) (u2 : Int32) (u3 : Int32) (u5 : Int64) (u7 : Int32) (u8 : Int32) (w1 w4 w6 : Option Value) (R : (Unit ⊕ Nat) × am_G) : fb_262_153 k153 g u2 u3 u5 u7 u8 = some R → ai_ev ap_P 262 (153, [some (.ref 33), w1, some (.int u2), some (.int u3), w4, some (.long u5), w6, some (.int u7), some (.int u8)], [], (v0 L, g)) (oz_r ez_v R.1) (v0 L, R.2) := by
  unfold fb_262_153
  refine ev_if 2 (p := (5 : Int32) ≤ u8) (a := 212) (b := 159) (T := ([some (.ref 33), none, some (.int u2), some (.int u3), none, some (.long u5), none, some (.int u7), some (.int u8)], [], (v0 L, g))) rfl ?_ ?_
  · exact dj_262_212 L g u3 u7 none (some (.int u2)) none (some (.long u5)) none (some (.int u8)) _
  · refine ev_if 1 (p := u7 = 0) (a := 212) (b := 164) (T := ([some (.ref 33), none, some (.int u2), some (.int u3), none, some (.long u5), none, some (.int u7), some (.int u8)], [], (v0 L, g))) rfl ?_ ?_
    · exact dj_262_212 L g u3 u7 none (some (.int u2)) none (some (.long u5)) none (some (.int u8)) _
    · refine ev_gd (c := ai_in (u2 + u8) 6000) (fun hc1 => ?_)
      refine ev_jm 6 (t := (176, [some (.ref 33), none, some (.int u2), some (.int u3), none, some (.long u5), none, some (.int u7), some (.int u8)], [.int (am_i g 37 ((u2 + u8)).toNatClampNeg)], (v0 L, g))) (ai_gd (c := ai_in (u2 + u8) 6000) rfl hc1) ?_
      refine ev_op 0 (as := [.int (am_i g 37 ((u2 + u8)).toNatClampNeg)]) (pc := 179) (Lc := [some (.ref 33), none, some (.int u2), some (.int u3), none, some (.long u5), none, some (.int u7), some (.int u8)]) (st := []) (h1 := (v0 L, g)) (e := ez_i) rfl (dm_261 L g (am_i g 37 ((u2 + u8)).toNatClampNeg)) (fun y2 => ?_)
      refine ev_in 11 (p := (lg_cmp y2.toInt64 ((u5 >>> ((32 - (8 * u8)).toInt64 &&& 63)) &&& 255)) = 0) (a := 203) (b := 199) (T := ([some (.ref 33), none, some (.int u2), some (.int u3), none, some (.long u5), none, some (.int u7), some (.int u8)], [], (v0 L, g))) rfl ?_ ?_
      · refine ev_jm 4 (t := (153, [some (.ref 33), none, some (.int u2), some (.int u3), none, some (.long u5), none, some (.int 1), some (.int (u8 + 1))], [], (v0 L, g))) rfl ?_
        exact hk153 (g, u2, u3, u5, 1, (u8 + 1)) none none none _
      · refine ev_jm 3 (t := (153, [some (.ref 33), none, some (.int u2), some (.int u3), none, some (.long u5), none, some (.int 0), some (.int (u8 + 1))], [], (v0 L, g))) rfl ?_
        exact hk153 (g, u2, u3, u5, 0, (u8 + 1)) none none none _
noncomputable def fh_262_153  (x : am_G × Int32 × Int32 × Int64 × Int32 × Int32) : Option ((Unit ⊕ Nat) × am_G) := lo_it (fun k x => fb_262_153 k x.1 x.2.1 x.2.2.1 x.2.2.2.1 x.2.2.2.2.1 x.2.2.2.2.2) nf_F x
theorem dh_262_153 (L : Nat)   (x : am_G × Int32 × Int32 × Int64 × Int32 × Int32) (w1 w4 w6 : Option Value) (R : (Unit ⊕ Nat) × am_G) : fh_262_153  x = some R → ai_ev ap_P 262 (153, [some (.ref 33), w1, some (.int x.2.1), some (.int x.2.2.1), w4, some (.long x.2.2.2.1), w6, some (.int x.2.2.2.2.1), some (.int x.2.2.2.2.2)], [], (v0 L, x.1)) (oz_r ez_v R.1) (v0 L, R.2) :=
  fun hr => lo_ev (E := fun x R => ∀ (w1 w4 w6 : Option Value), ai_ev ap_P 262 (153, [some (.ref 33), w1, some (.int x.2.1), some (.int x.2.2.1), w4, some (.long x.2.2.2.1), w6, some (.int x.2.2.2.2.1), some (.int x.2.2.2.2.2)], [], (v0 L, x.1)) (oz_r ez_v R.1) (v0 L, R.2)) (fun k hk x R hr => fun w1 w4 w6 => db_262_153 L (fun x w1 w4 w6 R hr => hk x R hr w1 w4 w6) x.1 x.2.1 x.2.2.1 x.2.2.2.1 x.2.2.2.2.1 x.2.2.2.2.2 w1 w4 w6 R hr) nf_F x R hr w1 w4 w6
noncomputable def fb_262_51 (k51 : (am_G × Int32 × Int32 × Int32) → Option ((Unit ⊕ Nat) × am_G)) (g : am_G) (u1 : Int32) (u2 : Int32) (u3 : Int32) : Option ((Unit ⊕ Nat) × am_G) := lo_p (fm_176 g ) fun y1 => lo_p (fm_260 g y1) fun y3 => if y3 = 0 then lo_p (fm_176 g ) fun y5 => lo_p (fm_259 g y5) fun y7 => if y7 = 0 then lo_p (fm_240 g 46) fun y9 => if y9 = 0 then lo_p (fm_240 g 95) fun y11 => if y11 = 0 then lo_p (fm_240 g 45) fun y13 => if y13 = 0 then lo_l ((am_i g 42 0) - u2) fun x15 => lo_t (fm_244 g u1) fun y16 g17 => if x15 = 5 then fh_262_153 (g17, u2, u3, 504464026936, 1, 0) else fh_262_153 (g17, u2, u3, 504464026936, 0, 0) else fj_262_104 k51 g u1 u2 u3 else fj_262_104 k51 g u1 u2 u3 else fj_262_104 k51 g u1 u2 u3 else fj_262_104 k51 g u1 u2 u3 else fj_262_104 k51 g u1 u2 u3
theorem db_262_51 (L : Nat) {k51 : (am_G × Int32 × Int32 × Int32) → Option ((Unit ⊕ Nat) × am_G)} (hk51 : ∀ (x : am_G × Int32 × Int32 × Int32) (w4 w5 w6 w7 w8 : Option Value) (R : (Unit ⊕ Nat) × am_G), k51 x = some R → ai_ev ap_P 262 (51, [some (.ref 33), some (.int x.2.1), some (.int x.2.2.1), some (.int x.2.2.2), w4, w5, w6, w7, w8], [], (v0 L, x.1)) (oz_r ez_v R.1) (v0 L, R.2)) (g : am_G) (u1 : Int32) (u2 : Int32) (u3 : Int32) (w4 w5 w6 w7 w8 : Option Value) (R : (Unit ⊕ Nat) × am_G) : fb_262_51 k51 g u1 u2 u3 = some R → ai_ev ap_P 262 (51, [some (.ref 33), some (.int u1), some (.int u2), some (.int u3), w4, w5, w6, w7, w8], [], (v0 L, g)) (oz_r ez_v R.1) (v0 L, R.2) := by
  unfold fb_262_51
  refine ev_op 2 (as := [.ref 39]) (pc := 58) (Lc := [some (.ref 33), some (.int u1), some (.int u2), some (.int u3), none, none, none, none, none]) (st := []) (h1 := (v0 L, g)) (e := ez_i) rfl (dm_176 L g ) (fun y1 => ?_)
  refine ev_op 0 (as := [.int y1]) (pc := 61) (Lc := [some (.ref 33), some (.int u1), some (.int u2), some (.int u3), none, none, none, none, none]) (st := []) (h1 := (v0 L, g)) (e := ez_i) rfl (dm_260 L g y1) (fun y3 => ?_)
  refine ev_in 0 (p := y3 = 0) (a := 104) (b := 64) (T := ([some (.ref 33), some (.int u1), some (.int u2), some (.int u3), none, none, none, none, none], [], (v0 L, g))) rfl ?_ ?_
  · refine ev_op 2 (as := [.ref 39]) (pc := 71) (Lc := [some (.ref 33), some (.int u1), some (.int u2), some (.int u3), none, none, none, none, none]) (st := []) (h1 := (v0 L, g)) (e := ez_i) rfl (dm_176 L g ) (fun y5 => ?_)
    refine ev_op 0 (as := [.int y5]) (pc := 74) (Lc := [some (.ref 33), some (.int u1), some (.int u2), some (.int u3), none, none, none, none, none]) (st := []) (h1 := (v0 L, g)) (e := ez_i) rfl (dm_259 L g y5) (fun y7 => ?_)
    refine ev_in 0 (p := y7 = 0) (a := 104) (b := 77) (T := ([some (.ref 33), some (.int u1), some (.int u2), some (.int u3), none, none, none, none, none], [], (v0 L, g))) rfl ?_ ?_
    · refine ev_op 2 (as := [.ref 33, .int 46]) (pc := 83) (Lc := [some (.ref 33), some (.int u1), some (.int u2), some (.int u3), none, none, none, none, none]) (st := []) (h1 := (v0 L, g)) (e := ez_i) rfl (dm_240 L g 46) (fun y9 => ?_)
      refine ev_in 0 (p := y9 = 0) (a := 104) (b := 86) (T := ([some (.ref 33), some (.int u1), some (.int u2), some (.int u3), none, none, none, none, none], [], (v0 L, g))) rfl ?_ ?_
      · refine ev_op 2 (as := [.ref 33, .int 95]) (pc := 92) (Lc := [some (.ref 33), some (.int u1), some (.int u2), some (.int u3), none, none, none, none, none]) (st := []) (h1 := (v0 L, g)) (e := ez_i) rfl (dm_240 L g 95) (fun y11 => ?_)
        refine ev_in 0 (p := y11 = 0) (a := 104) (b := 95) (T := ([some (.ref 33), some (.int u1), some (.int u2), some (.int u3), none, none, none, none, none], [], (v0 L, g))) rfl ?_ ?_
        · refine ev_op 2 (as := [.ref 33, .int 45]) (pc := 101) (Lc := [some (.ref 33), some (.int u1), some (.int u2), some (.int u3), none, none, none, none, none]) (st := []) (h1 := (v0 L, g)) (e := ez_i) rfl (dm_240 L g 45) (fun y13 => ?_)
          refine ev_if 0 (p := y13 = 0) (a := 114) (b := 104) (T := ([some (.ref 33), some (.int u1), some (.int u2), some (.int u3), none, none, none, none, none], [], (v0 L, g))) rfl ?_ ?_
          · refine ev_jm 6 (t := (125, [some (.ref 33), some (.int u1), some (.int u2), some (.int u3), none, none, none, none, none], [.int ((am_i g 42 0) - u2)], (v0 L, g))) rfl ?_
            refine lo_e (S := fun (x15 : Int32) => (125, [some (.ref 33), some (.int u1), some (.int u2), some (.int u3), none, none, none, none, none], [.int x15], (v0 L, g))) (fun x15 => ?_)
            refine ev_ot 3 (as := [.ref 33, .int u1]) (pc := 132) (Lc := [some (.ref 33), some (.int u1), some (.int u2), some (.int u3), some (.int x15), none, none, none, none]) (st := []) (V := v0 L) (g1 := g) (e := ez_v) rfl (dm_244 L g u1) (fun _ => rfl) (fun y16 g17 => ?_)
            refine ev_in 4 (p := x15 = 5) (a := 147) (b := 143) (T := ([some (.ref 33), some (.int u1), some (.int u2), some (.int u3), some (.int x15), some (.long 504464026936), none, none, none], [], (v0 L, g17))) rfl ?_ ?_
            · refine ev_jm 4 (t := (153, [some (.ref 33), none, some (.int u2), some (.int u3), none, some (.long 504464026936), none, some (.int 1), some (.int 0)], [], (v0 L, g17))) rfl ?_
              exact dh_262_153 L (g17, u2, u3, 504464026936, 1, 0) none none none _
            · refine ev_jm 3 (t := (153, [some (.ref 33), none, some (.int u2), some (.int u3), none, some (.long 504464026936), none, some (.int 0), some (.int 0)], [], (v0 L, g17))) rfl ?_
              exact dh_262_153 L (g17, u2, u3, 504464026936, 0, 0) none none none _
          · exact dj_262_104 L hk51 g u1 u2 u3 none none none none none _
        · exact dj_262_104 L hk51 g u1 u2 u3 none none none none none _
      · exact dj_262_104 L hk51 g u1 u2 u3 none none none none none _
    · exact dj_262_104 L hk51 g u1 u2 u3 none none none none none _
  · exact dj_262_104 L hk51 g u1 u2 u3 none none none none none _
noncomputable def fh_262_51  (x : am_G × Int32 × Int32 × Int32) : Option ((Unit ⊕ Nat) × am_G) := lo_it (fun k x => fb_262_51 k x.1 x.2.1 x.2.2.1 x.2.2.2) nf_F x
theorem dh_262_51 (L : Nat)   (x : am_G × Int32 × Int32 × Int32) (w4 w5 w6 w7 w8 : Option Value) (R : (Unit ⊕ Nat) × am_G) : fh_262_51  x = some R → ai_ev ap_P 262 (51, [some (.ref 33), some (.int x.2.1), some (.int x.2.2.1), some (.int x.2.2.2), w4, w5, w6, w7, w8], [], (v0 L, x.1)) (oz_r ez_v R.1) (v0 L, R.2) :=
  fun hr => lo_ev (E := fun x R => ∀ (w4 w5 w6 w7 w8 : Option Value), ai_ev ap_P 262 (51, [some (.ref 33), some (.int x.2.1), some (.int x.2.2.1), some (.int x.2.2.2), w4, w5, w6, w7, w8], [], (v0 L, x.1)) (oz_r ez_v R.1) (v0 L, R.2)) (fun k hk x R hr => fun w4 w5 w6 w7 w8 => db_262_51 L (fun x w4 w5 w6 w7 w8 R hr => hk x R hr w4 w5 w6 w7 w8) x.1 x.2.1 x.2.2.1 x.2.2.2 w4 w5 w6 w7 w8 R hr) nf_F x R hr w4 w5 w6 w7 w8
/-- DeclaredMarkup$Processor.coding()V -/
noncomputable def fm_262 (g : am_G)  : Option ((Unit ⊕ Nat) × am_G) := lo_t (fm_245 g 1701733231) fun y1 g2 => lo_t (fm_245 g2 1684631143) fun y3 g4 => lo_t (fm_257 g4 ) fun y5 g6 => lo_l (am_i g6 42 0) fun x7 => lo_p (fm_178 g6 ) fun y8 => lo_p (fm_176 g6 ) fun y10 => lo_p (fm_260 g6 y10) fun y12 => lo_t (fm_238 g6 y12) fun y14 g15 => fh_262_51 (g15, y5, x7, y8)
theorem dm_262 (L : Nat) (g : am_G)  (R : (Unit ⊕ Nat) × am_G) : fm_262 g  = some R → ai_ev ap_P 262 (ai_e0 ap_P 262 [.ref 33] (v0 L, g)) (oz_r ez_v R.1) (v0 L, R.2) := by
  show _ → ai_ev ap_P 262 (0, [some (.ref 33), none, none, none, none, none, none, none, none], [], (v0 L, g)) _ _
  unfold fm_262
  refine ev_ot 2 (as := [.ref 33, .long 1701733231]) (pc := 7) (Lc := [some (.ref 33), none, none, none, none, none, none, none, none]) (st := []) (V := v0 L) (g1 := g) (e := ez_v) rfl (dm_245 L g 1701733231) (fun _ => rfl) (fun y1 g2 => ?_)
  refine ev_ot 2 (as := [.ref 33, .long 1684631143]) (pc := 14) (Lc := [some (.ref 33), none, none, none, none, none, none, none, none]) (st := []) (V := v0 L) (g1 := g2) (e := ez_v) rfl (dm_245 L g2 1684631143) (fun _ => rfl) (fun y3 g4 => ?_)
  refine ev_ot 1 (as := [.ref 33]) (pc := 18) (Lc := [some (.ref 33), none, none, none, none, none, none, none, none]) (st := []) (V := v0 L) (g1 := g4) (e := ez_i) rfl (dm_257 L g4 ) (fun _ => rfl) (fun y5 g6 => ?_)
  refine ev_jm 5 (t := (28, [some (.ref 33), some (.int y5), none, none, none, none, none, none, none], [.int (am_i g6 42 0)], (v0 L, g6))) rfl ?_
  refine lo_e (S := fun (x7 : Int32) => (28, [some (.ref 33), some (.int y5), none, none, none, none, none, none, none], [.int x7], (v0 L, g6))) (fun x7 => ?_)
  refine ev_op 3 (as := [.ref 39]) (pc := 36) (Lc := [some (.ref 33), some (.int y5), some (.int x7), none, none, none, none, none, none]) (st := []) (h1 := (v0 L, g6)) (e := ez_i) rfl (dm_178 L g6 ) (fun y8 => ?_)
  refine ev_op 4 (as := [.ref 39]) (pc := 45) (Lc := [some (.ref 33), some (.int y5), some (.int x7), some (.int y8), none, none, none, none, none]) (st := [.ref 33]) (h1 := (v0 L, g6)) (e := ez_i) rfl (dm_176 L g6 ) (fun y10 => ?_)
  refine ev_op 0 (as := [.int y10]) (pc := 48) (Lc := [some (.ref 33), some (.int y5), some (.int x7), some (.int y8), none, none, none, none, none]) (st := [.ref 33]) (h1 := (v0 L, g6)) (e := ez_i) rfl (dm_260 L g6 y10) (fun y12 => ?_)
  refine ev_ot 0 (as := [.ref 33, .int y12]) (pc := 51) (Lc := [some (.ref 33), some (.int y5), some (.int x7), some (.int y8), none, none, none, none, none]) (st := []) (V := v0 L) (g1 := g6) (e := ez_v) rfl (dm_238 L g6 y12) (fun _ => rfl) (fun y14 g15 => ?_)
  exact dh_262_51 L (g15, y5, x7, y8) none none none none none _
noncomputable def fj_258_175  (g : am_G) : Option ((Unit ⊕ Nat) × am_G) := lo_t (fm_244 g 63) fun y1 g2 => lo_t (fm_244 g2 62) fun y3 g4 => some (.inl (), g4)
theorem dj_258_175 (L : Nat)   (g : am_G) (w1 w2 w3 : Option Value) (R : (Unit ⊕ Nat) × am_G) : fj_258_175  g = some R → ai_ev ap_P 258 (175, [some (.ref 33), w1, w2, w3], [], (v0 L, g)) (oz_r ez_v R.1) (v0 L, R.2) := by
  unfold fj_258_175
  refine ev_ot 2 (as := [.ref 33, .int 63]) (pc := 181) (Lc := [some (.ref 33), none, none, none]) (st := []) (V := v0 L) (g1 := g) (e := ez_v) rfl (dm_244 L g 63) (fun _ => rfl) (fun y1 g2 => ?_)
  refine ev_ot 2 (as := [.ref 33, .int 62]) (pc := 187) (Lc := [some (.ref 33), none, none, none]) (st := []) (V := v0 L) (g1 := g2) (e := ez_v) rfl (dm_244 L g2 62) (fun _ => rfl) (fun y3 g4 => ?_)
  exact fun hR => by cases hR; exact ev_rt 0 rfl
noncomputable def fj_258_165  (g : am_G) (u3 : Int32) : Option ((Unit ⊕ Nat) × am_G) := lo_t (fm_244 g u3) fun y1 g2 => lo_i (fm_242 g2 ) fun y3 g4 => fj_258_175 g4
theorem dj_258_165 (L : Nat)   (g : am_G) (u3 : Int32) (w1 w2 : Option Value) (R : (Unit ⊕ Nat) × am_G) : fj_258_165  g u3 = some R → ai_ev ap_P 258 (165, [some (.ref 33), w1, w2, some (.int u3)], [], (v0 L, g)) (oz_r ez_v R.1) (v0 L, R.2) := by
  unfold fj_258_165
  refine ev_ot 2 (as := [.ref 33, .int u3]) (pc := 170) (Lc := [some (.ref 33), none, none, some (.int u3)]) (st := []) (V := v0 L) (g1 := g) (e := ez_v) rfl (dm_244 L g u3) (fun _ => rfl) (fun y1 g2 => ?_)
  refine ev_oi 1 (as := [.ref 33]) (pc := 174) (Lc := [some (.ref 33), none, none, some (.int u3)]) (st := []) (V := v0 L) (g1 := g2) (e := ez_i) rfl (dm_242 L g2 ) (fun y3 g4 => ?_)
  refine ev_jm 0 (t := (175, [some (.ref 33), none, none, some (.int u3)], [], (v0 L, g4))) rfl ?_
  exact dj_258_175 L g4 none none (some (.int u3)) _
noncomputable def fj_258_107  (g : am_G) (u2 : Int32) : Option ((Unit ⊕ Nat) × am_G) := if u2 = 0 then fj_258_175 g else lo_p (fm_240 g 115) fun y1 => if y1 = 0 then fj_258_175 g else lo_t (fm_245 g 495873781348) fun y3 g4 => lo_t (fm_245 g4 418431069797) fun y5 g6 => lo_t (fm_257 g6 ) fun y7 g8 => lo_p (fm_240 g8 121) fun y9 => if y9 = 0 then lo_t (fm_245 g8 28271) fun y11 g12 => fj_258_165 g12 y7 else lo_t (fm_245 g8 7955827) fun y13 g14 => fj_258_165 g14 y7
theorem dj_258_107 (L : Nat)   (g : am_G) (u2 : Int32) (w1 w3 : Option Value) (R : (Unit ⊕ Nat) × am_G) : fj_258_107  g u2 = some R → ai_ev ap_P 258 (107, [some (.ref 33), w1, some (.int u2), w3], [], (v0 L, g)) (oz_r ez_v R.1) (v0 L, R.2) := by
  unfold fj_258_107
  refine ev_if 1 (p := u2 = 0) (a := 175) (b := 111) (T := ([some (.ref 33), none, some (.int u2), none], [], (v0 L, g))) rfl ?_ ?_
  · exact dj_258_175 L g none (some (.int u2)) none _
  · refine ev_op 2 (as := [.ref 33, .int 115]) (pc := 117) (Lc := [some (.ref 33), none, some (.int u2), none]) (st := []) (h1 := (v0 L, g)) (e := ez_i) rfl (dm_240 L g 115) (fun y1 => ?_)
    refine ev_if 0 (p := y1 = 0) (a := 175) (b := 120) (T := ([some (.ref 33), none, some (.int u2), none], [], (v0 L, g))) rfl ?_ ?_
    · exact dj_258_175 L g none (some (.int u2)) none _
    · refine ev_ot 2 (as := [.ref 33, .long 495873781348]) (pc := 127) (Lc := [some (.ref 33), none, some (.int u2), none]) (st := []) (V := v0 L) (g1 := g) (e := ez_v) rfl (dm_245 L g 495873781348) (fun _ => rfl) (fun y3 g4 => ?_)
      refine ev_ot 2 (as := [.ref 33, .long 418431069797]) (pc := 134) (Lc := [some (.ref 33), none, some (.int u2), none]) (st := []) (V := v0 L) (g1 := g4) (e := ez_v) rfl (dm_245 L g4 418431069797) (fun _ => rfl) (fun y5 g6 => ?_)
      refine ev_ot 1 (as := [.ref 33]) (pc := 138) (Lc := [some (.ref 33), none, some (.int u2), none]) (st := []) (V := v0 L) (g1 := g6) (e := ez_i) rfl (dm_257 L g6 ) (fun _ => rfl) (fun y7 g8 => ?_)
      refine ev_op 3 (as := [.ref 33, .int 121]) (pc := 145) (Lc := [some (.ref 33), none, some (.int u2), some (.int y7)]) (st := []) (h1 := (v0 L, g8)) (e := ez_i) rfl (dm_240 L g8 121) (fun y9 => ?_)
      refine ev_if 0 (p := y9 = 0) (a := 158) (b := 148) (T := ([some (.ref 33), none, some (.int u2), some (.int y7)], [], (v0 L, g8))) rfl ?_ ?_
      · refine ev_ot 2 (as := [.ref 33, .long 28271]) (pc := 165) (Lc := [some (.ref 33), none, some (.int u2), some (.int y7)]) (st := []) (V := v0 L) (g1 := g8) (e := ez_v) rfl (dm_245 L g8 28271) (fun _ => rfl) (fun y11 g12 => ?_)
        exact dj_258_165 L g12 y7 none (some (.int u2)) _
      · refine ev_ot 2 (as := [.ref 33, .long 7955827]) (pc := 155) (Lc := [some (.ref 33), none, some (.int u2), some (.int y7)]) (st := []) (V := v0 L) (g1 := g8) (e := ez_v) rfl (dm_245 L g8 7955827) (fun _ => rfl) (fun y13 g14 => ?_)
        refine ev_jm 0 (t := (165, [some (.ref 33), none, some (.int u2), some (.int y7)], [], (v0 L, g14))) rfl ?_
        exact dj_258_165 L g14 y7 none (some (.int u2)) _
noncomputable def fb_258_52 (k52 : (am_G × Int32) → Option ((Unit ⊕ Nat) × am_G)) (g : am_G) (u1 : Int32) : Option ((Unit ⊕ Nat) × am_G) := lo_p (fm_176 g ) fun y1 => lo_p (fm_259 g y1) fun y3 => if y3 = 0 then lo_t (fm_244 g u1) fun y5 g6 => lo_i (fm_242 g6 ) fun y7 g8 => if y7 = 0 then fj_258_107 g8 y7 else lo_p (fm_240 g8 101) fun y9 => if y9 = 0 then fj_258_107 g8 y7 else lo_t (fm_262 g8 ) fun y11 g12 => lo_i (fm_242 g12 ) fun y13 g14 => fj_258_107 g14 y13 else lo_p (fm_177 g ) fun g16 => k52 (g16, u1)
theorem db_258_52 (L : Nat) {k52 : (am_G × Int32) → Option ((Unit ⊕ Nat) × am_G)} (hk52 : ∀ (x : am_G × Int32) (w2 w3 : Option Value) (R : (Unit ⊕ Nat) × am_G), k52 x = some R → ai_ev ap_P 258 (52, [some (.ref 33), some (.int x.2), w2, w3], [], (v0 L, x.1)) (oz_r ez_v R.1) (v0 L, R.2)) (g : am_G) (u1 : Int32) (w2 w3 : Option Value) (R : (Unit ⊕ Nat) × am_G) : fb_258_52 k52 g u1 = some R → ai_ev ap_P 258 (52, [some (.ref 33), some (.int u1), w2, w3], [], (v0 L, g)) (oz_r ez_v R.1) (v0 L, R.2) := by
  unfold fb_258_52
  refine ev_op 2 (as := [.ref 39]) (pc := 59) (Lc := [some (.ref 33), some (.int u1), none, none]) (st := []) (h1 := (v0 L, g)) (e := ez_i) rfl (dm_176 L g ) (fun y1 => ?_)
  refine ev_op 0 (as := [.int y1]) (pc := 62) (Lc := [some (.ref 33), some (.int u1), none, none]) (st := []) (h1 := (v0 L, g)) (e := ez_i) rfl (dm_259 L g y1) (fun y3 => ?_)
  refine ev_if 0 (p := y3 = 0) (a := 75) (b := 65) (T := ([some (.ref 33), some (.int u1), none, none], [], (v0 L, g))) rfl ?_ ?_
  · refine ev_ot 2 (as := [.ref 33, .int u1]) (pc := 80) (Lc := [some (.ref 33), some (.int u1), none, none]) (st := []) (V := v0 L) (g1 := g) (e := ez_v) rfl (dm_244 L g u1) (fun _ => rfl) (fun y5 g6 => ?_)
    refine ev_oi 1 (as := [.ref 33]) (pc := 84) (Lc := [some (.ref 33), some (.int u1), none, none]) (st := []) (V := v0 L) (g1 := g6) (e := ez_i) rfl (dm_242 L g6 ) (fun y7 g8 => ?_)
    refine ev_if 2 (p := y7 = 0) (a := 107) (b := 89) (T := ([some (.ref 33), some (.int u1), some (.int y7), none], [], (v0 L, g8))) rfl ?_ ?_
    · exact dj_258_107 L g8 y7 (some (.int u1)) none _
    · refine ev_op 2 (as := [.ref 33, .int 101]) (pc := 95) (Lc := [some (.ref 33), some (.int u1), some (.int y7), none]) (st := []) (h1 := (v0 L, g8)) (e := ez_i) rfl (dm_240 L g8 101) (fun y9 => ?_)
      refine ev_if 0 (p := y9 = 0) (a := 107) (b := 98) (T := ([some (.ref 33), some (.int u1), some (.int y7), none], [], (v0 L, g8))) rfl ?_ ?_
      · exact dj_258_107 L g8 y7 (some (.int u1)) none _
      · refine ev_ot 1 (as := [.ref 33]) (pc := 102) (Lc := [some (.ref 33), some (.int u1), some (.int y7), none]) (st := []) (V := v0 L) (g1 := g8) (e := ez_v) rfl (dm_262 L g8 ) (fun _ => rfl) (fun y11 g12 => ?_)
        refine ev_oi 1 (as := [.ref 33]) (pc := 106) (Lc := [some (.ref 33), some (.int u1), some (.int y7), none]) (st := []) (V := v0 L) (g1 := g12) (e := ez_i) rfl (dm_242 L g12 ) (fun y13 g14 => ?_)
        refine ev_jm 0 (t := (107, [some (.ref 33), some (.int u1), some (.int y13), none], [], (v0 L, g14))) rfl ?_
        exact dj_258_107 L g14 y13 (some (.int u1)) none _
  · refine ev_ov0 2 (as := [.ref 39]) (pc := 72) (Lc := [some (.ref 33), some (.int u1), none, none]) (st := []) (V := v0 L) (g1 := g) rfl (dm_177 L g ) (fun g16 => ?_)
    refine ev_jm 0 (t := (52, [some (.ref 33), some (.int u1), none, none], [], (v0 L, g16))) rfl ?_
    exact hk52 (g16, u1) none none _
noncomputable def fh_258_52  (x : am_G × Int32) : Option ((Unit ⊕ Nat) × am_G) := lo_it (fun k x => fb_258_52 k x.1 x.2) nf_F x
theorem dh_258_52 (L : Nat)   (x : am_G × Int32) (w2 w3 : Option Value) (R : (Unit ⊕ Nat) × am_G) : fh_258_52  x = some R → ai_ev ap_P 258 (52, [some (.ref 33), some (.int x.2), w2, w3], [], (v0 L, x.1)) (oz_r ez_v R.1) (v0 L, R.2) :=
  fun hr => lo_ev (E := fun x R => ∀ (w2 w3 : Option Value), ai_ev ap_P 258 (52, [some (.ref 33), some (.int x.2), w2, w3], [], (v0 L, x.1)) (oz_r ez_v R.1) (v0 L, R.2)) (fun k hk x R hr => fun w2 w3 => db_258_52 L (fun x w2 w3 R hr => hk x R hr w2 w3) x.1 x.2 w2 w3 R hr) nf_F x R hr w2 w3
/-- DeclaredMarkup$Processor.declaration()V -/
noncomputable def fm_258 (g : am_G)  : Option ((Unit ⊕ Nat) × am_G) := lo_t (fm_243 (am_si g 42 0 5) ) fun y1 g2 => lo_t (fm_245 g2 33325589488824174) fun y3 g4 => lo_t (fm_257 g4 ) fun y5 g6 => lo_t (fm_244 g6 49) fun y7 g8 => lo_t (fm_244 g8 46) fun y9 g10 => lo_p (fm_176 g10 ) fun y11 => lo_p (fm_259 g10 y11) fun y13 => lo_t (fm_238 g10 y13) fun y15 g16 => fh_258_52 (g16, y5)
theorem dm_258 (L : Nat) (g : am_G)  (R : (Unit ⊕ Nat) × am_G) : fm_258 g  = some R → ai_ev ap_P 258 (ai_e0 ap_P 258 [.ref 33] (v0 L, g)) (oz_r ez_v R.1) (v0 L, R.2) := by
  show _ → ai_ev ap_P 258 (0, [some (.ref 33), none, none, none], [], (v0 L, g)) _ _
  unfold fm_258
  refine ev_ot 7 (as := [.ref 33]) (pc := 14) (Lc := [some (.ref 33), none, none, none]) (st := []) (V := v0 L) (g1 := (am_si g 42 0 5)) (e := ez_v) rfl (dm_243 L (am_si g 42 0 5) ) (fun _ => rfl) (fun y1 g2 => ?_)
  refine ev_ot 2 (as := [.ref 33, .long 33325589488824174]) (pc := 21) (Lc := [some (.ref 33), none, none, none]) (st := []) (V := v0 L) (g1 := g2) (e := ez_v) rfl (dm_245 L g2 33325589488824174) (fun _ => rfl) (fun y3 g4 => ?_)
  refine ev_ot 1 (as := [.ref 33]) (pc := 25) (Lc := [some (.ref 33), none, none, none]) (st := []) (V := v0 L) (g1 := g4) (e := ez_i) rfl (dm_257 L g4 ) (fun _ => rfl) (fun y5 g6 => ?_)
  refine ev_ot 3 (as := [.ref 33, .int 49]) (pc := 32) (Lc := [some (.ref 33), some (.int y5), none, none]) (st := []) (V := v0 L) (g1 := g6) (e := ez_v) rfl (dm_244 L g6 49) (fun _ => rfl) (fun y7 g8 => ?_)
  refine ev_ot 2 (as := [.ref 33, .int 46]) (pc := 38) (Lc := [some (.ref 33), some (.int y5), none, none]) (st := []) (V := v0 L) (g1 := g8) (e := ez_v) rfl (dm_244 L g8 46) (fun _ => rfl) (fun y9 g10 => ?_)
  refine ev_op 3 (as := [.ref 39]) (pc := 46) (Lc := [some (.ref 33), some (.int y5), none, none]) (st := [.ref 33]) (h1 := (v0 L, g10)) (e := ez_i) rfl (dm_176 L g10 ) (fun y11 => ?_)
  refine ev_op 0 (as := [.int y11]) (pc := 49) (Lc := [some (.ref 33), some (.int y5), none, none]) (st := [.ref 33]) (h1 := (v0 L, g10)) (e := ez_i) rfl (dm_259 L g10 y11) (fun y13 => ?_)
  refine ev_ot 0 (as := [.ref 33, .int y13]) (pc := 52) (Lc := [some (.ref 33), some (.int y5), none, none]) (st := []) (V := v0 L) (g1 := g10) (e := ez_v) rfl (dm_238 L g10 y13) (fun _ => rfl) (fun y15 g16 => ?_)
  exact dh_258_52 L (g16, y5) none none _
/-- DeclaredMarkup$Letters.isBegin(I)Z -/
noncomputable def fm_186 (g : am_G) (u0 : Int32) : Option (Int32) := lo_p (fm_183 g 18 u0) fun y1 => some (vp_nar .boolean y1)
theorem dm_186 (L : Nat) (g : am_G) (u0 : Int32) (R : Int32) : fm_186 g u0 = some R → ai_ev ap_P 186 (ai_e0 ap_P 186 [.int u0] (v0 L, g)) (.inl (ez_i R)) (v0 L, g) := by
  show _ → ai_ev ap_P 186 (0, [some (.int u0)], [], (v0 L, g)) _ _
  unfold fm_186
  refine ev_op 2 (as := [.ref 18, .int u0]) (pc := 7) (Lc := [some (.int u0)]) (st := []) (h1 := (v0 L, g)) (e := ez_i) rfl (dm_183 L g 18 u0) (fun y1 => ?_)
  exact fun hR => by cases hR; exact ev_rt 0 rfl
/-- DeclaredMarkup$NamePool.begin()V -/
noncomputable def fm_228 (g : am_G)  : Option (am_G) := some (am_si g 43 7 0)
theorem dm_228 (L : Nat) (g : am_G)  (R : am_G) : fm_228 g  = some R → ai_ev ap_P 228 (ai_e0 ap_P 228 [.ref 43] (v0 L, g)) (.inl none) (v0 L, R) := by
  show _ → ai_ev ap_P 228 (0, [some (.ref 43)], [], (v0 L, g)) _ _
  unfold fm_228
  exact fun hR => by cases hR; exact ev_rt 3 rfl
/-- DeclaredMarkup$Letters.isPart(I)Z -/
noncomputable def fm_187 (g : am_G) (u0 : Int32) : Option (Int32) := lo_p (fm_186 g u0) fun y1 => if y1 = 0 then lo_p (fm_183 g 19 u0) fun y3 => if y3 = 0 then some 0 else some 1 else some 1
theorem dm_187 (L : Nat) (g : am_G) (u0 : Int32) (R : Int32) : fm_187 g u0 = some R → ai_ev ap_P 187 (ai_e0 ap_P 187 [.int u0] (v0 L, g)) (.inl (ez_i R)) (v0 L, g) := by
  show _ → ai_ev ap_P 187 (0, [some (.int u0)], [], (v0 L, g)) _ _
  unfold fm_187
  refine ev_op 1 (as := [.int u0]) (pc := 4) (Lc := [some (.int u0)]) (st := []) (h1 := (v0 L, g)) (e := ez_i) rfl (dm_186 L g u0) (fun y1 => ?_)
  refine ev_in 0 (p := y1 = 0) (a := 17) (b := 7) (T := ([some (.int u0)], [], (v0 L, g))) rfl ?_ ?_
  · refine ev_op 2 (as := [.ref 19, .int u0]) (pc := 14) (Lc := [some (.int u0)]) (st := []) (h1 := (v0 L, g)) (e := ez_i) rfl (dm_183 L g 19 u0) (fun y3 => ?_)
    refine ev_if 0 (p := y3 = 0) (a := 21) (b := 17) (T := ([some (.int u0)], [], (v0 L, g))) rfl ?_ ?_
    · exact fun hR => by cases hR; exact ev_rt 1 rfl
    · exact fun hR => by cases hR; exact ev_rt 2 rfl
  · exact fun hR => by cases hR; exact ev_rt 2 rfl
noncomputable def fj_229_24  (g : am_G) : Option (am_G) := some (am_si g 43 7 ((am_i g 43 7) + 1))
theorem dj_229_24 (L : Nat)   (g : am_G) (w1 : Option Value) (R : am_G) : fj_229_24  g = some R → ai_ev ap_P 229 (24, [some (.ref 43), w1], [], (v0 L, g)) (.inl none) (v0 L, R) := by
  unfold fj_229_24
  exact fun hR => by cases hR; exact ev_rt 6 rfl
/-- DeclaredMarkup$NamePool.add(I)V -/
noncomputable def fm_229 (g : am_G) (u1 : Int32) : Option (am_G) := if (60 : Int32) ≤ (am_i g 43 7) then fj_229_24 g else lo_g (ai_in ((am_i g 43 6) + (am_i g 43 7)) 14600) (fj_229_24 (am_si g 44 (((am_i g 43 6) + (am_i g 43 7))).toNatClampNeg u1))
theorem dm_229 (L : Nat) (g : am_G) (u1 : Int32) (R : am_G) : fm_229 g u1 = some R → ai_ev ap_P 229 (ai_e0 ap_P 229 [.ref 43, .int u1] (v0 L, g)) (.inl none) (v0 L, R) := by
  show _ → ai_ev ap_P 229 (0, [some (.ref 43), some (.int u1)], [], (v0 L, g)) _ _
  unfold fm_229
  refine ev_if 3 (p := (60 : Int32) ≤ (am_i g 43 7)) (a := 24) (b := 9) (T := ([some (.ref 43), some (.int u1)], [], (v0 L, g))) rfl ?_ ?_
  · exact dj_229_24 L g (some (.int u1)) _
  · refine ev_gd (c := ai_in ((am_i g 43 6) + (am_i g 43 7)) 14600) (fun hc1 => ?_)
    refine ev_jm 8 (t := (24, [some (.ref 43), some (.int u1)], [], (v0 L, (am_si g 44 (((am_i g 43 6) + (am_i g 43 7))).toNatClampNeg u1)))) (ai_gd (c := ai_in ((am_i g 43 6) + (am_i g 43 7)) 14600) rfl hc1) ?_
    exact dj_229_24 L (am_si g 44 (((am_i g 43 6) + (am_i g 43 7))).toNatClampNeg u1) (some (.int u1)) _
noncomputable def fb_248_21 (k21 : am_G → Option ((Unit ⊕ Nat) × am_G)) (g : am_G) : Option ((Unit ⊕ Nat) × am_G) := lo_p (fm_176 g ) fun y1 => lo_p (fm_187 g y1) fun y3 => if y3 = 0 then some (.inl (), g) else lo_p (fm_176 g ) fun y5 => lo_p (fm_229 g y5) fun g8 => lo_p (fm_177 g8 ) fun g10 => k21 g10
theorem db_248_21 (L : Nat) {k21 : am_G → Option ((Unit ⊕ Nat) × am_G)} (hk21 : ∀ (x : am_G) (R : (Unit ⊕ Nat) × am_G), k21 x = some R → ai_ev ap_P 248 (21, [some (.ref 33)], [], (v0 L, x)) (oz_r ez_v R.1) (v0 L, R.2)) (g : am_G) (R : (Unit ⊕ Nat) × am_G) : fb_248_21 k21 g = some R → ai_ev ap_P 248 (21, [some (.ref 33)], [], (v0 L, g)) (oz_r ez_v R.1) (v0 L, R.2) := by
  unfold fb_248_21
  refine ev_op 2 (as := [.ref 39]) (pc := 28) (Lc := [some (.ref 33)]) (st := []) (h1 := (v0 L, g)) (e := ez_i) rfl (dm_176 L g ) (fun y1 => ?_)
  refine ev_op 0 (as := [.int y1]) (pc := 31) (Lc := [some (.ref 33)]) (st := []) (h1 := (v0 L, g)) (e := ez_i) rfl (dm_187 L g y1) (fun y3 => ?_)
  refine ev_if 0 (p := y3 = 0) (a := 58) (b := 34) (T := ([some (.ref 33)], [], (v0 L, g))) rfl ?_ ?_
  · exact fun hR => by cases hR; exact ev_rt 0 rfl
  · refine ev_op 4 (as := [.ref 39]) (pc := 45) (Lc := [some (.ref 33)]) (st := [.ref 43]) (h1 := (v0 L, g)) (e := ez_i) rfl (dm_176 L g ) (fun y5 => ?_)
    refine ev_ov0 0 (as := [.ref 43, .int y5]) (pc := 48) (Lc := [some (.ref 33)]) (st := []) (V := v0 L) (g1 := g) rfl (dm_229 L g y5) (fun g8 => ?_)
    refine ev_ov0 2 (as := [.ref 39]) (pc := 55) (Lc := [some (.ref 33)]) (st := []) (V := v0 L) (g1 := g8) rfl (dm_177 L g8 ) (fun g10 => ?_)
    refine ev_jm 0 (t := (21, [some (.ref 33)], [], (v0 L, g10))) rfl ?_
    exact hk21 g10 _
noncomputable def fh_248_21  (x : am_G) : Option ((Unit ⊕ Nat) × am_G) := lo_it (fun k x => fb_248_21 k x) nf_F x
theorem dh_248_21 (L : Nat)   (x : am_G) (R : (Unit ⊕ Nat) × am_G) : fh_248_21  x = some R → ai_ev ap_P 248 (21, [some (.ref 33)], [], (v0 L, x)) (oz_r ez_v R.1) (v0 L, R.2) :=
  fun hr => lo_ev (E := fun x R => ai_ev ap_P 248 (21, [some (.ref 33)], [], (v0 L, x)) (oz_r ez_v R.1) (v0 L, R.2)) (fun k hk x R hr => db_248_21 L hk x  R hr) nf_F x R hr
/-- DeclaredMarkup$Processor.spell()V -/
noncomputable def fm_248 (g : am_G)  : Option ((Unit ⊕ Nat) × am_G) := lo_p (fm_176 g ) fun y1 => lo_p (fm_186 g y1) fun y3 => lo_t (fm_238 g y3) fun y5 g6 => lo_p (fm_228 g6 ) fun g8 => fh_248_21 g8
theorem dm_248 (L : Nat) (g : am_G)  (R : (Unit ⊕ Nat) × am_G) : fm_248 g  = some R → ai_ev ap_P 248 (ai_e0 ap_P 248 [.ref 33] (v0 L, g)) (oz_r ez_v R.1) (v0 L, R.2) := by
  show _ → ai_ev ap_P 248 (0, [some (.ref 33)], [], (v0 L, g)) _ _
  unfold fm_248
  refine ev_op 3 (as := [.ref 39]) (pc := 8) (Lc := [some (.ref 33)]) (st := [.ref 33]) (h1 := (v0 L, g)) (e := ez_i) rfl (dm_176 L g ) (fun y1 => ?_)
  refine ev_op 0 (as := [.int y1]) (pc := 11) (Lc := [some (.ref 33)]) (st := [.ref 33]) (h1 := (v0 L, g)) (e := ez_i) rfl (dm_186 L g y1) (fun y3 => ?_)
  refine ev_ot 0 (as := [.ref 33, .int y3]) (pc := 14) (Lc := [some (.ref 33)]) (st := []) (V := v0 L) (g1 := g) (e := ez_v) rfl (dm_238 L g y3) (fun _ => rfl) (fun y5 g6 => ?_)
  refine ev_ov0 2 (as := [.ref 43]) (pc := 21) (Lc := [some (.ref 33)]) (st := []) (V := v0 L) (g1 := g6) rfl (dm_228 L g6 ) (fun g8 => ?_)
  exact dh_248_21 L g8 _
/-- DeclaredMarkup$NamePool.isLong()Z -/
noncomputable def fm_230 (g : am_G)  : Option (Int32) := if (am_i g 43 7) ≤ 60 then some 0 else some 1
theorem dm_230 (L : Nat) (g : am_G)  (R : Int32) : fm_230 g  = some R → ai_ev ap_P 230 (ai_e0 ap_P 230 [.ref 43] (v0 L, g)) (.inl (ez_i R)) (v0 L, g) := by
  show _ → ai_ev ap_P 230 (0, [some (.ref 43)], [], (v0 L, g)) _ _
  unfold fm_230
  refine ev_if 3 (p := (am_i g 43 7) ≤ 60) (a := 13) (b := 9) (T := ([some (.ref 43)], [], (v0 L, g))) rfl ?_ ?_
  · exact fun hR => by cases hR; exact ev_rt 1 rfl
  · exact fun hR => by cases hR; exact ev_rt 2 rfl
/-- DeclaredMarkup$Processor.full(II)Ljava/lang/IllegalStateException; -/
noncomputable def fm_237 (g : am_G) (u1 : Int32) (u2 : Int32) : Option (Nat × am_G) := lo_i (fm_236 (am_si g 33 13 u1) 15 u2) fun y1 g2 => some (y1, g2)
theorem dm_237 (L : Nat) (g : am_G) (u1 : Int32) (u2 : Int32) (R : Nat × am_G) : fm_237 g u1 u2 = some R → ai_ev ap_P 237 (ai_e0 ap_P 237 [.ref 33, .int u1, .int u2] (v0 L, g)) (.inl (ez_a R.1)) (v0 L, R.2) := by
  show _ → ai_ev ap_P 237 (0, [some (.ref 33), some (.int u1), some (.int u2)], [], (v0 L, g)) _ _
  unfold fm_237
  refine ev_oi 6 (as := [.ref 33, .int 15, .int u2]) (pc := 12) (Lc := [some (.ref 33), some (.int u1), some (.int u2)]) (st := []) (V := v0 L) (g1 := (am_si g 33 13 u1)) (e := ez_a) rfl (dm_236 L (am_si g 33 13 u1) 15 u2) (fun y1 g2 => ?_)
  exact fun hR => by cases hR; exact ev_rt 0 rfl
noncomputable def fb_231_4 (g : am_G) (k4 : (Int32 × Int32) → Option (Int32)) (u1 : Int32) (u2 : Int32) : Option (Int32) := if (am_i g 43 7) ≤ u2 then some ((u1 ^^^ (u1.toUInt32 >>> ((10 : Int32).toUInt32 &&& Int32.toUInt32 31)).toInt32) &&& 1023) else lo_g (ai_in ((am_i g 43 6) + u2) 14600) (lo_l ((31 * u1) + (am_i g 44 (((am_i g 43 6) + u2)).toNatClampNeg)) fun x2 => k4 (x2, (u2 + 1)))
theorem db_231_4 (L : Nat) (g : am_G) {k4 : (Int32 × Int32) → Option (Int32)} (hk4 : ∀ (x : Int32 × Int32) (R : Int32), k4 x = some R → ai_ev ap_P 231 (4, [some (.ref 43), some (.int x.1), some (.int x.2)], [], (v0 L, g)) (.inl (ez_i R)) (v0 L, g)) (u1 : Int32) (u2 : Int32) (R : Int32) : fb_231_4 g k4 u1 u2 = some R → ai_ev ap_P 231 (4, [some (.ref 43), some (.int u1), some (.int u2)], [], (v0 L, g)) (.inl (ez_i R)) (v0 L, g) := by
  unfold fb_231_4
  refine ev_if 3 (p := (am_i g 43 7) ≤ u2) (a := 35) (b := 12) (T := ([some (.ref 43), some (.int u1), some (.int u2)], [], (v0 L, g))) rfl ?_ ?_
  · exact fun hR => by cases hR; exact ev_rt 7 rfl
  · refine ev_gd (c := ai_in ((am_i g 43 6) + u2) 14600) (fun hc1 => ?_)
    refine ev_jm 9 (t := (27, [some (.ref 43), some (.int u1), some (.int u2)], [.int (am_i g 44 (((am_i g 43 6) + u2)).toNatClampNeg), .int (31 * u1)], (v0 L, g))) (ai_gd (c := ai_in ((am_i g 43 6) + u2) 14600) rfl hc1) ?_
    refine ev_jm 0 (t := (28, [some (.ref 43), some (.int u1), some (.int u2)], [.int ((31 * u1) + (am_i g 44 (((am_i g 43 6) + u2)).toNatClampNeg))], (v0 L, g))) rfl ?_
    refine lo_e (S := fun (x2 : Int32) => (28, [some (.ref 43), some (.int u1), some (.int u2)], [.int x2], (v0 L, g))) (fun x2 => ?_)
    refine ev_jm 2 (t := (4, [some (.ref 43), some (.int x2), some (.int (u2 + 1))], [], (v0 L, g))) rfl ?_
    exact hk4 (x2, (u2 + 1)) _
noncomputable def fh_231_4 (g : am_G)  (x : Int32 × Int32) : Option (Int32) := lo_it (fun k x => fb_231_4 g k x.1 x.2) nf_F x
theorem dh_231_4 (L : Nat) (g : am_G)   (x : Int32 × Int32) (R : Int32) : fh_231_4 g  x = some R → ai_ev ap_P 231 (4, [some (.ref 43), some (.int x.1), some (.int x.2)], [], (v0 L, g)) (.inl (ez_i R)) (v0 L, g) :=
  fun hr => lo_ev (E := fun x R => ai_ev ap_P 231 (4, [some (.ref 43), some (.int x.1), some (.int x.2)], [], (v0 L, g)) (.inl (ez_i R)) (v0 L, g)) (fun k hk x R hr => db_231_4 L g hk x.1 x.2  R hr) nf_F x R hr
/-- DeclaredMarkup$NamePool.chain()I -/
noncomputable def fm_231 (g : am_G)  : Option (Int32) := fh_231_4 g (0, 0)
theorem dm_231 (L : Nat) (g : am_G)  (R : Int32) : fm_231 g  = some R → ai_ev ap_P 231 (ai_e0 ap_P 231 [.ref 43] (v0 L, g)) (.inl (ez_i R)) (v0 L, g) := by
  show _ → ai_ev ap_P 231 (0, [some (.ref 43), none, none], [], (v0 L, g)) _ _
  unfold fm_231
  refine ev_jm 3 (t := (4, [some (.ref 43), some (.int 0), some (.int 0)], [], (v0 L, g))) rfl ?_
  exact dh_231_4 L g (0, 0) _
noncomputable def fb_232_21 (g : am_G) (k21 : (Int32 × Int32 × Int32) → Option (Int32)) (u1 : Int32) (u2 : Int32) (u3 : Int32) : Option (Int32) := if (am_i g 43 7) ≤ u3 then some (vp_nar .boolean u2) else if u2 = 0 then some (vp_nar .boolean u2) else lo_g (ai_in u1 7200) (lo_g (ai_in ((am_i g 45 u1.toNatClampNeg) + u3) 14600) (lo_g (ai_in ((am_i g 43 6) + u3) 14600) (if (am_i g 44 (((am_i g 45 u1.toNatClampNeg) + u3)).toNatClampNeg) = (am_i g 44 (((am_i g 43 6) + u3)).toNatClampNeg) then k21 (u1, 1, (u3 + 1)) else k21 (u1, 0, (u3 + 1)))))
theorem db_232_21 (L : Nat) (g : am_G) {k21 : (Int32 × Int32 × Int32) → Option (Int32)} (hk21 : ∀ (x : Int32 × Int32 × Int32) (R : Int32), k21 x = some R → ai_ev ap_P 232 (21, [some (.ref 43), some (.int x.1), some (.int x.2.1), some (.int x.2.2)], [], (v0 L, g)) (.inl (ez_i R)) (v0 L, g)) (u1 : Int32) (u2 : Int32) (u3 : Int32) (R : Int32) : fb_232_21 g k21 u1 u2 u3 = some R → ai_ev ap_P 232 (21, [some (.ref 43), some (.int u1), some (.int u2), some (.int u3)], [], (v0 L, g)) (.inl (ez_i R)) (v0 L, g) := by
  unfold fb_232_21
  refine ev_if 3 (p := (am_i g 43 7) ≤ u3) (a := 72) (b := 29) (T := ([some (.ref 43), some (.int u1), some (.int u2), some (.int u3)], [], (v0 L, g))) rfl ?_ ?_
  · exact fun hR => by cases hR; exact ev_rt 1 rfl
  · refine ev_if 1 (p := u2 = 0) (a := 72) (b := 33) (T := ([some (.ref 43), some (.int u1), some (.int u2), some (.int u3)], [], (v0 L, g))) rfl ?_ ?_
    · exact fun hR => by cases hR; exact ev_rt 1 rfl
    · refine ev_gd (c := ai_in u1 7200) (fun hc1 => ?_)
      refine ev_jm 5 (t := (43, [some (.ref 43), some (.int u1), some (.int u2), some (.int u3)], [.int (am_i g 45 u1.toNatClampNeg), .ref 44], (v0 L, g))) (ai_gd (c := ai_in u1 7200) rfl hc1) ?_
      refine ev_gd (c := ai_in ((am_i g 45 u1.toNatClampNeg) + u3) 14600) (fun hc2 => ?_)
      refine ev_jm 2 (t := (46, [some (.ref 43), some (.int u1), some (.int u2), some (.int u3)], [.int (am_i g 44 (((am_i g 45 u1.toNatClampNeg) + u3)).toNatClampNeg)], (v0 L, g))) (ai_gd (c := ai_in ((am_i g 45 u1.toNatClampNeg) + u3) 14600) rfl hc2) ?_
      refine ev_gd (c := ai_in ((am_i g 43 6) + u3) 14600) (fun hc3 => ?_)
      refine ev_jm 6 (t := (57, [some (.ref 43), some (.int u1), some (.int u2), some (.int u3)], [.int (am_i g 44 (((am_i g 43 6) + u3)).toNatClampNeg), .int (am_i g 44 (((am_i g 45 u1.toNatClampNeg) + u3)).toNatClampNeg)], (v0 L, g))) (ai_gd (c := ai_in ((am_i g 43 6) + u3) 14600) rfl hc3) ?_
      refine ev_in 0 (p := (am_i g 44 (((am_i g 45 u1.toNatClampNeg) + u3)).toNatClampNeg) = (am_i g 44 (((am_i g 43 6) + u3)).toNatClampNeg)) (a := 64) (b := 60) (T := ([some (.ref 43), some (.int u1), some (.int u2), some (.int u3)], [], (v0 L, g))) rfl ?_ ?_
      · refine ev_jm 4 (t := (21, [some (.ref 43), some (.int u1), some (.int 1), some (.int (u3 + 1))], [], (v0 L, g))) rfl ?_
        exact hk21 (u1, 1, (u3 + 1)) _
      · refine ev_jm 3 (t := (21, [some (.ref 43), some (.int u1), some (.int 0), some (.int (u3 + 1))], [], (v0 L, g))) rfl ?_
        exact hk21 (u1, 0, (u3 + 1)) _
noncomputable def fh_232_21 (g : am_G)  (x : Int32 × Int32 × Int32) : Option (Int32) := lo_it (fun k x => fb_232_21 g k x.1 x.2.1 x.2.2) nf_F x
theorem dh_232_21 (L : Nat) (g : am_G)   (x : Int32 × Int32 × Int32) (R : Int32) : fh_232_21 g  x = some R → ai_ev ap_P 232 (21, [some (.ref 43), some (.int x.1), some (.int x.2.1), some (.int x.2.2)], [], (v0 L, g)) (.inl (ez_i R)) (v0 L, g) :=
  fun hr => lo_ev (E := fun x R => ai_ev ap_P 232 (21, [some (.ref 43), some (.int x.1), some (.int x.2.1), some (.int x.2.2)], [], (v0 L, g)) (.inl (ez_i R)) (v0 L, g)) (fun k hk x R hr => db_232_21 L g hk x.1 x.2.1 x.2.2  R hr) nf_F x R hr
/-- DeclaredMarkup$NamePool.isLike(I)Z -/
noncomputable def fm_232 (g : am_G) (u1 : Int32) : Option (Int32) := lo_g (ai_in u1 7200) (if (am_i g 46 u1.toNatClampNeg) = (am_i g 43 7) then fh_232_21 g (u1, 1, 0) else fh_232_21 g (u1, 0, 0))
theorem dm_232 (L : Nat) (g : am_G) (u1 : Int32) (R : Int32) : fm_232 g u1 = some R → ai_ev ap_P 232 (ai_e0 ap_P 232 [.ref 43, .int u1] (v0 L, g)) (.inl (ez_i R)) (v0 L, g) := by
  show _ → ai_ev ap_P 232 (0, [some (.ref 43), some (.int u1), none, none], [], (v0 L, g)) _ _
  unfold fm_232
  refine ev_gd (c := ai_in u1 7200) (fun hc1 => ?_)
  refine ev_jm 3 (t := (6, [some (.ref 43), some (.int u1), none, none], [.int (am_i g 46 u1.toNatClampNeg)], (v0 L, g))) (ai_gd (c := ai_in u1 7200) rfl hc1) ?_
  refine ev_in 2 (p := (am_i g 46 u1.toNatClampNeg) = (am_i g 43 7)) (a := 17) (b := 13) (T := ([some (.ref 43), some (.int u1), none, none], [], (v0 L, g))) rfl ?_ ?_
  · refine ev_jm 4 (t := (21, [some (.ref 43), some (.int u1), some (.int 1), some (.int 0)], [], (v0 L, g))) rfl ?_
    exact dh_232_21 L g (u1, 1, 0) _
  · refine ev_jm 3 (t := (21, [some (.ref 43), some (.int u1), some (.int 0), some (.int 0)], [], (v0 L, g))) rfl ?_
    exact dh_232_21 L g (u1, 0, 0) _
noncomputable def fb_233_19 (g : am_G) (k19 : Int32 → Option (Int32)) (u1 : Int32) : Option (Int32) := if u1 = (-1) then some u1 else lo_p (fm_232 g u1) fun y1 => if y1 = 0 then lo_g (ai_in u1 7200) (lo_l (am_i g 47 u1.toNatClampNeg) fun x4 => k19 x4) else some u1
theorem db_233_19 (L : Nat) (g : am_G) {k19 : Int32 → Option (Int32)} (hk19 : ∀ (x : Int32) (R : Int32), k19 x = some R → ai_ev ap_P 233 (19, [some (.ref 43), some (.int x)], [], (v0 L, g)) (.inl (ez_i R)) (v0 L, g)) (u1 : Int32) (R : Int32) : fb_233_19 g k19 u1 = some R → ai_ev ap_P 233 (19, [some (.ref 43), some (.int u1)], [], (v0 L, g)) (.inl (ez_i R)) (v0 L, g) := by
  unfold fb_233_19
  refine ev_if 2 (p := u1 = (-1)) (a := 42) (b := 24) (T := ([some (.ref 43), some (.int u1)], [], (v0 L, g))) rfl ?_ ?_
  · exact fun hR => by cases hR; exact ev_rt 1 rfl
  · refine ev_op 2 (as := [.ref 43, .int u1]) (pc := 29) (Lc := [some (.ref 43), some (.int u1)]) (st := []) (h1 := (v0 L, g)) (e := ez_i) rfl (dm_232 L g u1) (fun y1 => ?_)
    refine ev_in 0 (p := y1 = 0) (a := 42) (b := 32) (T := ([some (.ref 43), some (.int u1)], [], (v0 L, g))) rfl ?_ ?_
    · refine ev_gd (c := ai_in u1 7200) (fun hc3 => ?_)
      refine ev_jm 3 (t := (38, [some (.ref 43), some (.int u1)], [.int (am_i g 47 u1.toNatClampNeg)], (v0 L, g))) (ai_gd (c := ai_in u1 7200) rfl hc3) ?_
      refine lo_e (S := fun (x4 : Int32) => (38, [some (.ref 43), some (.int u1)], [.int x4], (v0 L, g))) (fun x4 => ?_)
      refine ev_jm 1 (t := (19, [some (.ref 43), some (.int x4)], [], (v0 L, g))) rfl ?_
      exact hk19 x4 _
    · exact fun hR => by cases hR; exact ev_rt 1 rfl
noncomputable def fh_233_19 (g : am_G)  (x : Int32) : Option (Int32) := lo_it (fun k x => fb_233_19 g k x) nf_F x
theorem dh_233_19 (L : Nat) (g : am_G)   (x : Int32) (R : Int32) : fh_233_19 g  x = some R → ai_ev ap_P 233 (19, [some (.ref 43), some (.int x)], [], (v0 L, g)) (.inl (ez_i R)) (v0 L, g) :=
  fun hr => lo_ev (E := fun x R => ai_ev ap_P 233 (19, [some (.ref 43), some (.int x)], [], (v0 L, g)) (.inl (ez_i R)) (v0 L, g)) (fun k hk x R hr => db_233_19 L g hk x  R hr) nf_F x R hr
/-- DeclaredMarkup$NamePool.find()I -/
noncomputable def fm_233 (g : am_G)  : Option (Int32) := lo_p (fm_230 g ) fun y1 => if y1 = 0 then lo_p (fm_231 g ) fun y3 => lo_g (ai_in y3 1024) (lo_l (am_i g 48 y3.toNatClampNeg) fun x6 => fh_233_19 g x6) else some (-1)
theorem dm_233 (L : Nat) (g : am_G)  (R : Int32) : fm_233 g  = some R → ai_ev ap_P 233 (ai_e0 ap_P 233 [.ref 43] (v0 L, g)) (.inl (ez_i R)) (v0 L, g) := by
  show _ → ai_ev ap_P 233 (0, [some (.ref 43), none], [], (v0 L, g)) _ _
  unfold fm_233
  refine ev_op 1 (as := [.ref 43]) (pc := 4) (Lc := [some (.ref 43), none]) (st := []) (h1 := (v0 L, g)) (e := ez_i) rfl (dm_230 L g ) (fun y1 => ?_)
  refine ev_if 0 (p := y1 = 0) (a := 9) (b := 7) (T := ([some (.ref 43), none], [], (v0 L, g))) rfl ?_ ?_
  · refine ev_op 3 (as := [.ref 43]) (pc := 17) (Lc := [some (.ref 43), none]) (st := [.ref 48]) (h1 := (v0 L, g)) (e := ez_i) rfl (dm_231 L g ) (fun y3 => ?_)
    refine ev_gd (c := ai_in y3 1024) (fun hc5 => ?_)
    refine ev_jm 0 (t := (18, [some (.ref 43), none], [.int (am_i g 48 y3.toNatClampNeg)], (v0 L, g))) (ai_gd (c := ai_in y3 1024) rfl hc5) ?_
    refine lo_e (S := fun (x6 : Int32) => (18, [some (.ref 43), none], [.int x6], (v0 L, g))) (fun x6 => ?_)
    refine ev_jm 0 (t := (19, [some (.ref 43), some (.int x6)], [], (v0 L, g))) rfl ?_
    exact dh_233_19 L g x6 _
  · exact fun hR => by cases hR; exact ev_rt 1 rfl
/-- DeclaredMarkup$NamePool.take()I -/
noncomputable def fm_234 (g : am_G)  : Option (Int32 × am_G) := lo_p (fm_233 g ) fun y1 => if y1 = (-1) then lo_p (fm_231 g ) fun y3 => lo_g (ai_in (am_i g 43 5) 7200) (lo_g (ai_in y3 1024) (some ((((am_i g 43 5) + 1) - 1), (am_si (am_si (am_si (am_si (am_si (am_si g 45 ((am_i g 43 5)).toNatClampNeg (am_i g 43 6)) 46 ((am_i g 43 5)).toNatClampNeg (((am_i g 43 7).toInt8.toInt32).toInt8.toInt32)) 47 ((am_i g 43 5)).toNatClampNeg ((am_i g 48 y3.toNatClampNeg).toInt16.toInt32)) 48 y3.toNatClampNeg (((am_i g 43 5).toInt16.toInt32).toInt16.toInt32)) 43 6 ((am_i g 43 6) + (am_i g 43 7))) 43 5 ((am_i g 43 5) + 1))))) else some (y1, g)
theorem dm_234 (L : Nat) (g : am_G)  (R : Int32 × am_G) : fm_234 g  = some R → ai_ev ap_P 234 (ai_e0 ap_P 234 [.ref 43] (v0 L, g)) (.inl (ez_i R.1)) (v0 L, R.2) := by
  show _ → ai_ev ap_P 234 (0, [some (.ref 43), none, none], [], (v0 L, g)) _ _
  unfold fm_234
  refine ev_op 1 (as := [.ref 43]) (pc := 4) (Lc := [some (.ref 43), none, none]) (st := []) (h1 := (v0 L, g)) (e := ez_i) rfl (dm_233 L g ) (fun y1 => ?_)
  refine ev_if 3 (p := y1 = (-1)) (a := 12) (b := 10) (T := ([some (.ref 43), some (.int y1), none], [], (v0 L, g))) rfl ?_ ?_
  · refine ev_op 1 (as := [.ref 43]) (pc := 16) (Lc := [some (.ref 43), some (.int y1), none]) (st := []) (h1 := (v0 L, g)) (e := ez_i) rfl (dm_231 L g ) (fun y3 => ?_)
    refine ev_gd (c := ai_in (am_i g 43 5) 7200) (fun hc5 => ?_)
    refine ev_jm 7 (t := (30, [some (.ref 43), some (.int y1), some (.int y3)], [], (v0 L, (am_si g 45 ((am_i g 43 5)).toNatClampNeg (am_i g 43 6))))) (ai_gd (c := ai_in (am_i g 43 5) 7200) rfl hc5) ?_
    refine ev_jm 7 (t := (44, [some (.ref 43), some (.int y1), some (.int y3)], [], (v0 L, (am_si (am_si g 45 ((am_i g 43 5)).toNatClampNeg (am_i g 43 6)) 46 ((am_i g 43 5)).toNatClampNeg (((am_i g 43 7).toInt8.toInt32).toInt8.toInt32))))) (ai_gd (c := ai_in (am_i g 43 5) 7200) rfl hc5) ?_
    refine ev_gd (c := ai_in y3 1024) (fun hc6 => ?_)
    refine ev_jm 7 (t := (58, [some (.ref 43), some (.int y1), some (.int y3)], [.int (am_i g 48 y3.toNatClampNeg), .int (am_i g 43 5), .ref 47], (v0 L, (am_si (am_si g 45 ((am_i g 43 5)).toNatClampNeg (am_i g 43 6)) 46 ((am_i g 43 5)).toNatClampNeg (((am_i g 43 7).toInt8.toInt32).toInt8.toInt32))))) (ai_gd (c := ai_in y3 1024) rfl hc6) ?_
    refine ev_jm 0 (t := (59, [some (.ref 43), some (.int y1), some (.int y3)], [], (v0 L, (am_si (am_si (am_si g 45 ((am_i g 43 5)).toNatClampNeg (am_i g 43 6)) 46 ((am_i g 43 5)).toNatClampNeg (((am_i g 43 7).toInt8.toInt32).toInt8.toInt32)) 47 ((am_i g 43 5)).toNatClampNeg ((am_i g 48 y3.toNatClampNeg).toInt16.toInt32))))) (ai_gd (c := ai_in (am_i g 43 5) 7200) rfl hc5) ?_
    refine ev_jm 6 (t := (70, [some (.ref 43), some (.int y1), some (.int y3)], [], (v0 L, (am_si (am_si (am_si (am_si g 45 ((am_i g 43 5)).toNatClampNeg (am_i g 43 6)) 46 ((am_i g 43 5)).toNatClampNeg (((am_i g 43 7).toInt8.toInt32).toInt8.toInt32)) 47 ((am_i g 43 5)).toNatClampNeg ((am_i g 48 y3.toNatClampNeg).toInt16.toInt32)) 48 y3.toNatClampNeg (((am_i g 43 5).toInt16.toInt32).toInt16.toInt32))))) (ai_gd (c := ai_in y3 1024) rfl hc6) ?_
    exact fun hR => by cases hR; exact ev_rt 17 rfl
  · exact fun hR => by cases hR; exact ev_rt 1 rfl
/-- DeclaredMarkup$Lines.hasRoom(I)Z -/
noncomputable def fm_190 (g : am_G) (u1 : Int32) : Option (Int32) := if (nI 30000) < (((am_i g 872 2) + u1) + 1) then some 0 else some 1
theorem dm_190 (L : Nat) (g : am_G) (u1 : Int32) (R : Int32) : fm_190 g u1 = some R → ai_ev ap_P 190 (ai_e0 ap_P 190 [.ref 872, .int u1] (v0 L, g)) (.inl (ez_i R)) (v0 L, g) := by
  show _ → ai_ev ap_P 190 (0, [some (.ref 872), some (.int u1)], [], (v0 L, g)) _ _
  unfold fm_190
  refine ev_if 9 (p := (nI 30000) < (((am_i g 872 2) + u1) + 1)) (a := 20) (b := 16) (T := ([some (.ref 872), some (.int u1)], [], (v0 L, g))) rfl ?_ ?_
  · exact fun hR => by cases hR; exact ev_rt 1 rfl
  · exact fun hR => by cases hR; exact ev_rt 2 rfl
/-- DeclaredMarkup$Lines.put(I)V -/
noncomputable def fm_191 (g : am_G) (u1 : Int32) : Option (am_G) := lo_g (ai_in (am_i g 872 2) 30000) (some (am_si (am_si g 873 ((am_i g 872 2)).toNatClampNeg u1.toInt8.toInt32.toInt8.toInt32) 872 2 ((am_i g 872 2) + 1)))
theorem dm_191 (L : Nat) (g : am_G) (u1 : Int32) (R : am_G) : fm_191 g u1 = some R → ai_ev ap_P 191 (ai_e0 ap_P 191 [.ref 872, .int u1] (v0 L, g)) (.inl none) (v0 L, R) := by
  show _ → ai_ev ap_P 191 (0, [some (.ref 872), some (.int u1)], [], (v0 L, g)) _ _
  unfold fm_191
  refine ev_gd (c := ai_in (am_i g 872 2) 30000) (fun hc1 => ?_)
  refine ev_jm 6 (t := (11, [some (.ref 872), some (.int u1)], [], (v0 L, (am_si g 873 ((am_i g 872 2)).toNatClampNeg u1.toInt8.toInt32.toInt8.toInt32)))) (ai_gd (c := ai_in (am_i g 872 2) 30000) rfl hc1) ?_
  exact fun hR => by cases hR; exact ev_rt 6 rfl
/-- DeclaredMarkup$Lines.end()V -/
noncomputable def fm_193 (g : am_G)  : Option (am_G) := lo_m (am_r g 872 1) (some g) fun o1 => lo_p (fm_191 g 10) fun g3 => some (am_si (am_si (am_sr g3 872 1 none) 872 3 (am_i g3 872 2)) 872 5 ((am_i g3 872 5) + 1))
theorem dm_193 (L : Nat) (g : am_G)  (R : am_G) : fm_193 g  = some R → ai_ev ap_P 193 (ai_e0 ap_P 193 [.ref 872] (v0 L, g)) (.inl none) (v0 L, R) := by
  show _ → ai_ev ap_P 193 (0, [some (.ref 872)], [], (v0 L, g)) _ _
  unfold fm_193
  refine ev_jm 1 (t := (4, [some (.ref 872)], [am_v (am_r g 872 1)], (v0 L, g))) rfl ?_
  refine ev_om (S := fun (o : Option Nat) => (4, [some (.ref 872)], [am_v o], (v0 L, g))) ?_ (fun o1 => ?_)
  · exact fun hR => by cases hR; exact ev_rt 1 rfl
  · refine ev_ov0 3 (as := [.ref 872, .int 10]) (pc := 14) (Lc := [some (.ref 872)]) (st := []) (V := v0 L) (g1 := g) rfl (dm_191 L g 10) (fun g3 => ?_)
    exact fun hR => by cases hR; exact ev_rt 13 rfl
noncomputable def fj_192_12  (g : am_G) (u1 : Nat) (t0 : Int32) : Option (Int32 × am_G) := lo_p (fm_190 g (t0 + 1)) fun y1 => if y1 = 0 then some (0, g) else lo_p (fm_193 g ) fun g4 => lo_g (Nat.beq (v0_kd u1) 18) (lo_p (fm_191 (am_si (am_sr g4 872 1 (some u1)) 872 3 (am_i g4 872 2)) (am_i (am_si (am_sr g4 872 1 (some u1)) 872 3 (am_i g4 872 2)) u1 0)) fun g7 => some (1, g7))
theorem dj_192_12 (L : Nat)   (g : am_G) (u1 : Nat) (t0 : Int32) (w2 : Option Value) (R : Int32 × am_G) : fj_192_12  g u1 t0 = some R → ai_ev ap_P 192 (12, [some (.ref 872), some (.ref u1), w2], [.int t0], (v0 L, g)) (.inl (ez_i R.1)) (v0 L, R.2) := by
  unfold fj_192_12
  refine ev_op 5 (as := [.ref 872, .int (t0 + 1)]) (pc := 20) (Lc := [some (.ref 872), some (.ref u1), some (.int t0)]) (st := []) (h1 := (v0 L, g)) (e := ez_i) rfl (dm_190 L g (t0 + 1)) (fun y1 => ?_)
  refine ev_in 0 (p := y1 = 0) (a := 25) (b := 23) (T := ([some (.ref 872), some (.ref u1), some (.int t0)], [], (v0 L, g))) rfl ?_ ?_
  · exact fun hR => by cases hR; exact ev_rt 1 rfl
  · refine ev_ov0 1 (as := [.ref 872]) (pc := 29) (Lc := [some (.ref 872), some (.ref u1), some (.int t0)]) (st := []) (V := v0 L) (g1 := g) rfl (dm_193 L g ) (fun g4 => ?_)
    refine ev_gd (c := Nat.beq (v0_kd u1) 18) (fun hc5 => ?_)
    refine ev_jm 9 (t := (47, [some (.ref 872), some (.ref u1), some (.int t0)], [.int (am_i (am_si (am_sr g4 872 1 (some u1)) 872 3 (am_i g4 872 2)) u1 0), .ref 872], (v0 L, (am_si (am_sr g4 872 1 (some u1)) 872 3 (am_i g4 872 2))))) (ai_gd (c := Nat.beq (v0_kd u1) 18) rfl hc5) ?_
    refine ev_ov0 0 (as := [.ref 872, .int (am_i (am_si (am_sr g4 872 1 (some u1)) 872 3 (am_i g4 872 2)) u1 0)]) (pc := 50) (Lc := [some (.ref 872), some (.ref u1), some (.int t0)]) (st := []) (V := v0 L) (g1 := (am_si (am_sr g4 872 1 (some u1)) 872 3 (am_i g4 872 2))) rfl (dm_191 L (am_si (am_sr g4 872 1 (some u1)) 872 3 (am_i g4 872 2)) (am_i (am_si (am_sr g4 872 1 (some u1)) 872 3 (am_i g4 872 2)) u1 0)) (fun g7 => ?_)
    exact fun hR => by cases hR; exact ev_rt 1 rfl
/-- DeclaredMarkup$Lines.begin(LDeclaredMarkup$LineKind;)Z -/
noncomputable def fm_192 (g : am_G) (u1 : Nat) : Option (Int32 × am_G) := lo_m (am_r g 872 1) (fj_192_12 g u1 0) fun o1 => fj_192_12 g u1 1
theorem dm_192 (L : Nat) (g : am_G) (u1 : Nat) (R : Int32 × am_G) : fm_192 g u1 = some R → ai_ev ap_P 192 (ai_e0 ap_P 192 [.ref 872, .ref u1] (v0 L, g)) (.inl (ez_i R.1)) (v0 L, R.2) := by
  show _ → ai_ev ap_P 192 (0, [some (.ref 872), some (.ref u1), none], [], (v0 L, g)) _ _
  unfold fm_192
  refine ev_jm 1 (t := (4, [some (.ref 872), some (.ref u1), none], [am_v (am_r g 872 1)], (v0 L, g))) rfl ?_
  refine ev_om (S := fun (o : Option Nat) => (4, [some (.ref 872), some (.ref u1), none], [am_v o], (v0 L, g))) ?_ (fun o1 => ?_)
  · refine ev_jm 2 (t := (12, [some (.ref 872), some (.ref u1), none], [.int 0], (v0 L, g))) rfl ?_
    exact dj_192_12 L g u1 0 none _
  · refine ev_jm 1 (t := (12, [some (.ref 872), some (.ref u1), none], [.int 1], (v0 L, g))) rfl ?_
    exact dj_192_12 L g u1 1 none _
/-- DeclaredMarkup$Lines.letter(I)I -/
noncomputable def fm_194 (g : am_G) (u0 : Int32) : Option (Int32) := if u0 = 92 then some 92 else if u0 = 10 then some 110 else if u0 = 9 then some 116 else if u0 = 13 then some 114 else some 0
theorem dm_194 (L : Nat) (g : am_G) (u0 : Int32) (R : Int32) : fm_194 g u0 = some R → ai_ev ap_P 194 (ai_e0 ap_P 194 [.int u0] (v0 L, g)) (.inl (ez_i R)) (v0 L, g) := by
  show _ → ai_ev ap_P 194 (0, [some (.int u0)], [], (v0 L, g)) _ _
  unfold fm_194
  refine ev_in 2 (p := u0 = 92) (a := 11) (b := 6) (T := ([some (.int u0)], [], (v0 L, g))) rfl ?_ ?_
  · exact fun hR => by cases hR; exact ev_rt 2 rfl
  · refine ev_in 2 (p := u0 = 10) (a := 22) (b := 17) (T := ([some (.int u0)], [], (v0 L, g))) rfl ?_ ?_
    · exact fun hR => by cases hR; exact ev_rt 2 rfl
    · refine ev_in 2 (p := u0 = 9) (a := 33) (b := 28) (T := ([some (.int u0)], [], (v0 L, g))) rfl ?_ ?_
      · exact fun hR => by cases hR; exact ev_rt 2 rfl
      · refine ev_in 2 (p := u0 = 13) (a := 44) (b := 39) (T := ([some (.int u0)], [], (v0 L, g))) rfl ?_ ?_
        · exact fun hR => by cases hR; exact ev_rt 2 rfl
        · exact fun hR => by cases hR; exact ev_rt 1 rfl
noncomputable def fj_195_25 (g : am_G)  (u0 : Int32) : Option (Int32) := if (128 : Int32) ≤ u0 then if (65536 : Int32) ≤ u0 then some 4 else some 3 else some 1
theorem dj_195_25 (L : Nat) (g : am_G)   (u0 : Int32) (R : Int32) : fj_195_25 g  u0 = some R → ai_ev ap_P 195 (25, [some (.int u0)], [], (v0 L, g)) (.inl (ez_i R)) (v0 L, g) := by
  unfold fj_195_25
  refine ev_if 2 (p := (128 : Int32) ≤ u0) (a := 36) (b := 32) (T := ([some (.int u0)], [], (v0 L, g))) rfl ?_ ?_
  · refine ev_if 2 (p := (65536 : Int32) ≤ u0) (a := 46) (b := 42) (T := ([some (.int u0)], [], (v0 L, g))) rfl ?_ ?_
    · exact fun hR => by cases hR; exact ev_rt 1 rfl
    · exact fun hR => by cases hR; exact ev_rt 2 rfl
  · exact fun hR => by cases hR; exact ev_rt 2 rfl
/-- DeclaredMarkup$Lines.bytesOf(I)I -/
noncomputable def fm_195 (g : am_G) (u0 : Int32) : Option (Int32) := lo_p (fm_194 g u0) fun y1 => if y1 = 0 then if u0 < 128 then fj_195_25 g u0 else if (2048 : Int32) ≤ u0 then fj_195_25 g u0 else some 2 else some 2
theorem dm_195 (L : Nat) (g : am_G) (u0 : Int32) (R : Int32) : fm_195 g u0 = some R → ai_ev ap_P 195 (ai_e0 ap_P 195 [.int u0] (v0 L, g)) (.inl (ez_i R)) (v0 L, g) := by
  show _ → ai_ev ap_P 195 (0, [some (.int u0)], [], (v0 L, g)) _ _
  unfold fm_195
  refine ev_op 1 (as := [.int u0]) (pc := 4) (Lc := [some (.int u0)]) (st := []) (h1 := (v0 L, g)) (e := ez_i) rfl (dm_194 L g u0) (fun y1 => ?_)
  refine ev_in 0 (p := y1 = 0) (a := 21) (b := 7) (T := ([some (.int u0)], [], (v0 L, g))) rfl ?_ ?_
  · refine ev_if 2 (p := u0 < 128) (a := 25) (b := 14) (T := ([some (.int u0)], [], (v0 L, g))) rfl ?_ ?_
    · exact dj_195_25 L g u0 _
    · refine ev_if 2 (p := (2048 : Int32) ≤ u0) (a := 25) (b := 21) (T := ([some (.int u0)], [], (v0 L, g))) rfl ?_ ?_
      · exact dj_195_25 L g u0 _
      · exact fun hR => by cases hR; exact ev_rt 2 rfl
  · exact fun hR => by cases hR; exact ev_rt 2 rfl
noncomputable def fb_196_94 (k94 : (am_G × Int32 × Int32) → Option (Int32 × am_G)) (g : am_G) (u1 : Int32) (u3 : Int32) : Option (Int32 × am_G) := if u3 < 0 then some (1, g) else lo_p (fm_191 g (128 ||| ((u1 >>> ((6 * u3) &&& 31)) &&& 63))) fun g2 => k94 (g2, u1, (u3 + (-1)))
theorem db_196_94 (L : Nat) {k94 : (am_G × Int32 × Int32) → Option (Int32 × am_G)} (hk94 : ∀ (x : am_G × Int32 × Int32) (w2 : Option Value) (R : Int32 × am_G), k94 x = some R → ai_ev ap_P 196 (94, [some (.ref 872), some (.int x.2.1), w2, some (.int x.2.2)], [], (v0 L, x.1)) (.inl (ez_i R.1)) (v0 L, R.2)) (g : am_G) (u1 : Int32) (u3 : Int32) (w2 : Option Value) (R : Int32 × am_G) : fb_196_94 k94 g u1 u3 = some R → ai_ev ap_P 196 (94, [some (.ref 872), some (.int u1), w2, some (.int u3)], [], (v0 L, g)) (.inl (ez_i R.1)) (v0 L, R.2) := by
  unfold fb_196_94
  refine ev_if 1 (p := u3 < 0) (a := 121) (b := 98) (T := ([some (.ref 872), some (.int u1), none, some (.int u3)], [], (v0 L, g))) rfl ?_ ?_
  · exact fun hR => by cases hR; exact ev_rt 1 rfl
  · refine ev_ov0 10 (as := [.ref 872, .int (128 ||| ((u1 >>> ((6 * u3) &&& 31)) &&& 63))]) (pc := 115) (Lc := [some (.ref 872), some (.int u1), none, some (.int u3)]) (st := []) (V := v0 L) (g1 := g) rfl (dm_191 L g (128 ||| ((u1 >>> ((6 * u3) &&& 31)) &&& 63))) (fun g2 => ?_)
    refine ev_jm 1 (t := (94, [some (.ref 872), some (.int u1), none, some (.int (u3 + (-1)))], [], (v0 L, g2))) rfl ?_
    exact hk94 (g2, u1, (u3 + (-1))) none _
noncomputable def fh_196_94  (x : am_G × Int32 × Int32) : Option (Int32 × am_G) := lo_it (fun k x => fb_196_94 k x.1 x.2.1 x.2.2) nf_F x
theorem dh_196_94 (L : Nat)   (x : am_G × Int32 × Int32) (w2 : Option Value) (R : Int32 × am_G) : fh_196_94  x = some R → ai_ev ap_P 196 (94, [some (.ref 872), some (.int x.2.1), w2, some (.int x.2.2)], [], (v0 L, x.1)) (.inl (ez_i R.1)) (v0 L, R.2) :=
  fun hr => lo_ev (E := fun x R => ∀ (w2 : Option Value), ai_ev ap_P 196 (94, [some (.ref 872), some (.int x.2.1), w2, some (.int x.2.2)], [], (v0 L, x.1)) (.inl (ez_i R.1)) (v0 L, R.2)) (fun k hk x R hr => fun w2 => db_196_94 L (fun x w2 R hr => hk x R hr w2) x.1 x.2.1 x.2.2 w2 R hr) nf_F x R hr w2
noncomputable def fj_196_78  (g : am_G) (u1 : Int32) (u2 : Int32) (t1 : Int32) : Option (Int32 × am_G) := lo_p (fm_191 g (t1 ||| (u1 >>> ((6 * (u2 - 1)) &&& 31)))) fun g2 => lo_l (u2 - 2) fun x3 => fh_196_94 (g2, u1, x3)
theorem dj_196_78 (L : Nat)   (g : am_G) (u1 : Int32) (u2 : Int32) (t1 : Int32) (w3 : Option Value) (R : Int32 × am_G) : fj_196_78  g u1 u2 t1 = some R → ai_ev ap_P 196 (78, [some (.ref 872), some (.int u1), some (.int u2), w3], [.int t1, .ref 872], (v0 L, g)) (.inl (ez_i R.1)) (v0 L, R.2) := by
  unfold fj_196_78
  refine ev_ov0 8 (as := [.ref 872, .int (t1 ||| (u1 >>> ((6 * (u2 - 1)) &&& 31)))]) (pc := 90) (Lc := [some (.ref 872), some (.int u1), some (.int u2), none]) (st := []) (V := v0 L) (g1 := g) rfl (dm_191 L g (t1 ||| (u1 >>> ((6 * (u2 - 1)) &&& 31)))) (fun g2 => ?_)
  refine ev_jm 2 (t := (93, [some (.ref 872), some (.int u1), some (.int u2), none], [.int (u2 - 2)], (v0 L, g2))) rfl ?_
  refine lo_e (S := fun (x3 : Int32) => (93, [some (.ref 872), some (.int u1), some (.int u2), none], [.int x3], (v0 L, g2))) (fun x3 => ?_)
  refine ev_jm 0 (t := (94, [some (.ref 872), some (.int u1), some (.int u2), some (.int x3)], [], (v0 L, g2))) rfl ?_
  exact dh_196_94 L (g2, u1, x3) (some (.int u2)) _
/-- DeclaredMarkup$Lines.add(I)Z -/
noncomputable def fm_196 (g : am_G) (u1 : Int32) : Option (Int32 × am_G) := lo_p (fm_195 g u1) fun y1 => lo_p (fm_190 g y1) fun y3 => if y3 = 0 then some (0, g) else lo_p (fm_194 g u1) fun y5 => if y5 = 0 then if y1 = 1 then lo_p (fm_191 g u1) fun g8 => some (1, g8) else if y1 = 2 then fj_196_78 g u1 y1 192 else if y1 = 3 then fj_196_78 g u1 y1 224 else fj_196_78 g u1 y1 240 else lo_p (fm_191 g 92) fun g10 => lo_p (fm_194 g10 u1) fun y11 => lo_p (fm_191 g10 y11) fun g14 => some (1, g14)
theorem dm_196 (L : Nat) (g : am_G) (u1 : Int32) (R : Int32 × am_G) : fm_196 g u1 = some R → ai_ev ap_P 196 (ai_e0 ap_P 196 [.ref 872, .int u1] (v0 L, g)) (.inl (ez_i R.1)) (v0 L, R.2) := by
  show _ → ai_ev ap_P 196 (0, [some (.ref 872), some (.int u1), none, none], [], (v0 L, g)) _ _
  unfold fm_196
  refine ev_op 1 (as := [.int u1]) (pc := 4) (Lc := [some (.ref 872), some (.int u1), none, none]) (st := []) (h1 := (v0 L, g)) (e := ez_i) rfl (dm_195 L g u1) (fun y1 => ?_)
  refine ev_op 3 (as := [.ref 872, .int y1]) (pc := 10) (Lc := [some (.ref 872), some (.int u1), some (.int y1), none]) (st := []) (h1 := (v0 L, g)) (e := ez_i) rfl (dm_190 L g y1) (fun y3 => ?_)
  refine ev_in 0 (p := y3 = 0) (a := 15) (b := 13) (T := ([some (.ref 872), some (.int u1), some (.int y1), none], [], (v0 L, g))) rfl ?_ ?_
  · exact fun hR => by cases hR; exact ev_rt 1 rfl
  · refine ev_op 1 (as := [.int u1]) (pc := 19) (Lc := [some (.ref 872), some (.int u1), some (.int y1), none]) (st := []) (h1 := (v0 L, g)) (e := ez_i) rfl (dm_194 L g u1) (fun y5 => ?_)
    refine ev_if 0 (p := y5 = 0) (a := 39) (b := 22) (T := ([some (.ref 872), some (.int u1), some (.int y1), none], [], (v0 L, g))) rfl ?_ ?_
    · refine ev_in 2 (p := y1 = 1) (a := 52) (b := 44) (T := ([some (.ref 872), some (.int u1), some (.int y1), none], [], (v0 L, g))) rfl ?_ ?_
      · refine ev_ov0 2 (as := [.ref 872, .int u1]) (pc := 49) (Lc := [some (.ref 872), some (.int u1), some (.int y1), none]) (st := []) (V := v0 L) (g1 := g) rfl (dm_191 L g u1) (fun g8 => ?_)
        exact fun hR => by cases hR; exact ev_rt 2 rfl
      · refine ev_in 3 (p := y1 = 2) (a := 64) (b := 58) (T := ([some (.ref 872), some (.int u1), some (.int y1), none], [.ref 872], (v0 L, g))) rfl ?_ ?_
        · refine ev_jm 1 (t := (78, [some (.ref 872), some (.int u1), some (.int y1), none], [.int 192, .ref 872], (v0 L, g))) rfl ?_
          exact dj_196_78 L g u1 y1 192 none _
        · refine ev_in 2 (p := y1 = 3) (a := 75) (b := 69) (T := ([some (.ref 872), some (.int u1), some (.int y1), none], [.ref 872], (v0 L, g))) rfl ?_ ?_
          · refine ev_jm 1 (t := (78, [some (.ref 872), some (.int u1), some (.int y1), none], [.int 224, .ref 872], (v0 L, g))) rfl ?_
            exact dj_196_78 L g u1 y1 224 none _
          · refine ev_jm 0 (t := (78, [some (.ref 872), some (.int u1), some (.int y1), none], [.int 240, .ref 872], (v0 L, g))) rfl ?_
            exact dj_196_78 L g u1 y1 240 none _
    · refine ev_ov0 2 (as := [.ref 872, .int 92]) (pc := 28) (Lc := [some (.ref 872), some (.int u1), some (.int y1), none]) (st := []) (V := v0 L) (g1 := g) rfl (dm_191 L g 92) (fun g10 => ?_)
      refine ev_op 2 (as := [.int u1]) (pc := 33) (Lc := [some (.ref 872), some (.int u1), some (.int y1), none]) (st := [.ref 872]) (h1 := (v0 L, g10)) (e := ez_i) rfl (dm_194 L g10 u1) (fun y11 => ?_)
      refine ev_ov0 0 (as := [.ref 872, .int y11]) (pc := 36) (Lc := [some (.ref 872), some (.int u1), some (.int y1), none]) (st := []) (V := v0 L) (g1 := g10) rfl (dm_191 L g10 y11) (fun g14 => ?_)
      exact fun hR => by cases hR; exact ev_rt 2 rfl
/-- DeclaredMarkup$Processor.add(I)V -/
noncomputable def fm_268 (g : am_G) (u1 : Int32) : Option (am_G) := if (am_i g 33 16) = 0 then lo_i (fm_196 g u1) fun y1 g2 => if y1 = 0 then some (am_si g2 33 16 1) else some g2 else some g
theorem dm_268 (L : Nat) (g : am_G) (u1 : Int32) (R : am_G) : fm_268 g u1 = some R → ai_ev ap_P 268 (ai_e0 ap_P 268 [.ref 33, .int u1] (v0 L, g)) (.inl none) (v0 L, R) := by
  show _ → ai_ev ap_P 268 (0, [some (.ref 33), some (.int u1)], [], (v0 L, g)) _ _
  unfold fm_268
  refine ev_in 2 (p := (am_i g 33 16) = 0) (a := 23) (b := 7) (T := ([some (.ref 33), some (.int u1)], [], (v0 L, g))) rfl ?_ ?_
  · refine ev_oi 3 (as := [.ref 872, .int u1]) (pc := 15) (Lc := [some (.ref 33), some (.int u1)]) (st := []) (V := v0 L) (g1 := g) (e := ez_i) rfl (dm_196 L g u1) (fun y1 g2 => ?_)
    refine ev_in 0 (p := y1 = 0) (a := 23) (b := 18) (T := ([some (.ref 33), some (.int u1)], [], (v0 L, g2))) rfl ?_ ?_
    · exact fun hR => by cases hR; exact ev_rt 3 rfl
    · exact fun hR => by cases hR; exact ev_rt 0 rfl
  · exact fun hR => by cases hR; exact ev_rt 0 rfl
noncomputable def fb_267_25 (k25 : (am_G × Int32 × Int32) → Option (am_G)) (g : am_G) (u2 : Int32) (u3 : Int32) : Option (am_G) := lo_g (ai_in u2 7200) (if (am_i g 46 u2.toNatClampNeg) ≤ u3 then some g else lo_g (ai_in ((am_i g 45 u2.toNatClampNeg) + u3) 14600) (lo_p (fm_268 g (am_i g 44 (((am_i g 45 u2.toNatClampNeg) + u3)).toNatClampNeg)) fun g4 => k25 (g4, u2, (u3 + 1))))
theorem db_267_25 (L : Nat) {k25 : (am_G × Int32 × Int32) → Option (am_G)} (hk25 : ∀ (x : am_G × Int32 × Int32) (w1 : Option Value) (R : am_G), k25 x = some R → ai_ev ap_P 267 (25, [some (.ref 33), w1, some (.int x.2.1), some (.int x.2.2)], [], (v0 L, x.1)) (.inl none) (v0 L, R)) (g : am_G) (u2 : Int32) (u3 : Int32) (w1 : Option Value) (R : am_G) : fb_267_25 k25 g u2 u3 = some R → ai_ev ap_P 267 (25, [some (.ref 33), w1, some (.int u2), some (.int u3)], [], (v0 L, g)) (.inl none) (v0 L, R) := by
  unfold fb_267_25
  refine ev_gd (c := ai_in u2 7200) (fun hc1 => ?_)
  refine ev_jm 5 (t := (35, [some (.ref 33), none, some (.int u2), some (.int u3)], [.int (am_i g 46 u2.toNatClampNeg), .int u3], (v0 L, g))) (ai_gd (c := ai_in u2 7200) rfl hc1) ?_
  refine ev_if 0 (p := (am_i g 46 u2.toNatClampNeg) ≤ u3) (a := 67) (b := 38) (T := ([some (.ref 33), none, some (.int u2), some (.int u3)], [], (v0 L, g))) rfl ?_ ?_
  · exact fun hR => by cases hR; exact ev_rt 0 rfl
  · refine ev_jm 8 (t := (55, [some (.ref 33), none, some (.int u2), some (.int u3)], [.int (am_i g 45 u2.toNatClampNeg), .ref 44, .ref 33], (v0 L, g))) (ai_gd (c := ai_in u2 7200) rfl hc1) ?_
    refine ev_gd (c := ai_in ((am_i g 45 u2.toNatClampNeg) + u3) 14600) (fun hc2 => ?_)
    refine ev_jm 2 (t := (58, [some (.ref 33), none, some (.int u2), some (.int u3)], [.int (am_i g 44 (((am_i g 45 u2.toNatClampNeg) + u3)).toNatClampNeg), .ref 33], (v0 L, g))) (ai_gd (c := ai_in ((am_i g 45 u2.toNatClampNeg) + u3) 14600) rfl hc2) ?_
    refine ev_ov0 0 (as := [.ref 33, .int (am_i g 44 (((am_i g 45 u2.toNatClampNeg) + u3)).toNatClampNeg)]) (pc := 61) (Lc := [some (.ref 33), none, some (.int u2), some (.int u3)]) (st := []) (V := v0 L) (g1 := g) rfl (dm_268 L g (am_i g 44 (((am_i g 45 u2.toNatClampNeg) + u3)).toNatClampNeg)) (fun g4 => ?_)
    refine ev_jm 1 (t := (25, [some (.ref 33), none, some (.int u2), some (.int (u3 + 1))], [], (v0 L, g4))) rfl ?_
    exact hk25 (g4, u2, (u3 + 1)) none _
noncomputable def fh_267_25  (x : am_G × Int32 × Int32) : Option (am_G) := lo_it (fun k x => fb_267_25 k x.1 x.2.1 x.2.2) nf_F x
theorem dh_267_25 (L : Nat)   (x : am_G × Int32 × Int32) (w1 : Option Value) (R : am_G) : fh_267_25  x = some R → ai_ev ap_P 267 (25, [some (.ref 33), w1, some (.int x.2.1), some (.int x.2.2)], [], (v0 L, x.1)) (.inl none) (v0 L, R) :=
  fun hr => lo_ev (E := fun x R => ∀ (w1 : Option Value), ai_ev ap_P 267 (25, [some (.ref 33), w1, some (.int x.2.1), some (.int x.2.2)], [], (v0 L, x.1)) (.inl none) (v0 L, R)) (fun k hk x R hr => fun w1 => db_267_25 L (fun x w1 R hr => hk x R hr w1) x.1 x.2.1 x.2.2 w1 R hr) nf_F x R hr w1
/-- DeclaredMarkup$Processor.begin(LDeclaredMarkup$LineKind;I)V -/
noncomputable def fm_267 (g : am_G) (u1 : Nat) (u2 : Int32) : Option (am_G) := if (am_i g 33 16) = 0 then lo_i (fm_192 g u1) fun y1 g2 => if y1 = 0 then fh_267_25 ((am_si g2 33 16 1), u2, 0) else fh_267_25 (g2, u2, 0) else fh_267_25 (g, u2, 0)
theorem dm_267 (L : Nat) (g : am_G) (u1 : Nat) (u2 : Int32) (R : am_G) : fm_267 g u1 u2 = some R → ai_ev ap_P 267 (ai_e0 ap_P 267 [.ref 33, .ref u1, .int u2] (v0 L, g)) (.inl none) (v0 L, R) := by
  show _ → ai_ev ap_P 267 (0, [some (.ref 33), some (.ref u1), some (.int u2), none], [], (v0 L, g)) _ _
  unfold fm_267
  refine ev_in 2 (p := (am_i g 33 16) = 0) (a := 23) (b := 7) (T := ([some (.ref 33), some (.ref u1), some (.int u2), none], [], (v0 L, g))) rfl ?_ ?_
  · refine ev_oi 3 (as := [.ref 872, .ref u1]) (pc := 15) (Lc := [some (.ref 33), some (.ref u1), some (.int u2), none]) (st := []) (V := v0 L) (g1 := g) (e := ez_i) rfl (dm_192 L g u1) (fun y1 g2 => ?_)
    refine ev_in 0 (p := y1 = 0) (a := 23) (b := 18) (T := ([some (.ref 33), some (.ref u1), some (.int u2), none], [], (v0 L, g2))) rfl ?_ ?_
    · refine ev_jm 4 (t := (25, [some (.ref 33), none, some (.int u2), some (.int 0)], [], (v0 L, (am_si g2 33 16 1)))) rfl ?_
      exact dh_267_25 L ((am_si g2 33 16 1), u2, 0) none _
    · refine ev_jm 1 (t := (25, [some (.ref 33), none, some (.int u2), some (.int 0)], [], (v0 L, g2))) rfl ?_
      exact dh_267_25 L (g2, u2, 0) none _
  · refine ev_jm 1 (t := (25, [some (.ref 33), none, some (.int u2), some (.int 0)], [], (v0 L, g))) rfl ?_
    exact dh_267_25 L (g, u2, 0) none _
