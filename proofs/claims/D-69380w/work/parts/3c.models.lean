noncomputable def fb_294_18 (g : am_G) (k18 : (Nat × Int32 × Int32 × Int32 × Int32) → Option (Int32)) (u1 : Nat) (u2 : Int32) (u3 : Int32) (u4 : Int32) (u5 : Int32) : Option (Int32) := if u3 ≤ u5 then some (vp_nar .boolean u4) else if u4 = 0 then some (vp_nar .boolean u4) else lo_g (Nat.beq (v0_kd u1) 11) (lo_g (ai_in ((am_i g u1 5) + u5) 32000) (lo_g (ai_in (u2 + u5) 5200) (if (am_i g 53 (((am_i g u1 5) + u5)).toNatClampNeg) = (am_i g 883 ((u2 + u5)).toNatClampNeg) then k18 (u1, u2, u3, 1, (u5 + 1)) else k18 (u1, u2, u3, 0, (u5 + 1)))))
theorem db_294_18 (L : Nat) (g : am_G) {k18 : (Nat × Int32 × Int32 × Int32 × Int32) → Option (Int32)} (hk18 : ∀ (x : Nat × Int32 × Int32 × Int32 × Int32) (R : Int32), k18 x = some R → ai_ev ap_P 294 (18, [some (.ref 33), some (.ref x.1), some (.int x.2.1), some (.int x.2.2.1), some (.int x.2.2.2.1), some (.int x.2.2.2.2)], [], (v0 L, g)) (.inl (ez_i R)) (v0 L, g)) (u1 : Nat) (u2 : Int32) (u3 : Int32) (u4 : Int32) (u5 : Int32) (R : Int32) : fb_294_18 g k18 u1 u2 u3 u4 u5 = some R → ai_ev ap_P 294 (18, [some (.ref 33), some (.ref u1), some (.int u2), some (.int u3), some (.int u4), some (.int u5)], [], (v0 L, g)) (.inl (ez_i R)) (v0 L, g) := by
  unfold fb_294_18
  refine ev_if 2 (p := u3 ≤ u5) (a := 69) (b := 24) (T := ([some (.ref 33), some (.ref u1), some (.int u2), some (.int u3), some (.int u4), some (.int u5)], [], (v0 L, g))) rfl ?_ ?_
  · exact fun hR => by cases hR; exact ev_rt 1 rfl
  · refine ev_if 1 (p := u4 = 0) (a := 69) (b := 29) (T := ([some (.ref 33), some (.ref u1), some (.int u2), some (.int u3), some (.int u4), some (.int u5)], [], (v0 L, g))) rfl ?_ ?_
    · exact fun hR => by cases hR; exact ev_rt 1 rfl
    · refine ev_gd (c := Nat.beq (v0_kd u1) 11) (fun hc1 => ?_)
      refine ev_jm 4 (t := (40, [some (.ref 33), some (.ref u1), some (.int u2), some (.int u3), some (.int u4), some (.int u5)], [.int (am_i g u1 5), .ref 53], (v0 L, g))) (ai_gd (c := Nat.beq (v0_kd u1) 11) rfl hc1) ?_
      refine ev_gd (c := ai_in ((am_i g u1 5) + u5) 32000) (fun hc2 => ?_)
      refine ev_jm 2 (t := (44, [some (.ref 33), some (.ref u1), some (.int u2), some (.int u3), some (.int u4), some (.int u5)], [.int (am_i g 53 (((am_i g u1 5) + u5)).toNatClampNeg)], (v0 L, g))) (ai_gd (c := ai_in ((am_i g u1 5) + u5) 32000) rfl hc2) ?_
      refine ev_gd (c := ai_in (u2 + u5) 5200) (fun hc3 => ?_)
      refine ev_jm 5 (t := (53, [some (.ref 33), some (.ref u1), some (.int u2), some (.int u3), some (.int u4), some (.int u5)], [.int (am_i g 883 ((u2 + u5)).toNatClampNeg), .int (am_i g 53 (((am_i g u1 5) + u5)).toNatClampNeg)], (v0 L, g))) (ai_gd (c := ai_in (u2 + u5) 5200) rfl hc3) ?_
      refine ev_in 0 (p := (am_i g 53 (((am_i g u1 5) + u5)).toNatClampNeg) = (am_i g 883 ((u2 + u5)).toNatClampNeg)) (a := 60) (b := 56) (T := ([some (.ref 33), some (.ref u1), some (.int u2), some (.int u3), some (.int u4), some (.int u5)], [], (v0 L, g))) rfl ?_ ?_
      · refine ev_jm 4 (t := (18, [some (.ref 33), some (.ref u1), some (.int u2), some (.int u3), some (.int 1), some (.int (u5 + 1))], [], (v0 L, g))) rfl ?_
        exact hk18 (u1, u2, u3, 1, (u5 + 1)) _
      · refine ev_jm 3 (t := (18, [some (.ref 33), some (.ref u1), some (.int u2), some (.int u3), some (.int 0), some (.int (u5 + 1))], [], (v0 L, g))) rfl ?_
        exact hk18 (u1, u2, u3, 0, (u5 + 1)) _
noncomputable def fh_294_18 (g : am_G)  (x : Nat × Int32 × Int32 × Int32 × Int32) : Option (Int32) := lo_it (fun k x => fb_294_18 g k x.1 x.2.1 x.2.2.1 x.2.2.2.1 x.2.2.2.2) nf_F x
theorem dh_294_18 (L : Nat) (g : am_G)   (x : Nat × Int32 × Int32 × Int32 × Int32) (R : Int32) : fh_294_18 g  x = some R → ai_ev ap_P 294 (18, [some (.ref 33), some (.ref x.1), some (.int x.2.1), some (.int x.2.2.1), some (.int x.2.2.2.1), some (.int x.2.2.2.2)], [], (v0 L, g)) (.inl (ez_i R)) (v0 L, g) :=
  fun hr => lo_ev (E := fun x R => ai_ev ap_P 294 (18, [some (.ref 33), some (.ref x.1), some (.int x.2.1), some (.int x.2.2.1), some (.int x.2.2.2.1), some (.int x.2.2.2.2)], [], (v0 L, g)) (.inl (ez_i R)) (v0 L, g)) (fun k hk x R hr => db_294_18 L g hk x.1 x.2.1 x.2.2.1 x.2.2.2.1 x.2.2.2.2  R hr) nf_F x R hr
/-- DeclaredMarkup$Processor.isFixed(LDeclaredMarkup$AttDecl;II)Z -/
noncomputable def fm_294 (g : am_G) (u1 : Nat) (u2 : Int32) (u3 : Int32) : Option (Int32) := lo_g (Nat.beq (v0_kd u1) 11) (if (am_i g u1 6) = u3 then fh_294_18 g (u1, u2, u3, 1, 0) else fh_294_18 g (u1, u2, u3, 0, 0))
theorem dm_294 (L : Nat) (g : am_G) (u1 : Nat) (u2 : Int32) (u3 : Int32) (R : Int32) : fm_294 g u1 u2 u3 = some R → ai_ev ap_P 294 (ai_e0 ap_P 294 [.ref 33, .ref u1, .int u2, .int u3] (v0 L, g)) (.inl (ez_i R)) (v0 L, g) := by
  show _ → ai_ev ap_P 294 (0, [some (.ref 33), some (.ref u1), some (.int u2), some (.int u3), none, none], [], (v0 L, g)) _ _
  unfold fm_294
  refine ev_gd (c := Nat.beq (v0_kd u1) 11) (fun hc1 => ?_)
  refine ev_jm 1 (t := (4, [some (.ref 33), some (.ref u1), some (.int u2), some (.int u3), none, none], [.int (am_i g u1 6)], (v0 L, g))) (ai_gd (c := Nat.beq (v0_kd u1) 11) rfl hc1) ?_
  refine ev_in 1 (p := (am_i g u1 6) = u3) (a := 12) (b := 8) (T := ([some (.ref 33), some (.ref u1), some (.int u2), some (.int u3), none, none], [], (v0 L, g))) rfl ?_ ?_
  · refine ev_jm 4 (t := (18, [some (.ref 33), some (.ref u1), some (.int u2), some (.int u3), some (.int 1), some (.int 0)], [], (v0 L, g))) rfl ?_
    exact dh_294_18 L g (u1, u2, u3, 1, 0) _
  · refine ev_jm 3 (t := (18, [some (.ref 33), some (.ref u1), some (.int u2), some (.int u3), some (.int 0), some (.int 0)], [], (v0 L, g))) rfl ?_
    exact dh_294_18 L g (u1, u2, u3, 0, 0) _
/-- DeclaredMarkup$AttType.isNamed()Z -/
noncomputable def fm_149 (g : am_G) (u0 : Nat) : Option (Int32) := lo_g (ai_oc (some u0)) (if (some u0) = (some 2) then some 1 else if (some u0) = (some 3) then some 1 else if (some u0) = (some 5) then some 1 else some 0)
theorem dm_149 (L : Nat) (g : am_G) (u0 : Nat) (R : Int32) : fm_149 g u0 = some R → ai_ev ap_P 149 (ai_e0 ap_P 149 [.ref u0] (v0 L, g)) (.inl (ez_i R)) (v0 L, g) := by
  show _ → ai_ev ap_P 149 (0, [some (.ref u0)], [], (v0 L, g)) _ _
  unfold fm_149
  refine ev_gd (c := ai_oc (some u0)) (fun hc1 => ?_)
  refine ev_ac 2 (x := (some u0)) (y := (some 2)) (a := 21) (b := 7) (T := ([some (.ref u0)], [], (v0 L, g))) (ai_gd (c := ai_oc (some u0) && ai_oc (some 2)) rfl (by first | exact hc1 | (have hz := hc1; simp only [hz]; rfl))) ?_ ?_
  · exact fun hR => by cases hR; exact ev_rt 2 rfl
  · refine ev_ac 2 (x := (some u0)) (y := (some 3)) (a := 21) (b := 14) (T := ([some (.ref u0)], [], (v0 L, g))) (ai_gd (c := ai_oc (some u0) && ai_oc (some 3)) rfl (by first | exact hc1 | (have hz := hc1; simp only [hz]; rfl))) ?_ ?_
    · exact fun hR => by cases hR; exact ev_rt 2 rfl
    · refine ev_ac 2 (x := (some u0)) (y := (some 5)) (a := 21) (b := 25) (T := ([some (.ref u0)], [], (v0 L, g))) (ai_gd (c := ai_oc (some u0) && ai_oc (some 5)) rfl (by first | exact hc1 | (have hz := hc1; simp only [hz]; rfl))) ?_ ?_
      · exact fun hR => by cases hR; exact ev_rt 2 rfl
      · exact fun hR => by cases hR; exact ev_rt 1 rfl
noncomputable def fb_288_30 (g : am_G) (k30 : (Int32 × Int32 × Int32 × Int32) → Option (Int32)) (u1 : Int32) (u2 : Int32) (u4 : Int32) (u5 : Int32) : Option (Int32) := if u2 ≤ u5 then some (vp_nar .boolean u4) else if u4 = 0 then some (vp_nar .boolean u4) else lo_g (ai_in (u1 + u5) 5200) (lo_p (fm_187 g (am_i g 883 ((u1 + u5)).toNatClampNeg)) fun y2 => k30 (u1, u2, y2, (u5 + 1)))
theorem db_288_30 (L : Nat) (g : am_G) {k30 : (Int32 × Int32 × Int32 × Int32) → Option (Int32)} (hk30 : ∀ (x : Int32 × Int32 × Int32 × Int32) (w3 : Option Value) (R : Int32), k30 x = some R → ai_ev ap_P 288 (30, [some (.ref 33), some (.int x.1), some (.int x.2.1), w3, some (.int x.2.2.1), some (.int x.2.2.2)], [], (v0 L, g)) (.inl (ez_i R)) (v0 L, g)) (u1 : Int32) (u2 : Int32) (u4 : Int32) (u5 : Int32) (w3 : Option Value) (R : Int32) : fb_288_30 g k30 u1 u2 u4 u5 = some R → ai_ev ap_P 288 (30, [some (.ref 33), some (.int u1), some (.int u2), w3, some (.int u4), some (.int u5)], [], (v0 L, g)) (.inl (ez_i R)) (v0 L, g) := by
  unfold fb_288_30
  refine ev_if 2 (p := u2 ≤ u5) (a := 61) (b := 36) (T := ([some (.ref 33), some (.int u1), some (.int u2), none, some (.int u4), some (.int u5)], [], (v0 L, g))) rfl ?_ ?_
  · exact fun hR => by cases hR; exact ev_rt 1 rfl
  · refine ev_if 1 (p := u4 = 0) (a := 61) (b := 41) (T := ([some (.ref 33), some (.int u1), some (.int u2), none, some (.int u4), some (.int u5)], [], (v0 L, g))) rfl ?_ ?_
    · exact fun hR => by cases hR; exact ev_rt 1 rfl
    · refine ev_gd (c := ai_in (u1 + u5) 5200) (fun hc1 => ?_)
      refine ev_jm 5 (t := (50, [some (.ref 33), some (.int u1), some (.int u2), none, some (.int u4), some (.int u5)], [.int (am_i g 883 ((u1 + u5)).toNatClampNeg)], (v0 L, g))) (ai_gd (c := ai_in (u1 + u5) 5200) rfl hc1) ?_
      refine ev_op 0 (as := [.int (am_i g 883 ((u1 + u5)).toNatClampNeg)]) (pc := 53) (Lc := [some (.ref 33), some (.int u1), some (.int u2), none, some (.int u4), some (.int u5)]) (st := []) (h1 := (v0 L, g)) (e := ez_i) rfl (dm_187 L g (am_i g 883 ((u1 + u5)).toNatClampNeg)) (fun y2 => ?_)
      refine ev_jm 2 (t := (30, [some (.ref 33), some (.int u1), some (.int u2), none, some (.int y2), some (.int (u5 + 1))], [], (v0 L, g))) rfl ?_
      exact hk30 (u1, u2, y2, (u5 + 1)) none _
noncomputable def fh_288_30 (g : am_G)  (x : Int32 × Int32 × Int32 × Int32) : Option (Int32) := lo_it (fun k x => fb_288_30 g k x.1 x.2.1 x.2.2.1 x.2.2.2) nf_F x
theorem dh_288_30 (L : Nat) (g : am_G)   (x : Int32 × Int32 × Int32 × Int32) (w3 : Option Value) (R : Int32) : fh_288_30 g  x = some R → ai_ev ap_P 288 (30, [some (.ref 33), some (.int x.1), some (.int x.2.1), w3, some (.int x.2.2.1), some (.int x.2.2.2)], [], (v0 L, g)) (.inl (ez_i R)) (v0 L, g) :=
  fun hr => lo_ev (E := fun x R => ∀ (w3 : Option Value), ai_ev ap_P 288 (30, [some (.ref 33), some (.int x.1), some (.int x.2.1), w3, some (.int x.2.2.1), some (.int x.2.2.2)], [], (v0 L, g)) (.inl (ez_i R)) (v0 L, g)) (fun k hk x R hr => fun w3 => db_288_30 L g (fun x w3 R hr => hk x R hr w3) x.1 x.2.1 x.2.2.1 x.2.2.2 w3 R hr) nf_F x R hr w3
/-- DeclaredMarkup$Processor.isWord(IIZ)Z -/
noncomputable def fm_288 (g : am_G) (u1 : Int32) (u2 : Int32) (u3 : Int32) : Option (Int32) := if u2 ≤ 0 then fh_288_30 g (u1, u2, 0, 0) else if u3 = 0 then lo_g (ai_in u1 5200) (lo_p (fm_186 g (am_i g 883 u1.toNatClampNeg)) fun y2 => if y2 = 0 then fh_288_30 g (u1, u2, 0, 0) else fh_288_30 g (u1, u2, 1, 0)) else fh_288_30 g (u1, u2, 1, 0)
theorem dm_288 (L : Nat) (g : am_G) (u1 : Int32) (u2 : Int32) (u3 : Int32) (R : Int32) : fm_288 g u1 u2 u3 = some R → ai_ev ap_P 288 (ai_e0 ap_P 288 [.ref 33, .int u1, .int u2, .int u3] (v0 L, g)) (.inl (ez_i R)) (v0 L, g) := by
  show _ → ai_ev ap_P 288 (0, [some (.ref 33), some (.int u1), some (.int u2), some (.int u3), none, none], [], (v0 L, g)) _ _
  unfold fm_288
  refine ev_if 1 (p := u2 ≤ 0) (a := 24) (b := 4) (T := ([some (.ref 33), some (.int u1), some (.int u2), some (.int u3), none, none], [], (v0 L, g))) rfl ?_ ?_
  · refine ev_jm 3 (t := (30, [some (.ref 33), some (.int u1), some (.int u2), none, some (.int 0), some (.int 0)], [], (v0 L, g))) rfl ?_
    exact dh_288_30 L g (u1, u2, 0, 0) none _
  · refine ev_in 1 (p := u3 = 0) (a := 20) (b := 8) (T := ([some (.ref 33), some (.int u1), some (.int u2), some (.int u3), none, none], [], (v0 L, g))) rfl ?_ ?_
    · refine ev_gd (c := ai_in u1 5200) (fun hc1 => ?_)
      refine ev_jm 3 (t := (14, [some (.ref 33), some (.int u1), some (.int u2), some (.int u3), none, none], [.int (am_i g 883 u1.toNatClampNeg)], (v0 L, g))) (ai_gd (c := ai_in u1 5200) rfl hc1) ?_
      refine ev_op 0 (as := [.int (am_i g 883 u1.toNatClampNeg)]) (pc := 17) (Lc := [some (.ref 33), some (.int u1), some (.int u2), some (.int u3), none, none]) (st := []) (h1 := (v0 L, g)) (e := ez_i) rfl (dm_186 L g (am_i g 883 u1.toNatClampNeg)) (fun y2 => ?_)
      refine ev_if 0 (p := y2 = 0) (a := 24) (b := 20) (T := ([some (.ref 33), some (.int u1), some (.int u2), some (.int u3), none, none], [], (v0 L, g))) rfl ?_ ?_
      · refine ev_jm 3 (t := (30, [some (.ref 33), some (.int u1), some (.int u2), none, some (.int 0), some (.int 0)], [], (v0 L, g))) rfl ?_
        exact dh_288_30 L g (u1, u2, 0, 0) none _
      · refine ev_jm 4 (t := (30, [some (.ref 33), some (.int u1), some (.int u2), none, some (.int 1), some (.int 0)], [], (v0 L, g))) rfl ?_
        exact dh_288_30 L g (u1, u2, 1, 0) none _
    · refine ev_jm 4 (t := (30, [some (.ref 33), some (.int u1), some (.int u2), none, some (.int 1), some (.int 0)], [], (v0 L, g))) rfl ?_
      exact dh_288_30 L g (u1, u2, 1, 0) none _
/-- DeclaredMarkup$AttType.areNamed()Z -/
noncomputable def fm_150 (g : am_G) (u0 : Nat) : Option (Int32) := lo_g (ai_oc (some u0)) (if (some u0) = (some 4) then some 1 else if (some u0) = (some 6) then some 1 else some 0)
theorem dm_150 (L : Nat) (g : am_G) (u0 : Nat) (R : Int32) : fm_150 g u0 = some R → ai_ev ap_P 150 (ai_e0 ap_P 150 [.ref u0] (v0 L, g)) (.inl (ez_i R)) (v0 L, g) := by
  show _ → ai_ev ap_P 150 (0, [some (.ref u0)], [], (v0 L, g)) _ _
  unfold fm_150
  refine ev_gd (c := ai_oc (some u0)) (fun hc1 => ?_)
  refine ev_ac 2 (x := (some u0)) (y := (some 4)) (a := 14) (b := 7) (T := ([some (.ref u0)], [], (v0 L, g))) (ai_gd (c := ai_oc (some u0) && ai_oc (some 4)) rfl (by first | exact hc1 | (have hz := hc1; simp only [hz]; rfl))) ?_ ?_
  · exact fun hR => by cases hR; exact ev_rt 2 rfl
  · refine ev_ac 2 (x := (some u0)) (y := (some 6)) (a := 14) (b := 18) (T := ([some (.ref u0)], [], (v0 L, g))) (ai_gd (c := ai_oc (some u0) && ai_oc (some 6)) rfl (by first | exact hc1 | (have hz := hc1; simp only [hz]; rfl))) ?_ ?_
    · exact fun hR => by cases hR; exact ev_rt 2 rfl
    · exact fun hR => by cases hR; exact ev_rt 1 rfl
noncomputable def fj_289_43 (g : am_G) (k9 : (Int32 × Int32 × Int32 × Int32 × Int32 × Int32) → Option (Int32)) (u1 : Int32) (u2 : Int32) (u3 : Int32) (u5 : Int32) (u6 : Int32) : Option (Int32) := lo_p (fm_288 g (u1 + u5) (u6 - u5) u3) fun y1 => lo_l (u6 + 1) fun x3 => k9 (u1, u2, u3, y1, x3, (u6 + 1))
theorem dj_289_43 (L : Nat) (g : am_G) {k9 : (Int32 × Int32 × Int32 × Int32 × Int32 × Int32) → Option (Int32)} (hk9 : ∀ (x : Int32 × Int32 × Int32 × Int32 × Int32 × Int32) (R : Int32), k9 x = some R → ai_ev ap_P 289 (9, [some (.ref 33), some (.int x.1), some (.int x.2.1), some (.int x.2.2.1), some (.int x.2.2.2.1), some (.int x.2.2.2.2.1), some (.int x.2.2.2.2.2)], [], (v0 L, g)) (.inl (ez_i R)) (v0 L, g)) (u1 : Int32) (u2 : Int32) (u3 : Int32) (u5 : Int32) (u6 : Int32) (w4 : Option Value) (R : Int32) : fj_289_43 g k9 u1 u2 u3 u5 u6 = some R → ai_ev ap_P 289 (43, [some (.ref 33), some (.int u1), some (.int u2), some (.int u3), w4, some (.int u5), some (.int u6)], [], (v0 L, g)) (.inl (ez_i R)) (v0 L, g) := by
  unfold fj_289_43
  refine ev_op 8 (as := [.ref 33, .int (u1 + u5), .int (u6 - u5), .int u3]) (pc := 57) (Lc := [some (.ref 33), some (.int u1), some (.int u2), some (.int u3), none, some (.int u5), some (.int u6)]) (st := []) (h1 := (v0 L, g)) (e := ez_i) rfl (dm_288 L g (u1 + u5) (u6 - u5) u3) (fun y1 => ?_)
  refine ev_jm 3 (t := (63, [some (.ref 33), some (.int u1), some (.int u2), some (.int u3), some (.int y1), some (.int u5), some (.int u6)], [.int (u6 + 1)], (v0 L, g))) rfl ?_
  refine lo_e (S := fun (x3 : Int32) => (63, [some (.ref 33), some (.int u1), some (.int u2), some (.int u3), some (.int y1), some (.int u5), some (.int u6)], [.int x3], (v0 L, g))) (fun x3 => ?_)
  refine ev_jm 2 (t := (9, [some (.ref 33), some (.int u1), some (.int u2), some (.int u3), some (.int y1), some (.int x3), some (.int (u6 + 1))], [], (v0 L, g))) rfl ?_
  exact hk9 (u1, u2, u3, y1, x3, (u6 + 1)) _
noncomputable def fb_289_9 (g : am_G) (k9 : (Int32 × Int32 × Int32 × Int32 × Int32 × Int32) → Option (Int32)) (u1 : Int32) (u2 : Int32) (u3 : Int32) (u4 : Int32) (u5 : Int32) (u6 : Int32) : Option (Int32) := if u2 < u6 then some (vp_nar .boolean u4) else if u4 = 0 then some (vp_nar .boolean u4) else if u2 ≤ u6 then fj_289_43 g k9 u1 u2 u3 u5 u6 else lo_g (ai_in (u1 + u6) 5200) (if (am_i g 883 ((u1 + u6)).toNatClampNeg) = 32 then fj_289_43 g k9 u1 u2 u3 u5 u6 else k9 (u1, u2, u3, u4, u5, (u6 + 1)))
theorem db_289_9 (L : Nat) (g : am_G) {k9 : (Int32 × Int32 × Int32 × Int32 × Int32 × Int32) → Option (Int32)} (hk9 : ∀ (x : Int32 × Int32 × Int32 × Int32 × Int32 × Int32) (R : Int32), k9 x = some R → ai_ev ap_P 289 (9, [some (.ref 33), some (.int x.1), some (.int x.2.1), some (.int x.2.2.1), some (.int x.2.2.2.1), some (.int x.2.2.2.2.1), some (.int x.2.2.2.2.2)], [], (v0 L, g)) (.inl (ez_i R)) (v0 L, g)) (u1 : Int32) (u2 : Int32) (u3 : Int32) (u4 : Int32) (u5 : Int32) (u6 : Int32) (R : Int32) : fb_289_9 g k9 u1 u2 u3 u4 u5 u6 = some R → ai_ev ap_P 289 (9, [some (.ref 33), some (.int u1), some (.int u2), some (.int u3), some (.int u4), some (.int u5), some (.int u6)], [], (v0 L, g)) (.inl (ez_i R)) (v0 L, g) := by
  unfold fb_289_9
  refine ev_if 2 (p := u2 < u6) (a := 71) (b := 15) (T := ([some (.ref 33), some (.int u1), some (.int u2), some (.int u3), some (.int u4), some (.int u5), some (.int u6)], [], (v0 L, g))) rfl ?_ ?_
  · exact fun hR => by cases hR; exact ev_rt 1 rfl
  · refine ev_if 1 (p := u4 = 0) (a := 71) (b := 20) (T := ([some (.ref 33), some (.int u1), some (.int u2), some (.int u3), some (.int u4), some (.int u5), some (.int u6)], [], (v0 L, g))) rfl ?_ ?_
    · exact fun hR => by cases hR; exact ev_rt 1 rfl
    · refine ev_if 2 (p := u2 ≤ u6) (a := 43) (b := 26) (T := ([some (.ref 33), some (.int u1), some (.int u2), some (.int u3), some (.int u4), some (.int u5), some (.int u6)], [], (v0 L, g))) rfl ?_ ?_
      · exact dj_289_43 L g hk9 u1 u2 u3 u5 u6 (some (.int u4)) _
      · refine ev_gd (c := ai_in (u1 + u6) 5200) (fun hc1 => ?_)
        refine ev_jm 5 (t := (35, [some (.ref 33), some (.int u1), some (.int u2), some (.int u3), some (.int u4), some (.int u5), some (.int u6)], [.int (am_i g 883 ((u1 + u6)).toNatClampNeg)], (v0 L, g))) (ai_gd (c := ai_in (u1 + u6) 5200) rfl hc1) ?_
        refine ev_if 1 (p := (am_i g 883 ((u1 + u6)).toNatClampNeg) = 32) (a := 43) (b := 40) (T := ([some (.ref 33), some (.int u1), some (.int u2), some (.int u3), some (.int u4), some (.int u5), some (.int u6)], [], (v0 L, g))) rfl ?_ ?_
        · exact dj_289_43 L g hk9 u1 u2 u3 u5 u6 (some (.int u4)) _
        · refine ev_jm 2 (t := (9, [some (.ref 33), some (.int u1), some (.int u2), some (.int u3), some (.int u4), some (.int u5), some (.int (u6 + 1))], [], (v0 L, g))) rfl ?_
          exact hk9 (u1, u2, u3, u4, u5, (u6 + 1)) _
noncomputable def fh_289_9 (g : am_G)  (x : Int32 × Int32 × Int32 × Int32 × Int32 × Int32) : Option (Int32) := lo_it (fun k x => fb_289_9 g k x.1 x.2.1 x.2.2.1 x.2.2.2.1 x.2.2.2.2.1 x.2.2.2.2.2) nf_F x
theorem dh_289_9 (L : Nat) (g : am_G)   (x : Int32 × Int32 × Int32 × Int32 × Int32 × Int32) (R : Int32) : fh_289_9 g  x = some R → ai_ev ap_P 289 (9, [some (.ref 33), some (.int x.1), some (.int x.2.1), some (.int x.2.2.1), some (.int x.2.2.2.1), some (.int x.2.2.2.2.1), some (.int x.2.2.2.2.2)], [], (v0 L, g)) (.inl (ez_i R)) (v0 L, g) :=
  fun hr => lo_ev (E := fun x R => ai_ev ap_P 289 (9, [some (.ref 33), some (.int x.1), some (.int x.2.1), some (.int x.2.2.1), some (.int x.2.2.2.1), some (.int x.2.2.2.2.1), some (.int x.2.2.2.2.2)], [], (v0 L, g)) (.inl (ez_i R)) (v0 L, g)) (fun k hk x R hr => db_289_9 L g hk x.1 x.2.1 x.2.2.1 x.2.2.2.1 x.2.2.2.2.1 x.2.2.2.2.2  R hr) nf_F x R hr
/-- DeclaredMarkup$Processor.areWords(IIZ)Z -/
noncomputable def fm_289 (g : am_G) (u1 : Int32) (u2 : Int32) (u3 : Int32) : Option (Int32) := fh_289_9 g (u1, u2, u3, 1, 0, 0)
theorem dm_289 (L : Nat) (g : am_G) (u1 : Int32) (u2 : Int32) (u3 : Int32) (R : Int32) : fm_289 g u1 u2 u3 = some R → ai_ev ap_P 289 (ai_e0 ap_P 289 [.ref 33, .int u1, .int u2, .int u3] (v0 L, g)) (.inl (ez_i R)) (v0 L, g) := by
  show _ → ai_ev ap_P 289 (0, [some (.ref 33), some (.int u1), some (.int u2), some (.int u3), none, none, none], [], (v0 L, g)) _ _
  unfold fm_289
  refine ev_jm 5 (t := (9, [some (.ref 33), some (.int u1), some (.int u2), some (.int u3), some (.int 1), some (.int 0), some (.int 0)], [], (v0 L, g))) rfl ?_
  exact dh_289_9 L g (u1, u2, u3, 1, 0, 0) _
/-- DeclaredMarkup$AttType.isListed()Z -/
noncomputable def fm_151 (g : am_G) (u0 : Nat) : Option (Int32) := lo_g (ai_oc (some u0)) (if (some u0) = (some 9) then some 1 else if (some u0) = (some 10) then some 1 else some 0)
theorem dm_151 (L : Nat) (g : am_G) (u0 : Nat) (R : Int32) : fm_151 g u0 = some R → ai_ev ap_P 151 (ai_e0 ap_P 151 [.ref u0] (v0 L, g)) (.inl (ez_i R)) (v0 L, g) := by
  show _ → ai_ev ap_P 151 (0, [some (.ref u0)], [], (v0 L, g)) _ _
  unfold fm_151
  refine ev_gd (c := ai_oc (some u0)) (fun hc1 => ?_)
  refine ev_ac 2 (x := (some u0)) (y := (some 9)) (a := 14) (b := 7) (T := ([some (.ref u0)], [], (v0 L, g))) (ai_gd (c := ai_oc (some u0) && ai_oc (some 9)) rfl (by first | exact hc1 | (have hz := hc1; simp only [hz]; rfl))) ?_ ?_
  · exact fun hR => by cases hR; exact ev_rt 2 rfl
  · refine ev_ac 2 (x := (some u0)) (y := (some 10)) (a := 14) (b := 18) (T := ([some (.ref u0)], [], (v0 L, g))) (ai_gd (c := ai_oc (some u0) && ai_oc (some 10)) rfl (by first | exact hc1 | (have hz := hc1; simp only [hz]; rfl))) ?_ ?_
    · exact fun hR => by cases hR; exact ev_rt 2 rfl
    · exact fun hR => by cases hR; exact ev_rt 1 rfl
noncomputable def fb_168_5 (g : am_G) (k5 : (Nat × Int32 × Int32 × Int32) → Option (Int32)) (u1 : Nat) (u2 : Int32) (u3 : Int32) (u4 : Int32) : Option (Int32) := lo_g (Nat.beq (v0_kd u1) 11) (if (am_i g u1 4) ≤ u4 then some (vp_nar .boolean u3) else if u3 = 0 then lo_g (ai_in ((am_i g u1 3) + u4) 300) (if (am_i g 52 (((am_i g u1 3) + u4)).toNatClampNeg) = u2 then k5 (u1, u2, 1, (u4 + 1)) else k5 (u1, u2, 0, (u4 + 1))) else k5 (u1, u2, 1, (u4 + 1)))
theorem db_168_5 (L : Nat) (g : am_G) {k5 : (Nat × Int32 × Int32 × Int32) → Option (Int32)} (hk5 : ∀ (x : Nat × Int32 × Int32 × Int32) (R : Int32), k5 x = some R → ai_ev ap_P 168 (5, [some (.ref 49), some (.ref x.1), some (.int x.2.1), some (.int x.2.2.1), some (.int x.2.2.2)], [], (v0 L, g)) (.inl (ez_i R)) (v0 L, g)) (u1 : Nat) (u2 : Int32) (u3 : Int32) (u4 : Int32) (R : Int32) : fb_168_5 g k5 u1 u2 u3 u4 = some R → ai_ev ap_P 168 (5, [some (.ref 49), some (.ref u1), some (.int u2), some (.int u3), some (.int u4)], [], (v0 L, g)) (.inl (ez_i R)) (v0 L, g) := by
  unfold fb_168_5
  refine ev_gd (c := Nat.beq (v0_kd u1) 11) (fun hc1 => ?_)
  refine ev_jm 2 (t := (11, [some (.ref 49), some (.ref u1), some (.int u2), some (.int u3), some (.int u4)], [.int (am_i g u1 4), .int u4], (v0 L, g))) (ai_gd (c := Nat.beq (v0_kd u1) 11) rfl hc1) ?_
  refine ev_if 0 (p := (am_i g u1 4) ≤ u4) (a := 46) (b := 14) (T := ([some (.ref 49), some (.ref u1), some (.int u2), some (.int u3), some (.int u4)], [], (v0 L, g))) rfl ?_ ?_
  · exact fun hR => by cases hR; exact ev_rt 1 rfl
  · refine ev_in 1 (p := u3 = 0) (a := 34) (b := 18) (T := ([some (.ref 49), some (.ref u1), some (.int u2), some (.int u3), some (.int u4)], [], (v0 L, g))) rfl ?_ ?_
    · refine ev_jm 3 (t := (26, [some (.ref 49), some (.ref u1), some (.int u2), some (.int u3), some (.int u4)], [.int (am_i g u1 3), .ref 52], (v0 L, g))) (ai_gd (c := Nat.beq (v0_kd u1) 11) rfl hc1) ?_
      refine ev_gd (c := ai_in ((am_i g u1 3) + u4) 300) (fun hc2 => ?_)
      refine ev_jm 2 (t := (30, [some (.ref 49), some (.ref u1), some (.int u2), some (.int u3), some (.int u4)], [.int (am_i g 52 (((am_i g u1 3) + u4)).toNatClampNeg)], (v0 L, g))) (ai_gd (c := ai_in ((am_i g u1 3) + u4) 300) rfl hc2) ?_
      refine ev_in 1 (p := (am_i g 52 (((am_i g u1 3) + u4)).toNatClampNeg) = u2) (a := 38) (b := 34) (T := ([some (.ref 49), some (.ref u1), some (.int u2), some (.int u3), some (.int u4)], [], (v0 L, g))) rfl ?_ ?_
      · refine ev_jm 4 (t := (5, [some (.ref 49), some (.ref u1), some (.int u2), some (.int 1), some (.int (u4 + 1))], [], (v0 L, g))) rfl ?_
        exact hk5 (u1, u2, 1, (u4 + 1)) _
      · refine ev_jm 3 (t := (5, [some (.ref 49), some (.ref u1), some (.int u2), some (.int 0), some (.int (u4 + 1))], [], (v0 L, g))) rfl ?_
        exact hk5 (u1, u2, 0, (u4 + 1)) _
    · refine ev_jm 4 (t := (5, [some (.ref 49), some (.ref u1), some (.int u2), some (.int 1), some (.int (u4 + 1))], [], (v0 L, g))) rfl ?_
      exact hk5 (u1, u2, 1, (u4 + 1)) _
noncomputable def fh_168_5 (g : am_G)  (x : Nat × Int32 × Int32 × Int32) : Option (Int32) := lo_it (fun k x => fb_168_5 g k x.1 x.2.1 x.2.2.1 x.2.2.2) nf_F x
theorem dh_168_5 (L : Nat) (g : am_G)   (x : Nat × Int32 × Int32 × Int32) (R : Int32) : fh_168_5 g  x = some R → ai_ev ap_P 168 (5, [some (.ref 49), some (.ref x.1), some (.int x.2.1), some (.int x.2.2.1), some (.int x.2.2.2)], [], (v0 L, g)) (.inl (ez_i R)) (v0 L, g) :=
  fun hr => lo_ev (E := fun x R => ai_ev ap_P 168 (5, [some (.ref 49), some (.ref x.1), some (.int x.2.1), some (.int x.2.2.1), some (.int x.2.2.2)], [], (v0 L, g)) (.inl (ez_i R)) (v0 L, g)) (fun k hk x R hr => db_168_5 L g hk x.1 x.2.1 x.2.2.1 x.2.2.2  R hr) nf_F x R hr
/-- DeclaredMarkup$Declared.hasToken(LDeclaredMarkup$AttDecl;I)Z -/
noncomputable def fm_168 (g : am_G) (u1 : Nat) (u2 : Int32) : Option (Int32) := fh_168_5 g (u1, u2, 0, 0)
theorem dm_168 (L : Nat) (g : am_G) (u1 : Nat) (u2 : Int32) (R : Int32) : fm_168 g u1 u2 = some R → ai_ev ap_P 168 (ai_e0 ap_P 168 [.ref 49, .ref u1, .int u2] (v0 L, g)) (.inl (ez_i R)) (v0 L, g) := by
  show _ → ai_ev ap_P 168 (0, [some (.ref 49), some (.ref u1), some (.int u2), none, none], [], (v0 L, g)) _ _
  unfold fm_168
  refine ev_jm 3 (t := (5, [some (.ref 49), some (.ref u1), some (.int u2), some (.int 0), some (.int 0)], [], (v0 L, g))) rfl ?_
  exact dh_168_5 L g (u1, u2, 0, 0) _
noncomputable def fb_290_10 (k10 : (am_G × Nat × Int32 × Int32 × Int32) → Option (Int32 × am_G)) (g : am_G) (u1 : Nat) (u2 : Int32) (u3 : Int32) (u4 : Int32) : Option (Int32 × am_G) := if u3 ≤ u4 then lo_p (fm_233 g ) fun y1 => if y1 = (-1) then some (0, g) else lo_p (fm_168 g u1 y1) fun y3 => if y3 = 0 then some (0, g) else some (1, g) else lo_g (ai_in (u2 + u4) 5200) (lo_p (fm_229 g (am_i g 883 ((u2 + u4)).toNatClampNeg)) fun g7 => k10 (g7, u1, u2, u3, (u4 + 1)))
theorem db_290_10 (L : Nat) {k10 : (am_G × Nat × Int32 × Int32 × Int32) → Option (Int32 × am_G)} (hk10 : ∀ (x : am_G × Nat × Int32 × Int32 × Int32) (R : Int32 × am_G), k10 x = some R → ai_ev ap_P 290 (10, [some (.ref 33), some (.ref x.2.1), some (.int x.2.2.1), some (.int x.2.2.2.1), some (.int x.2.2.2.2)], [], (v0 L, x.1)) (.inl (ez_i R.1)) (v0 L, R.2)) (g : am_G) (u1 : Nat) (u2 : Int32) (u3 : Int32) (u4 : Int32) (R : Int32 × am_G) : fb_290_10 k10 g u1 u2 u3 u4 = some R → ai_ev ap_P 290 (10, [some (.ref 33), some (.ref u1), some (.int u2), some (.int u3), some (.int u4)], [], (v0 L, g)) (.inl (ez_i R.1)) (v0 L, R.2) := by
  unfold fb_290_10
  refine ev_if 2 (p := u3 ≤ u4) (a := 38) (b := 16) (T := ([some (.ref 33), some (.ref u1), some (.int u2), some (.int u3), some (.int u4)], [], (v0 L, g))) rfl ?_ ?_
  · refine ev_op 2 (as := [.ref 43]) (pc := 45) (Lc := [some (.ref 33), some (.ref u1), some (.int u2), some (.int u3), some (.int u4)]) (st := []) (h1 := (v0 L, g)) (e := ez_i) rfl (dm_233 L g ) (fun y1 => ?_)
    refine ev_if 3 (p := y1 = (-1)) (a := 70) (b := 53) (T := ([some (.ref 33), some (.ref u1), some (.int u2), some (.int u3), some (.int y1)], [], (v0 L, g))) rfl ?_ ?_
    · exact fun hR => by cases hR; exact ev_rt 1 rfl
    · refine ev_op 4 (as := [.ref 49, .ref u1, .int y1]) (pc := 63) (Lc := [some (.ref 33), some (.ref u1), some (.int u2), some (.int u3), some (.int y1)]) (st := []) (h1 := (v0 L, g)) (e := ez_i) rfl (dm_168 L g u1 y1) (fun y3 => ?_)
      refine ev_if 0 (p := y3 = 0) (a := 70) (b := 66) (T := ([some (.ref 33), some (.ref u1), some (.int u2), some (.int u3), some (.int y1)], [], (v0 L, g))) rfl ?_ ?_
      · exact fun hR => by cases hR; exact ev_rt 1 rfl
      · exact fun hR => by cases hR; exact ev_rt 2 rfl
  · refine ev_gd (c := ai_in (u2 + u4) 5200) (fun hc5 => ?_)
    refine ev_jm 7 (t := (29, [some (.ref 33), some (.ref u1), some (.int u2), some (.int u3), some (.int u4)], [.int (am_i g 883 ((u2 + u4)).toNatClampNeg), .ref 43], (v0 L, g))) (ai_gd (c := ai_in (u2 + u4) 5200) rfl hc5) ?_
    refine ev_ov0 0 (as := [.ref 43, .int (am_i g 883 ((u2 + u4)).toNatClampNeg)]) (pc := 32) (Lc := [some (.ref 33), some (.ref u1), some (.int u2), some (.int u3), some (.int u4)]) (st := []) (V := v0 L) (g1 := g) rfl (dm_229 L g (am_i g 883 ((u2 + u4)).toNatClampNeg)) (fun g7 => ?_)
    refine ev_jm 1 (t := (10, [some (.ref 33), some (.ref u1), some (.int u2), some (.int u3), some (.int (u4 + 1))], [], (v0 L, g7))) rfl ?_
    exact hk10 (g7, u1, u2, u3, (u4 + 1)) _
noncomputable def fh_290_10  (x : am_G × Nat × Int32 × Int32 × Int32) : Option (Int32 × am_G) := lo_it (fun k x => fb_290_10 k x.1 x.2.1 x.2.2.1 x.2.2.2.1 x.2.2.2.2) nf_F x
theorem dh_290_10 (L : Nat)   (x : am_G × Nat × Int32 × Int32 × Int32) (R : Int32 × am_G) : fh_290_10  x = some R → ai_ev ap_P 290 (10, [some (.ref 33), some (.ref x.2.1), some (.int x.2.2.1), some (.int x.2.2.2.1), some (.int x.2.2.2.2)], [], (v0 L, x.1)) (.inl (ez_i R.1)) (v0 L, R.2) :=
  fun hr => lo_ev (E := fun x R => ai_ev ap_P 290 (10, [some (.ref 33), some (.ref x.2.1), some (.int x.2.2.1), some (.int x.2.2.2.1), some (.int x.2.2.2.2)], [], (v0 L, x.1)) (.inl (ez_i R.1)) (v0 L, R.2)) (fun k hk x R hr => db_290_10 L hk x.1 x.2.1 x.2.2.1 x.2.2.2.1 x.2.2.2.2  R hr) nf_F x R hr
/-- DeclaredMarkup$Processor.isListed(LDeclaredMarkup$AttDecl;II)Z -/
noncomputable def fm_290 (g : am_G) (u1 : Nat) (u2 : Int32) (u3 : Int32) : Option (Int32 × am_G) := lo_p (fm_228 g ) fun g2 => fh_290_10 (g2, u1, u2, u3, 0)
theorem dm_290 (L : Nat) (g : am_G) (u1 : Nat) (u2 : Int32) (u3 : Int32) (R : Int32 × am_G) : fm_290 g u1 u2 u3 = some R → ai_ev ap_P 290 (ai_e0 ap_P 290 [.ref 33, .ref u1, .int u2, .int u3] (v0 L, g)) (.inl (ez_i R.1)) (v0 L, R.2) := by
  show _ → ai_ev ap_P 290 (0, [some (.ref 33), some (.ref u1), some (.int u2), some (.int u3), none], [], (v0 L, g)) _ _
  unfold fm_290
  refine ev_ov0 2 (as := [.ref 43]) (pc := 7) (Lc := [some (.ref 33), some (.ref u1), some (.int u2), some (.int u3), none]) (st := []) (V := v0 L) (g1 := g) rfl (dm_228 L g ) (fun g2 => ?_)
  refine ev_jm 1 (t := (10, [some (.ref 33), some (.ref u1), some (.int u2), some (.int u3), some (.int 0)], [], (v0 L, g2))) rfl ?_
  exact dh_290_10 L (g2, u1, u2, u3, 0) _
/-- DeclaredMarkup$Processor.isWritten(LDeclaredMarkup$AttDecl;II)Z -/
noncomputable def fm_291 (g : am_G) (u1 : Nat) (u2 : Int32) (u3 : Int32) : Option (Int32 × am_G) := lo_g (Nat.beq (v0_kd u1) 11) (lo_m (am_r g u1 7) (none) fun o2 => lo_g (Nat.beq (v0_kd o2) 17) (lo_p (fm_148 g o2) fun y3 => if y3 = 0 then lo_m (am_r g u1 7) (none) fun o6 => lo_g (Nat.beq (v0_kd o6) 17) (lo_p (fm_149 g o6) fun y7 => if y7 = 0 then lo_m (am_r g u1 7) (none) fun o10 => lo_g (Nat.beq (v0_kd o10) 17) (lo_p (fm_150 g o10) fun y11 => if y11 = 0 then lo_m (am_r g u1 7) (none) fun o14 => lo_g (Nat.beq (v0_kd o14) 17) (lo_p (fm_151 g o14) fun y15 => if y15 = 0 then lo_m (am_r g u1 7) (none) fun o18 => lo_g (ai_oc (some o18)) (if (some o18) = (some 7) then lo_p (fm_288 g u2 u3 1) fun y20 => some ((vp_nar .boolean y20), g) else lo_p (fm_289 g u2 u3 1) fun y22 => some ((vp_nar .boolean y22), g)) else lo_i (fm_290 g u1 u2 u3) fun y24 g25 => some ((vp_nar .boolean y24), g25)) else lo_p (fm_289 g u2 u3 0) fun y26 => some ((vp_nar .boolean y26), g)) else lo_p (fm_288 g u2 u3 0) fun y28 => some ((vp_nar .boolean y28), g)) else some (1, g)))
theorem dm_291 (L : Nat) (g : am_G) (u1 : Nat) (u2 : Int32) (u3 : Int32) (R : Int32 × am_G) : fm_291 g u1 u2 u3 = some R → ai_ev ap_P 291 (ai_e0 ap_P 291 [.ref 33, .ref u1, .int u2, .int u3] (v0 L, g)) (.inl (ez_i R.1)) (v0 L, R.2) := by
  show _ → ai_ev ap_P 291 (0, [some (.ref 33), some (.ref u1), some (.int u2), some (.int u3)], [], (v0 L, g)) _ _
  unfold fm_291
  refine ev_gd (c := Nat.beq (v0_kd u1) 11) (fun hc1 => ?_)
  refine ev_jm 1 (t := (4, [some (.ref 33), some (.ref u1), some (.int u2), some (.int u3)], [am_v (am_r g u1 7)], (v0 L, g))) (ai_gd (c := Nat.beq (v0_kd u1) 11) rfl hc1) ?_
  refine ev_om (S := fun (o : Option Nat) => (4, [some (.ref 33), some (.ref u1), some (.int u2), some (.int u3)], [am_v o], (v0 L, g))) ?_ (fun o2 => ?_)
  · exact fun hR => nomatch hR
  · refine ev_gd (c := Nat.beq (v0_kd o2) 17) (fun hc5 => ?_)
    refine ev_op 0 (as := [.ref o2]) (pc := 7) (Lc := [some (.ref 33), some (.ref u1), some (.int u2), some (.int u3)]) (st := []) (h1 := (v0 L, g)) (e := ez_i) (ai_gd (c := Nat.beq (v0_kd o2) 17 && true) rfl (ai_ct hc5)) (dm_148 L g o2) (fun y3 => ?_)
    refine ev_if 0 (p := y3 = 0) (a := 12) (b := 10) (T := ([some (.ref 33), some (.ref u1), some (.int u2), some (.int u3)], [], (v0 L, g))) rfl ?_ ?_
    · refine ev_jm 1 (t := (16, [some (.ref 33), some (.ref u1), some (.int u2), some (.int u3)], [am_v (am_r g u1 7)], (v0 L, g))) (ai_gd (c := Nat.beq (v0_kd u1) 11) rfl hc1) ?_
      refine ev_om (S := fun (o : Option Nat) => (16, [some (.ref 33), some (.ref u1), some (.int u2), some (.int u3)], [am_v o], (v0 L, g))) ?_ (fun o6 => ?_)
      · exact fun hR => nomatch hR
      · refine ev_gd (c := Nat.beq (v0_kd o6) 17) (fun hc9 => ?_)
        refine ev_op 0 (as := [.ref o6]) (pc := 19) (Lc := [some (.ref 33), some (.ref u1), some (.int u2), some (.int u3)]) (st := []) (h1 := (v0 L, g)) (e := ez_i) (ai_gd (c := Nat.beq (v0_kd o6) 17 && true) rfl (ai_ct hc9)) (dm_149 L g o6) (fun y7 => ?_)
        refine ev_if 0 (p := y7 = 0) (a := 30) (b := 22) (T := ([some (.ref 33), some (.ref u1), some (.int u2), some (.int u3)], [], (v0 L, g))) rfl ?_ ?_
        · refine ev_jm 1 (t := (34, [some (.ref 33), some (.ref u1), some (.int u2), some (.int u3)], [am_v (am_r g u1 7)], (v0 L, g))) (ai_gd (c := Nat.beq (v0_kd u1) 11) rfl hc1) ?_
          refine ev_om (S := fun (o : Option Nat) => (34, [some (.ref 33), some (.ref u1), some (.int u2), some (.int u3)], [am_v o], (v0 L, g))) ?_ (fun o10 => ?_)
          · exact fun hR => nomatch hR
          · refine ev_gd (c := Nat.beq (v0_kd o10) 17) (fun hc13 => ?_)
            refine ev_op 0 (as := [.ref o10]) (pc := 37) (Lc := [some (.ref 33), some (.ref u1), some (.int u2), some (.int u3)]) (st := []) (h1 := (v0 L, g)) (e := ez_i) (ai_gd (c := Nat.beq (v0_kd o10) 17 && true) rfl (ai_ct hc13)) (dm_150 L g o10) (fun y11 => ?_)
            refine ev_if 0 (p := y11 = 0) (a := 48) (b := 40) (T := ([some (.ref 33), some (.ref u1), some (.int u2), some (.int u3)], [], (v0 L, g))) rfl ?_ ?_
            · refine ev_jm 1 (t := (52, [some (.ref 33), some (.ref u1), some (.int u2), some (.int u3)], [am_v (am_r g u1 7)], (v0 L, g))) (ai_gd (c := Nat.beq (v0_kd u1) 11) rfl hc1) ?_
              refine ev_om (S := fun (o : Option Nat) => (52, [some (.ref 33), some (.ref u1), some (.int u2), some (.int u3)], [am_v o], (v0 L, g))) ?_ (fun o14 => ?_)
              · exact fun hR => nomatch hR
              · refine ev_gd (c := Nat.beq (v0_kd o14) 17) (fun hc17 => ?_)
                refine ev_op 0 (as := [.ref o14]) (pc := 55) (Lc := [some (.ref 33), some (.ref u1), some (.int u2), some (.int u3)]) (st := []) (h1 := (v0 L, g)) (e := ez_i) (ai_gd (c := Nat.beq (v0_kd o14) 17 && true) rfl (ai_ct hc17)) (dm_151 L g o14) (fun y15 => ?_)
                refine ev_if 0 (p := y15 = 0) (a := 66) (b := 58) (T := ([some (.ref 33), some (.ref u1), some (.int u2), some (.int u3)], [], (v0 L, g))) rfl ?_ ?_
                · refine ev_jm 1 (t := (70, [some (.ref 33), some (.ref u1), some (.int u2), some (.int u3)], [am_v (am_r g u1 7)], (v0 L, g))) (ai_gd (c := Nat.beq (v0_kd u1) 11) rfl hc1) ?_
                  refine ev_om (S := fun (o : Option Nat) => (70, [some (.ref 33), some (.ref u1), some (.int u2), some (.int u3)], [am_v o], (v0 L, g))) ?_ (fun o18 => ?_)
                  · exact fun hR => nomatch hR
                  · refine ev_gd (c := ai_oc (some o18)) (fun hc19 => ?_)
                    refine ev_ac 1 (x := (some o18)) (y := (some 7)) (a := 76) (b := 86) (T := ([some (.ref 33), some (.ref u1), some (.int u2), some (.int u3)], [], (v0 L, g))) (ai_gd (c := ai_oc (some o18) && ai_oc (some 7)) rfl (by first | exact hc19 | (have hz := hc19; simp only [hz]; rfl))) ?_ ?_
                    · refine ev_op 4 (as := [.ref 33, .int u2, .int u3, .int 1]) (pc := 83) (Lc := [some (.ref 33), some (.ref u1), some (.int u2), some (.int u3)]) (st := []) (h1 := (v0 L, g)) (e := ez_i) rfl (dm_288 L g u2 u3 1) (fun y20 => ?_)
                      exact fun hR => by cases hR; exact ev_rt 1 rfl
                    · refine ev_op 4 (as := [.ref 33, .int u2, .int u3, .int 1]) (pc := 93) (Lc := [some (.ref 33), some (.ref u1), some (.int u2), some (.int u3)]) (st := []) (h1 := (v0 L, g)) (e := ez_i) rfl (dm_289 L g u2 u3 1) (fun y22 => ?_)
                      exact fun hR => by cases hR; exact ev_rt 0 rfl
                · refine ev_oi 4 (as := [.ref 33, .ref u1, .int u2, .int u3]) (pc := 65) (Lc := [some (.ref 33), some (.ref u1), some (.int u2), some (.int u3)]) (st := []) (V := v0 L) (g1 := g) (e := ez_i) rfl (dm_290 L g u1 u2 u3) (fun y24 g25 => ?_)
                  exact fun hR => by cases hR; exact ev_rt 0 rfl
            · refine ev_op 4 (as := [.ref 33, .int u2, .int u3, .int 0]) (pc := 47) (Lc := [some (.ref 33), some (.ref u1), some (.int u2), some (.int u3)]) (st := []) (h1 := (v0 L, g)) (e := ez_i) rfl (dm_289 L g u2 u3 0) (fun y26 => ?_)
              exact fun hR => by cases hR; exact ev_rt 0 rfl
        · refine ev_op 4 (as := [.ref 33, .int u2, .int u3, .int 0]) (pc := 29) (Lc := [some (.ref 33), some (.ref u1), some (.int u2), some (.int u3)]) (st := []) (h1 := (v0 L, g)) (e := ez_i) rfl (dm_288 L g u2 u3 0) (fun y28 => ?_)
          exact fun hR => by cases hR; exact ev_rt 0 rfl
    · exact fun hR => by cases hR; exact ev_rt 1 rfl
/-- java/lang/Enum.ordinal()I -/
noncomputable def fm_335 (g : am_G) (u0 : Nat) : Option (Int32) := lo_g (Nat.beq (v0_kd u0) 17) (some (am_i g u0 0))
theorem dm_335 (L : Nat) (g : am_G) (u0 : Nat) (R : Int32) : fm_335 g u0 = some R → ai_ev ap_P 335 (ai_e0 ap_P 335 [.ref u0] (v0 L, g)) (.inl (ez_i R)) (v0 L, g) := by
  show _ → ai_ev ap_P 335 (0, [some (.ref u0)], [], (v0 L, g)) _ _
  unfold fm_335
  refine ev_gd (c := Nat.beq (v0_kd u0) 17) (fun hc1 => ?_)
  refine ev_jm 1 (t := (4, [some (.ref u0)], [.int (am_i g u0 0)], (v0 L, g))) (ai_gd (c := Nat.beq (v0_kd u0) 17) rfl hc1) ?_
  exact fun hR => by cases hR; exact ev_rt 0 rfl
/-- DeclaredMarkup$Processor.constraint(LDeclaredMarkup$AttType;)I -/
noncomputable def fm_292 (g : am_G) (u0 : Nat) : Option (Int32) := lo_g (Nat.beq (v0_kd u0) 17) (lo_p (fm_335 g u0) fun y1 => if y1 = 1 then some 10 else if y1 = 2 then some 14 else if y1 = 3 then some 14 else if y1 = 4 then some 16 else if y1 = 5 then some 16 else if y1 = 6 then some 15 else if y1 = 7 then some 15 else if y1 = 8 then some 17 else some 16)
theorem dm_292 (L : Nat) (g : am_G) (u0 : Nat) (R : Int32) : fm_292 g u0 = some R → ai_ev ap_P 292 (ai_e0 ap_P 292 [.ref u0] (v0 L, g)) (.inl (ez_i R)) (v0 L, g) := by
  show _ → ai_ev ap_P 292 (0, [some (.ref u0)], [], (v0 L, g)) _ _
  unfold fm_292
  refine ev_gd (c := Nat.beq (v0_kd u0) 17) (fun hc3 => ?_)
  refine ev_op 1 (as := [.ref u0]) (pc := 4) (Lc := [some (.ref u0)]) (st := []) (h1 := (v0 L, g)) (e := ez_i) (ai_gd (c := Nat.beq (v0_kd u0) 17 && true) rfl (ai_ct hc3)) (dm_335 L g u0) (fun y1 => ?_)
  refine ev_sw 0 (ps := [(1, 52), (2, 55), (3, 55), (4, 64), (5, 64), (6, 58), (7, 58), (8, 61)]) (d := 64) (x := y1) (T := ([some (.ref u0)], [], (v0 L, g))) rfl ?_
  refine sw_c ?_ ?_
  · exact fun hR => by cases hR; exact ev_rt 1 rfl
  refine sw_c ?_ ?_
  · exact fun hR => by cases hR; exact ev_rt 1 rfl
  refine sw_c ?_ ?_
  · exact fun hR => by cases hR; exact ev_rt 1 rfl
  refine sw_c ?_ ?_
  · exact fun hR => by cases hR; exact ev_rt 1 rfl
  refine sw_c ?_ ?_
  · exact fun hR => by cases hR; exact ev_rt 1 rfl
  refine sw_c ?_ ?_
  · exact fun hR => by cases hR; exact ev_rt 1 rfl
  refine sw_c ?_ ?_
  · exact fun hR => by cases hR; exact ev_rt 1 rfl
  refine sw_c ?_ ?_
  · exact fun hR => by cases hR; exact ev_rt 1 rfl
  refine sw_n ?_
  exact fun hR => by cases hR; exact ev_rt 1 rfl
/-- DeclaredMarkup$Marks.hasRoom(I)Z -/
noncomputable def fm_201 (g : am_G) (u1 : Int32) : Option (Int32) := if (200 : Int32) ≤ (am_i g 867 4) then some 0 else if (8000 : Int32) < ((am_i g 867 5) + u1) then some 0 else some 1
theorem dm_201 (L : Nat) (g : am_G) (u1 : Int32) (R : Int32) : fm_201 g u1 = some R → ai_ev ap_P 201 (ai_e0 ap_P 201 [.ref 867, .int u1] (v0 L, g)) (.inl (ez_i R)) (v0 L, g) := by
  show _ → ai_ev ap_P 201 (0, [some (.ref 867), some (.int u1)], [], (v0 L, g)) _ _
  unfold fm_201
  refine ev_if 3 (p := (200 : Int32) ≤ (am_i g 867 4)) (a := 26) (b := 10) (T := ([some (.ref 867), some (.int u1)], [], (v0 L, g))) rfl ?_ ?_
  · exact fun hR => by cases hR; exact ev_rt 1 rfl
  · refine ev_if 5 (p := (8000 : Int32) < ((am_i g 867 5) + u1)) (a := 26) (b := 22) (T := ([some (.ref 867), some (.int u1)], [], (v0 L, g))) rfl ?_ ?_
    · exact fun hR => by cases hR; exact ev_rt 1 rfl
    · exact fun hR => by cases hR; exact ev_rt 2 rfl
noncomputable def fb_202_37 (k37 : (am_G × Int32 × Int32 × Int32) → Option (am_G)) (g : am_G) (u3 : Int32) (u4 : Int32) (u5 : Int32) : Option (am_G) := if u4 ≤ u5 then some (am_si (am_si g 867 5 ((am_i g 867 5) + u4)) 867 4 ((am_i g 867 4) + 1)) else lo_g (ai_in (u3 + u5) 5200) (lo_g (ai_in ((am_i g 867 5) + u5) 8000) (k37 ((am_si g 868 (((am_i g 867 5) + u5)).toNatClampNeg (am_i g 883 ((u3 + u5)).toNatClampNeg)), u3, u4, (u5 + 1))))
theorem db_202_37 (L : Nat) {k37 : (am_G × Int32 × Int32 × Int32) → Option (am_G)} (hk37 : ∀ (x : am_G × Int32 × Int32 × Int32) (w1 : Option Value) (R : am_G), k37 x = some R → ai_ev ap_P 202 (37, [some (.ref 867), w1, some (.ref 883), some (.int x.2.1), some (.int x.2.2.1), some (.int x.2.2.2)], [], (v0 L, x.1)) (.inl none) (v0 L, R)) (g : am_G) (u3 : Int32) (u4 : Int32) (u5 : Int32) (w1 : Option Value) (R : am_G) : fb_202_37 k37 g u3 u4 u5 = some R → ai_ev ap_P 202 (37, [some (.ref 867), w1, some (.ref 883), some (.int u3), some (.int u4), some (.int u5)], [], (v0 L, g)) (.inl none) (v0 L, R) := by
  unfold fb_202_37
  refine ev_if 2 (p := u4 ≤ u5) (a := 68) (b := 44) (T := ([some (.ref 867), none, some (.ref 883), some (.int u3), some (.int u4), some (.int u5)], [], (v0 L, g))) rfl ?_ ?_
  · exact fun hR => by cases hR; exact ev_rt 12 rfl
  · refine ev_gd (c := ai_in (u3 + u5) 5200) (fun hc1 => ?_)
    refine ev_jm 10 (t := (61, [some (.ref 867), none, some (.ref 883), some (.int u3), some (.int u4), some (.int u5)], [.int (am_i g 883 ((u3 + u5)).toNatClampNeg), .int ((am_i g 867 5) + u5), .ref 868], (v0 L, g))) (ai_gd (c := ai_in (u3 + u5) 5200) rfl hc1) ?_
    refine ev_gd (c := ai_in ((am_i g 867 5) + u5) 8000) (fun hc2 => ?_)
    refine ev_jm 0 (t := (62, [some (.ref 867), none, some (.ref 883), some (.int u3), some (.int u4), some (.int u5)], [], (v0 L, (am_si g 868 (((am_i g 867 5) + u5)).toNatClampNeg (am_i g 883 ((u3 + u5)).toNatClampNeg))))) (ai_gd (c := ai_in ((am_i g 867 5) + u5) 8000) rfl hc2) ?_
    refine ev_jm 1 (t := (37, [some (.ref 867), none, some (.ref 883), some (.int u3), some (.int u4), some (.int (u5 + 1))], [], (v0 L, (am_si g 868 (((am_i g 867 5) + u5)).toNatClampNeg (am_i g 883 ((u3 + u5)).toNatClampNeg))))) rfl ?_
    exact hk37 ((am_si g 868 (((am_i g 867 5) + u5)).toNatClampNeg (am_i g 883 ((u3 + u5)).toNatClampNeg)), u3, u4, (u5 + 1)) none _
noncomputable def fh_202_37  (x : am_G × Int32 × Int32 × Int32) : Option (am_G) := lo_it (fun k x => fb_202_37 k x.1 x.2.1 x.2.2.1 x.2.2.2) nf_F x
theorem dh_202_37 (L : Nat)   (x : am_G × Int32 × Int32 × Int32) (w1 : Option Value) (R : am_G) : fh_202_37  x = some R → ai_ev ap_P 202 (37, [some (.ref 867), w1, some (.ref 883), some (.int x.2.1), some (.int x.2.2.1), some (.int x.2.2.2)], [], (v0 L, x.1)) (.inl none) (v0 L, R) :=
  fun hr => lo_ev (E := fun x R => ∀ (w1 : Option Value), ai_ev ap_P 202 (37, [some (.ref 867), w1, some (.ref 883), some (.int x.2.1), some (.int x.2.2.1), some (.int x.2.2.2)], [], (v0 L, x.1)) (.inl none) (v0 L, R)) (fun k hk x R hr => fun w1 => db_202_37 L (fun x w1 R hr => hk x R hr w1) x.1 x.2.1 x.2.2.1 x.2.2.2 w1 R hr) nf_F x R hr w1
/-- DeclaredMarkup$Marks.add(Z[III)V -/
noncomputable def fm_202 (g : am_G) (u1 : Int32) (u3 : Int32) (u4 : Int32) : Option (am_G) := lo_g (ai_in (am_i g 867 4) 200) (fh_202_37 ((am_si (am_si (am_si g 869 ((am_i g 867 4)).toNatClampNeg (am_i g 867 5)) 870 ((am_i g 867 4)).toNatClampNeg u4) 871 ((am_i g 867 4)).toNatClampNeg (vp_nar .boolean u1)), u3, u4, 0))
theorem dm_202 (L : Nat) (g : am_G) (u1 : Int32) (u3 : Int32) (u4 : Int32) (R : am_G) : fm_202 g u1 u3 u4 = some R → ai_ev ap_P 202 (ai_e0 ap_P 202 [.ref 867, .int u1, .ref 883, .int u3, .int u4] (v0 L, g)) (.inl none) (v0 L, R) := by
  show _ → ai_ev ap_P 202 (0, [some (.ref 867), some (.int u1), some (.ref 883), some (.int u3), some (.int u4), none], [], (v0 L, g)) _ _
  unfold fm_202
  refine ev_gd (c := ai_in (am_i g 867 4) 200) (fun hc1 => ?_)
  refine ev_jm 6 (t := (13, [some (.ref 867), some (.int u1), some (.ref 883), some (.int u3), some (.int u4), none], [], (v0 L, (am_si g 869 ((am_i g 867 4)).toNatClampNeg (am_i g 867 5))))) (ai_gd (c := ai_in (am_i g 867 4) 200) rfl hc1) ?_
  refine ev_jm 5 (t := (24, [some (.ref 867), some (.int u1), some (.ref 883), some (.int u3), some (.int u4), none], [], (v0 L, (am_si (am_si g 869 ((am_i g 867 4)).toNatClampNeg (am_i g 867 5)) 870 ((am_i g 867 4)).toNatClampNeg u4)))) (ai_gd (c := ai_in (am_i g 867 4) 200) rfl hc1) ?_
  refine ev_jm 5 (t := (34, [some (.ref 867), some (.int u1), some (.ref 883), some (.int u3), some (.int u4), none], [], (v0 L, (am_si (am_si (am_si g 869 ((am_i g 867 4)).toNatClampNeg (am_i g 867 5)) 870 ((am_i g 867 4)).toNatClampNeg u4) 871 ((am_i g 867 4)).toNatClampNeg (vp_nar .boolean u1))))) (ai_gd (c := ai_in (am_i g 867 4) 200) rfl hc1) ?_
  refine ev_jm 1 (t := (37, [some (.ref 867), some (.int u1), some (.ref 883), some (.int u3), some (.int u4), some (.int 0)], [], (v0 L, (am_si (am_si (am_si g 869 ((am_i g 867 4)).toNatClampNeg (am_i g 867 5)) 870 ((am_i g 867 4)).toNatClampNeg u4) 871 ((am_i g 867 4)).toNatClampNeg (vp_nar .boolean u1))))) rfl ?_
  exact dh_202_37 L ((am_si (am_si (am_si g 869 ((am_i g 867 4)).toNatClampNeg (am_i g 867 5)) 870 ((am_i g 867 4)).toNatClampNeg u4) 871 ((am_i g 867 4)).toNatClampNeg (vp_nar .boolean u1)), u3, u4, 0) (some (.int u1)) _
noncomputable def fj_293_143  (g : am_G) (u2 : Int32) (u3 : Int32) (u4 : Int32) (u7 : Int32) : Option ((Unit ⊕ Nat) × am_G) := lo_p (fm_201 g u3) fun y1 => if y1 = 0 then lo_i (fm_237 g 11 u4) fun y5 g6 => lo_g (Nat.ble 1008 y5 && Nat.blt y5 (am_sz g6)) (some (.inr y5, g6)) else lo_p (fm_202 g u7 u2 u3) fun g4 => some (.inl (), g4)
theorem dj_293_143 (L : Nat)   (g : am_G) (u2 : Int32) (u3 : Int32) (u4 : Int32) (u7 : Int32) (w1 w5 w6 w8 : Option Value) (R : (Unit ⊕ Nat) × am_G) : fj_293_143  g u2 u3 u4 u7 = some R → ai_ev ap_P 293 (143, [some (.ref 33), w1, some (.int u2), some (.int u3), some (.int u4), w5, w6, some (.int u7), w8], [], (v0 L, g)) (oz_r ez_v R.1) (v0 L, R.2) := by
  unfold fj_293_143
  refine ev_op 3 (as := [.ref 867, .int u3]) (pc := 151) (Lc := [some (.ref 33), none, some (.int u2), some (.int u3), some (.int u4), none, none, some (.int u7), none]) (st := []) (h1 := (v0 L, g)) (e := ez_i) rfl (dm_201 L g u3) (fun y1 => ?_)
  refine ev_in 0 (p := y1 = 0) (a := 163) (b := 154) (T := ([some (.ref 33), none, some (.int u2), some (.int u3), some (.int u4), none, none, some (.int u7), none], [], (v0 L, g))) rfl ?_ ?_
  · refine ev_oi 3 (as := [.ref 33, .int 11, .int u4]) (pc := 162) (Lc := [some (.ref 33), none, some (.int u2), some (.int u3), some (.int u4), none, none, some (.int u7), none]) (st := []) (V := v0 L) (g1 := g) (e := ez_a) rfl (dm_237 L g 11 u4) (fun y5 g6 => ?_)
    exact ev_at 0 (a := y5) (g1 := g6) rfl
  · refine ev_ov0 7 (as := [.ref 867, .int u7, .ref 883, .int u2, .int u3]) (pc := 178) (Lc := [some (.ref 33), none, some (.int u2), some (.int u3), some (.int u4), none, none, some (.int u7), none]) (st := []) (V := v0 L) (g1 := g) rfl (dm_202 L g u7 u2 u3) (fun g4 => ?_)
    exact fun hR => by cases hR; exact ev_rt 0 rfl
noncomputable def fj_293_132  (g : am_G) (u2 : Int32) (u3 : Int32) (u4 : Int32) (u7 : Int32) (u8 : Int32) : Option ((Unit ⊕ Nat) × am_G) := if u7 = 0 then if u8 = 0 then some (.inl (), g) else fj_293_143 g u2 u3 u4 u7 else fj_293_143 g u2 u3 u4 u7
theorem dj_293_132 (L : Nat)   (g : am_G) (u2 : Int32) (u3 : Int32) (u4 : Int32) (u7 : Int32) (u8 : Int32) (w1 w5 w6 : Option Value) (R : (Unit ⊕ Nat) × am_G) : fj_293_132  g u2 u3 u4 u7 u8 = some R → ai_ev ap_P 293 (132, [some (.ref 33), w1, some (.int u2), some (.int u3), some (.int u4), w5, w6, some (.int u7), some (.int u8)], [], (v0 L, g)) (oz_r ez_v R.1) (v0 L, R.2) := by
  unfold fj_293_132
  refine ev_in 1 (p := u7 = 0) (a := 143) (b := 137) (T := ([some (.ref 33), none, some (.int u2), some (.int u3), some (.int u4), none, none, some (.int u7), some (.int u8)], [], (v0 L, g))) rfl ?_ ?_
  · refine ev_in 1 (p := u8 = 0) (a := 143) (b := 142) (T := ([some (.ref 33), none, some (.int u2), some (.int u3), some (.int u4), none, none, some (.int u7), some (.int u8)], [], (v0 L, g))) rfl ?_ ?_
    · exact fun hR => by cases hR; exact ev_rt 0 rfl
    · exact dj_293_143 L g u2 u3 u4 u7 none none none (some (.int u8)) _
  · exact dj_293_143 L g u2 u3 u4 u7 none none none (some (.int u8)) _
noncomputable def fj_293_122  (g : am_G) (u2 : Int32) (u3 : Int32) (u4 : Int32) (u5 : Int32) (u7 : Int32) (u8 : Int32) : Option ((Unit ⊕ Nat) × am_G) := if u7 = 0 then fj_293_132 g u2 u3 u4 u7 u8 else if u5 = 0 then some (.inl (), g) else fj_293_132 g u2 u3 u4 u7 u8
theorem dj_293_122 (L : Nat)   (g : am_G) (u2 : Int32) (u3 : Int32) (u4 : Int32) (u5 : Int32) (u7 : Int32) (u8 : Int32) (w1 w6 : Option Value) (R : (Unit ⊕ Nat) × am_G) : fj_293_122  g u2 u3 u4 u5 u7 u8 = some R → ai_ev ap_P 293 (122, [some (.ref 33), w1, some (.int u2), some (.int u3), some (.int u4), some (.int u5), w6, some (.int u7), some (.int u8)], [], (v0 L, g)) (oz_r ez_v R.1) (v0 L, R.2) := by
  unfold fj_293_122
  refine ev_if 1 (p := u7 = 0) (a := 132) (b := 127) (T := ([some (.ref 33), none, some (.int u2), some (.int u3), some (.int u4), some (.int u5), none, some (.int u7), some (.int u8)], [], (v0 L, g))) rfl ?_ ?_
  · exact dj_293_132 L g u2 u3 u4 u7 u8 none (some (.int u5)) none _
  · refine ev_if 1 (p := u5 = 0) (a := 142) (b := 132) (T := ([some (.ref 33), none, some (.int u2), some (.int u3), some (.int u4), some (.int u5), none, some (.int u7), some (.int u8)], [], (v0 L, g))) rfl ?_ ?_
    · exact fun hR => by cases hR; exact ev_rt 0 rfl
    · exact dj_293_132 L g u2 u3 u4 u7 u8 none (some (.int u5)) none _
noncomputable def fj_293_84  (g : am_G) (u2 : Int32) (u3 : Int32) (u4 : Int32) (u5 : Int32) (u7 : Int32) (u8 : Int32) : Option ((Unit ⊕ Nat) × am_G) := lo_p (fm_239 g 21) fun g2 => fj_293_122 g2 u2 u3 u4 u5 u7 u8
theorem dj_293_84 (L : Nat)   (g : am_G) (u2 : Int32) (u3 : Int32) (u4 : Int32) (u5 : Int32) (u7 : Int32) (u8 : Int32) (w1 w6 : Option Value) (R : (Unit ⊕ Nat) × am_G) : fj_293_84  g u2 u3 u4 u5 u7 u8 = some R → ai_ev ap_P 293 (84, [some (.ref 33), w1, some (.int u2), some (.int u3), some (.int u4), some (.int u5), w6, some (.int u7), some (.int u8)], [], (v0 L, g)) (oz_r ez_v R.1) (v0 L, R.2) := by
  unfold fj_293_84
  refine ev_ov0 2 (as := [.ref 33, .int 21]) (pc := 90) (Lc := [some (.ref 33), none, some (.int u2), some (.int u3), some (.int u4), some (.int u5), none, some (.int u7), some (.int u8)]) (st := []) (V := v0 L) (g1 := g) rfl (dm_239 L g 21) (fun g2 => ?_)
  refine ev_jm 0 (t := (122, [some (.ref 33), none, some (.int u2), some (.int u3), some (.int u4), some (.int u5), none, some (.int u7), some (.int u8)], [], (v0 L, g2))) rfl ?_
  exact dj_293_122 L g2 u2 u3 u4 u5 u7 u8 none none _
noncomputable def fj_293_103  (g : am_G) (u1 : Nat) (u2 : Int32) (u3 : Int32) (u4 : Int32) (u5 : Int32) (u6 : Nat) (u7 : Int32) (u8 : Int32) : Option ((Unit ⊕ Nat) × am_G) := lo_i (fm_291 g u1 u2 u3) fun y1 g2 => if y1 = 0 then lo_p (fm_292 g2 u6) fun y3 => lo_p (fm_239 g2 y3) fun g6 => fj_293_122 g6 u2 u3 u4 u5 u7 u8 else fj_293_122 g2 u2 u3 u4 u5 u7 u8
theorem dj_293_103 (L : Nat)   (g : am_G) (u1 : Nat) (u2 : Int32) (u3 : Int32) (u4 : Int32) (u5 : Int32) (u6 : Nat) (u7 : Int32) (u8 : Int32) (R : (Unit ⊕ Nat) × am_G) : fj_293_103  g u1 u2 u3 u4 u5 u6 u7 u8 = some R → ai_ev ap_P 293 (103, [some (.ref 33), some (.ref u1), some (.int u2), some (.int u3), some (.int u4), some (.int u5), some (.ref u6), some (.int u7), some (.int u8)], [], (v0 L, g)) (oz_r ez_v R.1) (v0 L, R.2) := by
  unfold fj_293_103
  refine ev_oi 4 (as := [.ref 33, .ref u1, .int u2, .int u3]) (pc := 110) (Lc := [some (.ref 33), some (.ref u1), some (.int u2), some (.int u3), some (.int u4), some (.int u5), some (.ref u6), some (.int u7), some (.int u8)]) (st := []) (V := v0 L) (g1 := g) (e := ez_i) rfl (dm_291 L g u1 u2 u3) (fun y1 g2 => ?_)
  refine ev_in 0 (p := y1 = 0) (a := 122) (b := 113) (T := ([some (.ref 33), some (.ref u1), some (.int u2), some (.int u3), some (.int u4), some (.int u5), some (.ref u6), some (.int u7), some (.int u8)], [], (v0 L, g2))) rfl ?_ ?_
  · refine ev_op 2 (as := [.ref u6]) (pc := 119) (Lc := [some (.ref 33), some (.ref u1), some (.int u2), some (.int u3), some (.int u4), some (.int u5), some (.ref u6), some (.int u7), some (.int u8)]) (st := [.ref 33]) (h1 := (v0 L, g2)) (e := ez_i) rfl (dm_292 L g2 u6) (fun y3 => ?_)
    refine ev_ov0 0 (as := [.ref 33, .int y3]) (pc := 122) (Lc := [some (.ref 33), some (.ref u1), some (.int u2), some (.int u3), some (.int u4), some (.int u5), some (.ref u6), some (.int u7), some (.int u8)]) (st := []) (V := v0 L) (g1 := g2) rfl (dm_239 L g2 y3) (fun g6 => ?_)
    exact dj_293_122 L g6 u2 u3 u4 u5 u7 u8 (some (.ref u1)) (some (.ref u6)) _
  · exact dj_293_122 L g2 u2 u3 u4 u5 u7 u8 (some (.ref u1)) (some (.ref u6)) _
noncomputable def fj_293_66  (g : am_G) (u1 : Nat) (u2 : Int32) (u3 : Int32) (u4 : Int32) (u5 : Int32) (u6 : Nat) (u7 : Int32) (t0 : Int32) : Option ((Unit ⊕ Nat) × am_G) := lo_g (ai_oc (some u6)) (if (some u6) = (some 5) then fj_293_84 g u2 u3 u4 u5 u7 t0 else if (some u6) = (some 6) then fj_293_84 g u2 u3 u4 u5 u7 t0 else if u5 = 0 then if u7 = 0 then fj_293_103 g u1 u2 u3 u4 u5 u6 u7 t0 else fj_293_122 g u2 u3 u4 u5 u7 t0 else fj_293_103 g u1 u2 u3 u4 u5 u6 u7 t0)
theorem dj_293_66 (L : Nat)   (g : am_G) (u1 : Nat) (u2 : Int32) (u3 : Int32) (u4 : Int32) (u5 : Int32) (u6 : Nat) (u7 : Int32) (t0 : Int32) (w8 : Option Value) (R : (Unit ⊕ Nat) × am_G) : fj_293_66  g u1 u2 u3 u4 u5 u6 u7 t0 = some R → ai_ev ap_P 293 (66, [some (.ref 33), some (.ref u1), some (.int u2), some (.int u3), some (.int u4), some (.int u5), some (.ref u6), some (.int u7), w8], [.int t0], (v0 L, g)) (oz_r ez_v R.1) (v0 L, R.2) := by
  unfold fj_293_66
  refine ev_gd (c := ai_oc (some u6)) (fun hc1 => ?_)
  refine ev_ac 3 (x := (some u6)) (y := (some 5)) (a := 84) (b := 76) (T := ([some (.ref 33), some (.ref u1), some (.int u2), some (.int u3), some (.int u4), some (.int u5), some (.ref u6), some (.int u7), some (.int t0)], [], (v0 L, g))) (ai_gd (c := ai_oc (some u6) && ai_oc (some 5)) rfl (by first | exact hc1 | (have hz := hc1; simp only [hz]; rfl))) ?_ ?_
  · exact dj_293_84 L g u2 u3 u4 u5 u7 t0 (some (.ref u1)) (some (.ref u6)) _
  · refine ev_ac 2 (x := (some u6)) (y := (some 6)) (a := 84) (b := 93) (T := ([some (.ref 33), some (.ref u1), some (.int u2), some (.int u3), some (.int u4), some (.int u5), some (.ref u6), some (.int u7), some (.int t0)], [], (v0 L, g))) (ai_gd (c := ai_oc (some u6) && ai_oc (some 6)) rfl (by first | exact hc1 | (have hz := hc1; simp only [hz]; rfl))) ?_ ?_
    · exact dj_293_84 L g u2 u3 u4 u5 u7 t0 (some (.ref u1)) (some (.ref u6)) _
    · refine ev_in 1 (p := u5 = 0) (a := 103) (b := 98) (T := ([some (.ref 33), some (.ref u1), some (.int u2), some (.int u3), some (.int u4), some (.int u5), some (.ref u6), some (.int u7), some (.int t0)], [], (v0 L, g))) rfl ?_ ?_
      · refine ev_in 1 (p := u7 = 0) (a := 122) (b := 103) (T := ([some (.ref 33), some (.ref u1), some (.int u2), some (.int u3), some (.int u4), some (.int u5), some (.ref u6), some (.int u7), some (.int t0)], [], (v0 L, g))) rfl ?_ ?_
        · exact dj_293_103 L g u1 u2 u3 u4 u5 u6 u7 t0 _
        · exact dj_293_122 L g u2 u3 u4 u5 u7 t0 (some (.ref u1)) (some (.ref u6)) _
      · exact dj_293_103 L g u1 u2 u3 u4 u5 u6 u7 t0 _
noncomputable def fj_293_61  (g : am_G) (u1 : Nat) (u2 : Int32) (u3 : Int32) (u4 : Int32) (u5 : Int32) (u6 : Nat) (u7 : Int32) : Option ((Unit ⊕ Nat) × am_G) := fj_293_66 g u1 u2 u3 u4 u5 u6 u7 1
theorem dj_293_61 (L : Nat)   (g : am_G) (u1 : Nat) (u2 : Int32) (u3 : Int32) (u4 : Int32) (u5 : Int32) (u6 : Nat) (u7 : Int32) (w8 : Option Value) (R : (Unit ⊕ Nat) × am_G) : fj_293_61  g u1 u2 u3 u4 u5 u6 u7 = some R → ai_ev ap_P 293 (61, [some (.ref 33), some (.ref u1), some (.int u2), some (.int u3), some (.int u4), some (.int u5), some (.ref u6), some (.int u7), w8], [], (v0 L, g)) (oz_r ez_v R.1) (v0 L, R.2) := by
  unfold fj_293_61
  refine ev_jm 1 (t := (66, [some (.ref 33), some (.ref u1), some (.int u2), some (.int u3), some (.int u4), some (.int u5), some (.ref u6), some (.int u7), none], [.int 1], (v0 L, g))) rfl ?_
  exact dj_293_66 L g u1 u2 u3 u4 u5 u6 u7 1 none _
noncomputable def fj_293_43  (g : am_G) (u1 : Nat) (u2 : Int32) (u3 : Int32) (u4 : Int32) (u5 : Int32) (u6 : Nat) (t0 : Int32) : Option ((Unit ⊕ Nat) × am_G) := lo_g (ai_oc (some u6)) (if (some u6) = (some 3) then fj_293_61 g u1 u2 u3 u4 u5 u6 t0 else if (some u6) = (some 4) then fj_293_61 g u1 u2 u3 u4 u5 u6 t0 else fj_293_66 g u1 u2 u3 u4 u5 u6 t0 0)
theorem dj_293_43 (L : Nat)   (g : am_G) (u1 : Nat) (u2 : Int32) (u3 : Int32) (u4 : Int32) (u5 : Int32) (u6 : Nat) (t0 : Int32) (w7 w8 : Option Value) (R : (Unit ⊕ Nat) × am_G) : fj_293_43  g u1 u2 u3 u4 u5 u6 t0 = some R → ai_ev ap_P 293 (43, [some (.ref 33), some (.ref u1), some (.int u2), some (.int u3), some (.int u4), some (.int u5), some (.ref u6), w7, w8], [.int t0], (v0 L, g)) (oz_r ez_v R.1) (v0 L, R.2) := by
  unfold fj_293_43
  refine ev_gd (c := ai_oc (some u6)) (fun hc1 => ?_)
  refine ev_ac 3 (x := (some u6)) (y := (some 3)) (a := 61) (b := 53) (T := ([some (.ref 33), some (.ref u1), some (.int u2), some (.int u3), some (.int u4), some (.int u5), some (.ref u6), some (.int t0), none], [], (v0 L, g))) (ai_gd (c := ai_oc (some u6) && ai_oc (some 3)) rfl (by first | exact hc1 | (have hz := hc1; simp only [hz]; rfl))) ?_ ?_
  · exact dj_293_61 L g u1 u2 u3 u4 u5 u6 t0 none _
  · refine ev_ac 2 (x := (some u6)) (y := (some 4)) (a := 61) (b := 65) (T := ([some (.ref 33), some (.ref u1), some (.int u2), some (.int u3), some (.int u4), some (.int u5), some (.ref u6), some (.int t0), none], [], (v0 L, g))) (ai_gd (c := ai_oc (some u6) && ai_oc (some 4)) rfl (by first | exact hc1 | (have hz := hc1; simp only [hz]; rfl))) ?_ ?_
    · exact dj_293_61 L g u1 u2 u3 u4 u5 u6 t0 none _
    · refine ev_jm 0 (t := (66, [some (.ref 33), some (.ref u1), some (.int u2), some (.int u3), some (.int u4), some (.int u5), some (.ref u6), some (.int t0), none], [.int 0], (v0 L, g))) rfl ?_
      exact dj_293_66 L g u1 u2 u3 u4 u5 u6 t0 0 none _
noncomputable def fj_293_30  (g : am_G) (u1 : Nat) (u2 : Int32) (u3 : Int32) (u4 : Int32) (u5 : Int32) (u6 : Nat) : Option ((Unit ⊕ Nat) × am_G) := lo_g (ai_oc (some u6)) (if (some u6) = (some 2) then fj_293_43 g u1 u2 u3 u4 u5 u6 1 else fj_293_43 g u1 u2 u3 u4 u5 u6 0)
theorem dj_293_30 (L : Nat)   (g : am_G) (u1 : Nat) (u2 : Int32) (u3 : Int32) (u4 : Int32) (u5 : Int32) (u6 : Nat) (w7 w8 : Option Value) (R : (Unit ⊕ Nat) × am_G) : fj_293_30  g u1 u2 u3 u4 u5 u6 = some R → ai_ev ap_P 293 (30, [some (.ref 33), some (.ref u1), some (.int u2), some (.int u3), some (.int u4), some (.int u5), some (.ref u6), w7, w8], [], (v0 L, g)) (oz_r ez_v R.1) (v0 L, R.2) := by
  unfold fj_293_30
  refine ev_gd (c := ai_oc (some u6)) (fun hc1 => ?_)
  refine ev_ac 2 (x := (some u6)) (y := (some 2)) (a := 38) (b := 42) (T := ([some (.ref 33), some (.ref u1), some (.int u2), some (.int u3), some (.int u4), some (.int u5), some (.ref u6), none, none], [], (v0 L, g))) (ai_gd (c := ai_oc (some u6) && ai_oc (some 2)) rfl (by first | exact hc1 | (have hz := hc1; simp only [hz]; rfl))) ?_ ?_
  · refine ev_jm 1 (t := (43, [some (.ref 33), some (.ref u1), some (.int u2), some (.int u3), some (.int u4), some (.int u5), some (.ref u6), none, none], [.int 1], (v0 L, g))) rfl ?_
    exact dj_293_43 L g u1 u2 u3 u4 u5 u6 1 none none _
  · refine ev_jm 0 (t := (43, [some (.ref 33), some (.ref u1), some (.int u2), some (.int u3), some (.int u4), some (.int u5), some (.ref u6), none, none], [.int 0], (v0 L, g))) rfl ?_
    exact dj_293_43 L g u1 u2 u3 u4 u5 u6 0 none none _
/-- DeclaredMarkup$Processor.look(LDeclaredMarkup$AttDecl;IIIZ)V -/
noncomputable def fm_293 (g : am_G) (u1 : Nat) (u2 : Int32) (u3 : Int32) (u4 : Int32) (u5 : Int32) : Option ((Unit ⊕ Nat) × am_G) := lo_g (Nat.beq (v0_kd u1) 11) (lo_m (am_r g u1 7) (none) fun o2 => if (am_i g u1 2) = 2 then lo_p (fm_294 g u1 u2 u3) fun y3 => if y3 = 0 then lo_p (fm_239 g 9) fun g6 => fj_293_30 g6 u1 u2 u3 u4 u5 o2 else fj_293_30 g u1 u2 u3 u4 u5 o2 else fj_293_30 g u1 u2 u3 u4 u5 o2)
theorem dm_293 (L : Nat) (g : am_G) (u1 : Nat) (u2 : Int32) (u3 : Int32) (u4 : Int32) (u5 : Int32) (R : (Unit ⊕ Nat) × am_G) : fm_293 g u1 u2 u3 u4 u5 = some R → ai_ev ap_P 293 (ai_e0 ap_P 293 [.ref 33, .ref u1, .int u2, .int u3, .int u4, .int u5] (v0 L, g)) (oz_r ez_v R.1) (v0 L, R.2) := by
  show _ → ai_ev ap_P 293 (0, [some (.ref 33), some (.ref u1), some (.int u2), some (.int u3), some (.int u4), some (.int u5), none, none, none], [], (v0 L, g)) _ _
  unfold fm_293
  refine ev_gd (c := Nat.beq (v0_kd u1) 11) (fun hc1 => ?_)
  refine ev_jm 1 (t := (4, [some (.ref 33), some (.ref u1), some (.int u2), some (.int u3), some (.int u4), some (.int u5), none, none, none], [am_v (am_r g u1 7)], (v0 L, g))) (ai_gd (c := Nat.beq (v0_kd u1) 11) rfl hc1) ?_
  refine ev_om (S := fun (o : Option Nat) => (4, [some (.ref 33), some (.ref u1), some (.int u2), some (.int u3), some (.int u4), some (.int u5), none, none, none], [am_v o], (v0 L, g))) ?_ (fun o2 => ?_)
  · exact fun hR => nomatch hR
  · refine ev_jm 2 (t := (10, [some (.ref 33), some (.ref u1), some (.int u2), some (.int u3), some (.int u4), some (.int u5), some (.ref o2), none, none], [.int (am_i g u1 2)], (v0 L, g))) (ai_gd (c := Nat.beq (v0_kd u1) 11) rfl hc1) ?_
    refine ev_in 1 (p := (am_i g u1 2) = 2) (a := 30) (b := 14) (T := ([some (.ref 33), some (.ref u1), some (.int u2), some (.int u3), some (.int u4), some (.int u5), some (.ref o2), none, none], [], (v0 L, g))) rfl ?_ ?_
    · refine ev_op 4 (as := [.ref 33, .ref u1, .int u2, .int u3]) (pc := 21) (Lc := [some (.ref 33), some (.ref u1), some (.int u2), some (.int u3), some (.int u4), some (.int u5), some (.ref o2), none, none]) (st := []) (h1 := (v0 L, g)) (e := ez_i) rfl (dm_294 L g u1 u2 u3) (fun y3 => ?_)
      refine ev_in 0 (p := y3 = 0) (a := 30) (b := 24) (T := ([some (.ref 33), some (.ref u1), some (.int u2), some (.int u3), some (.int u4), some (.int u5), some (.ref o2), none, none], [], (v0 L, g))) rfl ?_ ?_
      · refine ev_ov0 2 (as := [.ref 33, .int 9]) (pc := 30) (Lc := [some (.ref 33), some (.ref u1), some (.int u2), some (.int u3), some (.int u4), some (.int u5), some (.ref o2), none, none]) (st := []) (V := v0 L) (g1 := g) rfl (dm_239 L g 9) (fun g6 => ?_)
        exact dj_293_30 L g6 u1 u2 u3 u4 u5 o2 none none _
      · exact dj_293_30 L g u1 u2 u3 u4 u5 o2 none none _
    · exact dj_293_30 L g u1 u2 u3 u4 u5 o2 none none _
noncomputable def fb_286_4 (g : am_G) (k4 : (Int32 × Int32 × Int32) → Option (Int32)) (u1 : Int32) (u2 : Int32) (u3 : Int32) : Option (Int32) := if (am_i g 33 28) ≤ u3 then some (vp_nar .boolean u2) else if u2 = 0 then lo_g (ai_in u3 12) (if (am_i g 880 u3.toNatClampNeg) = u1 then k4 (u1, 1, (u3 + 1)) else k4 (u1, 0, (u3 + 1))) else k4 (u1, 1, (u3 + 1))
theorem db_286_4 (L : Nat) (g : am_G) {k4 : (Int32 × Int32 × Int32) → Option (Int32)} (hk4 : ∀ (x : Int32 × Int32 × Int32) (R : Int32), k4 x = some R → ai_ev ap_P 286 (4, [some (.ref 33), some (.int x.1), some (.int x.2.1), some (.int x.2.2)], [], (v0 L, g)) (.inl (ez_i R)) (v0 L, g)) (u1 : Int32) (u2 : Int32) (u3 : Int32) (R : Int32) : fb_286_4 g k4 u1 u2 u3 = some R → ai_ev ap_P 286 (4, [some (.ref 33), some (.int u1), some (.int u2), some (.int u3)], [], (v0 L, g)) (.inl (ez_i R)) (v0 L, g) := by
  unfold fb_286_4
  refine ev_if 3 (p := (am_i g 33 28) ≤ u3) (a := 38) (b := 12) (T := ([some (.ref 33), some (.int u1), some (.int u2), some (.int u3)], [], (v0 L, g))) rfl ?_ ?_
  · exact fun hR => by cases hR; exact ev_rt 1 rfl
  · refine ev_in 1 (p := u2 = 0) (a := 26) (b := 16) (T := ([some (.ref 33), some (.int u1), some (.int u2), some (.int u3)], [], (v0 L, g))) rfl ?_ ?_
    · refine ev_gd (c := ai_in u3 12) (fun hc1 => ?_)
      refine ev_jm 3 (t := (22, [some (.ref 33), some (.int u1), some (.int u2), some (.int u3)], [.int (am_i g 880 u3.toNatClampNeg)], (v0 L, g))) (ai_gd (c := ai_in u3 12) rfl hc1) ?_
      refine ev_in 1 (p := (am_i g 880 u3.toNatClampNeg) = u1) (a := 30) (b := 26) (T := ([some (.ref 33), some (.int u1), some (.int u2), some (.int u3)], [], (v0 L, g))) rfl ?_ ?_
      · refine ev_jm 4 (t := (4, [some (.ref 33), some (.int u1), some (.int 1), some (.int (u3 + 1))], [], (v0 L, g))) rfl ?_
        exact hk4 (u1, 1, (u3 + 1)) _
      · refine ev_jm 3 (t := (4, [some (.ref 33), some (.int u1), some (.int 0), some (.int (u3 + 1))], [], (v0 L, g))) rfl ?_
        exact hk4 (u1, 0, (u3 + 1)) _
    · refine ev_jm 4 (t := (4, [some (.ref 33), some (.int u1), some (.int 1), some (.int (u3 + 1))], [], (v0 L, g))) rfl ?_
      exact hk4 (u1, 1, (u3 + 1)) _
noncomputable def fh_286_4 (g : am_G)  (x : Int32 × Int32 × Int32) : Option (Int32) := lo_it (fun k x => fb_286_4 g k x.1 x.2.1 x.2.2) nf_F x
theorem dh_286_4 (L : Nat) (g : am_G)   (x : Int32 × Int32 × Int32) (R : Int32) : fh_286_4 g  x = some R → ai_ev ap_P 286 (4, [some (.ref 33), some (.int x.1), some (.int x.2.1), some (.int x.2.2)], [], (v0 L, g)) (.inl (ez_i R)) (v0 L, g) :=
  fun hr => lo_ev (E := fun x R => ai_ev ap_P 286 (4, [some (.ref 33), some (.int x.1), some (.int x.2.1), some (.int x.2.2)], [], (v0 L, g)) (.inl (ez_i R)) (v0 L, g)) (fun k hk x R hr => db_286_4 L g hk x.1 x.2.1 x.2.2  R hr) nf_F x R hr
/-- DeclaredMarkup$Processor.isTold(I)Z -/
noncomputable def fm_286 (g : am_G) (u1 : Int32) : Option (Int32) := fh_286_4 g (u1, 0, 0)
theorem dm_286 (L : Nat) (g : am_G) (u1 : Int32) (R : Int32) : fm_286 g u1 = some R → ai_ev ap_P 286 (ai_e0 ap_P 286 [.ref 33, .int u1] (v0 L, g)) (.inl (ez_i R)) (v0 L, g) := by
  show _ → ai_ev ap_P 286 (0, [some (.ref 33), some (.int u1), none, none], [], (v0 L, g)) _ _
  unfold fm_286
  refine ev_jm 3 (t := (4, [some (.ref 33), some (.int u1), some (.int 0), some (.int 0)], [], (v0 L, g))) rfl ?_
  exact dh_286_4 L g (u1, 0, 0) _
/-- DeclaredMarkup$AttDecl.hasValue()Z -/
noncomputable def fm_146 (g : am_G) (u0 : Nat) : Option (Int32) := lo_g (Nat.beq (v0_kd u0) 11) (if (am_i g u0 2) ≤ 1 then some 0 else some 1)
theorem dm_146 (L : Nat) (g : am_G) (u0 : Nat) (R : Int32) : fm_146 g u0 = some R → ai_ev ap_P 146 (ai_e0 ap_P 146 [.ref u0] (v0 L, g)) (.inl (ez_i R)) (v0 L, g) := by
  show _ → ai_ev ap_P 146 (0, [some (.ref u0)], [], (v0 L, g)) _ _
  unfold fm_146
  refine ev_gd (c := Nat.beq (v0_kd u0) 11) (fun hc1 => ?_)
  refine ev_jm 1 (t := (4, [some (.ref u0)], [.int (am_i g u0 2)], (v0 L, g))) (ai_gd (c := Nat.beq (v0_kd u0) 11) rfl hc1) ?_
  refine ev_if 1 (p := (am_i g u0 2) ≤ 1) (a := 12) (b := 8) (T := ([some (.ref u0)], [], (v0 L, g))) rfl ?_ ?_
  · exact fun hR => by cases hR; exact ev_rt 1 rfl
  · exact fun hR => by cases hR; exact ev_rt 2 rfl
noncomputable def fj_285_78 (k2 : (am_G × Int32 × Int32 × Int32) → Option ((Unit ⊕ Nat) × am_G)) (g : am_G) (u1 : Int32) (u2 : Int32) (u3 : Int32) (u4 : Option Nat) (t0 : Int32) : Option ((Unit ⊕ Nat) × am_G) := lo_m u4 (lo_g (ai_in u3 12) (lo_p (fm_287 g (am_i g 880 u3.toNatClampNeg) (am_i g 881 u3.toNatClampNeg) t0) fun g4 => k2 (g4, u1, u2, (u3 + 1)))) fun o1 => lo_g (ai_in u3 12) (lo_p (fm_287 g (am_i g 880 u3.toNatClampNeg) (am_i g 881 u3.toNatClampNeg) t0) fun g7 => lo_t (fm_293 g7 o1 (am_i g7 881 u3.toNatClampNeg) t0 u2 1) fun y8 g9 => k2 (g9, u1, u2, (u3 + 1)))
theorem dj_285_78 (L : Nat) {k2 : (am_G × Int32 × Int32 × Int32) → Option ((Unit ⊕ Nat) × am_G)} (hk2 : ∀ (x : am_G × Int32 × Int32 × Int32) (w4 w5 w6 : Option Value) (R : (Unit ⊕ Nat) × am_G), k2 x = some R → ai_ev ap_P 285 (2, [some (.ref 33), some (.int x.2.1), some (.int x.2.2.1), some (.int x.2.2.2), w4, w5, w6], [], (v0 L, x.1)) (oz_r ez_v R.1) (v0 L, R.2)) (g : am_G) (u1 : Int32) (u2 : Int32) (u3 : Int32) (u4 : Option Nat) (t0 : Int32) (w5 w6 : Option Value) (R : (Unit ⊕ Nat) × am_G) : fj_285_78 k2 g u1 u2 u3 u4 t0 = some R → ai_ev ap_P 285 (78, [some (.ref 33), some (.int u1), some (.int u2), some (.int u3), some (am_v u4), w5, w6], [.int t0], (v0 L, g)) (oz_r ez_v R.1) (v0 L, R.2) := by
  unfold fj_285_78
  refine ev_om (S := fun (o : Option Nat) => (78, [some (.ref 33), some (.int u1), some (.int u2), some (.int u3), some (am_v o), w5, w6], [.int t0], (v0 L, g))) ?_ (fun o1 => ?_)
  · refine ev_gd (c := ai_in u3 12) (fun hc2 => ?_)
    refine ev_jm 5 (t := (87, [some (.ref 33), some (.int u1), some (.int u2), some (.int u3), some (.null), some (.int t0), none], [.int (am_i g 880 u3.toNatClampNeg), .ref 33], (v0 L, g))) (ai_gd (c := ai_in u3 12) rfl hc2) ?_
    refine ev_jm 3 (t := (93, [some (.ref 33), some (.int u1), some (.int u2), some (.int u3), some (.null), some (.int t0), none], [.int (am_i g 881 u3.toNatClampNeg), .int (am_i g 880 u3.toNatClampNeg), .ref 33], (v0 L, g))) (ai_gd (c := ai_in u3 12) rfl hc2) ?_
    refine ev_ov0 1 (as := [.ref 33, .int (am_i g 880 u3.toNatClampNeg), .int (am_i g 881 u3.toNatClampNeg), .int t0]) (pc := 98) (Lc := [some (.ref 33), some (.int u1), some (.int u2), some (.int u3), some (.null), some (.int t0), none]) (st := []) (V := v0 L) (g1 := g) rfl (dm_287 L g (am_i g 880 u3.toNatClampNeg) (am_i g 881 u3.toNatClampNeg) t0) (fun g4 => ?_)
    refine ev_jm 3 (t := (2, [some (.ref 33), some (.int u1), some (.int u2), some (.int (u3 + 1)), none, none, none], [], (v0 L, g4))) rfl ?_
    exact hk2 (g4, u1, u2, (u3 + 1)) none none none _
  · refine ev_gd (c := ai_in u3 12) (fun hc5 => ?_)
    refine ev_jm 5 (t := (87, [some (.ref 33), some (.int u1), some (.int u2), some (.int u3), some (.ref o1), some (.int t0), none], [.int (am_i g 880 u3.toNatClampNeg), .ref 33], (v0 L, g))) (ai_gd (c := ai_in u3 12) rfl hc5) ?_
    refine ev_jm 3 (t := (93, [some (.ref 33), some (.int u1), some (.int u2), some (.int u3), some (.ref o1), some (.int t0), none], [.int (am_i g 881 u3.toNatClampNeg), .int (am_i g 880 u3.toNatClampNeg), .ref 33], (v0 L, g))) (ai_gd (c := ai_in u3 12) rfl hc5) ?_
    refine ev_ov0 1 (as := [.ref 33, .int (am_i g 880 u3.toNatClampNeg), .int (am_i g 881 u3.toNatClampNeg), .int t0]) (pc := 98) (Lc := [some (.ref 33), some (.int u1), some (.int u2), some (.int u3), some (.ref o1), some (.int t0), none]) (st := []) (V := v0 L) (g1 := g) rfl (dm_287 L g (am_i g 880 u3.toNatClampNeg) (am_i g 881 u3.toNatClampNeg) t0) (fun g7 => ?_)
    refine ev_jm 7 (t := (112, [some (.ref 33), some (.int u1), some (.int u2), some (.int u3), some (.ref o1), some (.int t0), none], [.int (am_i g7 881 u3.toNatClampNeg), .ref o1, .ref 33], (v0 L, g7))) (ai_gd (c := ai_in u3 12) rfl hc5) ?_
    refine ev_ot 3 (as := [.ref 33, .ref o1, .int (am_i g7 881 u3.toNatClampNeg), .int t0, .int u2, .int 1]) (pc := 119) (Lc := [some (.ref 33), some (.int u1), some (.int u2), some (.int u3), some (.ref o1), some (.int t0), none]) (st := []) (V := v0 L) (g1 := g7) (e := ez_v) rfl (dm_293 L g7 o1 (am_i g7 881 u3.toNatClampNeg) t0 u2 1) (fun _ => rfl) (fun y8 g9 => ?_)
    refine ev_jm 1 (t := (2, [some (.ref 33), some (.int u1), some (.int u2), some (.int (u3 + 1)), none, none, none], [], (v0 L, g9))) rfl ?_
    exact hk2 (g9, u1, u2, (u3 + 1)) none none none _
noncomputable def fj_285_53 (k2 : (am_G × Int32 × Int32 × Int32) → Option ((Unit ⊕ Nat) × am_G)) (g : am_G) (u1 : Int32) (u2 : Int32) (u3 : Int32) (u4 : Option Nat) : Option ((Unit ⊕ Nat) × am_G) := lo_m u4 (lo_g (ai_in u3 12) (fj_285_78 k2 g u1 u2 u3 none (am_i g 882 u3.toNatClampNeg))) fun o1 => lo_g (ai_in u3 12) (fj_285_78 k2 g u1 u2 u3 (some o1) (am_i g 882 u3.toNatClampNeg))
theorem dj_285_53 (L : Nat) {k2 : (am_G × Int32 × Int32 × Int32) → Option ((Unit ⊕ Nat) × am_G)} (hk2 : ∀ (x : am_G × Int32 × Int32 × Int32) (w4 w5 w6 : Option Value) (R : (Unit ⊕ Nat) × am_G), k2 x = some R → ai_ev ap_P 285 (2, [some (.ref 33), some (.int x.2.1), some (.int x.2.2.1), some (.int x.2.2.2), w4, w5, w6], [], (v0 L, x.1)) (oz_r ez_v R.1) (v0 L, R.2)) (g : am_G) (u1 : Int32) (u2 : Int32) (u3 : Int32) (u4 : Option Nat) (w5 w6 : Option Value) (R : (Unit ⊕ Nat) × am_G) : fj_285_53 k2 g u1 u2 u3 u4 = some R → ai_ev ap_P 285 (53, [some (.ref 33), some (.int u1), some (.int u2), some (.int u3), some (am_v u4), w5, w6], [], (v0 L, g)) (oz_r ez_v R.1) (v0 L, R.2) := by
  unfold fj_285_53
  refine ev_om (S := fun (o : Option Nat) => (53, [some (.ref 33), some (.int u1), some (.int u2), some (.int u3), some (am_v o), w5, w6], [], (v0 L, g))) ?_ (fun o1 => ?_)
  · refine ev_gd (c := ai_in u3 12) (fun hc2 => ?_)
    refine ev_jm 3 (t := (59, [some (.ref 33), some (.int u1), some (.int u2), some (.int u3), some (.null), none, none], [.int (am_i g 882 u3.toNatClampNeg)], (v0 L, g))) (ai_gd (c := ai_in u3 12) rfl hc2) ?_
    refine ev_jm 0 (t := (78, [some (.ref 33), some (.int u1), some (.int u2), some (.int u3), some (.null), none, none], [.int (am_i g 882 u3.toNatClampNeg)], (v0 L, g))) rfl ?_
    exact dj_285_78 L hk2 g u1 u2 u3 none (am_i g 882 u3.toNatClampNeg) none none _
  · refine ev_gd (c := ai_in u3 12) (fun hc3 => ?_)
    refine ev_jm 3 (t := (59, [some (.ref 33), some (.int u1), some (.int u2), some (.int u3), some (.ref o1), none, none], [.int (am_i g 882 u3.toNatClampNeg)], (v0 L, g))) (ai_gd (c := ai_in u3 12) rfl hc3) ?_
    refine ev_jm 0 (t := (78, [some (.ref 33), some (.int u1), some (.int u2), some (.int u3), some (.ref o1), none, none], [.int (am_i g 882 u3.toNatClampNeg)], (v0 L, g))) rfl ?_
    exact dj_285_78 L hk2 g u1 u2 u3 (some o1) (am_i g 882 u3.toNatClampNeg) none none _
noncomputable def fj_285_37 (k2 : (am_G × Int32 × Int32 × Int32) → Option ((Unit ⊕ Nat) × am_G)) (g : am_G) (u1 : Int32) (u2 : Int32) (u3 : Int32) (u4 : Option Nat) : Option ((Unit ⊕ Nat) × am_G) := lo_m u4 (fj_285_53 k2 g u1 u2 u3 none) fun o1 => lo_g (Nat.beq (v0_kd o1) 11) (lo_m (am_r g o1 7) (none) fun o3 => lo_g (Nat.beq (v0_kd o3) 17) (lo_p (fm_148 g o3) fun y4 => if y4 = 0 then lo_g (ai_in u3 12) (lo_i (fm_278 g (am_i g 881 u3.toNatClampNeg) (am_i g 882 u3.toNatClampNeg)) fun y8 g9 => fj_285_78 k2 g9 u1 u2 u3 (some o1) y8) else fj_285_53 k2 g u1 u2 u3 (some o1)))
theorem dj_285_37 (L : Nat) {k2 : (am_G × Int32 × Int32 × Int32) → Option ((Unit ⊕ Nat) × am_G)} (hk2 : ∀ (x : am_G × Int32 × Int32 × Int32) (w4 w5 w6 : Option Value) (R : (Unit ⊕ Nat) × am_G), k2 x = some R → ai_ev ap_P 285 (2, [some (.ref 33), some (.int x.2.1), some (.int x.2.2.1), some (.int x.2.2.2), w4, w5, w6], [], (v0 L, x.1)) (oz_r ez_v R.1) (v0 L, R.2)) (g : am_G) (u1 : Int32) (u2 : Int32) (u3 : Int32) (u4 : Option Nat) (w5 w6 : Option Value) (R : (Unit ⊕ Nat) × am_G) : fj_285_37 k2 g u1 u2 u3 u4 = some R → ai_ev ap_P 285 (37, [some (.ref 33), some (.int u1), some (.int u2), some (.int u3), some (am_v u4), w5, w6], [], (v0 L, g)) (oz_r ez_v R.1) (v0 L, R.2) := by
  unfold fj_285_37
  refine ev_om (S := fun (o : Option Nat) => (37, [some (.ref 33), some (.int u1), some (.int u2), some (.int u3), some (am_v o), w5, w6], [], (v0 L, g))) ?_ (fun o1 => ?_)
  · refine ev_jm 1 (t := (53, [some (.ref 33), some (.int u1), some (.int u2), some (.int u3), some (.null), none, none], [], (v0 L, g))) rfl ?_
    exact dj_285_53 L hk2 g u1 u2 u3 none none none _
  · refine ev_gd (c := Nat.beq (v0_kd o1) 11) (fun hc2 => ?_)
    refine ev_jm 3 (t := (47, [some (.ref 33), some (.int u1), some (.int u2), some (.int u3), some (.ref o1), none, none], [am_v (am_r g o1 7)], (v0 L, g))) (ai_gd (c := Nat.beq (v0_kd o1) 11) rfl hc2) ?_
    refine ev_om (S := fun (o : Option Nat) => (47, [some (.ref 33), some (.int u1), some (.int u2), some (.int u3), some (.ref o1), none, none], [am_v o], (v0 L, g))) ?_ (fun o3 => ?_)
    · exact fun hR => nomatch hR
    · refine ev_gd (c := Nat.beq (v0_kd o3) 17) (fun hc6 => ?_)
      refine ev_op 0 (as := [.ref o3]) (pc := 50) (Lc := [some (.ref 33), some (.int u1), some (.int u2), some (.int u3), some (.ref o1), none, none]) (st := []) (h1 := (v0 L, g)) (e := ez_i) (ai_gd (c := Nat.beq (v0_kd o3) 17 && true) rfl (ai_ct hc6)) (dm_148 L g o3) (fun y4 => ?_)
      refine ev_if 0 (p := y4 = 0) (a := 62) (b := 53) (T := ([some (.ref 33), some (.int u1), some (.int u2), some (.int u3), some (.ref o1), none, none], [], (v0 L, g))) rfl ?_ ?_
      · refine ev_gd (c := ai_in u3 12) (fun hc7 => ?_)
        refine ev_jm 4 (t := (69, [some (.ref 33), some (.int u1), some (.int u2), some (.int u3), some (.ref o1), none, none], [.int (am_i g 881 u3.toNatClampNeg), .ref 33], (v0 L, g))) (ai_gd (c := ai_in u3 12) rfl hc7) ?_
        refine ev_jm 3 (t := (75, [some (.ref 33), some (.int u1), some (.int u2), some (.int u3), some (.ref o1), none, none], [.int (am_i g 882 u3.toNatClampNeg), .int (am_i g 881 u3.toNatClampNeg), .ref 33], (v0 L, g))) (ai_gd (c := ai_in u3 12) rfl hc7) ?_
        refine ev_oi 0 (as := [.ref 33, .int (am_i g 881 u3.toNatClampNeg), .int (am_i g 882 u3.toNatClampNeg)]) (pc := 78) (Lc := [some (.ref 33), some (.int u1), some (.int u2), some (.int u3), some (.ref o1), none, none]) (st := []) (V := v0 L) (g1 := g) (e := ez_i) rfl (dm_278 L g (am_i g 881 u3.toNatClampNeg) (am_i g 882 u3.toNatClampNeg)) (fun y8 g9 => ?_)
        exact dj_285_78 L hk2 g9 u1 u2 u3 (some o1) y8 none none _
      · exact dj_285_53 L hk2 g u1 u2 u3 (some o1) none none _
noncomputable def fb_285_207 (k127 : (am_G × Int32 × Int32 × Int32) → Option ((Unit ⊕ Nat) × am_G)) (k207 : (am_G × Int32 × Int32 × Int32 × Nat × Int32 × Int32) → Option ((Unit ⊕ Nat) × am_G)) (g : am_G) (u1 : Int32) (u2 : Int32) (u3 : Int32) (u4 : Nat) (u5 : Int32) (u6 : Int32) : Option ((Unit ⊕ Nat) × am_G) := lo_g (Nat.beq (v0_kd u4) 11) (if (am_i g u4 6) ≤ u6 then lo_p (fm_287 g (am_i g u4 1) u5 (am_i g u4 6)) fun g3 => lo_t (fm_293 g3 u4 u5 (am_i g3 u4 6) u2 0) fun y4 g5 => k127 (g5, u1, u2, (u3 + 1)) else lo_g (ai_in ((am_i g u4 5) + u6) 32000) (lo_g (ai_in (u5 + u6) 5200) (k207 ((am_si g 883 ((u5 + u6)).toNatClampNeg (am_i g 53 (((am_i g u4 5) + u6)).toNatClampNeg)), u1, u2, u3, u4, u5, (u6 + 1)))))
theorem db_285_207 (L : Nat) {k127 : (am_G × Int32 × Int32 × Int32) → Option ((Unit ⊕ Nat) × am_G)} {k207 : (am_G × Int32 × Int32 × Int32 × Nat × Int32 × Int32) → Option ((Unit ⊕ Nat) × am_G)} (hk127 : ∀ (x : am_G × Int32 × Int32 × Int32) (w4 w5 w6 : Option Value) (R : (Unit ⊕ Nat) × am_G), k127 x = some R → ai_ev ap_P 285 (127, [some (.ref 33), some (.int x.2.1), some (.int x.2.2.1), some (.int x.2.2.2), w4, w5, w6], [], (v0 L, x.1)) (oz_r ez_v R.1) (v0 L, R.2)) (hk207 : ∀ (x : am_G × Int32 × Int32 × Int32 × Nat × Int32 × Int32) (R : (Unit ⊕ Nat) × am_G), k207 x = some R → ai_ev ap_P 285 (207, [some (.ref 33), some (.int x.2.1), some (.int x.2.2.1), some (.int x.2.2.2.1), some (.ref x.2.2.2.2.1), some (.int x.2.2.2.2.2.1), some (.int x.2.2.2.2.2.2)], [], (v0 L, x.1)) (oz_r ez_v R.1) (v0 L, R.2)) (g : am_G) (u1 : Int32) (u2 : Int32) (u3 : Int32) (u4 : Nat) (u5 : Int32) (u6 : Int32) (R : (Unit ⊕ Nat) × am_G) : fb_285_207 k127 k207 g u1 u2 u3 u4 u5 u6 = some R → ai_ev ap_P 285 (207, [some (.ref 33), some (.int u1), some (.int u2), some (.int u3), some (.ref u4), some (.int u5), some (.int u6)], [], (v0 L, g)) (oz_r ez_v R.1) (v0 L, R.2) := by
  unfold fb_285_207
  refine ev_gd (c := Nat.beq (v0_kd u4) 11) (fun hc1 => ?_)
  refine ev_jm 2 (t := (214, [some (.ref 33), some (.int u1), some (.int u2), some (.int u3), some (.ref u4), some (.int u5), some (.int u6)], [.int (am_i g u4 6), .int u6], (v0 L, g))) (ai_gd (c := Nat.beq (v0_kd u4) 11) rfl hc1) ?_
  refine ev_if 0 (p := (am_i g u4 6) ≤ u6) (a := 249) (b := 217) (T := ([some (.ref 33), some (.int u1), some (.int u2), some (.int u3), some (.ref u4), some (.int u5), some (.int u6)], [], (v0 L, g))) rfl ?_ ?_
  · refine ev_jm 2 (t := (255, [some (.ref 33), some (.int u1), some (.int u2), some (.int u3), some (.ref u4), some (.int u5), some (.int u6)], [.int (am_i g u4 1), .ref 33], (v0 L, g))) (ai_gd (c := Nat.beq (v0_kd u4) 11) rfl hc1) ?_
    refine ev_jm 2 (t := (262, [some (.ref 33), some (.int u1), some (.int u2), some (.int u3), some (.ref u4), some (.int u5), some (.int u6)], [.int (am_i g u4 6), .int u5, .int (am_i g u4 1), .ref 33], (v0 L, g))) (ai_gd (c := Nat.beq (v0_kd u4) 11) rfl hc1) ?_
    refine ev_ov0 0 (as := [.ref 33, .int (am_i g u4 1), .int u5, .int (am_i g u4 6)]) (pc := 265) (Lc := [some (.ref 33), some (.int u1), some (.int u2), some (.int u3), some (.ref u4), some (.int u5), some (.int u6)]) (st := []) (V := v0 L) (g1 := g) rfl (dm_287 L g (am_i g u4 1) u5 (am_i g u4 6)) (fun g3 => ?_)
    refine ev_jm 4 (t := (275, [some (.ref 33), some (.int u1), some (.int u2), some (.int u3), some (.ref u4), some (.int u5), some (.int u6)], [.int (am_i g3 u4 6), .int u5, .ref u4, .ref 33], (v0 L, g3))) (ai_gd (c := Nat.beq (v0_kd u4) 11) rfl hc1) ?_
    refine ev_ot 2 (as := [.ref 33, .ref u4, .int u5, .int (am_i g3 u4 6), .int u2, .int 0]) (pc := 280) (Lc := [some (.ref 33), some (.int u1), some (.int u2), some (.int u3), some (.ref u4), some (.int u5), some (.int u6)]) (st := []) (V := v0 L) (g1 := g3) (e := ez_v) rfl (dm_293 L g3 u4 u5 (am_i g3 u4 6) u2 0) (fun _ => rfl) (fun y4 g5 => ?_)
    refine ev_jm 1 (t := (127, [some (.ref 33), some (.int u1), some (.int u2), some (.int (u3 + 1)), none, none, none], [], (v0 L, g5))) rfl ?_
    exact hk127 (g5, u1, u2, (u3 + 1)) none none none _
  · refine ev_jm 9 (t := (238, [some (.ref 33), some (.int u1), some (.int u2), some (.int u3), some (.ref u4), some (.int u5), some (.int u6)], [.int (am_i g u4 5), .ref 53, .int (u5 + u6), .ref 883], (v0 L, g))) (ai_gd (c := Nat.beq (v0_kd u4) 11) rfl hc1) ?_
    refine ev_gd (c := ai_in ((am_i g u4 5) + u6) 32000) (fun hc6 => ?_)
    refine ev_jm 2 (t := (242, [some (.ref 33), some (.int u1), some (.int u2), some (.int u3), some (.ref u4), some (.int u5), some (.int u6)], [.int (am_i g 53 (((am_i g u4 5) + u6)).toNatClampNeg), .int (u5 + u6), .ref 883], (v0 L, g))) (ai_gd (c := ai_in ((am_i g u4 5) + u6) 32000) rfl hc6) ?_
    refine ev_gd (c := ai_in (u5 + u6) 5200) (fun hc7 => ?_)
    refine ev_jm 0 (t := (243, [some (.ref 33), some (.int u1), some (.int u2), some (.int u3), some (.ref u4), some (.int u5), some (.int u6)], [], (v0 L, (am_si g 883 ((u5 + u6)).toNatClampNeg (am_i g 53 (((am_i g u4 5) + u6)).toNatClampNeg))))) (ai_gd (c := ai_in (u5 + u6) 5200) rfl hc7) ?_
    refine ev_jm 1 (t := (207, [some (.ref 33), some (.int u1), some (.int u2), some (.int u3), some (.ref u4), some (.int u5), some (.int (u6 + 1))], [], (v0 L, (am_si g 883 ((u5 + u6)).toNatClampNeg (am_i g 53 (((am_i g u4 5) + u6)).toNatClampNeg))))) rfl ?_
    exact hk207 ((am_si g 883 ((u5 + u6)).toNatClampNeg (am_i g 53 (((am_i g u4 5) + u6)).toNatClampNeg)), u1, u2, u3, u4, u5, (u6 + 1)) _
noncomputable def fh_285_207 (k127 : (am_G × Int32 × Int32 × Int32) → Option ((Unit ⊕ Nat) × am_G)) (x : am_G × Int32 × Int32 × Int32 × Nat × Int32 × Int32) : Option ((Unit ⊕ Nat) × am_G) := lo_it (fun k x => fb_285_207 k127 k x.1 x.2.1 x.2.2.1 x.2.2.2.1 x.2.2.2.2.1 x.2.2.2.2.2.1 x.2.2.2.2.2.2) nf_F x
theorem dh_285_207 (L : Nat) {k127 : (am_G × Int32 × Int32 × Int32) → Option ((Unit ⊕ Nat) × am_G)} (hk127 : ∀ (x : am_G × Int32 × Int32 × Int32) (w4 w5 w6 : Option Value) (R : (Unit ⊕ Nat) × am_G), k127 x = some R → ai_ev ap_P 285 (127, [some (.ref 33), some (.int x.2.1), some (.int x.2.2.1), some (.int x.2.2.2), w4, w5, w6], [], (v0 L, x.1)) (oz_r ez_v R.1) (v0 L, R.2)) (x : am_G × Int32 × Int32 × Int32 × Nat × Int32 × Int32) (R : (Unit ⊕ Nat) × am_G) : fh_285_207 k127 x = some R → ai_ev ap_P 285 (207, [some (.ref 33), some (.int x.2.1), some (.int x.2.2.1), some (.int x.2.2.2.1), some (.ref x.2.2.2.2.1), some (.int x.2.2.2.2.2.1), some (.int x.2.2.2.2.2.2)], [], (v0 L, x.1)) (oz_r ez_v R.1) (v0 L, R.2) :=
  fun hr => lo_ev (E := fun x R => ai_ev ap_P 285 (207, [some (.ref 33), some (.int x.2.1), some (.int x.2.2.1), some (.int x.2.2.2.1), some (.ref x.2.2.2.2.1), some (.int x.2.2.2.2.2.1), some (.int x.2.2.2.2.2.2)], [], (v0 L, x.1)) (oz_r ez_v R.1) (v0 L, R.2)) (fun k hk x R hr => db_285_207 L hk127 hk x.1 x.2.1 x.2.2.1 x.2.2.2.1 x.2.2.2.2.1 x.2.2.2.2.2.1 x.2.2.2.2.2.2  R hr) nf_F x R hr
noncomputable def fj_285_188 (k127 : (am_G × Int32 × Int32 × Int32) → Option ((Unit ⊕ Nat) × am_G)) (g : am_G) (u1 : Int32) (u2 : Int32) (u3 : Int32) (u4 : Nat) : Option ((Unit ⊕ Nat) × am_G) := lo_g (Nat.beq (v0_kd u4) 11) (lo_p (fm_146 g u4) fun y1 => if y1 = 0 then k127 (g, u1, u2, (u3 + 1)) else fh_285_207 k127 (g, u1, u2, u3, u4, 4800, 0))
theorem dj_285_188 (L : Nat) {k127 : (am_G × Int32 × Int32 × Int32) → Option ((Unit ⊕ Nat) × am_G)} (hk127 : ∀ (x : am_G × Int32 × Int32 × Int32) (w4 w5 w6 : Option Value) (R : (Unit ⊕ Nat) × am_G), k127 x = some R → ai_ev ap_P 285 (127, [some (.ref 33), some (.int x.2.1), some (.int x.2.2.1), some (.int x.2.2.2), w4, w5, w6], [], (v0 L, x.1)) (oz_r ez_v R.1) (v0 L, R.2)) (g : am_G) (u1 : Int32) (u2 : Int32) (u3 : Int32) (u4 : Nat) (w5 w6 : Option Value) (R : (Unit ⊕ Nat) × am_G) : fj_285_188 k127 g u1 u2 u3 u4 = some R → ai_ev ap_P 285 (188, [some (.ref 33), some (.int u1), some (.int u2), some (.int u3), some (.ref u4), w5, w6], [], (v0 L, g)) (oz_r ez_v R.1) (v0 L, R.2) := by
  unfold fj_285_188
  refine ev_gd (c := Nat.beq (v0_kd u4) 11) (fun hc3 => ?_)
  refine ev_op 1 (as := [.ref u4]) (pc := 193) (Lc := [some (.ref 33), some (.int u1), some (.int u2), some (.int u3), some (.ref u4), none, none]) (st := []) (h1 := (v0 L, g)) (e := ez_i) (ai_gd (c := Nat.beq (v0_kd u4) 11 && true) rfl (ai_ct hc3)) (dm_146 L g u4) (fun y1 => ?_)
  refine ev_in 0 (p := y1 = 0) (a := 199) (b := 196) (T := ([some (.ref 33), some (.int u1), some (.int u2), some (.int u3), some (.ref u4), none, none], [], (v0 L, g))) rfl ?_ ?_
  · refine ev_jm 2 (t := (127, [some (.ref 33), some (.int u1), some (.int u2), some (.int (u3 + 1)), none, none, none], [], (v0 L, g))) rfl ?_
    exact hk127 (g, u1, u2, (u3 + 1)) none none none _
  · refine ev_jm 3 (t := (207, [some (.ref 33), some (.int u1), some (.int u2), some (.int u3), some (.ref u4), some (.int 4800), some (.int 0)], [], (v0 L, g))) rfl ?_
    exact dh_285_207 L hk127 (g, u1, u2, u3, u4, 4800, 0) _
noncomputable def fb_285_127 (k127 : (am_G × Int32 × Int32 × Int32) → Option ((Unit ⊕ Nat) × am_G)) (g : am_G) (u1 : Int32) (u2 : Int32) (u3 : Int32) : Option ((Unit ⊕ Nat) × am_G) := if (am_i g 49 6) ≤ u3 then some (.inl (), g) else lo_g (ai_in u3 80) (lo_g (Nat.beq (v0_kd (775 + u3.toNatClampNeg)) 11) (if (am_i g (775 + u3.toNatClampNeg) 0) = u1 then lo_p (fm_286 g (am_i g (775 + u3.toNatClampNeg) 1)) fun y3 => if y3 = 0 then if (am_i g (775 + u3.toNatClampNeg) 2) = 1 then lo_p (fm_239 g 8) fun g6 => fj_285_188 k127 g6 u1 u2 u3 (775 + u3.toNatClampNeg) else fj_285_188 k127 g u1 u2 u3 (775 + u3.toNatClampNeg) else k127 (g, u1, u2, (u3 + 1)) else k127 (g, u1, u2, (u3 + 1))))
theorem db_285_127 (L : Nat) {k127 : (am_G × Int32 × Int32 × Int32) → Option ((Unit ⊕ Nat) × am_G)} (hk127 : ∀ (x : am_G × Int32 × Int32 × Int32) (w4 w5 w6 : Option Value) (R : (Unit ⊕ Nat) × am_G), k127 x = some R → ai_ev ap_P 285 (127, [some (.ref 33), some (.int x.2.1), some (.int x.2.2.1), some (.int x.2.2.2), w4, w5, w6], [], (v0 L, x.1)) (oz_r ez_v R.1) (v0 L, R.2)) (g : am_G) (u1 : Int32) (u2 : Int32) (u3 : Int32) (w4 w5 w6 : Option Value) (R : (Unit ⊕ Nat) × am_G) : fb_285_127 k127 g u1 u2 u3 = some R → ai_ev ap_P 285 (127, [some (.ref 33), some (.int u1), some (.int u2), some (.int u3), w4, w5, w6], [], (v0 L, g)) (oz_r ez_v R.1) (v0 L, R.2) := by
  unfold fb_285_127
  refine ev_if 4 (p := (am_i g 49 6) ≤ u3) (a := 286) (b := 138) (T := ([some (.ref 33), some (.int u1), some (.int u2), some (.int u3), none, none, none], [], (v0 L, g))) rfl ?_ ?_
  · exact fun hR => by cases hR; exact ev_rt 0 rfl
  · refine ev_gd (c := ai_in u3 80) (fun hc1 => ?_)
    refine ev_fr (S := fun (o : Option Nat) => (147, [some (.ref 33), some (.int u1), some (.int u2), some (.int u3), none, none, none], [am_v o], (v0 L, g))) 4 (e := v0_fr 51 u3.toNatClampNeg) (q := (775 + u3.toNatClampNeg)) (ai_gd (c := ai_in u3 80) rfl hc1) (fr_51 hc1) ?_
    refine ev_gd (c := Nat.beq (v0_kd (775 + u3.toNatClampNeg)) 11) (fun hc2 => ?_)
    refine ev_jm 2 (t := (154, [some (.ref 33), some (.int u1), some (.int u2), some (.int u3), some (.ref (775 + u3.toNatClampNeg)), none, none], [.int (am_i g (775 + u3.toNatClampNeg) 0)], (v0 L, g))) (ai_gd (c := Nat.beq (v0_kd (775 + u3.toNatClampNeg)) 11) rfl hc2) ?_
    refine ev_in 1 (p := (am_i g (775 + u3.toNatClampNeg) 0) = u1) (a := 280) (b := 158) (T := ([some (.ref 33), some (.int u1), some (.int u2), some (.int u3), some (.ref (775 + u3.toNatClampNeg)), none, none], [], (v0 L, g))) rfl ?_ ?_
    · refine ev_jm 2 (t := (164, [some (.ref 33), some (.int u1), some (.int u2), some (.int u3), some (.ref (775 + u3.toNatClampNeg)), none, none], [.int (am_i g (775 + u3.toNatClampNeg) 1), .ref 33], (v0 L, g))) (ai_gd (c := Nat.beq (v0_kd (775 + u3.toNatClampNeg)) 11) rfl hc2) ?_
      refine ev_op 0 (as := [.ref 33, .int (am_i g (775 + u3.toNatClampNeg) 1)]) (pc := 167) (Lc := [some (.ref 33), some (.int u1), some (.int u2), some (.int u3), some (.ref (775 + u3.toNatClampNeg)), none, none]) (st := []) (h1 := (v0 L, g)) (e := ez_i) rfl (dm_286 L g (am_i g (775 + u3.toNatClampNeg) 1)) (fun y3 => ?_)
      refine ev_if 0 (p := y3 = 0) (a := 173) (b := 170) (T := ([some (.ref 33), some (.int u1), some (.int u2), some (.int u3), some (.ref (775 + u3.toNatClampNeg)), none, none], [], (v0 L, g))) rfl ?_ ?_
      · refine ev_jm 1 (t := (178, [some (.ref 33), some (.int u1), some (.int u2), some (.int u3), some (.ref (775 + u3.toNatClampNeg)), none, none], [.int (am_i g (775 + u3.toNatClampNeg) 2)], (v0 L, g))) (ai_gd (c := Nat.beq (v0_kd (775 + u3.toNatClampNeg)) 11) rfl hc2) ?_
        refine ev_in 1 (p := (am_i g (775 + u3.toNatClampNeg) 2) = 1) (a := 188) (b := 182) (T := ([some (.ref 33), some (.int u1), some (.int u2), some (.int u3), some (.ref (775 + u3.toNatClampNeg)), none, none], [], (v0 L, g))) rfl ?_ ?_
        · refine ev_ov0 2 (as := [.ref 33, .int 8]) (pc := 188) (Lc := [some (.ref 33), some (.int u1), some (.int u2), some (.int u3), some (.ref (775 + u3.toNatClampNeg)), none, none]) (st := []) (V := v0 L) (g1 := g) rfl (dm_239 L g 8) (fun g6 => ?_)
          exact dj_285_188 L hk127 g6 u1 u2 u3 (775 + u3.toNatClampNeg) none none _
        · exact dj_285_188 L hk127 g u1 u2 u3 (775 + u3.toNatClampNeg) none none _
      · refine ev_jm 2 (t := (127, [some (.ref 33), some (.int u1), some (.int u2), some (.int (u3 + 1)), none, none, none], [], (v0 L, g))) rfl ?_
        exact hk127 (g, u1, u2, (u3 + 1)) none none none _
    · refine ev_jm 1 (t := (127, [some (.ref 33), some (.int u1), some (.int u2), some (.int (u3 + 1)), none, none, none], [], (v0 L, g))) rfl ?_
      exact hk127 (g, u1, u2, (u3 + 1)) none none none _
noncomputable def fh_285_127  (x : am_G × Int32 × Int32 × Int32) : Option ((Unit ⊕ Nat) × am_G) := lo_it (fun k x => fb_285_127 k x.1 x.2.1 x.2.2.1 x.2.2.2) nf_F x
theorem dh_285_127 (L : Nat)   (x : am_G × Int32 × Int32 × Int32) (w4 w5 w6 : Option Value) (R : (Unit ⊕ Nat) × am_G) : fh_285_127  x = some R → ai_ev ap_P 285 (127, [some (.ref 33), some (.int x.2.1), some (.int x.2.2.1), some (.int x.2.2.2), w4, w5, w6], [], (v0 L, x.1)) (oz_r ez_v R.1) (v0 L, R.2) :=
  fun hr => lo_ev (E := fun x R => ∀ (w4 w5 w6 : Option Value), ai_ev ap_P 285 (127, [some (.ref 33), some (.int x.2.1), some (.int x.2.2.1), some (.int x.2.2.2), w4, w5, w6], [], (v0 L, x.1)) (oz_r ez_v R.1) (v0 L, R.2)) (fun k hk x R hr => fun w4 w5 w6 => db_285_127 L (fun x w4 w5 w6 R hr => hk x R hr w4 w5 w6) x.1 x.2.1 x.2.2.1 x.2.2.2 w4 w5 w6 R hr) nf_F x R hr w4 w5 w6
noncomputable def fb_285_2 (k2 : (am_G × Int32 × Int32 × Int32) → Option ((Unit ⊕ Nat) × am_G)) (g : am_G) (u1 : Int32) (u2 : Int32) (u3 : Int32) : Option ((Unit ⊕ Nat) × am_G) := if (am_i g 33 28) ≤ u3 then fh_285_127 (g, u1, u2, 0) else lo_g (ai_in u3 12) (lo_p (fm_164 g u1 (am_i g 880 u3.toNatClampNeg)) fun y2 => lo_m y2 (lo_p (fm_239 g 7) fun g6 => fj_285_37 k2 g6 u1 u2 u3 none) fun o4 => fj_285_37 k2 g u1 u2 u3 (some o4))
theorem db_285_2 (L : Nat) {k2 : (am_G × Int32 × Int32 × Int32) → Option ((Unit ⊕ Nat) × am_G)} (hk2 : ∀ (x : am_G × Int32 × Int32 × Int32) (w4 w5 w6 : Option Value) (R : (Unit ⊕ Nat) × am_G), k2 x = some R → ai_ev ap_P 285 (2, [some (.ref 33), some (.int x.2.1), some (.int x.2.2.1), some (.int x.2.2.2), w4, w5, w6], [], (v0 L, x.1)) (oz_r ez_v R.1) (v0 L, R.2)) (g : am_G) (u1 : Int32) (u2 : Int32) (u3 : Int32) (w4 w5 w6 : Option Value) (R : (Unit ⊕ Nat) × am_G) : fb_285_2 k2 g u1 u2 u3 = some R → ai_ev ap_P 285 (2, [some (.ref 33), some (.int u1), some (.int u2), some (.int u3), w4, w5, w6], [], (v0 L, g)) (oz_r ez_v R.1) (v0 L, R.2) := by
  unfold fb_285_2
  refine ev_if 3 (p := (am_i g 33 28) ≤ u3) (a := 125) (b := 10) (T := ([some (.ref 33), some (.int u1), some (.int u2), some (.int u3), none, none, none], [], (v0 L, g))) rfl ?_ ?_
  · refine ev_jm 1 (t := (127, [some (.ref 33), some (.int u1), some (.int u2), some (.int 0), none, none, none], [], (v0 L, g))) rfl ?_
    exact dh_285_127 L (g, u1, u2, 0) none none none _
  · refine ev_gd (c := ai_in u3 12) (fun hc1 => ?_)
    refine ev_jm 6 (t := (21, [some (.ref 33), some (.int u1), some (.int u2), some (.int u3), none, none, none], [.int (am_i g 880 u3.toNatClampNeg), .int u1, .ref 49], (v0 L, g))) (ai_gd (c := ai_in u3 12) rfl hc1) ?_
    refine ev_op 0 (as := [.ref 49, .int u1, .int (am_i g 880 u3.toNatClampNeg)]) (pc := 24) (Lc := [some (.ref 33), some (.int u1), some (.int u2), some (.int u3), none, none, none]) (st := []) (h1 := (v0 L, g)) (e := ez_o) rfl (dm_164 L g u1 (am_i g 880 u3.toNatClampNeg)) (fun y2 => ?_)
    refine ev_om (S := fun (o : Option Nat) => (24, [some (.ref 33), some (.int u1), some (.int u2), some (.int u3), none, none, none], [am_v o], (v0 L, g))) ?_ (fun o4 => ?_)
    · refine ev_ov0 5 (as := [.ref 33, .int 7]) (pc := 37) (Lc := [some (.ref 33), some (.int u1), some (.int u2), some (.int u3), some (.null), none, none]) (st := []) (V := v0 L) (g1 := g) rfl (dm_239 L g 7) (fun g6 => ?_)
      exact dj_285_37 L hk2 g6 u1 u2 u3 none none none _
    · refine ev_jm 2 (t := (37, [some (.ref 33), some (.int u1), some (.int u2), some (.int u3), some (.ref o4), none, none], [], (v0 L, g))) rfl ?_
      exact dj_285_37 L hk2 g u1 u2 u3 (some o4) none none _
noncomputable def fh_285_2  (x : am_G × Int32 × Int32 × Int32) : Option ((Unit ⊕ Nat) × am_G) := lo_it (fun k x => fb_285_2 k x.1 x.2.1 x.2.2.1 x.2.2.2) nf_F x
theorem dh_285_2 (L : Nat)   (x : am_G × Int32 × Int32 × Int32) (w4 w5 w6 : Option Value) (R : (Unit ⊕ Nat) × am_G) : fh_285_2  x = some R → ai_ev ap_P 285 (2, [some (.ref 33), some (.int x.2.1), some (.int x.2.2.1), some (.int x.2.2.2), w4, w5, w6], [], (v0 L, x.1)) (oz_r ez_v R.1) (v0 L, R.2) :=
  fun hr => lo_ev (E := fun x R => ∀ (w4 w5 w6 : Option Value), ai_ev ap_P 285 (2, [some (.ref 33), some (.int x.2.1), some (.int x.2.2.1), some (.int x.2.2.2), w4, w5, w6], [], (v0 L, x.1)) (oz_r ez_v R.1) (v0 L, R.2)) (fun k hk x R hr => fun w4 w5 w6 => db_285_2 L (fun x w4 w5 w6 R hr => hk x R hr w4 w5 w6) x.1 x.2.1 x.2.2.1 x.2.2.2 w4 w5 w6 R hr) nf_F x R hr w4 w5 w6
/-- DeclaredMarkup$Processor.attributes(II)V -/
noncomputable def fm_285 (g : am_G) (u1 : Int32) (u2 : Int32) : Option ((Unit ⊕ Nat) × am_G) := fh_285_2 (g, u1, u2, 0)
theorem dm_285 (L : Nat) (g : am_G) (u1 : Int32) (u2 : Int32) (R : (Unit ⊕ Nat) × am_G) : fm_285 g u1 u2 = some R → ai_ev ap_P 285 (ai_e0 ap_P 285 [.ref 33, .int u1, .int u2] (v0 L, g)) (oz_r ez_v R.1) (v0 L, R.2) := by
  show _ → ai_ev ap_P 285 (0, [some (.ref 33), some (.int u1), some (.int u2), none, none, none, none], [], (v0 L, g)) _ _
  unfold fm_285
  refine ev_jm 1 (t := (2, [some (.ref 33), some (.int u1), some (.int u2), some (.int 0), none, none, none], [], (v0 L, g))) rfl ?_
  exact dh_285_2 L (g, u1, u2, 0) none none none _
/-- DeclaredMarkup$ModelRun.begin(LDeclaredMarkup$Model;)V -/
noncomputable def fm_222 (g : am_G) (u0 : Nat) (u1 : Nat) : Option (am_G) := lo_g ((Nat.beq (v0_kd u0) 15 && Nat.ble 32 u0)) (some (am_si (am_sj (am_sr g u0 0 (some u1)) u0 1 0) u0 2 0))
theorem dm_222 (L : Nat) (g : am_G) (u0 : Nat) (u1 : Nat) (R : am_G) : fm_222 g u0 u1 = some R → ai_ev ap_P 222 (ai_e0 ap_P 222 [.ref u0, .ref u1] (v0 L, g)) (.inl none) (v0 L, R) := by
  show _ → ai_ev ap_P 222 (0, [some (.ref u0), some (.ref u1)], [], (v0 L, g)) _ _
  unfold fm_222
  refine ev_gd (c := (Nat.beq (v0_kd u0) 15 && Nat.ble 32 u0)) (fun hc1 => ?_)
  refine ev_jm 2 (t := (5, [some (.ref u0), some (.ref u1)], [], (v0 L, (am_sr g u0 0 (some u1))))) (ai_gd (c := (Nat.beq (v0_kd u0) 15 && Nat.ble 32 u0)) rfl hc1) ?_
  refine ev_jm 2 (t := (10, [some (.ref u0), some (.ref u1)], [], (v0 L, (am_sj (am_sr g u0 0 (some u1)) u0 1 0)))) (ai_gd (c := (Nat.beq (v0_kd u0) 15 && Nat.ble 32 u0)) rfl hc1) ?_
  refine ev_jm 2 (t := (15, [some (.ref u0), some (.ref u1)], [], (v0 L, (am_si (am_sj (am_sr g u0 0 (some u1)) u0 1 0) u0 2 0)))) (ai_gd (c := (Nat.beq (v0_kd u0) 15 && Nat.ble 32 u0)) rfl hc1) ?_
  exact fun hR => by cases hR; exact ev_rt 0 rfl
/-- DeclaredMarkup$ModelRun.isWhole()Z -/
noncomputable def fm_225 (g : am_G) (u0 : Nat) : Option (Int32) := lo_g (Nat.beq (v0_kd u0) 15) (if (am_i g u0 2) = 0 then lo_m (am_r g u0 0) (none) fun o4 => lo_g (Nat.beq (v0_kd o4) 9) (some (vp_nar .boolean (am_i g o4 5))) else lo_m (am_r g u0 0) (none) fun o2 => lo_g (Nat.beq (v0_kd o2) 9) (if (lg_cmp ((am_j g u0 1) &&& (am_j g o2 7)) 0) = 0 then some 0 else some 1))
theorem dm_225 (L : Nat) (g : am_G) (u0 : Nat) (R : Int32) : fm_225 g u0 = some R → ai_ev ap_P 225 (ai_e0 ap_P 225 [.ref u0] (v0 L, g)) (.inl (ez_i R)) (v0 L, g) := by
  show _ → ai_ev ap_P 225 (0, [some (.ref u0)], [], (v0 L, g)) _ _
  unfold fm_225
  refine ev_gd (c := Nat.beq (v0_kd u0) 15) (fun hc1 => ?_)
  refine ev_jm 1 (t := (4, [some (.ref u0)], [.int (am_i g u0 2)], (v0 L, g))) (ai_gd (c := Nat.beq (v0_kd u0) 15) rfl hc1) ?_
  refine ev_in 0 (p := (am_i g u0 2) = 0) (a := 17) (b := 7) (T := ([some (.ref u0)], [], (v0 L, g))) rfl ?_ ?_
  · refine ev_jm 1 (t := (11, [some (.ref u0)], [am_v (am_r g u0 0)], (v0 L, g))) (ai_gd (c := Nat.beq (v0_kd u0) 15) rfl hc1) ?_
    refine ev_om (S := fun (o : Option Nat) => (11, [some (.ref u0)], [am_v o], (v0 L, g))) ?_ (fun o4 => ?_)
    · exact fun hR => nomatch hR
    · refine ev_gd (c := Nat.beq (v0_kd o4) 9) (fun hc5 => ?_)
      refine ev_jm 0 (t := (14, [some (.ref u0)], [.int (am_i g o4 5)], (v0 L, g))) (ai_gd (c := Nat.beq (v0_kd o4) 9) rfl hc5) ?_
      exact fun hR => by cases hR; exact ev_rt 1 rfl
  · refine ev_jm 1 (t := (21, [some (.ref u0)], [.long (am_j g u0 1)], (v0 L, g))) (ai_gd (c := Nat.beq (v0_kd u0) 15) rfl hc1) ?_
    refine ev_jm 1 (t := (25, [some (.ref u0)], [am_v (am_r g u0 0), .long (am_j g u0 1)], (v0 L, g))) (ai_gd (c := Nat.beq (v0_kd u0) 15) rfl hc1) ?_
    refine ev_om (S := fun (o : Option Nat) => (25, [some (.ref u0)], [am_v o, .long (am_j g u0 1)], (v0 L, g))) ?_ (fun o2 => ?_)
    · exact fun hR => nomatch hR
    · refine ev_gd (c := Nat.beq (v0_kd o2) 9) (fun hc3 => ?_)
      refine ev_jm 0 (t := (28, [some (.ref u0)], [.long (am_j g o2 7), .long (am_j g u0 1)], (v0 L, g))) (ai_gd (c := Nat.beq (v0_kd o2) 9) rfl hc3) ?_
      refine ev_if 3 (p := (lg_cmp ((am_j g u0 1) &&& (am_j g o2 7)) 0) = 0) (a := 38) (b := 34) (T := ([some (.ref u0)], [], (v0 L, g))) rfl ?_ ?_
      · exact fun hR => by cases hR; exact ev_rt 1 rfl
      · exact fun hR => by cases hR; exact ev_rt 2 rfl
noncomputable def fj_283_53  (g : am_G) : Option (am_G) := lo_g (ai_in ((am_i g 33 24) - 1) 40) (lo_p (fm_267 g 12 (am_i g 875 (((am_i g 33 24) - 1)).toNatClampNeg)) fun g3 => lo_p (fm_193 g3 ) fun g5 => some (am_si g5 33 24 ((am_i g5 33 24) - 1)))
theorem dj_283_53 (L : Nat)   (g : am_G) (w1 : Option Value) (R : am_G) : fj_283_53  g = some R → ai_ev ap_P 283 (53, [some (.ref 33), w1], [], (v0 L, g)) (.inl none) (v0 L, R) := by
  unfold fj_283_53
  refine ev_gd (c := ai_in ((am_i g 33 24) - 1) 40) (fun hc1 => ?_)
  refine ev_jm 8 (t := (68, [some (.ref 33), none], [.int (am_i g 875 (((am_i g 33 24) - 1)).toNatClampNeg), .ref 12, .ref 33], (v0 L, g))) (ai_gd (c := ai_in ((am_i g 33 24) - 1) 40) rfl hc1) ?_
  refine ev_ov0 0 (as := [.ref 33, .ref 12, .int (am_i g 875 (((am_i g 33 24) - 1)).toNatClampNeg)]) (pc := 71) (Lc := [some (.ref 33), none]) (st := []) (V := v0 L) (g1 := g) rfl (dm_267 L g 12 (am_i g 875 (((am_i g 33 24) - 1)).toNatClampNeg)) (fun g3 => ?_)
  refine ev_ov0 2 (as := [.ref 872]) (pc := 78) (Lc := [some (.ref 33), none]) (st := []) (V := v0 L) (g1 := g3) rfl (dm_193 L g3 ) (fun g5 => ?_)
  exact fun hR => by cases hR; exact ev_rt 6 rfl
/-- DeclaredMarkup$Processor.close()V -/
noncomputable def fm_283 (g : am_G)  : Option (am_G) := lo_p (fm_279 g ) fun y1 => lo_m y1 (fj_283_53 g) fun o3 => lo_g (Nat.beq (v0_kd o3) 8) (if (am_i g o3 1) = 4 then lo_g (ai_in ((am_i g 33 24) - 1) 40) (if (am_i g 878 (((am_i g 33 24) - 1)).toNatClampNeg) = 0 then lo_g (Nat.beq (v0_kd (903 + (((am_i g 33 24) - 1)).toNatClampNeg)) 15) (lo_p (fm_225 g (903 + (((am_i g 33 24) - 1)).toNatClampNeg)) fun y6 => if y6 = 0 then lo_p (fm_239 g 2) fun g10 => fj_283_53 g10 else fj_283_53 g) else fj_283_53 g) else fj_283_53 g)
theorem dm_283 (L : Nat) (g : am_G)  (R : am_G) : fm_283 g  = some R → ai_ev ap_P 283 (ai_e0 ap_P 283 [.ref 33] (v0 L, g)) (.inl none) (v0 L, R) := by
  show _ → ai_ev ap_P 283 (0, [some (.ref 33), none], [], (v0 L, g)) _ _
  unfold fm_283
  refine ev_op 1 (as := [.ref 33]) (pc := 4) (Lc := [some (.ref 33), none]) (st := []) (h1 := (v0 L, g)) (e := ez_o) rfl (dm_279 L g ) (fun y1 => ?_)
  refine ev_om (S := fun (o : Option Nat) => (4, [some (.ref 33), none], [am_v o], (v0 L, g))) ?_ (fun o3 => ?_)
  · refine ev_jm 2 (t := (53, [some (.ref 33), some (.null)], [], (v0 L, g))) rfl ?_
    exact dj_283_53 L g (some (.null)) _
  · refine ev_gd (c := Nat.beq (v0_kd o3) 8) (fun hc4 => ?_)
    refine ev_jm 4 (t := (13, [some (.ref 33), some (.ref o3)], [.int (am_i g o3 1)], (v0 L, g))) (ai_gd (c := Nat.beq (v0_kd o3) 8) rfl hc4) ?_
    refine ev_in 1 (p := (am_i g o3 1) = 4) (a := 53) (b := 17) (T := ([some (.ref 33), some (.ref o3)], [], (v0 L, g))) rfl ?_ ?_
    · refine ev_gd (c := ai_in ((am_i g 33 24) - 1) 40) (fun hc5 => ?_)
      refine ev_jm 6 (t := (28, [some (.ref 33), some (.ref o3)], [.int (am_i g 878 (((am_i g 33 24) - 1)).toNatClampNeg)], (v0 L, g))) (ai_gd (c := ai_in ((am_i g 33 24) - 1) 40) rfl hc5) ?_
      refine ev_in 0 (p := (am_i g 878 (((am_i g 33 24) - 1)).toNatClampNeg) = 0) (a := 53) (b := 31) (T := ([some (.ref 33), some (.ref o3)], [], (v0 L, g))) rfl ?_ ?_
      · refine ev_fr (S := fun (o : Option Nat) => (42, [some (.ref 33), some (.ref o3)], [am_v o], (v0 L, g))) 6 (e := v0_fr 879 (((am_i g 33 24) - 1)).toNatClampNeg) (q := (903 + (((am_i g 33 24) - 1)).toNatClampNeg)) (ai_gd (c := ai_in ((am_i g 33 24) - 1) 40) rfl hc5) (fr_879 hc5) ?_
        refine ev_gd (c := Nat.beq (v0_kd (903 + (((am_i g 33 24) - 1)).toNatClampNeg)) 15) (fun hc8 => ?_)
        refine ev_op 0 (as := [.ref (903 + (((am_i g 33 24) - 1)).toNatClampNeg)]) (pc := 45) (Lc := [some (.ref 33), some (.ref o3)]) (st := []) (h1 := (v0 L, g)) (e := ez_i) (ai_gd (c := Nat.beq (v0_kd (903 + (((am_i g 33 24) - 1)).toNatClampNeg)) 15 && true) rfl (ai_ct hc8)) (dm_225 L g (903 + (((am_i g 33 24) - 1)).toNatClampNeg)) (fun y6 => ?_)
        refine ev_in 0 (p := y6 = 0) (a := 53) (b := 48) (T := ([some (.ref 33), some (.ref o3)], [], (v0 L, g))) rfl ?_ ?_
        · refine ev_ov0 2 (as := [.ref 33, .int 2]) (pc := 53) (Lc := [some (.ref 33), some (.ref o3)]) (st := []) (V := v0 L) (g1 := g) rfl (dm_239 L g 2) (fun g10 => ?_)
          exact dj_283_53 L g10 (some (.ref o3)) _
        · exact dj_283_53 L g (some (.ref o3)) _
      · exact dj_283_53 L g (some (.ref o3)) _
    · exact dj_283_53 L g (some (.ref o3)) _
noncomputable def fj_280_282  (g : am_G) (u5 : Int32) : Option ((Unit ⊕ Nat) × am_G) := if u5 = 0 then some (.inl (), (am_si g 33 24 ((am_i g 33 24) + 1))) else lo_p (fm_283 (am_si g 33 24 ((am_i g 33 24) + 1)) ) fun g2 => some (.inl (), g2)
theorem dj_280_282 (L : Nat)   (g : am_G) (u5 : Int32) (w1 w2 w3 w4 : Option Value) (R : (Unit ⊕ Nat) × am_G) : fj_280_282  g u5 = some R → ai_ev ap_P 280 (282, [some (.ref 33), w1, w2, w3, w4, some (.int u5)], [], (v0 L, g)) (oz_r ez_v R.1) (v0 L, R.2) := by
  unfold fj_280_282
  refine ev_if 7 (p := u5 = 0) (a := 301) (b := 297) (T := ([some (.ref 33), none, none, none, none, some (.int u5)], [], (v0 L, (am_si g 33 24 ((am_i g 33 24) + 1))))) rfl ?_ ?_
  · exact fun hR => by cases hR; exact ev_rt 0 rfl
  · refine ev_ov0 1 (as := [.ref 33]) (pc := 301) (Lc := [some (.ref 33), none, none, none, none, some (.int u5)]) (st := []) (V := v0 L) (g1 := (am_si g 33 24 ((am_i g 33 24) + 1))) rfl (dm_283 L (am_si g 33 24 ((am_i g 33 24) + 1)) ) (fun g2 => ?_)
    exact fun hR => by cases hR; exact ev_rt 0 rfl
noncomputable def fj_280_173  (g : am_G) (u1 : Int32) (u2 : Int32) (u3 : Int32) (u4 : Int32) (u5 : Int32) : Option ((Unit ⊕ Nat) × am_G) := lo_t (fm_244 g 62) fun y1 g2 => lo_t (fm_285 g2 u3 u1) fun y3 g4 => lo_p (fm_267 g4 11 u3) fun g6 => lo_g (ai_in (am_i g6 33 24) 40) (if u4 = (-1) then fj_280_282 (am_si (am_si (am_si (am_si g6 875 ((am_i g6 33 24)).toNatClampNeg u3) 876 ((am_i g6 33 24)).toNatClampNeg u4) 877 ((am_i g6 33 24)).toNatClampNeg u2) 878 ((am_i g6 33 24)).toNatClampNeg 0) u5 else lo_g (ai_in u4 40) (lo_g (Nat.beq (v0_kd (55 + 18 * u4.toNatClampNeg)) 8) (if (am_i (am_si (am_si (am_si (am_si g6 875 ((am_i g6 33 24)).toNatClampNeg u3) 876 ((am_i g6 33 24)).toNatClampNeg u4) 877 ((am_i g6 33 24)).toNatClampNeg u2) 878 ((am_i g6 33 24)).toNatClampNeg 0) (55 + 18 * u4.toNatClampNeg) 1) = 4 then lo_m (v0_fr (55 + 18 * u4.toNatClampNeg) 2) (none) fun o10 => lo_g (Nat.beq (v0_kd (903 + ((am_i g6 33 24)).toNatClampNeg)) 15) (lo_p (fm_222 (am_si (am_si (am_si (am_si g6 875 ((am_i g6 33 24)).toNatClampNeg u3) 876 ((am_i g6 33 24)).toNatClampNeg u4) 877 ((am_i g6 33 24)).toNatClampNeg u2) 878 ((am_i g6 33 24)).toNatClampNeg 0) (903 + ((am_i g6 33 24)).toNatClampNeg) o10) fun g12 => fj_280_282 g12 u5) else fj_280_282 (am_si (am_si (am_si (am_si g6 875 ((am_i g6 33 24)).toNatClampNeg u3) 876 ((am_i g6 33 24)).toNatClampNeg u4) 877 ((am_i g6 33 24)).toNatClampNeg u2) 878 ((am_i g6 33 24)).toNatClampNeg 0) u5)))
theorem dj_280_173 (L : Nat)   (g : am_G) (u1 : Int32) (u2 : Int32) (u3 : Int32) (u4 : Int32) (u5 : Int32) (R : (Unit ⊕ Nat) × am_G) : fj_280_173  g u1 u2 u3 u4 u5 = some R → ai_ev ap_P 280 (173, [some (.ref 33), some (.int u1), some (.int u2), some (.int u3), some (.int u4), some (.int u5)], [], (v0 L, g)) (oz_r ez_v R.1) (v0 L, R.2) := by
  unfold fj_280_173
  refine ev_ot 2 (as := [.ref 33, .int 62]) (pc := 179) (Lc := [some (.ref 33), some (.int u1), some (.int u2), some (.int u3), some (.int u4), some (.int u5)]) (st := []) (V := v0 L) (g1 := g) (e := ez_v) rfl (dm_244 L g 62) (fun _ => rfl) (fun y1 g2 => ?_)
  refine ev_ot 3 (as := [.ref 33, .int u3, .int u1]) (pc := 185) (Lc := [some (.ref 33), some (.int u1), some (.int u2), some (.int u3), some (.int u4), some (.int u5)]) (st := []) (V := v0 L) (g1 := g2) (e := ez_v) rfl (dm_285 L g2 u3 u1) (fun _ => rfl) (fun y3 g4 => ?_)
  refine ev_ov0 3 (as := [.ref 33, .ref 11, .int u3]) (pc := 193) (Lc := [some (.ref 33), some (.int u1), some (.int u2), some (.int u3), some (.int u4), some (.int u5)]) (st := []) (V := v0 L) (g1 := g4) rfl (dm_267 L g4 11 u3) (fun g6 => ?_)
  refine ev_gd (c := ai_in (am_i g6 33 24) 40) (fun hc7 => ?_)
  refine ev_jm 5 (t := (203, [some (.ref 33), some (.int u1), some (.int u2), some (.int u3), some (.int u4), some (.int u5)], [], (v0 L, (am_si g6 875 ((am_i g6 33 24)).toNatClampNeg u3)))) (ai_gd (c := ai_in (am_i g6 33 24) 40) rfl hc7) ?_
  refine ev_jm 5 (t := (214, [some (.ref 33), some (.int u1), some (.int u2), some (.int u3), some (.int u4), some (.int u5)], [], (v0 L, (am_si (am_si g6 875 ((am_i g6 33 24)).toNatClampNeg u3) 876 ((am_i g6 33 24)).toNatClampNeg u4)))) (ai_gd (c := ai_in (am_i g6 33 24) 40) rfl hc7) ?_
  refine ev_jm 5 (t := (224, [some (.ref 33), some (.int u1), some (.int u2), some (.int u3), some (.int u4), some (.int u5)], [], (v0 L, (am_si (am_si (am_si g6 875 ((am_i g6 33 24)).toNatClampNeg u3) 876 ((am_i g6 33 24)).toNatClampNeg u4) 877 ((am_i g6 33 24)).toNatClampNeg u2)))) (ai_gd (c := ai_in (am_i g6 33 24) 40) rfl hc7) ?_
  refine ev_jm 5 (t := (234, [some (.ref 33), some (.int u1), some (.int u2), some (.int u3), some (.int u4), some (.int u5)], [], (v0 L, (am_si (am_si (am_si (am_si g6 875 ((am_i g6 33 24)).toNatClampNeg u3) 876 ((am_i g6 33 24)).toNatClampNeg u4) 877 ((am_i g6 33 24)).toNatClampNeg u2) 878 ((am_i g6 33 24)).toNatClampNeg 0)))) (ai_gd (c := ai_in (am_i g6 33 24) 40) rfl hc7) ?_
  refine ev_if 2 (p := u4 = (-1)) (a := 282) (b := 240) (T := ([some (.ref 33), some (.int u1), some (.int u2), some (.int u3), some (.int u4), some (.int u5)], [], (v0 L, (am_si (am_si (am_si (am_si g6 875 ((am_i g6 33 24)).toNatClampNeg u3) 876 ((am_i g6 33 24)).toNatClampNeg u4) 877 ((am_i g6 33 24)).toNatClampNeg u2) 878 ((am_i g6 33 24)).toNatClampNeg 0)))) rfl ?_ ?_
  · exact dj_280_282 L (am_si (am_si (am_si (am_si g6 875 ((am_i g6 33 24)).toNatClampNeg u3) 876 ((am_i g6 33 24)).toNatClampNeg u4) 877 ((am_i g6 33 24)).toNatClampNeg u2) 878 ((am_i g6 33 24)).toNatClampNeg 0) u5 (some (.int u1)) (some (.int u2)) (some (.int u3)) (some (.int u4)) _
  · refine ev_gd (c := ai_in u4 40) (fun hc8 => ?_)
    refine ev_fr (S := fun (o : Option Nat) => (250, [some (.ref 33), some (.int u1), some (.int u2), some (.int u3), some (.int u4), some (.int u5)], [am_v o], (v0 L, (am_si (am_si (am_si (am_si g6 875 ((am_i g6 33 24)).toNatClampNeg u3) 876 ((am_i g6 33 24)).toNatClampNeg u4) 877 ((am_i g6 33 24)).toNatClampNeg u2) 878 ((am_i g6 33 24)).toNatClampNeg 0)))) 4 (e := v0_fr 50 u4.toNatClampNeg) (q := (55 + 18 * u4.toNatClampNeg)) (ai_gd (c := ai_in u4 40) rfl hc8) (fr_50 hc8) ?_
    refine ev_gd (c := Nat.beq (v0_kd (55 + 18 * u4.toNatClampNeg)) 8) (fun hc9 => ?_)
    refine ev_jm 0 (t := (253, [some (.ref 33), some (.int u1), some (.int u2), some (.int u3), some (.int u4), some (.int u5)], [.int (am_i (am_si (am_si (am_si (am_si g6 875 ((am_i g6 33 24)).toNatClampNeg u3) 876 ((am_i g6 33 24)).toNatClampNeg u4) 877 ((am_i g6 33 24)).toNatClampNeg u2) 878 ((am_i g6 33 24)).toNatClampNeg 0) (55 + 18 * u4.toNatClampNeg) 1)], (v0 L, (am_si (am_si (am_si (am_si g6 875 ((am_i g6 33 24)).toNatClampNeg u3) 876 ((am_i g6 33 24)).toNatClampNeg u4) 877 ((am_i g6 33 24)).toNatClampNeg u2) 878 ((am_i g6 33 24)).toNatClampNeg 0)))) (ai_gd (c := Nat.beq (v0_kd (55 + 18 * u4.toNatClampNeg)) 8) rfl hc9) ?_
    refine ev_in 1 (p := (am_i (am_si (am_si (am_si (am_si g6 875 ((am_i g6 33 24)).toNatClampNeg u3) 876 ((am_i g6 33 24)).toNatClampNeg u4) 877 ((am_i g6 33 24)).toNatClampNeg u2) 878 ((am_i g6 33 24)).toNatClampNeg 0) (55 + 18 * u4.toNatClampNeg) 1) = 4) (a := 282) (b := 257) (T := ([some (.ref 33), some (.int u1), some (.int u2), some (.int u3), some (.int u4), some (.int u5)], [], (v0 L, (am_si (am_si (am_si (am_si g6 875 ((am_i g6 33 24)).toNatClampNeg u3) 876 ((am_i g6 33 24)).toNatClampNeg u4) 877 ((am_i g6 33 24)).toNatClampNeg u2) 878 ((am_i g6 33 24)).toNatClampNeg 0)))) rfl ?_ ?_
    · refine ev_fr (S := fun (o : Option Nat) => (266, [some (.ref 33), some (.int u1), some (.int u2), some (.int u3), some (.int u4), some (.int u5)], [am_v o], (v0 L, (am_si (am_si (am_si (am_si g6 875 ((am_i g6 33 24)).toNatClampNeg u3) 876 ((am_i g6 33 24)).toNatClampNeg u4) 877 ((am_i g6 33 24)).toNatClampNeg u2) 878 ((am_i g6 33 24)).toNatClampNeg 0)))) 4 (e := v0_fr 879 ((am_i g6 33 24)).toNatClampNeg) (q := (903 + ((am_i g6 33 24)).toNatClampNeg)) (ai_gd (c := ai_in (am_i g6 33 24) 40) rfl hc7) (fr_879 hc7) ?_
      refine ev_fr (S := fun (o : Option Nat) => (276, [some (.ref 33), some (.int u1), some (.int u2), some (.int u3), some (.int u4), some (.int u5)], [am_v o, .ref (903 + ((am_i g6 33 24)).toNatClampNeg)], (v0 L, (am_si (am_si (am_si (am_si g6 875 ((am_i g6 33 24)).toNatClampNeg u3) 876 ((am_i g6 33 24)).toNatClampNeg u4) 877 ((am_i g6 33 24)).toNatClampNeg u2) 878 ((am_i g6 33 24)).toNatClampNeg 0)))) 4 (e := v0_fr 50 u4.toNatClampNeg) (q := (55 + 18 * u4.toNatClampNeg)) (ai_gd (c := ai_in u4 40) rfl hc8) (fr_50 hc8) ?_
      refine ev_jm 0 (t := (279, [some (.ref 33), some (.int u1), some (.int u2), some (.int u3), some (.int u4), some (.int u5)], [am_v (v0_fr (55 + 18 * u4.toNatClampNeg) 2), .ref (903 + ((am_i g6 33 24)).toNatClampNeg)], (v0 L, (am_si (am_si (am_si (am_si g6 875 ((am_i g6 33 24)).toNatClampNeg u3) 876 ((am_i g6 33 24)).toNatClampNeg u4) 877 ((am_i g6 33 24)).toNatClampNeg u2) 878 ((am_i g6 33 24)).toNatClampNeg 0)))) (ai_gd (c := Nat.beq (v0_kd (55 + 18 * u4.toNatClampNeg)) 8) rfl hc9) ?_
      refine ev_om (S := fun (o : Option Nat) => (279, [some (.ref 33), some (.int u1), some (.int u2), some (.int u3), some (.int u4), some (.int u5)], [am_v o, .ref (903 + ((am_i g6 33 24)).toNatClampNeg)], (v0 L, (am_si (am_si (am_si (am_si g6 875 ((am_i g6 33 24)).toNatClampNeg u3) 876 ((am_i g6 33 24)).toNatClampNeg u4) 877 ((am_i g6 33 24)).toNatClampNeg u2) 878 ((am_i g6 33 24)).toNatClampNeg 0)))) ?_ (fun o10 => ?_)
      · exact fun hR => nomatch hR
      · refine ev_gd (c := Nat.beq (v0_kd (903 + ((am_i g6 33 24)).toNatClampNeg)) 15) (fun hc13 => ?_)
        refine ev_ov0 0 (as := [.ref (903 + ((am_i g6 33 24)).toNatClampNeg), .ref o10]) (pc := 282) (Lc := [some (.ref 33), some (.int u1), some (.int u2), some (.int u3), some (.int u4), some (.int u5)]) (st := []) (V := v0 L) (g1 := (am_si (am_si (am_si (am_si g6 875 ((am_i g6 33 24)).toNatClampNeg u3) 876 ((am_i g6 33 24)).toNatClampNeg u4) 877 ((am_i g6 33 24)).toNatClampNeg u2) 878 ((am_i g6 33 24)).toNatClampNeg 0)) (ai_gd (c := Nat.beq (v0_kd (903 + ((am_i g6 33 24)).toNatClampNeg)) 15 && true) rfl (ai_ct hc13)) (dm_222 L (am_si (am_si (am_si (am_si g6 875 ((am_i g6 33 24)).toNatClampNeg u3) 876 ((am_i g6 33 24)).toNatClampNeg u4) 877 ((am_i g6 33 24)).toNatClampNeg u2) 878 ((am_i g6 33 24)).toNatClampNeg 0) (903 + ((am_i g6 33 24)).toNatClampNeg) o10) (fun g12 => ?_)
        exact dj_280_282 L g12 u5 (some (.int u1)) (some (.int u2)) (some (.int u3)) (some (.int u4)) _
    · exact dj_280_282 L (am_si (am_si (am_si (am_si g6 875 ((am_i g6 33 24)).toNatClampNeg u3) 876 ((am_i g6 33 24)).toNatClampNeg u4) 877 ((am_i g6 33 24)).toNatClampNeg u2) 878 ((am_i g6 33 24)).toNatClampNeg 0) u5 (some (.int u1)) (some (.int u2)) (some (.int u3)) (some (.int u4)) _
noncomputable def fj_280_153  (g : am_G) (u1 : Int32) (u2 : Int32) (u3 : Int32) (u4 : Int32) : Option ((Unit ⊕ Nat) × am_G) := lo_p (fm_240 g 47) fun y1 => if y1 = 0 then fj_280_173 g u1 u2 u3 u4 y1 else lo_p (fm_177 g ) fun g4 => fj_280_173 g4 u1 u2 u3 u4 y1
theorem dj_280_153 (L : Nat)   (g : am_G) (u1 : Int32) (u2 : Int32) (u3 : Int32) (u4 : Int32) (w5 : Option Value) (R : (Unit ⊕ Nat) × am_G) : fj_280_153  g u1 u2 u3 u4 = some R → ai_ev ap_P 280 (153, [some (.ref 33), some (.int u1), some (.int u2), some (.int u3), some (.int u4), w5], [], (v0 L, g)) (oz_r ez_v R.1) (v0 L, R.2) := by
  unfold fj_280_153
  refine ev_op 2 (as := [.ref 33, .int 47]) (pc := 159) (Lc := [some (.ref 33), some (.int u1), some (.int u2), some (.int u3), some (.int u4), none]) (st := []) (h1 := (v0 L, g)) (e := ez_i) rfl (dm_240 L g 47) (fun y1 => ?_)
  refine ev_if 2 (p := y1 = 0) (a := 173) (b := 166) (T := ([some (.ref 33), some (.int u1), some (.int u2), some (.int u3), some (.int u4), some (.int y1)], [], (v0 L, g))) rfl ?_ ?_
  · exact dj_280_173 L g u1 u2 u3 u4 y1 _
  · refine ev_ov0 2 (as := [.ref 39]) (pc := 173) (Lc := [some (.ref 33), some (.int u1), some (.int u2), some (.int u3), some (.int u4), some (.int y1)]) (st := []) (V := v0 L) (g1 := g) rfl (dm_177 L g ) (fun g4 => ?_)
    exact dj_280_173 L g4 u1 u2 u3 u4 y1 _
noncomputable def fb_280_113 (k113 : (am_G × Int32 × Int32 × Int32 × Int32) → Option ((Unit ⊕ Nat) × am_G)) (g : am_G) (u1 : Int32) (u2 : Int32) (u3 : Int32) (u4 : Int32) : Option ((Unit ⊕ Nat) × am_G) := lo_i (fm_242 g ) fun y1 g2 => lo_p (fm_240 g2 47) fun y3 => if y3 = 0 then lo_p (fm_240 g2 62) fun y5 => if y5 = 0 then lo_t (fm_238 g2 y1) fun y7 g8 => lo_t (fm_284 g8 ) fun y9 g10 => k113 (g10, u1, u2, u3, u4) else fj_280_153 g2 u1 u2 u3 u4 else fj_280_153 g2 u1 u2 u3 u4
theorem db_280_113 (L : Nat) {k113 : (am_G × Int32 × Int32 × Int32 × Int32) → Option ((Unit ⊕ Nat) × am_G)} (hk113 : ∀ (x : am_G × Int32 × Int32 × Int32 × Int32) (w5 : Option Value) (R : (Unit ⊕ Nat) × am_G), k113 x = some R → ai_ev ap_P 280 (113, [some (.ref 33), some (.int x.2.1), some (.int x.2.2.1), some (.int x.2.2.2.1), some (.int x.2.2.2.2), w5], [], (v0 L, x.1)) (oz_r ez_v R.1) (v0 L, R.2)) (g : am_G) (u1 : Int32) (u2 : Int32) (u3 : Int32) (u4 : Int32) (w5 : Option Value) (R : (Unit ⊕ Nat) × am_G) : fb_280_113 k113 g u1 u2 u3 u4 = some R → ai_ev ap_P 280 (113, [some (.ref 33), some (.int u1), some (.int u2), some (.int u3), some (.int u4), w5], [], (v0 L, g)) (oz_r ez_v R.1) (v0 L, R.2) := by
  unfold fb_280_113
  refine ev_oi 1 (as := [.ref 33]) (pc := 117) (Lc := [some (.ref 33), some (.int u1), some (.int u2), some (.int u3), some (.int u4), none]) (st := []) (V := v0 L) (g1 := g) (e := ez_i) rfl (dm_242 L g ) (fun y1 g2 => ?_)
  refine ev_op 3 (as := [.ref 33, .int 47]) (pc := 125) (Lc := [some (.ref 33), some (.int u1), some (.int u2), some (.int u3), some (.int u4), some (.int y1)]) (st := []) (h1 := (v0 L, g2)) (e := ez_i) rfl (dm_240 L g2 47) (fun y3 => ?_)
  refine ev_in 0 (p := y3 = 0) (a := 153) (b := 128) (T := ([some (.ref 33), some (.int u1), some (.int u2), some (.int u3), some (.int u4), some (.int y1)], [], (v0 L, g2))) rfl ?_ ?_
  · refine ev_op 2 (as := [.ref 33, .int 62]) (pc := 134) (Lc := [some (.ref 33), some (.int u1), some (.int u2), some (.int u3), some (.int u4), some (.int y1)]) (st := []) (h1 := (v0 L, g2)) (e := ez_i) rfl (dm_240 L g2 62) (fun y5 => ?_)
    refine ev_if 0 (p := y5 = 0) (a := 140) (b := 137) (T := ([some (.ref 33), some (.int u1), some (.int u2), some (.int u3), some (.int u4), some (.int y1)], [], (v0 L, g2))) rfl ?_ ?_
    · refine ev_ot 2 (as := [.ref 33, .int y1]) (pc := 146) (Lc := [some (.ref 33), some (.int u1), some (.int u2), some (.int u3), some (.int u4), some (.int y1)]) (st := []) (V := v0 L) (g1 := g2) (e := ez_v) rfl (dm_238 L g2 y1) (fun _ => rfl) (fun y7 g8 => ?_)
      refine ev_ot 1 (as := [.ref 33]) (pc := 150) (Lc := [some (.ref 33), some (.int u1), some (.int u2), some (.int u3), some (.int u4), some (.int y1)]) (st := []) (V := v0 L) (g1 := g8) (e := ez_v) rfl (dm_284 L g8 ) (fun _ => rfl) (fun y9 g10 => ?_)
      refine ev_jm 0 (t := (113, [some (.ref 33), some (.int u1), some (.int u2), some (.int u3), some (.int u4), some (.int y1)], [], (v0 L, g10))) rfl ?_
      exact hk113 (g10, u1, u2, u3, u4) (some (.int y1)) _
    · refine ev_jm 0 (t := (153, [some (.ref 33), some (.int u1), some (.int u2), some (.int u3), some (.int u4), some (.int y1)], [], (v0 L, g2))) rfl ?_
      exact dj_280_153 L g2 u1 u2 u3 u4 (some (.int y1)) _
  · exact dj_280_153 L g2 u1 u2 u3 u4 (some (.int y1)) _
noncomputable def fh_280_113  (x : am_G × Int32 × Int32 × Int32 × Int32) : Option ((Unit ⊕ Nat) × am_G) := lo_it (fun k x => fb_280_113 k x.1 x.2.1 x.2.2.1 x.2.2.2.1 x.2.2.2.2) nf_F x
theorem dh_280_113 (L : Nat)   (x : am_G × Int32 × Int32 × Int32 × Int32) (w5 : Option Value) (R : (Unit ⊕ Nat) × am_G) : fh_280_113  x = some R → ai_ev ap_P 280 (113, [some (.ref 33), some (.int x.2.1), some (.int x.2.2.1), some (.int x.2.2.2.1), some (.int x.2.2.2.2), w5], [], (v0 L, x.1)) (oz_r ez_v R.1) (v0 L, R.2) :=
  fun hr => lo_ev (E := fun x R => ∀ (w5 : Option Value), ai_ev ap_P 280 (113, [some (.ref 33), some (.int x.2.1), some (.int x.2.2.1), some (.int x.2.2.2.1), some (.int x.2.2.2.2), w5], [], (v0 L, x.1)) (oz_r ez_v R.1) (v0 L, R.2)) (fun k hk x R hr => fun w5 => db_280_113 L (fun x w5 R hr => hk x R hr w5) x.1 x.2.1 x.2.2.1 x.2.2.2.1 x.2.2.2.2 w5 R hr) nf_F x R hr w5
noncomputable def fj_280_108  (g : am_G) (u1 : Int32) (u2 : Int32) (u3 : Int32) (u4 : Int32) : Option ((Unit ⊕ Nat) × am_G) := fh_280_113 ((am_si g 33 28 0), u1, u2, u3, u4)
theorem dj_280_108 (L : Nat)   (g : am_G) (u1 : Int32) (u2 : Int32) (u3 : Int32) (u4 : Int32) (w5 : Option Value) (R : (Unit ⊕ Nat) × am_G) : fj_280_108  g u1 u2 u3 u4 = some R → ai_ev ap_P 280 (108, [some (.ref 33), some (.int u1), some (.int u2), some (.int u3), some (.int u4), w5], [], (v0 L, g)) (oz_r ez_v R.1) (v0 L, R.2) := by
  unfold fj_280_108
  refine ev_jm 2 (t := (113, [some (.ref 33), some (.int u1), some (.int u2), some (.int u3), some (.int u4), none], [], (v0 L, (am_si g 33 28 0)))) rfl ?_
  exact dh_280_113 L ((am_si g 33 28 0), u1, u2, u3, u4) none _
noncomputable def fj_280_97  (g : am_G) (u1 : Int32) (u2 : Int32) (u3 : Int32) (u4 : Int32) : Option ((Unit ⊕ Nat) × am_G) := if u4 = (-1) then lo_p (fm_239 g 3) fun g2 => fj_280_108 g2 u1 u2 u3 u4 else fj_280_108 g u1 u2 u3 u4
theorem dj_280_97 (L : Nat)   (g : am_G) (u1 : Int32) (u2 : Int32) (u3 : Int32) (u4 : Int32) (w5 : Option Value) (R : (Unit ⊕ Nat) × am_G) : fj_280_97  g u1 u2 u3 u4 = some R → ai_ev ap_P 280 (97, [some (.ref 33), some (.int u1), some (.int u2), some (.int u3), some (.int u4), w5], [], (v0 L, g)) (oz_r ez_v R.1) (v0 L, R.2) := by
  unfold fj_280_97
  refine ev_in 2 (p := u4 = (-1)) (a := 108) (b := 103) (T := ([some (.ref 33), some (.int u1), some (.int u2), some (.int u3), some (.int u4), none], [], (v0 L, g))) rfl ?_ ?_
  · refine ev_ov0 2 (as := [.ref 33, .int 3]) (pc := 108) (Lc := [some (.ref 33), some (.int u1), some (.int u2), some (.int u3), some (.int u4), none]) (st := []) (V := v0 L) (g1 := g) rfl (dm_239 L g 3) (fun g2 => ?_)
    exact dj_280_108 L g2 u1 u2 u3 u4 none _
  · exact dj_280_108 L g u1 u2 u3 u4 none _
noncomputable def fj_280_85  (g : am_G) (u1 : Int32) (u2 : Int32) (u3 : Int32) (u4 : Int32) : Option ((Unit ⊕ Nat) × am_G) := if (am_i g 33 24) ≤ 0 then fj_280_97 g u1 u2 u3 u4 else lo_p (fm_281 g u3) fun g2 => fj_280_97 g2 u1 u2 u3 u4
theorem dj_280_85 (L : Nat)   (g : am_G) (u1 : Int32) (u2 : Int32) (u3 : Int32) (u4 : Int32) (w5 : Option Value) (R : (Unit ⊕ Nat) × am_G) : fj_280_85  g u1 u2 u3 u4 = some R → ai_ev ap_P 280 (85, [some (.ref 33), some (.int u1), some (.int u2), some (.int u3), some (.int u4), w5], [], (v0 L, g)) (oz_r ez_v R.1) (v0 L, R.2) := by
  unfold fj_280_85
  refine ev_if 2 (p := (am_i g 33 24) ≤ 0) (a := 97) (b := 92) (T := ([some (.ref 33), some (.int u1), some (.int u2), some (.int u3), some (.int u4), none], [], (v0 L, g))) rfl ?_ ?_
  · exact dj_280_97 L g u1 u2 u3 u4 none _
  · refine ev_ov0 2 (as := [.ref 33, .int u3]) (pc := 97) (Lc := [some (.ref 33), some (.int u1), some (.int u2), some (.int u3), some (.int u4), none]) (st := []) (V := v0 L) (g1 := g) rfl (dm_281 L g u3) (fun g2 => ?_)
    exact dj_280_97 L g2 u1 u2 u3 u4 none _
/-- DeclaredMarkup$Processor.start()V -/
noncomputable def fm_280 (g : am_G)  : Option ((Unit ⊕ Nat) × am_G) := lo_p (fm_178 g ) fun y1 => lo_l (am_i g 39 4) fun x3 => lo_t (fm_247 g ) fun y4 g5 => if (am_i g5 33 24) = 40 then lo_i (fm_237 g5 8 y1) fun y10 g11 => lo_g (Nat.ble 1008 y10 && Nat.blt y10 (am_sz g11)) (some (.inr y10, g11)) else lo_p (fm_163 (am_si g5 33 15 ((am_i g5 33 15) + 1)) y4) fun y6 => if (am_i g5 33 24) = 0 then if (am_i g5 33 17) = 0 then fj_280_85 (am_si g5 33 15 ((am_i g5 33 15) + 1)) y1 x3 y4 y6 else if y4 = (am_i g5 33 18) then fj_280_85 (am_si g5 33 15 ((am_i g5 33 15) + 1)) y1 x3 y4 y6 else lo_p (fm_239 (am_si g5 33 15 ((am_i g5 33 15) + 1)) 1) fun g9 => fj_280_85 g9 y1 x3 y4 y6 else fj_280_85 (am_si g5 33 15 ((am_i g5 33 15) + 1)) y1 x3 y4 y6
theorem dm_280 (L : Nat) (g : am_G)  (R : (Unit ⊕ Nat) × am_G) : fm_280 g  = some R → ai_ev ap_P 280 (ai_e0 ap_P 280 [.ref 33] (v0 L, g)) (oz_r ez_v R.1) (v0 L, R.2) := by
  show _ → ai_ev ap_P 280 (0, [some (.ref 33), none, none, none, none, none], [], (v0 L, g)) _ _
  unfold fm_280
  refine ev_op 2 (as := [.ref 39]) (pc := 7) (Lc := [some (.ref 33), none, none, none, none, none]) (st := []) (h1 := (v0 L, g)) (e := ez_i) rfl (dm_178 L g ) (fun y1 => ?_)
  refine ev_jm 3 (t := (15, [some (.ref 33), some (.int y1), none, none, none, none], [.int (am_i g 39 4)], (v0 L, g))) rfl ?_
  refine lo_e (S := fun (x3 : Int32) => (15, [some (.ref 33), some (.int y1), none, none, none, none], [.int x3], (v0 L, g))) (fun x3 => ?_)
  refine ev_ot 2 (as := [.ref 33]) (pc := 20) (Lc := [some (.ref 33), some (.int y1), some (.int x3), none, none, none]) (st := []) (V := v0 L) (g1 := g) (e := ez_i) rfl (dm_247 L g ) (fun _ => rfl) (fun y4 g5 => ?_)
  refine ev_in 4 (p := (am_i g5 33 24) = 40) (a := 38) (b := 30) (T := ([some (.ref 33), some (.int y1), some (.int x3), some (.int y4), none, none], [], (v0 L, g5))) rfl ?_ ?_
  · refine ev_oi 3 (as := [.ref 33, .int 8, .int y1]) (pc := 37) (Lc := [some (.ref 33), some (.int y1), some (.int x3), some (.int y4), none, none]) (st := []) (V := v0 L) (g1 := g5) (e := ez_a) rfl (dm_237 L g5 8 y1) (fun y10 g11 => ?_)
    exact ev_at 0 (a := y10) (g1 := g11) rfl
  · refine ev_op 9 (as := [.ref 49, .int y4]) (pc := 56) (Lc := [some (.ref 33), some (.int y1), some (.int x3), some (.int y4), none, none]) (st := []) (h1 := (v0 L, (am_si g5 33 15 ((am_i g5 33 15) + 1)))) (e := ez_i) rfl (dm_163 L (am_si g5 33 15 ((am_i g5 33 15) + 1)) y4) (fun y6 => ?_)
    refine ev_in 3 (p := (am_i g5 33 24) = 0) (a := 85) (b := 65) (T := ([some (.ref 33), some (.int y1), some (.int x3), some (.int y4), some (.int y6), none], [], (v0 L, (am_si g5 33 15 ((am_i g5 33 15) + 1))))) rfl ?_ ?_
    · refine ev_if 2 (p := (am_i g5 33 17) = 0) (a := 85) (b := 72) (T := ([some (.ref 33), some (.int y1), some (.int x3), some (.int y4), some (.int y6), none], [], (v0 L, (am_si g5 33 15 ((am_i g5 33 15) + 1))))) rfl ?_ ?_
      · exact dj_280_85 L (am_si g5 33 15 ((am_i g5 33 15) + 1)) y1 x3 y4 y6 none _
      · refine ev_if 3 (p := y4 = (am_i g5 33 18)) (a := 85) (b := 80) (T := ([some (.ref 33), some (.int y1), some (.int x3), some (.int y4), some (.int y6), none], [], (v0 L, (am_si g5 33 15 ((am_i g5 33 15) + 1))))) rfl ?_ ?_
        · exact dj_280_85 L (am_si g5 33 15 ((am_i g5 33 15) + 1)) y1 x3 y4 y6 none _
        · refine ev_ov0 2 (as := [.ref 33, .int 1]) (pc := 85) (Lc := [some (.ref 33), some (.int y1), some (.int x3), some (.int y4), some (.int y6), none]) (st := []) (V := v0 L) (g1 := (am_si g5 33 15 ((am_i g5 33 15) + 1))) rfl (dm_239 L (am_si g5 33 15 ((am_i g5 33 15) + 1)) 1) (fun g9 => ?_)
          exact dj_280_85 L g9 y1 x3 y4 y6 none _
    · exact dj_280_85 L (am_si g5 33 15 ((am_i g5 33 15) + 1)) y1 x3 y4 y6 none _
noncomputable def fj_303_21  (g : am_G) (u1 : Int32) (t1 : Int64) : Option ((Int32 ⊕ Nat) × am_G) := lo_t (fm_245 g t1) fun y1 g2 => some (.inl (vp_nar .boolean u1), g2)
theorem dj_303_21 (L : Nat)   (g : am_G) (u1 : Int32) (t1 : Int64) (w0 : Option Value) (R : (Int32 ⊕ Nat) × am_G) : fj_303_21  g u1 t1 = some R → ai_ev ap_P 303 (21, [w0, some (.int u1)], [.long t1, .ref 33], (v0 L, g)) (oz_r ez_i R.1) (v0 L, R.2) := by
  unfold fj_303_21
  refine ev_ot 0 (as := [.ref 33, .long t1]) (pc := 24) (Lc := [none, some (.int u1)]) (st := []) (V := v0 L) (g1 := g) (e := ez_v) rfl (dm_245 L g t1) (fun _ => rfl) (fun y1 g2 => ?_)
  exact fun hR => by cases hR; exact ev_rt 1 rfl
/-- DeclaredMarkup$Processor.keyword()Z -/
noncomputable def fm_303 (g : am_G)  : Option ((Int32 ⊕ Nat) × am_G) := lo_p (fm_240 g 80) fun y1 => if y1 = 0 then fj_303_21 g y1 91643115226445 else fj_303_21 g y1 88327114737987
theorem dm_303 (L : Nat) (g : am_G)  (R : (Int32 ⊕ Nat) × am_G) : fm_303 g  = some R → ai_ev ap_P 303 (ai_e0 ap_P 303 [.ref 33] (v0 L, g)) (oz_r ez_i R.1) (v0 L, R.2) := by
  show _ → ai_ev ap_P 303 (0, [some (.ref 33), none], [], (v0 L, g)) _ _
  unfold fm_303
  refine ev_op 2 (as := [.ref 33, .int 80]) (pc := 6) (Lc := [some (.ref 33), none]) (st := []) (h1 := (v0 L, g)) (e := ez_i) rfl (dm_240 L g 80) (fun y1 => ?_)
  refine ev_if 3 (p := y1 = 0) (a := 18) (b := 12) (T := ([some (.ref 33), some (.int y1)], [.ref 33], (v0 L, g))) rfl ?_ ?_
  · refine ev_jm 0 (t := (21, [some (.ref 33), some (.int y1)], [.long 91643115226445, .ref 33], (v0 L, g))) rfl ?_
    exact dj_303_21 L g y1 91643115226445 (some (.ref 33)) _
  · refine ev_jm 1 (t := (21, [some (.ref 33), some (.int y1)], [.long 88327114737987, .ref 33], (v0 L, g))) rfl ?_
    exact dj_303_21 L g y1 88327114737987 (some (.ref 33)) _
/-- DeclaredMarkup$Processor.external()V -/
noncomputable def fm_302 (g : am_G)  : Option ((Unit ⊕ Nat) × am_G) := lo_p (fm_178 g ) fun y1 => lo_t (fm_303 g ) fun y3 g4 => lo_i (fm_236 g4 10 y1) fun y5 g6 => lo_g (Nat.ble 1008 y5 && Nat.blt y5 (am_sz g6)) (some (.inr y5, g6))
theorem dm_302 (L : Nat) (g : am_G)  (R : (Unit ⊕ Nat) × am_G) : fm_302 g  = some R → ai_ev ap_P 302 (ai_e0 ap_P 302 [.ref 33] (v0 L, g)) (oz_r ez_v R.1) (v0 L, R.2) := by
  show _ → ai_ev ap_P 302 (0, [some (.ref 33), none], [], (v0 L, g)) _ _
  unfold fm_302
  refine ev_op 2 (as := [.ref 39]) (pc := 7) (Lc := [some (.ref 33), none]) (st := []) (h1 := (v0 L, g)) (e := ez_i) rfl (dm_178 L g ) (fun y1 => ?_)
  refine ev_ot 2 (as := [.ref 33]) (pc := 12) (Lc := [some (.ref 33), some (.int y1)]) (st := []) (V := v0 L) (g1 := g) (e := ez_i) rfl (dm_303 L g ) (fun _ => rfl) (fun y3 g4 => ?_)
  refine ev_oi 4 (as := [.ref 33, .int 10, .int y1]) (pc := 20) (Lc := [some (.ref 33), some (.int y1)]) (st := []) (V := v0 L) (g1 := g4) (e := ez_a) rfl (dm_236 L g4 10 y1) (fun y5 g6 => ?_)
  exact ev_at 0 (a := y5) (g1 := g6) rfl
noncomputable def fb_165_4 (g : am_G) (k4 : (Int32 × Int32 × Int32) → Option (Int32)) (u1 : Int32) (u2 : Int32) (u3 : Int32) : Option (Int32) := if (am_i g 49 6) ≤ u3 then some u2 else lo_g (ai_in u3 80) (lo_g (Nat.beq (v0_kd (775 + u3.toNatClampNeg)) 11) (if (am_i g (775 + u3.toNatClampNeg) 0) = u1 then lo_l (u2 + 1) fun x4 => k4 (u1, x4, (u3 + 1)) else lo_l (u2 + 0) fun x3 => k4 (u1, x3, (u3 + 1))))
theorem db_165_4 (L : Nat) (g : am_G) {k4 : (Int32 × Int32 × Int32) → Option (Int32)} (hk4 : ∀ (x : Int32 × Int32 × Int32) (R : Int32), k4 x = some R → ai_ev ap_P 165 (4, [some (.ref 49), some (.int x.1), some (.int x.2.1), some (.int x.2.2)], [], (v0 L, g)) (.inl (ez_i R)) (v0 L, g)) (u1 : Int32) (u2 : Int32) (u3 : Int32) (R : Int32) : fb_165_4 g k4 u1 u2 u3 = some R → ai_ev ap_P 165 (4, [some (.ref 49), some (.int u1), some (.int u2), some (.int u3)], [], (v0 L, g)) (.inl (ez_i R)) (v0 L, g) := by
  unfold fb_165_4
  refine ev_if 3 (p := (am_i g 49 6) ≤ u3) (a := 39) (b := 12) (T := ([some (.ref 49), some (.int u1), some (.int u2), some (.int u3)], [], (v0 L, g))) rfl ?_ ?_
  · exact fun hR => by cases hR; exact ev_rt 1 rfl
  · refine ev_gd (c := ai_in u3 80) (fun hc1 => ?_)
    refine ev_fr (S := fun (o : Option Nat) => (19, [some (.ref 49), some (.int u1), some (.int u2), some (.int u3)], [am_v o, .int u2], (v0 L, g))) 4 (e := v0_fr 51 u3.toNatClampNeg) (q := (775 + u3.toNatClampNeg)) (ai_gd (c := ai_in u3 80) rfl hc1) (fr_51 hc1) ?_
    refine ev_gd (c := Nat.beq (v0_kd (775 + u3.toNatClampNeg)) 11) (fun hc2 => ?_)
    refine ev_jm 0 (t := (22, [some (.ref 49), some (.int u1), some (.int u2), some (.int u3)], [.int (am_i g (775 + u3.toNatClampNeg) 0), .int u2], (v0 L, g))) (ai_gd (c := Nat.beq (v0_kd (775 + u3.toNatClampNeg)) 11) rfl hc2) ?_
    refine ev_in 1 (p := (am_i g (775 + u3.toNatClampNeg) 0) = u1) (a := 30) (b := 26) (T := ([some (.ref 49), some (.int u1), some (.int u2), some (.int u3)], [.int u2], (v0 L, g))) rfl ?_ ?_
    · refine ev_jm 2 (t := (32, [some (.ref 49), some (.int u1), none, some (.int u3)], [.int (u2 + 1)], (v0 L, g))) rfl ?_
      refine lo_e (S := fun (x4 : Int32) => (32, [some (.ref 49), some (.int u1), none, some (.int u3)], [.int x4], (v0 L, g))) (fun x4 => ?_)
      refine ev_jm 2 (t := (4, [some (.ref 49), some (.int u1), some (.int x4), some (.int (u3 + 1))], [], (v0 L, g))) rfl ?_
      exact hk4 (u1, x4, (u3 + 1)) _
    · refine ev_jm 1 (t := (32, [some (.ref 49), some (.int u1), none, some (.int u3)], [.int (u2 + 0)], (v0 L, g))) rfl ?_
      refine lo_e (S := fun (x3 : Int32) => (32, [some (.ref 49), some (.int u1), none, some (.int u3)], [.int x3], (v0 L, g))) (fun x3 => ?_)
      refine ev_jm 2 (t := (4, [some (.ref 49), some (.int u1), some (.int x3), some (.int (u3 + 1))], [], (v0 L, g))) rfl ?_
      exact hk4 (u1, x3, (u3 + 1)) _
noncomputable def fh_165_4 (g : am_G)  (x : Int32 × Int32 × Int32) : Option (Int32) := lo_it (fun k x => fb_165_4 g k x.1 x.2.1 x.2.2) nf_F x
theorem dh_165_4 (L : Nat) (g : am_G)   (x : Int32 × Int32 × Int32) (R : Int32) : fh_165_4 g  x = some R → ai_ev ap_P 165 (4, [some (.ref 49), some (.int x.1), some (.int x.2.1), some (.int x.2.2)], [], (v0 L, g)) (.inl (ez_i R)) (v0 L, g) :=
  fun hr => lo_ev (E := fun x R => ai_ev ap_P 165 (4, [some (.ref 49), some (.int x.1), some (.int x.2.1), some (.int x.2.2)], [], (v0 L, g)) (.inl (ez_i R)) (v0 L, g)) (fun k hk x R hr => db_165_4 L g hk x.1 x.2.1 x.2.2  R hr) nf_F x R hr
/-- DeclaredMarkup$Declared.attributesOf(I)I -/
noncomputable def fm_165 (g : am_G) (u1 : Int32) : Option (Int32) := fh_165_4 g (u1, 0, 0)
theorem dm_165 (L : Nat) (g : am_G) (u1 : Int32) (R : Int32) : fm_165 g u1 = some R → ai_ev ap_P 165 (ai_e0 ap_P 165 [.ref 49, .int u1] (v0 L, g)) (.inl (ez_i R)) (v0 L, g) := by
  show _ → ai_ev ap_P 165 (0, [some (.ref 49), some (.int u1), none, none], [], (v0 L, g)) _ _
  unfold fm_165
  refine ev_jm 3 (t := (4, [some (.ref 49), some (.int u1), some (.int 0), some (.int 0)], [], (v0 L, g))) rfl ?_
  exact dh_165_4 L g (u1, 0, 0) _
noncomputable def fb_249_29 (k29 : (am_G × Int32) → Option ((Int32 ⊕ Nat) × am_G)) (g : am_G) (u1 : Int32) : Option ((Int32 ⊕ Nat) × am_G) := lo_p (fm_176 g ) fun y1 => lo_p (fm_187 g y1) fun y3 => if y3 = 0 then lo_p (fm_230 g ) fun y5 => if y5 = 0 then lo_i (fm_234 g ) fun y7 g8 => some (.inl y7, g8) else lo_i (fm_237 g 1 u1) fun y9 g10 => lo_g (Nat.ble 1008 y9 && Nat.blt y9 (am_sz g10)) (some (.inr y9, g10)) else lo_p (fm_176 g ) fun y11 => lo_p (fm_229 g y11) fun g14 => lo_p (fm_177 g14 ) fun g16 => k29 (g16, u1)
theorem db_249_29 (L : Nat) {k29 : (am_G × Int32) → Option ((Int32 ⊕ Nat) × am_G)} (hk29 : ∀ (x : am_G × Int32) (R : (Int32 ⊕ Nat) × am_G), k29 x = some R → ai_ev ap_P 249 (29, [some (.ref 33), some (.int x.2)], [], (v0 L, x.1)) (oz_r ez_i R.1) (v0 L, R.2)) (g : am_G) (u1 : Int32) (R : (Int32 ⊕ Nat) × am_G) : fb_249_29 k29 g u1 = some R → ai_ev ap_P 249 (29, [some (.ref 33), some (.int u1)], [], (v0 L, g)) (oz_r ez_i R.1) (v0 L, R.2) := by
  unfold fb_249_29
  refine ev_op 2 (as := [.ref 39]) (pc := 36) (Lc := [some (.ref 33), some (.int u1)]) (st := []) (h1 := (v0 L, g)) (e := ez_i) rfl (dm_176 L g ) (fun y1 => ?_)
  refine ev_op 0 (as := [.int y1]) (pc := 39) (Lc := [some (.ref 33), some (.int u1)]) (st := []) (h1 := (v0 L, g)) (e := ez_i) rfl (dm_187 L g y1) (fun y3 => ?_)
  refine ev_if 0 (p := y3 = 0) (a := 66) (b := 42) (T := ([some (.ref 33), some (.int u1)], [], (v0 L, g))) rfl ?_ ?_
  · refine ev_op 2 (as := [.ref 43]) (pc := 73) (Lc := [some (.ref 33), some (.int u1)]) (st := []) (h1 := (v0 L, g)) (e := ez_i) rfl (dm_230 L g ) (fun y5 => ?_)
    refine ev_if 0 (p := y5 = 0) (a := 83) (b := 76) (T := ([some (.ref 33), some (.int u1)], [], (v0 L, g))) rfl ?_ ?_
    · refine ev_oi 2 (as := [.ref 43]) (pc := 90) (Lc := [some (.ref 33), some (.int u1)]) (st := []) (V := v0 L) (g1 := g) (e := ez_i) rfl (dm_234 L g ) (fun y7 g8 => ?_)
      exact fun hR => by cases hR; exact ev_rt 0 rfl
    · refine ev_oi 3 (as := [.ref 33, .int 1, .int u1]) (pc := 82) (Lc := [some (.ref 33), some (.int u1)]) (st := []) (V := v0 L) (g1 := g) (e := ez_a) rfl (dm_237 L g 1 u1) (fun y9 g10 => ?_)
      exact ev_at 0 (a := y9) (g1 := g10) rfl
  · refine ev_op 4 (as := [.ref 39]) (pc := 53) (Lc := [some (.ref 33), some (.int u1)]) (st := [.ref 43]) (h1 := (v0 L, g)) (e := ez_i) rfl (dm_176 L g ) (fun y11 => ?_)
    refine ev_ov0 0 (as := [.ref 43, .int y11]) (pc := 56) (Lc := [some (.ref 33), some (.int u1)]) (st := []) (V := v0 L) (g1 := g) rfl (dm_229 L g y11) (fun g14 => ?_)
    refine ev_ov0 2 (as := [.ref 39]) (pc := 63) (Lc := [some (.ref 33), some (.int u1)]) (st := []) (V := v0 L) (g1 := g14) rfl (dm_177 L g14 ) (fun g16 => ?_)
    refine ev_jm 0 (t := (29, [some (.ref 33), some (.int u1)], [], (v0 L, g16))) rfl ?_
    exact hk29 (g16, u1) _
noncomputable def fh_249_29  (x : am_G × Int32) : Option ((Int32 ⊕ Nat) × am_G) := lo_it (fun k x => fb_249_29 k x.1 x.2) nf_F x
theorem dh_249_29 (L : Nat)   (x : am_G × Int32) (R : (Int32 ⊕ Nat) × am_G) : fh_249_29  x = some R → ai_ev ap_P 249 (29, [some (.ref 33), some (.int x.2)], [], (v0 L, x.1)) (oz_r ez_i R.1) (v0 L, R.2) :=
  fun hr => lo_ev (E := fun x R => ai_ev ap_P 249 (29, [some (.ref 33), some (.int x.2)], [], (v0 L, x.1)) (oz_r ez_i R.1) (v0 L, R.2)) (fun k hk x R hr => db_249_29 L hk x.1 x.2  R hr) nf_F x R hr
/-- DeclaredMarkup$Processor.token()I -/
noncomputable def fm_249 (g : am_G)  : Option ((Int32 ⊕ Nat) × am_G) := lo_p (fm_178 g ) fun y1 => lo_p (fm_176 g ) fun y3 => lo_p (fm_187 g y3) fun y5 => lo_t (fm_238 g y5) fun y7 g8 => lo_p (fm_228 g8 ) fun g10 => fh_249_29 (g10, y1)
theorem dm_249 (L : Nat) (g : am_G)  (R : (Int32 ⊕ Nat) × am_G) : fm_249 g  = some R → ai_ev ap_P 249 (ai_e0 ap_P 249 [.ref 33] (v0 L, g)) (oz_r ez_i R.1) (v0 L, R.2) := by
  show _ → ai_ev ap_P 249 (0, [some (.ref 33), none], [], (v0 L, g)) _ _
  unfold fm_249
  refine ev_op 2 (as := [.ref 39]) (pc := 7) (Lc := [some (.ref 33), none]) (st := []) (h1 := (v0 L, g)) (e := ez_i) rfl (dm_178 L g ) (fun y1 => ?_)
  refine ev_op 4 (as := [.ref 39]) (pc := 16) (Lc := [some (.ref 33), some (.int y1)]) (st := [.ref 33]) (h1 := (v0 L, g)) (e := ez_i) rfl (dm_176 L g ) (fun y3 => ?_)
  refine ev_op 0 (as := [.int y3]) (pc := 19) (Lc := [some (.ref 33), some (.int y1)]) (st := [.ref 33]) (h1 := (v0 L, g)) (e := ez_i) rfl (dm_187 L g y3) (fun y5 => ?_)
  refine ev_ot 0 (as := [.ref 33, .int y5]) (pc := 22) (Lc := [some (.ref 33), some (.int y1)]) (st := []) (V := v0 L) (g1 := g) (e := ez_v) rfl (dm_238 L g y5) (fun _ => rfl) (fun y7 g8 => ?_)
  refine ev_ov0 2 (as := [.ref 43]) (pc := 29) (Lc := [some (.ref 33), some (.int y1)]) (st := []) (V := v0 L) (g1 := g8) rfl (dm_228 L g8 ) (fun g10 => ?_)
  exact dh_249_29 L (g10, y1) _
noncomputable def fj_322_68  (g : am_G) (u3 : Int32) : Option ((Unit ⊕ Nat) × am_G) := lo_i (fm_237 g 5 u3) fun y1 g2 => lo_g (Nat.ble 1008 y1 && Nat.blt y1 (am_sz g2)) (some (.inr y1, g2))
theorem dj_322_68 (L : Nat)   (g : am_G) (u3 : Int32) (w1 w2 w4 : Option Value) (R : (Unit ⊕ Nat) × am_G) : fj_322_68  g u3 = some R → ai_ev ap_P 322 (68, [some (.ref 33), w1, w2, some (.int u3), w4], [], (v0 L, g)) (oz_r ez_v R.1) (v0 L, R.2) := by
  unfold fj_322_68
  refine ev_oi 3 (as := [.ref 33, .int 5, .int u3]) (pc := 74) (Lc := [some (.ref 33), none, none, some (.int u3), none]) (st := []) (V := v0 L) (g1 := g) (e := ez_a) rfl (dm_237 L g 5 u3) (fun y1 g2 => ?_)
  exact ev_at 0 (a := y1) (g1 := g2) rfl
noncomputable def fj_322_75 (k0 : (am_G × Int32 × Int32) → Option ((Unit ⊕ Nat) × am_G)) (g : am_G) (u1 : Int32) (u2 : Int32) (u4 : Int32) : Option ((Unit ⊕ Nat) × am_G) := lo_g (ai_in (am_i g 33 34) 30) (lo_i (fm_242 (am_si (am_si g 885 ((am_i g 33 34)).toNatClampNeg u4) 33 34 ((am_i g 33 34) + 1)) ) fun y2 g3 => lo_p (fm_240 g3 124) fun y4 => if y4 = 0 then lo_t (fm_244 g3 41) fun y6 g7 => some (.inl (), g7) else k0 (g3, u1, u2))
theorem dj_322_75 (L : Nat) {k0 : (am_G × Int32 × Int32) → Option ((Unit ⊕ Nat) × am_G)} (hk0 : ∀ (x : am_G × Int32 × Int32) (w3 w4 : Option Value) (R : (Unit ⊕ Nat) × am_G), k0 x = some R → ai_ev ap_P 322 (0, [some (.ref 33), some (.int x.2.1), some (.int x.2.2), w3, w4], [], (v0 L, x.1)) (oz_r ez_v R.1) (v0 L, R.2)) (g : am_G) (u1 : Int32) (u2 : Int32) (u4 : Int32) (w3 : Option Value) (R : (Unit ⊕ Nat) × am_G) : fj_322_75 k0 g u1 u2 u4 = some R → ai_ev ap_P 322 (75, [some (.ref 33), some (.int u1), some (.int u2), w3, some (.int u4)], [], (v0 L, g)) (oz_r ez_v R.1) (v0 L, R.2) := by
  unfold fj_322_75
  refine ev_gd (c := ai_in (am_i g 33 34) 30) (fun hc1 => ?_)
  refine ev_jm 5 (t := (86, [some (.ref 33), some (.int u1), some (.int u2), none, some (.int u4)], [], (v0 L, (am_si g 885 ((am_i g 33 34)).toNatClampNeg u4)))) (ai_gd (c := ai_in (am_i g 33 34) 30) rfl hc1) ?_
  refine ev_oi 7 (as := [.ref 33]) (pc := 100) (Lc := [some (.ref 33), some (.int u1), some (.int u2), none, some (.int u4)]) (st := []) (V := v0 L) (g1 := (am_si (am_si g 885 ((am_i g 33 34)).toNatClampNeg u4) 33 34 ((am_i g 33 34) + 1))) (e := ez_i) rfl (dm_242 L (am_si (am_si g 885 ((am_i g 33 34)).toNatClampNeg u4) 33 34 ((am_i g 33 34) + 1)) ) (fun y2 g3 => ?_)
  refine ev_op 3 (as := [.ref 33, .int 124]) (pc := 107) (Lc := [some (.ref 33), some (.int u1), some (.int u2), none, some (.int u4)]) (st := []) (h1 := (v0 L, g3)) (e := ez_i) rfl (dm_240 L g3 124) (fun y4 => ?_)
  refine ev_in 0 (p := y4 = 0) (a := 0) (b := 110) (T := ([some (.ref 33), some (.int u1), some (.int u2), none, some (.int u4)], [], (v0 L, g3))) rfl ?_ ?_
  · refine ev_ot 2 (as := [.ref 33, .int 41]) (pc := 116) (Lc := [some (.ref 33), some (.int u1), some (.int u2), none, some (.int u4)]) (st := []) (V := v0 L) (g1 := g3) (e := ez_v) rfl (dm_244 L g3 41) (fun _ => rfl) (fun y6 g7 => ?_)
    exact fun hR => by cases hR; exact ev_rt 0 rfl
  · exact hk0 (g3, u1, u2) none (some (.int u4)) _
noncomputable def fj_322_35 (k0 : (am_G × Int32 × Int32) → Option ((Unit ⊕ Nat) × am_G)) (g : am_G) (u1 : Int32) (u2 : Int32) (u3 : Int32) (t0 : Int32) : Option ((Unit ⊕ Nat) × am_G) := if (am_i g 33 34) = 30 then fj_322_68 g u3 else if u2 = 0 then if ((am_i g 49 7) + (am_i g 33 34)) = 300 then fj_322_68 g u3 else fj_322_75 k0 g u1 u2 t0 else fj_322_75 k0 g u1 u2 t0
theorem dj_322_35 (L : Nat) {k0 : (am_G × Int32 × Int32) → Option ((Unit ⊕ Nat) × am_G)} (hk0 : ∀ (x : am_G × Int32 × Int32) (w3 w4 : Option Value) (R : (Unit ⊕ Nat) × am_G), k0 x = some R → ai_ev ap_P 322 (0, [some (.ref 33), some (.int x.2.1), some (.int x.2.2), w3, w4], [], (v0 L, x.1)) (oz_r ez_v R.1) (v0 L, R.2)) (g : am_G) (u1 : Int32) (u2 : Int32) (u3 : Int32) (t0 : Int32) (w4 : Option Value) (R : (Unit ⊕ Nat) × am_G) : fj_322_35 k0 g u1 u2 u3 t0 = some R → ai_ev ap_P 322 (35, [some (.ref 33), some (.int u1), some (.int u2), some (.int u3), w4], [.int t0], (v0 L, g)) (oz_r ez_v R.1) (v0 L, R.2) := by
  unfold fj_322_35
  refine ev_if 4 (p := (am_i g 33 34) = 30) (a := 68) (b := 46) (T := ([some (.ref 33), some (.int u1), some (.int u2), some (.int u3), some (.int t0)], [], (v0 L, g))) rfl ?_ ?_
  · exact dj_322_68 L g u3 (some (.int u1)) (some (.int u2)) (some (.int t0)) _
  · refine ev_in 1 (p := u2 = 0) (a := 75) (b := 50) (T := ([some (.ref 33), some (.int u1), some (.int u2), some (.int u3), some (.int t0)], [], (v0 L, g))) rfl ?_ ?_
    · refine ev_in 7 (p := ((am_i g 49 7) + (am_i g 33 34)) = 300) (a := 75) (b := 68) (T := ([some (.ref 33), some (.int u1), some (.int u2), some (.int u3), some (.int t0)], [], (v0 L, g))) rfl ?_ ?_
      · exact dj_322_68 L g u3 (some (.int u1)) (some (.int u2)) (some (.int t0)) _
      · exact dj_322_75 L hk0 g u1 u2 t0 (some (.int u3)) _
    · exact dj_322_75 L hk0 g u1 u2 t0 (some (.int u3)) _
noncomputable def fb_322_0 (k0 : (am_G × Int32 × Int32) → Option ((Unit ⊕ Nat) × am_G)) (g : am_G) (u1 : Int32) (u2 : Int32) : Option ((Unit ⊕ Nat) × am_G) := lo_p (fm_177 g ) fun g2 => lo_i (fm_242 g2 ) fun y3 g4 => lo_p (fm_178 g4 ) fun y5 => if u1 = 0 then lo_t (fm_249 g4 ) fun y7 g8 => fj_322_35 k0 g8 u1 u2 y5 y7 else lo_t (fm_247 g4 ) fun y9 g10 => fj_322_35 k0 g10 u1 u2 y5 y9
theorem db_322_0 (L : Nat) {k0 : (am_G × Int32 × Int32) → Option ((Unit ⊕ Nat) × am_G)} (hk0 : ∀ (x : am_G × Int32 × Int32) (w3 w4 : Option Value) (R : (Unit ⊕ Nat) × am_G), k0 x = some R → ai_ev ap_P 322 (0, [some (.ref 33), some (.int x.2.1), some (.int x.2.2), w3, w4], [], (v0 L, x.1)) (oz_r ez_v R.1) (v0 L, R.2)) (g : am_G) (u1 : Int32) (u2 : Int32) (w3 w4 : Option Value) (R : (Unit ⊕ Nat) × am_G) : fb_322_0 k0 g u1 u2 = some R → ai_ev ap_P 322 (0, [some (.ref 33), some (.int u1), some (.int u2), w3, w4], [], (v0 L, g)) (oz_r ez_v R.1) (v0 L, R.2) := by
  unfold fb_322_0
  refine ev_ov0 2 (as := [.ref 39]) (pc := 7) (Lc := [some (.ref 33), some (.int u1), some (.int u2), none, none]) (st := []) (V := v0 L) (g1 := g) rfl (dm_177 L g ) (fun g2 => ?_)
  refine ev_oi 1 (as := [.ref 33]) (pc := 11) (Lc := [some (.ref 33), some (.int u1), some (.int u2), none, none]) (st := []) (V := v0 L) (g1 := g2) (e := ez_i) rfl (dm_242 L g2 ) (fun y3 g4 => ?_)
  refine ev_op 3 (as := [.ref 39]) (pc := 19) (Lc := [some (.ref 33), some (.int u1), some (.int u2), none, none]) (st := []) (h1 := (v0 L, g4)) (e := ez_i) rfl (dm_178 L g4 ) (fun y5 => ?_)
  refine ev_if 2 (p := u1 = 0) (a := 31) (b := 24) (T := ([some (.ref 33), some (.int u1), some (.int u2), some (.int y5), none], [], (v0 L, g4))) rfl ?_ ?_
  · refine ev_ot 1 (as := [.ref 33]) (pc := 35) (Lc := [some (.ref 33), some (.int u1), some (.int u2), some (.int y5), none]) (st := []) (V := v0 L) (g1 := g4) (e := ez_i) rfl (dm_249 L g4 ) (fun _ => rfl) (fun y7 g8 => ?_)
    exact dj_322_35 L hk0 g8 u1 u2 y5 y7 none _
  · refine ev_ot 1 (as := [.ref 33]) (pc := 28) (Lc := [some (.ref 33), some (.int u1), some (.int u2), some (.int y5), none]) (st := []) (V := v0 L) (g1 := g4) (e := ez_i) rfl (dm_247 L g4 ) (fun _ => rfl) (fun y9 g10 => ?_)
    refine ev_jm 0 (t := (35, [some (.ref 33), some (.int u1), some (.int u2), some (.int y5), none], [.int y9], (v0 L, g10))) rfl ?_
    exact dj_322_35 L hk0 g10 u1 u2 y5 y9 none _
noncomputable def fh_322_0  (x : am_G × Int32 × Int32) : Option ((Unit ⊕ Nat) × am_G) := lo_it (fun k x => fb_322_0 k x.1 x.2.1 x.2.2) nf_F x
theorem dh_322_0 (L : Nat)   (x : am_G × Int32 × Int32) (w3 w4 : Option Value) (R : (Unit ⊕ Nat) × am_G) : fh_322_0  x = some R → ai_ev ap_P 322 (0, [some (.ref 33), some (.int x.2.1), some (.int x.2.2), w3, w4], [], (v0 L, x.1)) (oz_r ez_v R.1) (v0 L, R.2) :=
  fun hr => lo_ev (E := fun x R => ∀ (w3 w4 : Option Value), ai_ev ap_P 322 (0, [some (.ref 33), some (.int x.2.1), some (.int x.2.2), w3, w4], [], (v0 L, x.1)) (oz_r ez_v R.1) (v0 L, R.2)) (fun k hk x R hr => fun w3 w4 => db_322_0 L (fun x w3 w4 R hr => hk x R hr w3 w4) x.1 x.2.1 x.2.2 w3 w4 R hr) nf_F x R hr w3 w4
/-- DeclaredMarkup$Processor.listed(ZZ)V -/
noncomputable def fm_322 (g : am_G) (u1 : Int32) (u2 : Int32) : Option ((Unit ⊕ Nat) × am_G) := fh_322_0 (g, u1, u2)
theorem dm_322 (L : Nat) (g : am_G) (u1 : Int32) (u2 : Int32) (R : (Unit ⊕ Nat) × am_G) : fm_322 g u1 u2 = some R → ai_ev ap_P 322 (ai_e0 ap_P 322 [.ref 33, .int u1, .int u2] (v0 L, g)) (oz_r ez_v R.1) (v0 L, R.2) :=
  dh_322_0 L (g, u1, u2) none none R
/-- DeclaredMarkup$Processor.identifier()LDeclaredMarkup$AttType; -/
noncomputable def fm_321 (g : am_G)  : Option ((Nat ⊕ Nat) × am_G) := lo_t (fm_245 g 18756) fun y1 g2 => lo_p (fm_240 g2 82) fun y3 => if y3 = 0 then some (.inl 2, g2) else lo_t (fm_245 g2 5391686) fun y5 g6 => lo_p (fm_240 g6 83) fun y7 => if y7 = 0 then some (.inl 3, g6) else lo_p (fm_177 g6 ) fun g10 => some (.inl 4, g10)
theorem dm_321 (L : Nat) (g : am_G)  (R : (Nat ⊕ Nat) × am_G) : fm_321 g  = some R → ai_ev ap_P 321 (ai_e0 ap_P 321 [.ref 33] (v0 L, g)) (oz_r ez_a R.1) (v0 L, R.2) := by
  show _ → ai_ev ap_P 321 (0, [some (.ref 33)], [], (v0 L, g)) _ _
  unfold fm_321
  refine ev_ot 2 (as := [.ref 33, .long 18756]) (pc := 7) (Lc := [some (.ref 33)]) (st := []) (V := v0 L) (g1 := g) (e := ez_v) rfl (dm_245 L g 18756) (fun _ => rfl) (fun y1 g2 => ?_)
  refine ev_op 2 (as := [.ref 33, .int 82]) (pc := 13) (Lc := [some (.ref 33)]) (st := []) (h1 := (v0 L, g2)) (e := ez_i) rfl (dm_240 L g2 82) (fun y3 => ?_)
  refine ev_in 0 (p := y3 = 0) (a := 20) (b := 16) (T := ([some (.ref 33)], [], (v0 L, g2))) rfl ?_ ?_
  · exact fun hR => by cases hR; exact ev_rt 1 rfl
  · refine ev_ot 2 (as := [.ref 33, .long 5391686]) (pc := 27) (Lc := [some (.ref 33)]) (st := []) (V := v0 L) (g1 := g2) (e := ez_v) rfl (dm_245 L g2 5391686) (fun _ => rfl) (fun y5 g6 => ?_)
    refine ev_op 2 (as := [.ref 33, .int 83]) (pc := 33) (Lc := [some (.ref 33)]) (st := []) (h1 := (v0 L, g6)) (e := ez_i) rfl (dm_240 L g6 83) (fun y7 => ?_)
    refine ev_in 0 (p := y7 = 0) (a := 40) (b := 36) (T := ([some (.ref 33)], [], (v0 L, g6))) rfl ?_ ?_
    · exact fun hR => by cases hR; exact ev_rt 1 rfl
    · refine ev_ov0 2 (as := [.ref 39]) (pc := 47) (Lc := [some (.ref 33)]) (st := []) (V := v0 L) (g1 := g6) rfl (dm_177 L g6 ) (fun g10 => ?_)
      exact fun hR => by cases hR; exact ev_rt 1 rfl
