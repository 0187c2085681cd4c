/-- DeclaredMarkup$Group.clear()V -/
noncomputable def fm_182 (g : am_G) (u0 : Nat) : Option (am_G) := lo_g ((Nat.beq (v0_kd u0) 10 && Nat.ble 32 u0)) (some (am_sj (am_sj (am_si (am_si (am_si g u0 0 0) u0 1 0) u0 2 0) u0 3 0) u0 4 0))
theorem dm_182 (L : Nat) (g : am_G) (u0 : Nat) (R : am_G) : fm_182 g u0 = some R → ai_ev ap_P 182 (ai_e0 ap_P 182 [.ref u0] (v0 L, g)) (.inl none) (v0 L, R) := by
  show _ → ai_ev ap_P 182 (0, [some (.ref u0)], [], (v0 L, g)) _ _
  unfold fm_182
  refine ev_gd (c := (Nat.beq (v0_kd u0) 10 && Nat.ble 32 u0)) (fun hc1 => ?_)
  refine ev_jm 2 (t := (5, [some (.ref u0)], [], (v0 L, (am_si g u0 0 0)))) (ai_gd (c := (Nat.beq (v0_kd u0) 10 && Nat.ble 32 u0)) rfl hc1) ?_
  refine ev_jm 2 (t := (10, [some (.ref u0)], [], (v0 L, (am_si (am_si g u0 0 0) u0 1 0)))) (ai_gd (c := (Nat.beq (v0_kd u0) 10 && Nat.ble 32 u0)) rfl hc1) ?_
  refine ev_jm 2 (t := (15, [some (.ref u0)], [], (v0 L, (am_si (am_si (am_si g u0 0 0) u0 1 0) u0 2 0)))) (ai_gd (c := (Nat.beq (v0_kd u0) 10 && Nat.ble 32 u0)) rfl hc1) ?_
  refine ev_jm 2 (t := (20, [some (.ref u0)], [], (v0 L, (am_sj (am_si (am_si (am_si g u0 0 0) u0 1 0) u0 2 0) u0 3 0)))) (ai_gd (c := (Nat.beq (v0_kd u0) 10 && Nat.ble 32 u0)) rfl hc1) ?_
  refine ev_jm 2 (t := (25, [some (.ref u0)], [], (v0 L, (am_sj (am_sj (am_si (am_si (am_si g u0 0 0) u0 1 0) u0 2 0) u0 3 0) u0 4 0)))) (ai_gd (c := (Nat.beq (v0_kd u0) 10 && Nat.ble 32 u0)) rfl hc1) ?_
  exact fun hR => by cases hR; exact ev_rt 0 rfl
/-- DeclaredMarkup$Model.finish()V -/
noncomputable def fm_216 (g : am_G) (u0 : Nat) : Option (am_G) := lo_g (Nat.beq (v0_kd u0) 9) (lo_m (v0_fr u0 2) (none) fun o2 => lo_g (vk_in o2 120 0) (lo_m (v0_fr o2 0) (none) fun o4 => lo_g (Nat.beq (v0_kd o4) 10) (lo_g ((decide ((am_i g o4 2) = 0) || decide ((am_i g o4 2) = 1))) (lo_g ((Nat.beq (v0_kd u0) 9 && Nat.ble 32 u0)) (lo_m (v0_fr u0 2) (none) fun o8 => lo_g (vk_in o8 120 0) (lo_m (v0_fr o8 0) (none) fun o10 => lo_g (Nat.beq (v0_kd o10) 10) (lo_m (v0_fr u0 2) (none) fun o12 => lo_g (vk_in o12 120 0) (lo_m (v0_fr o12 0) (none) fun o14 => lo_g (Nat.beq (v0_kd o14) 10) (some (am_sj (am_sj (am_si g u0 5 (am_i g o4 2)) u0 6 (am_j g o10 3)) u0 7 (am_j (am_sj (am_si g u0 5 (am_i g o4 2)) u0 6 (am_j g o10 3)) o14 4)))))))))))
theorem dm_216 (L : Nat) (g : am_G) (u0 : Nat) (R : am_G) : fm_216 g u0 = some R → ai_ev ap_P 216 (ai_e0 ap_P 216 [.ref u0] (v0 L, g)) (.inl none) (v0 L, R) := by
  show _ → ai_ev ap_P 216 (0, [some (.ref u0)], [], (v0 L, g)) _ _
  unfold fm_216
  refine ev_gd (c := Nat.beq (v0_kd u0) 9) (fun hc1 => ?_)
  refine ev_jm 2 (t := (5, [some (.ref u0)], [am_v (v0_fr u0 2), .ref u0], (v0 L, g))) (ai_gd (c := Nat.beq (v0_kd u0) 9) rfl hc1) ?_
  refine ev_om (S := fun (o : Option Nat) => (5, [some (.ref u0)], [am_v o, .ref u0], (v0 L, g))) ?_ (fun o2 => ?_)
  · exact fun hR => nomatch hR
  · refine ev_gd (c := vk_in o2 120 0) (fun hc3 => ?_)
    refine ev_jm 1 (t := (7, [some (.ref u0)], [am_v (v0_fr o2 0), .ref u0], (v0 L, g))) (ai_gd (c := Nat.beq (v0_kd o2) 120 && ai_in 0 (v0_ln L o2)) rfl (vk_ld hc3)) ?_
    refine ev_om (S := fun (o : Option Nat) => (7, [some (.ref u0)], [am_v o, .ref u0], (v0 L, g))) ?_ (fun o4 => ?_)
    · exact fun hR => nomatch hR
    · refine ev_gd (c := Nat.beq (v0_kd o4) 10) (fun hc5 => ?_)
      refine ev_jm 0 (t := (10, [some (.ref u0)], [.int (am_i g o4 2), .ref u0], (v0 L, g))) (ai_gd (c := Nat.beq (v0_kd o4) 10) rfl hc5) ?_
      refine ev_gd (c := (decide ((am_i g o4 2) = 0) || decide ((am_i g o4 2) = 1))) (fun hc6 => ?_)
      refine ev_gd (c := (Nat.beq (v0_kd u0) 9 && Nat.ble 32 u0)) (fun hc7 => ?_)
      refine ev_pb 0 (d := (decide ((am_i g o4 2) = 0) || decide ((am_i g o4 2) = 1))) (h2 := (v0 L, (am_si g u0 5 (am_i g o4 2)))) (pc := 13) (Lc := [some (.ref u0)]) (st := []) (ai_gd (c := (Nat.beq (v0_kd u0) 9 && Nat.ble 32 u0)) rfl hc7) hc6 ?_
      refine ev_jm 2 (t := (18, [some (.ref u0)], [am_v (v0_fr u0 2), .ref u0], (v0 L, (am_si g u0 5 (am_i g o4 2))))) (ai_gd (c := Nat.beq (v0_kd u0) 9) rfl hc1) ?_
      refine ev_om (S := fun (o : Option Nat) => (18, [some (.ref u0)], [am_v o, .ref u0], (v0 L, (am_si g u0 5 (am_i g o4 2))))) ?_ (fun o8 => ?_)
      · exact fun hR => nomatch hR
      · refine ev_gd (c := vk_in o8 120 0) (fun hc9 => ?_)
        refine ev_jm 1 (t := (20, [some (.ref u0)], [am_v (v0_fr o8 0), .ref u0], (v0 L, (am_si g u0 5 (am_i g o4 2))))) (ai_gd (c := Nat.beq (v0_kd o8) 120 && ai_in 0 (v0_ln L o8)) rfl (vk_ld hc9)) ?_
        refine ev_om (S := fun (o : Option Nat) => (20, [some (.ref u0)], [am_v o, .ref u0], (v0 L, (am_si g u0 5 (am_i g o4 2))))) ?_ (fun o10 => ?_)
        · exact fun hR => nomatch hR
        · refine ev_gd (c := Nat.beq (v0_kd o10) 10) (fun hc11 => ?_)
          refine ev_jm 0 (t := (23, [some (.ref u0)], [.long (am_j g o10 3), .ref u0], (v0 L, (am_si g u0 5 (am_i g o4 2))))) (ai_gd (c := Nat.beq (v0_kd o10) 10) rfl hc11) ?_
          refine ev_jm 0 (t := (26, [some (.ref u0)], [], (v0 L, (am_sj (am_si g u0 5 (am_i g o4 2)) u0 6 (am_j g o10 3))))) (ai_gd (c := (Nat.beq (v0_kd u0) 9 && Nat.ble 32 u0)) rfl hc7) ?_
          refine ev_jm 2 (t := (31, [some (.ref u0)], [am_v (v0_fr u0 2), .ref u0], (v0 L, (am_sj (am_si g u0 5 (am_i g o4 2)) u0 6 (am_j g o10 3))))) (ai_gd (c := Nat.beq (v0_kd u0) 9) rfl hc1) ?_
          refine ev_om (S := fun (o : Option Nat) => (31, [some (.ref u0)], [am_v o, .ref u0], (v0 L, (am_sj (am_si g u0 5 (am_i g o4 2)) u0 6 (am_j g o10 3))))) ?_ (fun o12 => ?_)
          · exact fun hR => nomatch hR
          · refine ev_gd (c := vk_in o12 120 0) (fun hc13 => ?_)
            refine ev_jm 1 (t := (33, [some (.ref u0)], [am_v (v0_fr o12 0), .ref u0], (v0 L, (am_sj (am_si g u0 5 (am_i g o4 2)) u0 6 (am_j g o10 3))))) (ai_gd (c := Nat.beq (v0_kd o12) 120 && ai_in 0 (v0_ln L o12)) rfl (vk_ld hc13)) ?_
            refine ev_om (S := fun (o : Option Nat) => (33, [some (.ref u0)], [am_v o, .ref u0], (v0 L, (am_sj (am_si g u0 5 (am_i g o4 2)) u0 6 (am_j g o10 3))))) ?_ (fun o14 => ?_)
            · exact fun hR => nomatch hR
            · refine ev_gd (c := Nat.beq (v0_kd o14) 10) (fun hc15 => ?_)
              refine ev_jm 0 (t := (36, [some (.ref u0)], [.long (am_j (am_sj (am_si g u0 5 (am_i g o4 2)) u0 6 (am_j g o10 3)) o14 4), .ref u0], (v0 L, (am_sj (am_si g u0 5 (am_i g o4 2)) u0 6 (am_j g o10 3))))) (ai_gd (c := Nat.beq (v0_kd o14) 10) rfl hc15) ?_
              refine ev_jm 0 (t := (39, [some (.ref u0)], [], (v0 L, (am_sj (am_sj (am_si g u0 5 (am_i g o4 2)) u0 6 (am_j g o10 3)) u0 7 (am_j (am_sj (am_si g u0 5 (am_i g o4 2)) u0 6 (am_j g o10 3)) o14 4))))) (ai_gd (c := (Nat.beq (v0_kd u0) 9 && Nat.ble 32 u0)) rfl hc7) ?_
              exact fun hR => by cases hR; exact ev_rt 0 rfl
/-- DeclaredMarkup$Model.begin()V -/
noncomputable def fm_208 (g : am_G) (u0 : Nat) : Option (am_G) := lo_g ((Nat.beq (v0_kd u0) 9 && Nat.ble 32 u0)) (lo_g (Nat.beq (v0_kd u0) 9) (lo_m (v0_fr u0 2) (none) fun o3 => lo_g (vk_in o3 120 0) (lo_m (v0_fr o3 0) (none) fun o5 => lo_g (Nat.beq (v0_kd o5) 10) (lo_p (fm_182 (am_si (am_si g u0 3 0) u0 4 0) o5) fun g7 => lo_p (fm_216 g7 u0) fun g10 => some g10))))
theorem dm_208 (L : Nat) (g : am_G) (u0 : Nat) (R : am_G) : fm_208 g u0 = some R → ai_ev ap_P 208 (ai_e0 ap_P 208 [.ref u0] (v0 L, g)) (.inl none) (v0 L, R) := by
  show _ → ai_ev ap_P 208 (0, [some (.ref u0)], [], (v0 L, g)) _ _
  unfold fm_208
  refine ev_gd (c := (Nat.beq (v0_kd u0) 9 && Nat.ble 32 u0)) (fun hc1 => ?_)
  refine ev_jm 2 (t := (5, [some (.ref u0)], [], (v0 L, (am_si g u0 3 0)))) (ai_gd (c := (Nat.beq (v0_kd u0) 9 && Nat.ble 32 u0)) rfl hc1) ?_
  refine ev_jm 2 (t := (10, [some (.ref u0)], [], (v0 L, (am_si (am_si g u0 3 0) u0 4 0)))) (ai_gd (c := (Nat.beq (v0_kd u0) 9 && Nat.ble 32 u0)) rfl hc1) ?_
  refine ev_gd (c := Nat.beq (v0_kd u0) 9) (fun hc2 => ?_)
  refine ev_jm 1 (t := (14, [some (.ref u0)], [am_v (v0_fr u0 2)], (v0 L, (am_si (am_si g u0 3 0) u0 4 0)))) (ai_gd (c := Nat.beq (v0_kd u0) 9) rfl hc2) ?_
  refine ev_om (S := fun (o : Option Nat) => (14, [some (.ref u0)], [am_v o], (v0 L, (am_si (am_si g u0 3 0) u0 4 0)))) ?_ (fun o3 => ?_)
  · exact fun hR => nomatch hR
  · refine ev_gd (c := vk_in o3 120 0) (fun hc4 => ?_)
    refine ev_jm 1 (t := (16, [some (.ref u0)], [am_v (v0_fr o3 0)], (v0 L, (am_si (am_si g u0 3 0) u0 4 0)))) (ai_gd (c := Nat.beq (v0_kd o3) 120 && ai_in 0 (v0_ln L o3)) rfl (vk_ld hc4)) ?_
    refine ev_om (S := fun (o : Option Nat) => (16, [some (.ref u0)], [am_v o], (v0 L, (am_si (am_si g u0 3 0) u0 4 0)))) ?_ (fun o5 => ?_)
    · exact fun hR => nomatch hR
    · refine ev_gd (c := Nat.beq (v0_kd o5) 10) (fun hc8 => ?_)
      refine ev_ov0 0 (as := [.ref o5]) (pc := 19) (Lc := [some (.ref u0)]) (st := []) (V := v0 L) (g1 := (am_si (am_si g u0 3 0) u0 4 0)) (ai_gd (c := Nat.beq (v0_kd o5) 10 && true) rfl (ai_ct hc8)) (dm_182 L (am_si (am_si g u0 3 0) u0 4 0) o5) (fun g7 => ?_)
      refine ev_ov0 1 (as := [.ref u0]) (pc := 23) (Lc := [some (.ref u0)]) (st := []) (V := v0 L) (g1 := g7) (ai_gd (c := Nat.beq (v0_kd u0) 9 && true) rfl (ai_ct hc2)) (dm_216 L g7 u0) (fun g10 => ?_)
      exact fun hR => by cases hR; exact ev_rt 0 rfl
/-- DeclaredMarkup$Model.isFull()Z -/
noncomputable def fm_209 (g : am_G) (u0 : Nat) : Option (Int32) := lo_g (Nat.beq (v0_kd u0) 9) (if (am_i g u0 3) = 60 then some 1 else some 0)
theorem dm_209 (L : Nat) (g : am_G) (u0 : Nat) (R : Int32) : fm_209 g u0 = some R → ai_ev ap_P 209 (ai_e0 ap_P 209 [.ref u0] (v0 L, g)) (.inl (ez_i R)) (v0 L, g) := by
  show _ → ai_ev ap_P 209 (0, [some (.ref u0)], [], (v0 L, g)) _ _
  unfold fm_209
  refine ev_gd (c := Nat.beq (v0_kd u0) 9) (fun hc1 => ?_)
  refine ev_jm 1 (t := (4, [some (.ref u0)], [.int (am_i g u0 3)], (v0 L, g))) (ai_gd (c := Nat.beq (v0_kd u0) 9) rfl hc1) ?_
  refine ev_in 1 (p := (am_i g u0 3) = 60) (a := 13) (b := 9) (T := ([some (.ref u0)], [], (v0 L, g))) rfl ?_ ?_
  · exact fun hR => by cases hR; exact ev_rt 2 rfl
  · exact fun hR => by cases hR; exact ev_rt 1 rfl
noncomputable def fj_312_36  (g : am_G) : Option (Int32 × am_G) := lo_p (fm_176 g ) fun y1 => lo_p (fm_177 g ) fun g4 => some (y1, g4)
theorem dj_312_36 (L : Nat)   (g : am_G) (w1 w2 : Option Value) (R : Int32 × am_G) : fj_312_36  g = some R → ai_ev ap_P 312 (36, [some (.ref 33), w1, w2], [], (v0 L, g)) (.inl (ez_i R.1)) (v0 L, R.2) := by
  unfold fj_312_36
  refine ev_op 2 (as := [.ref 39]) (pc := 43) (Lc := [some (.ref 33), none, none]) (st := []) (h1 := (v0 L, g)) (e := ez_i) rfl (dm_176 L g ) (fun y1 => ?_)
  refine ev_ov0 3 (as := [.ref 39]) (pc := 51) (Lc := [some (.ref 33), none, some (.int y1)]) (st := []) (V := v0 L) (g1 := g) rfl (dm_177 L g ) (fun g4 => ?_)
  exact fun hR => by cases hR; exact ev_rt 1 rfl
/-- DeclaredMarkup$Processor.sign(LDeclaredMarkup$Model;)I -/
noncomputable def fm_312 (g : am_G) (u1 : Nat) : Option (Int32 × am_G) := lo_g (Nat.beq (v0_kd u1) 9) (if (am_i g u1 4) = 0 then some (0, g) else lo_p (fm_240 g 63) fun y2 => if y2 = 0 then lo_p (fm_240 g 42) fun y4 => if y4 = 0 then lo_p (fm_240 g 43) fun y6 => if y6 = 0 then some (0, g) else fj_312_36 g else fj_312_36 g else fj_312_36 g)
theorem dm_312 (L : Nat) (g : am_G) (u1 : Nat) (R : Int32 × am_G) : fm_312 g u1 = some R → ai_ev ap_P 312 (ai_e0 ap_P 312 [.ref 33, .ref u1] (v0 L, g)) (.inl (ez_i R.1)) (v0 L, R.2) := by
  show _ → ai_ev ap_P 312 (0, [some (.ref 33), some (.ref u1), none], [], (v0 L, g)) _ _
  unfold fm_312
  refine ev_gd (c := Nat.beq (v0_kd u1) 9) (fun hc1 => ?_)
  refine ev_jm 1 (t := (4, [some (.ref 33), some (.ref u1), none], [.int (am_i g u1 4)], (v0 L, g))) (ai_gd (c := Nat.beq (v0_kd u1) 9) rfl hc1) ?_
  refine ev_if 0 (p := (am_i g u1 4) = 0) (a := 34) (b := 7) (T := ([some (.ref 33), some (.ref u1), none], [], (v0 L, g))) rfl ?_ ?_
  · exact fun hR => by cases hR; exact ev_rt 1 rfl
  · refine ev_op 2 (as := [.ref 33, .int 63]) (pc := 13) (Lc := [some (.ref 33), some (.ref u1), none]) (st := []) (h1 := (v0 L, g)) (e := ez_i) rfl (dm_240 L g 63) (fun y2 => ?_)
    refine ev_in 0 (p := y2 = 0) (a := 36) (b := 16) (T := ([some (.ref 33), some (.ref u1), none], [], (v0 L, g))) rfl ?_ ?_
    · refine ev_op 2 (as := [.ref 33, .int 42]) (pc := 22) (Lc := [some (.ref 33), some (.ref u1), none]) (st := []) (h1 := (v0 L, g)) (e := ez_i) rfl (dm_240 L g 42) (fun y4 => ?_)
      refine ev_in 0 (p := y4 = 0) (a := 36) (b := 25) (T := ([some (.ref 33), some (.ref u1), none], [], (v0 L, g))) rfl ?_ ?_
      · refine ev_op 2 (as := [.ref 33, .int 43]) (pc := 31) (Lc := [some (.ref 33), some (.ref u1), none]) (st := []) (h1 := (v0 L, g)) (e := ez_i) rfl (dm_240 L g 43) (fun y6 => ?_)
        refine ev_in 0 (p := y6 = 0) (a := 36) (b := 34) (T := ([some (.ref 33), some (.ref u1), none], [], (v0 L, g))) rfl ?_ ?_
        · exact fun hR => by cases hR; exact ev_rt 1 rfl
        · exact dj_312_36 L g (some (.ref u1)) none _
      · exact dj_312_36 L g (some (.ref u1)) none _
    · exact dj_312_36 L g (some (.ref u1)) none _
noncomputable def fb_212_3 (k3 : (am_G × Nat × Int64 × Int64) → Option (am_G)) (g : am_G) (u0 : Nat) (u3 : Int64) (u5 : Int64) : Option (am_G) := if (lg_cmp u5 0) = 0 then some g else lo_g (Nat.beq (v0_kd u0) 9) (lo_m (v0_fr u0 1) (none) fun o2 => lo_p (fm_333 g u5) fun y3 => lo_g (vk_in o2 105 y3) (lo_g (vk_iw o2 105 y3) (lo_l (u5 &&& (u5 - 1)) fun x7 => k3 ((am_sj g o2 y3.toNatClampNeg ((am_j g o2 y3.toNatClampNeg) ||| u3)), u0, u3, x7))))
theorem db_212_3 (L : Nat) {k3 : (am_G × Nat × Int64 × Int64) → Option (am_G)} (hk3 : ∀ (x : am_G × Nat × Int64 × Int64) (w1 w2 w4 w6 : Option Value) (R : am_G), k3 x = some R → ai_ev ap_P 212 (3, [some (.ref x.2.1), w1, w2, some (.long x.2.2.1), w4, some (.long x.2.2.2), w6], [], (v0 L, x.1)) (.inl none) (v0 L, R)) (g : am_G) (u0 : Nat) (u3 : Int64) (u5 : Int64) (w1 w2 w4 w6 : Option Value) (R : am_G) : fb_212_3 k3 g u0 u3 u5 = some R → ai_ev ap_P 212 (3, [some (.ref u0), w1, w2, some (.long u3), w4, some (.long u5), w6], [], (v0 L, g)) (.inl none) (v0 L, R) := by
  unfold fb_212_3
  refine ev_if 3 (p := (lg_cmp u5 0) = 0) (a := 36) (b := 10) (T := ([some (.ref u0), none, none, some (.long u3), none, some (.long u5), none], [], (v0 L, g))) rfl ?_ ?_
  · exact fun hR => by cases hR; exact ev_rt 0 rfl
  · refine ev_gd (c := Nat.beq (v0_kd u0) 9) (fun hc1 => ?_)
    refine ev_jm 1 (t := (14, [some (.ref u0), none, none, some (.long u3), none, some (.long u5), none], [am_v (v0_fr u0 1)], (v0 L, g))) (ai_gd (c := Nat.beq (v0_kd u0) 9) rfl hc1) ?_
    refine ev_om (S := fun (o : Option Nat) => (14, [some (.ref u0), none, none, some (.long u3), none, some (.long u5), none], [am_v o], (v0 L, g))) ?_ (fun o2 => ?_)
    · exact fun hR => nomatch hR
    · refine ev_op 1 (as := [.long u5]) (pc := 19) (Lc := [some (.ref u0), none, none, some (.long u3), none, some (.long u5), none]) (st := [.ref o2]) (h1 := (v0 L, g)) (e := ez_i) rfl (dm_333 L g u5) (fun y3 => ?_)
      refine ev_gd (c := vk_in o2 105 y3) (fun hc5 => ?_)
      refine ev_jm 1 (t := (21, [some (.ref u0), none, none, some (.long u3), none, some (.long u5), none], [.long (am_j g o2 y3.toNatClampNeg), .int y3, .ref o2], (v0 L, g))) (ai_gd (c := Nat.beq (v0_kd o2) 105 && ai_in y3 (v0_ln L o2)) rfl (vk_ld hc5)) ?_
      refine ev_gd (c := vk_iw o2 105 y3) (fun hc6 => ?_)
      refine ev_jm 2 (t := (24, [some (.ref u0), none, none, some (.long u3), none, some (.long u5), none], [], (v0 L, (am_sj g o2 y3.toNatClampNeg ((am_j g o2 y3.toNatClampNeg) ||| u3))))) (ai_gd (c := (Nat.beq (v0_kd o2) 105 && Nat.ble 32 o2) && ai_in y3 (v0_ln L o2)) rfl (vk_st hc6)) ?_
      refine ev_jm 4 (t := (31, [some (.ref u0), none, none, some (.long u3), none, some (.long u5), none], [.long (u5 &&& (u5 - 1))], (v0 L, (am_sj g o2 y3.toNatClampNeg ((am_j g o2 y3.toNatClampNeg) ||| u3))))) rfl ?_
      refine lo_e (S := fun (x7 : Int64) => (31, [some (.ref u0), none, none, some (.long u3), none, some (.long u5), none], [.long x7], (v0 L, (am_sj g o2 y3.toNatClampNeg ((am_j g o2 y3.toNatClampNeg) ||| u3))))) (fun x7 => ?_)
      refine ev_jm 1 (t := (3, [some (.ref u0), none, none, some (.long u3), none, some (.long x7), none], [], (v0 L, (am_sj g o2 y3.toNatClampNeg ((am_j g o2 y3.toNatClampNeg) ||| u3))))) rfl ?_
      exact hk3 ((am_sj g o2 y3.toNatClampNeg ((am_j g o2 y3.toNatClampNeg) ||| u3)), u0, u3, x7) none none none none _
noncomputable def fh_212_3  (x : am_G × Nat × Int64 × Int64) : Option (am_G) := lo_it (fun k x => fb_212_3 k x.1 x.2.1 x.2.2.1 x.2.2.2) nf_F x
theorem dh_212_3 (L : Nat)   (x : am_G × Nat × Int64 × Int64) (w1 w2 w4 w6 : Option Value) (R : am_G) : fh_212_3  x = some R → ai_ev ap_P 212 (3, [some (.ref x.2.1), w1, w2, some (.long x.2.2.1), w4, some (.long x.2.2.2), w6], [], (v0 L, x.1)) (.inl none) (v0 L, R) :=
  fun hr => lo_ev (E := fun x R => ∀ (w1 w2 w4 w6 : Option Value), ai_ev ap_P 212 (3, [some (.ref x.2.1), w1, w2, some (.long x.2.2.1), w4, some (.long x.2.2.2), w6], [], (v0 L, x.1)) (.inl none) (v0 L, R)) (fun k hk x R hr => fun w1 w2 w4 w6 => db_212_3 L (fun x w1 w2 w4 w6 R hr => hk x R hr w1 w2 w4 w6) x.1 x.2.1 x.2.2.1 x.2.2.2 w1 w2 w4 w6 R hr) nf_F x R hr w1 w2 w4 w6
/-- DeclaredMarkup$Model.follow(JJ)V -/
noncomputable def fm_212 (g : am_G) (u0 : Nat) (u1 : Int64) (u3 : Int64) : Option (am_G) := fh_212_3 (g, u0, u3, u1)
theorem dm_212 (L : Nat) (g : am_G) (u0 : Nat) (u1 : Int64) (u3 : Int64) (R : am_G) : fm_212 g u0 u1 u3 = some R → ai_ev ap_P 212 (ai_e0 ap_P 212 [.ref u0, .long u1, .long u3] (v0 L, g)) (.inl none) (v0 L, R) := by
  show _ → ai_ev ap_P 212 (0, [some (.ref u0), some (.long u1), none, some (.long u3), none, none, none], [], (v0 L, g)) _ _
  unfold fm_212
  refine ev_jm 1 (t := (3, [some (.ref u0), some (.long u1), none, some (.long u3), none, some (.long u1), none], [], (v0 L, g))) rfl ?_
  exact dh_212_3 L (g, u0, u3, u1) (some (.long u1)) none none none _
noncomputable def fj_213_199  (g : am_G) (u8 : Nat) : Option (am_G) := lo_g (Nat.beq (v0_kd u8) 10) (lo_g ((Nat.beq (v0_kd u8) 10 && Nat.ble 32 u8)) (some (am_si g u8 1 ((am_i g u8 1) + 1))))
theorem dj_213_199 (L : Nat)   (g : am_G) (u8 : Nat) (w0 w1 w2 w3 w4 w5 w6 w7 : Option Value) (R : am_G) : fj_213_199  g u8 = some R → ai_ev ap_P 213 (199, [w0, w1, w2, w3, w4, w5, w6, w7, some (.ref u8)], [], (v0 L, g)) (.inl none) (v0 L, R) := by
  unfold fj_213_199
  refine ev_gd (c := Nat.beq (v0_kd u8) 10) (fun hc1 => ?_)
  refine ev_jm 2 (t := (205, [none, none, none, none, none, none, none, none, some (.ref u8)], [.int (am_i g u8 1), .ref u8], (v0 L, g))) (ai_gd (c := Nat.beq (v0_kd u8) 10) rfl hc1) ?_
  refine ev_gd (c := (Nat.beq (v0_kd u8) 10 && Nat.ble 32 u8)) (fun hc2 => ?_)
  refine ev_jm 2 (t := (210, [none, none, none, none, none, none, none, none, some (.ref u8)], [], (v0 L, (am_si g u8 1 ((am_i g u8 1) + 1))))) (ai_gd (c := (Nat.beq (v0_kd u8) 10 && Nat.ble 32 u8)) rfl hc2) ?_
  exact fun hR => by cases hR; exact ev_rt 0 rfl
noncomputable def fj_213_184  (g : am_G) (u7 : Int32) (u8 : Nat) (t0 : Nat) (t1 : Int64) : Option (am_G) := lo_g ((Nat.beq (v0_kd t0) 10 && Nat.ble 32 t0)) (lo_g (Nat.beq (v0_kd u8) 10) (lo_g ((decide (((am_i g u8 2) &&& u7) = 0) || decide (((am_i g u8 2) &&& u7) = 1))) (lo_g ((Nat.beq (v0_kd u8) 10 && Nat.ble 32 u8)) (fj_213_199 (am_si (am_sj g t0 4 t1) u8 2 ((am_i g u8 2) &&& u7)) u8))))
theorem dj_213_184 (L : Nat)   (g : am_G) (u7 : Int32) (u8 : Nat) (t0 : Nat) (t1 : Int64) (w0 w1 w2 w3 w4 w5 w6 : Option Value) (R : am_G) : fj_213_184  g u7 u8 t0 t1 = some R → ai_ev ap_P 213 (184, [w0, w1, w2, w3, w4, w5, w6, some (.int u7), some (.ref u8)], [.long t1, .ref t0], (v0 L, g)) (.inl none) (v0 L, R) := by
  unfold fj_213_184
  refine ev_gd (c := (Nat.beq (v0_kd t0) 10 && Nat.ble 32 t0)) (fun hc1 => ?_)
  refine ev_jm 0 (t := (187, [none, none, none, none, none, none, none, some (.int u7), some (.ref u8)], [], (v0 L, (am_sj g t0 4 t1)))) (ai_gd (c := (Nat.beq (v0_kd t0) 10 && Nat.ble 32 t0)) rfl hc1) ?_
  refine ev_gd (c := Nat.beq (v0_kd u8) 10) (fun hc2 => ?_)
  refine ev_jm 2 (t := (193, [none, none, none, none, none, none, none, some (.int u7), some (.ref u8)], [.int (am_i g u8 2), .ref u8], (v0 L, (am_sj g t0 4 t1)))) (ai_gd (c := Nat.beq (v0_kd u8) 10) rfl hc2) ?_
  refine ev_gd (c := (decide (((am_i g u8 2) &&& u7) = 0) || decide (((am_i g u8 2) &&& u7) = 1))) (fun hc3 => ?_)
  refine ev_gd (c := (Nat.beq (v0_kd u8) 10 && Nat.ble 32 u8)) (fun hc4 => ?_)
  refine ev_pb 2 (d := (decide (((am_i g u8 2) &&& u7) = 0) || decide (((am_i g u8 2) &&& u7) = 1))) (h2 := (v0 L, (am_si (am_sj g t0 4 t1) u8 2 ((am_i g u8 2) &&& u7)))) (pc := 199) (Lc := [none, none, none, none, none, none, none, some (.int u7), some (.ref u8)]) (st := []) (ai_gd (c := (Nat.beq (v0_kd u8) 10 && Nat.ble 32 u8)) rfl hc4) hc3 ?_
  exact dj_213_199 L (am_si (am_sj g t0 4 t1) u8 2 ((am_i g u8 2) &&& u7)) u8 none none none none none none none (some (.int u7)) _
noncomputable def fj_213_164  (g : am_G) (u4 : Int64) (u7 : Int32) (u8 : Nat) : Option (am_G) := if u7 = 0 then fj_213_184 g u7 u8 u8 u4 else lo_g (Nat.beq (v0_kd u8) 10) (fj_213_184 g u7 u8 u8 ((am_j g u8 4) ||| u4))
theorem dj_213_164 (L : Nat)   (g : am_G) (u4 : Int64) (u7 : Int32) (u8 : Nat) (w0 w1 w2 w3 w5 w6 : Option Value) (R : am_G) : fj_213_164  g u4 u7 u8 = some R → ai_ev ap_P 213 (164, [w0, w1, w2, w3, some (.long u4), w5, w6, some (.int u7), some (.ref u8)], [], (v0 L, g)) (.inl none) (v0 L, R) := by
  unfold fj_213_164
  refine ev_if 2 (p := u7 = 0) (a := 182) (b := 171) (T := ([none, none, none, none, some (.long u4), none, none, some (.int u7), some (.ref u8)], [.ref u8], (v0 L, g))) rfl ?_ ?_
  · refine ev_jm 0 (t := (184, [none, none, none, none, some (.long u4), none, none, some (.int u7), some (.ref u8)], [.long u4, .ref u8], (v0 L, g))) rfl ?_
    exact dj_213_184 L g u7 u8 u8 u4 none none none none (some (.long u4)) none none _
  · refine ev_gd (c := Nat.beq (v0_kd u8) 10) (fun hc1 => ?_)
    refine ev_jm 1 (t := (176, [none, none, none, none, some (.long u4), none, none, some (.int u7), some (.ref u8)], [.long (am_j g u8 4), .ref u8], (v0 L, g))) (ai_gd (c := Nat.beq (v0_kd u8) 10) rfl hc1) ?_
    refine ev_jm 2 (t := (184, [none, none, none, none, some (.long u4), none, none, some (.int u7), some (.ref u8)], [.long ((am_j g u8 4) ||| u4), .ref u8], (v0 L, g))) rfl ?_
    exact dj_213_184 L g u7 u8 u8 ((am_j g u8 4) ||| u4) none none none none (some (.long u4)) none none _
noncomputable def fj_213_46  (g : am_G) (u0 : Nat) (u2 : Int64) (u4 : Int64) (u7 : Int32) : Option (am_G) := lo_g (Nat.beq (v0_kd u0) 9) (lo_m (v0_fr u0 2) (none) fun o2 => lo_g (vk_in o2 120 (am_i g u0 4)) (lo_m (v0_fr o2 ((am_i g u0 4)).toNatClampNeg) (none) fun o4 => lo_g (Nat.beq (v0_kd o4) 10) (if (am_i g o4 1) = 0 then lo_g ((decide (u7 = 0) || decide (u7 = 1))) (lo_g ((Nat.beq (v0_kd o4) 10 && Nat.ble 32 o4)) (fj_213_199 (am_sj (am_sj (am_si g o4 2 u7) o4 3 u2) o4 4 u4) o4)) else if (am_i g o4 0) = 2 then lo_g ((decide (((am_i g o4 2) ||| u7) = 0) || decide (((am_i g o4 2) ||| u7) = 1))) (lo_g ((Nat.beq (v0_kd o4) 10 && Nat.ble 32 o4)) (fj_213_199 (am_sj (am_sj (am_si g o4 2 ((am_i g o4 2) ||| u7)) o4 3 ((am_j g o4 3) ||| u2)) o4 4 ((am_j (am_sj (am_si g o4 2 ((am_i g o4 2) ||| u7)) o4 3 ((am_j g o4 3) ||| u2)) o4 4) ||| u4)) o4)) else lo_p (fm_212 g u0 (am_j g o4 4) u2) fun g7 => if (am_i g7 o4 2) = 0 then fj_213_164 g7 u4 u7 o4 else lo_g ((Nat.beq (v0_kd o4) 10 && Nat.ble 32 o4)) (fj_213_164 (am_sj g7 o4 3 ((am_j g7 o4 3) ||| u2)) u4 u7 o4))))
theorem dj_213_46 (L : Nat)   (g : am_G) (u0 : Nat) (u2 : Int64) (u4 : Int64) (u7 : Int32) (w1 w3 w5 w6 w8 : Option Value) (R : am_G) : fj_213_46  g u0 u2 u4 u7 = some R → ai_ev ap_P 213 (46, [some (.ref u0), w1, some (.long u2), w3, some (.long u4), w5, w6, some (.int u7), w8], [], (v0 L, g)) (.inl none) (v0 L, R) := by
  unfold fj_213_46
  refine ev_gd (c := Nat.beq (v0_kd u0) 9) (fun hc1 => ?_)
  refine ev_jm 1 (t := (50, [some (.ref u0), none, some (.long u2), none, some (.long u4), none, none, some (.int u7), none], [am_v (v0_fr u0 2)], (v0 L, g))) (ai_gd (c := Nat.beq (v0_kd u0) 9) rfl hc1) ?_
  refine ev_om (S := fun (o : Option Nat) => (50, [some (.ref u0), none, some (.long u2), none, some (.long u4), none, none, some (.int u7), none], [am_v o], (v0 L, g))) ?_ (fun o2 => ?_)
  · exact fun hR => nomatch hR
  · refine ev_jm 1 (t := (54, [some (.ref u0), none, some (.long u2), none, some (.long u4), none, none, some (.int u7), none], [.int (am_i g u0 4), .ref o2], (v0 L, g))) (ai_gd (c := Nat.beq (v0_kd u0) 9) rfl hc1) ?_
    refine ev_gd (c := vk_in o2 120 (am_i g u0 4)) (fun hc3 => ?_)
    refine ev_jm 0 (t := (55, [some (.ref u0), none, some (.long u2), none, some (.long u4), none, none, some (.int u7), none], [am_v (v0_fr o2 ((am_i g u0 4)).toNatClampNeg)], (v0 L, g))) (ai_gd (c := Nat.beq (v0_kd o2) 120 && ai_in (am_i g u0 4) (v0_ln L o2)) rfl (vk_ld hc3)) ?_
    refine ev_om (S := fun (o : Option Nat) => (55, [some (.ref u0), none, some (.long u2), none, some (.long u4), none, none, some (.int u7), none], [am_v o], (v0 L, g))) ?_ (fun o4 => ?_)
    · exact fun hR => nomatch hR
    · refine ev_gd (c := Nat.beq (v0_kd o4) 10) (fun hc5 => ?_)
      refine ev_jm 2 (t := (62, [some (.ref u0), none, some (.long u2), none, some (.long u4), none, none, some (.int u7), some (.ref o4)], [.int (am_i g o4 1)], (v0 L, g))) (ai_gd (c := Nat.beq (v0_kd o4) 10) rfl hc5) ?_
      refine ev_in 0 (p := (am_i g o4 1) = 0) (a := 88) (b := 65) (T := ([some (.ref u0), none, some (.long u2), none, some (.long u4), none, none, some (.int u7), some (.ref o4)], [], (v0 L, g))) rfl ?_ ?_
      · refine ev_gd (c := (decide (u7 = 0) || decide (u7 = 1))) (fun hc11 => ?_)
        refine ev_gd (c := (Nat.beq (v0_kd o4) 10 && Nat.ble 32 o4)) (fun hc12 => ?_)
        refine ev_pb 2 (d := (decide (u7 = 0) || decide (u7 = 1))) (h2 := (v0 L, (am_si g o4 2 u7))) (pc := 72) (Lc := [some (.ref u0), none, some (.long u2), none, some (.long u4), none, none, some (.int u7), some (.ref o4)]) (st := []) (ai_gd (c := (Nat.beq (v0_kd o4) 10 && Nat.ble 32 o4)) rfl hc12) hc11 ?_
        refine ev_jm 2 (t := (78, [some (.ref u0), none, some (.long u2), none, some (.long u4), none, none, some (.int u7), some (.ref o4)], [], (v0 L, (am_sj (am_si g o4 2 u7) o4 3 u2)))) (ai_gd (c := (Nat.beq (v0_kd o4) 10 && Nat.ble 32 o4)) rfl hc12) ?_
        refine ev_jm 2 (t := (85, [some (.ref u0), none, some (.long u2), none, some (.long u4), none, none, some (.int u7), some (.ref o4)], [], (v0 L, (am_sj (am_sj (am_si g o4 2 u7) o4 3 u2) o4 4 u4)))) (ai_gd (c := (Nat.beq (v0_kd o4) 10 && Nat.ble 32 o4)) rfl hc12) ?_
        refine ev_jm 0 (t := (199, [some (.ref u0), none, some (.long u2), none, some (.long u4), none, none, some (.int u7), some (.ref o4)], [], (v0 L, (am_sj (am_sj (am_si g o4 2 u7) o4 3 u2) o4 4 u4)))) rfl ?_
        exact dj_213_199 L (am_sj (am_sj (am_si g o4 2 u7) o4 3 u2) o4 4 u4) o4 (some (.ref u0)) none (some (.long u2)) none (some (.long u4)) none none (some (.int u7)) _
      · refine ev_jm 1 (t := (93, [some (.ref u0), none, some (.long u2), none, some (.long u4), none, none, some (.int u7), some (.ref o4)], [.int (am_i g o4 0)], (v0 L, g))) (ai_gd (c := Nat.beq (v0_kd o4) 10) rfl hc5) ?_
        refine ev_in 1 (p := (am_i g o4 0) = 2) (a := 135) (b := 97) (T := ([some (.ref u0), none, some (.long u2), none, some (.long u4), none, none, some (.int u7), some (.ref o4)], [], (v0 L, g))) rfl ?_ ?_
        · refine ev_jm 2 (t := (103, [some (.ref u0), none, some (.long u2), none, some (.long u4), none, none, some (.int u7), some (.ref o4)], [.int (am_i g o4 2), .ref o4], (v0 L, g))) (ai_gd (c := Nat.beq (v0_kd o4) 10) rfl hc5) ?_
          refine ev_gd (c := (decide (((am_i g o4 2) ||| u7) = 0) || decide (((am_i g o4 2) ||| u7) = 1))) (fun hc9 => ?_)
          refine ev_gd (c := (Nat.beq (v0_kd o4) 10 && Nat.ble 32 o4)) (fun hc10 => ?_)
          refine ev_pb 2 (d := (decide (((am_i g o4 2) ||| u7) = 0) || decide (((am_i g o4 2) ||| u7) = 1))) (h2 := (v0 L, (am_si g o4 2 ((am_i g o4 2) ||| u7)))) (pc := 109) (Lc := [some (.ref u0), none, some (.long u2), none, some (.long u4), none, none, some (.int u7), some (.ref o4)]) (st := []) (ai_gd (c := (Nat.beq (v0_kd o4) 10 && Nat.ble 32 o4)) rfl hc10) hc9 ?_
          refine ev_jm 2 (t := (115, [some (.ref u0), none, some (.long u2), none, some (.long u4), none, none, some (.int u7), some (.ref o4)], [.long (am_j g o4 3), .ref o4], (v0 L, (am_si g o4 2 ((am_i g o4 2) ||| u7))))) (ai_gd (c := Nat.beq (v0_kd o4) 10) rfl hc5) ?_
          refine ev_jm 2 (t := (120, [some (.ref u0), none, some (.long u2), none, some (.long u4), none, none, some (.int u7), some (.ref o4)], [], (v0 L, (am_sj (am_si g o4 2 ((am_i g o4 2) ||| u7)) o4 3 ((am_j g o4 3) ||| u2))))) (ai_gd (c := (Nat.beq (v0_kd o4) 10 && Nat.ble 32 o4)) rfl hc10) ?_
          refine ev_jm 2 (t := (126, [some (.ref u0), none, some (.long u2), none, some (.long u4), none, none, some (.int u7), some (.ref o4)], [.long (am_j (am_sj (am_si g o4 2 ((am_i g o4 2) ||| u7)) o4 3 ((am_j g o4 3) ||| u2)) o4 4), .ref o4], (v0 L, (am_sj (am_si g o4 2 ((am_i g o4 2) ||| u7)) o4 3 ((am_j g o4 3) ||| u2))))) (ai_gd (c := Nat.beq (v0_kd o4) 10) rfl hc5) ?_
          refine ev_jm 2 (t := (132, [some (.ref u0), none, some (.long u2), none, some (.long u4), none, none, some (.int u7), some (.ref o4)], [], (v0 L, (am_sj (am_sj (am_si g o4 2 ((am_i g o4 2) ||| u7)) o4 3 ((am_j g o4 3) ||| u2)) o4 4 ((am_j (am_sj (am_si g o4 2 ((am_i g o4 2) ||| u7)) o4 3 ((am_j g o4 3) ||| u2)) o4 4) ||| u4))))) (ai_gd (c := (Nat.beq (v0_kd o4) 10 && Nat.ble 32 o4)) rfl hc10) ?_
          refine ev_jm 0 (t := (199, [some (.ref u0), none, some (.long u2), none, some (.long u4), none, none, some (.int u7), some (.ref o4)], [], (v0 L, (am_sj (am_sj (am_si g o4 2 ((am_i g o4 2) ||| u7)) o4 3 ((am_j g o4 3) ||| u2)) o4 4 ((am_j (am_sj (am_si g o4 2 ((am_i g o4 2) ||| u7)) o4 3 ((am_j g o4 3) ||| u2)) o4 4) ||| u4))))) rfl ?_
          exact dj_213_199 L (am_sj (am_sj (am_si g o4 2 ((am_i g o4 2) ||| u7)) o4 3 ((am_j g o4 3) ||| u2)) o4 4 ((am_j (am_sj (am_si g o4 2 ((am_i g o4 2) ||| u7)) o4 3 ((am_j g o4 3) ||| u2)) o4 4) ||| u4)) o4 (some (.ref u0)) none (some (.long u2)) none (some (.long u4)) none none (some (.int u7)) _
        · refine ev_jm 2 (t := (141, [some (.ref u0), none, some (.long u2), none, some (.long u4), none, none, some (.int u7), some (.ref o4)], [.long (am_j g o4 4), .ref u0], (v0 L, g))) (ai_gd (c := Nat.beq (v0_kd o4) 10) rfl hc5) ?_
          refine ev_ov0 1 (as := [.ref u0, .long (am_j g o4 4), .long u2]) (pc := 145) (Lc := [some (.ref u0), none, some (.long u2), none, some (.long u4), none, none, some (.int u7), some (.ref o4)]) (st := []) (V := v0 L) (g1 := g) (ai_gd (c := Nat.beq (v0_kd u0) 9 && true) rfl (ai_ct hc1)) (dm_212 L g u0 (am_j g o4 4) u2) (fun g7 => ?_)
          refine ev_jm 1 (t := (150, [some (.ref u0), none, some (.long u2), none, some (.long u4), none, none, some (.int u7), some (.ref o4)], [.int (am_i g7 o4 2)], (v0 L, g7))) (ai_gd (c := Nat.beq (v0_kd o4) 10) rfl hc5) ?_
          refine ev_if 0 (p := (am_i g7 o4 2) = 0) (a := 164) (b := 153) (T := ([some (.ref u0), none, some (.long u2), none, some (.long u4), none, none, some (.int u7), some (.ref o4)], [], (v0 L, g7))) rfl ?_ ?_
          · exact dj_213_164 L g7 u4 u7 o4 (some (.ref u0)) none (some (.long u2)) none none none _
          · refine ev_jm 2 (t := (159, [some (.ref u0), none, some (.long u2), none, some (.long u4), none, none, some (.int u7), some (.ref o4)], [.long (am_j g7 o4 3), .ref o4], (v0 L, g7))) (ai_gd (c := Nat.beq (v0_kd o4) 10) rfl hc5) ?_
            refine ev_gd (c := (Nat.beq (v0_kd o4) 10 && Nat.ble 32 o4)) (fun hc8 => ?_)
            refine ev_jm 2 (t := (164, [some (.ref u0), none, some (.long u2), none, some (.long u4), none, none, some (.int u7), some (.ref o4)], [], (v0 L, (am_sj g7 o4 3 ((am_j g7 o4 3) ||| u2))))) (ai_gd (c := (Nat.beq (v0_kd o4) 10 && Nat.ble 32 o4)) rfl hc8) ?_
            exact dj_213_164 L (am_sj g7 o4 3 ((am_j g7 o4 3) ||| u2)) u4 u7 o4 (some (.ref u0)) none (some (.long u2)) none none none _
noncomputable def fj_213_39  (g : am_G) (u0 : Nat) (u2 : Int64) (u4 : Int64) (u7 : Int32) : Option (am_G) := lo_g (Nat.beq (v0_kd u0) 9) (lo_p (fm_212 g u0 u4 u2) fun g2 => fj_213_46 g2 u0 u2 u4 u7)
theorem dj_213_39 (L : Nat)   (g : am_G) (u0 : Nat) (u2 : Int64) (u4 : Int64) (u7 : Int32) (w1 w3 w5 w6 w8 : Option Value) (R : am_G) : fj_213_39  g u0 u2 u4 u7 = some R → ai_ev ap_P 213 (39, [some (.ref u0), w1, some (.long u2), w3, some (.long u4), w5, w6, some (.int u7), w8], [], (v0 L, g)) (.inl none) (v0 L, R) := by
  unfold fj_213_39
  refine ev_gd (c := Nat.beq (v0_kd u0) 9) (fun hc3 => ?_)
  refine ev_ov0 3 (as := [.ref u0, .long u4, .long u2]) (pc := 46) (Lc := [some (.ref u0), none, some (.long u2), none, some (.long u4), none, none, some (.int u7), none]) (st := []) (V := v0 L) (g1 := g) (ai_gd (c := Nat.beq (v0_kd u0) 9 && true) rfl (ai_ct hc3)) (dm_212 L g u0 u4 u2) (fun g2 => ?_)
  exact dj_213_46 L g2 u0 u2 u4 u7 none none none none none _
noncomputable def fj_213_23  (g : am_G) (u0 : Nat) (u2 : Int64) (u4 : Int64) (u6 : Int32) (t0 : Int32) : Option (am_G) := if u6 = 42 then fj_213_39 g u0 u2 u4 t0 else if u6 = 43 then fj_213_39 g u0 u2 u4 t0 else fj_213_46 g u0 u2 u4 t0
theorem dj_213_23 (L : Nat)   (g : am_G) (u0 : Nat) (u2 : Int64) (u4 : Int64) (u6 : Int32) (t0 : Int32) (w1 w3 w5 w7 w8 : Option Value) (R : am_G) : fj_213_23  g u0 u2 u4 u6 t0 = some R → ai_ev ap_P 213 (23, [some (.ref u0), w1, some (.long u2), w3, some (.long u4), w5, some (.int u6), w7, w8], [.int t0], (v0 L, g)) (.inl none) (v0 L, R) := by
  unfold fj_213_23
  refine ev_if 3 (p := u6 = 42) (a := 39) (b := 32) (T := ([some (.ref u0), none, some (.long u2), none, some (.long u4), none, some (.int u6), some (.int t0), none], [], (v0 L, g))) rfl ?_ ?_
  · exact dj_213_39 L g u0 u2 u4 t0 none none none (some (.int u6)) none _
  · refine ev_in 2 (p := u6 = 43) (a := 46) (b := 39) (T := ([some (.ref u0), none, some (.long u2), none, some (.long u4), none, some (.int u6), some (.int t0), none], [], (v0 L, g))) rfl ?_ ?_
    · exact dj_213_39 L g u0 u2 u4 t0 none none none (some (.int u6)) none _
    · exact dj_213_46 L g u0 u2 u4 t0 none none none (some (.int u6)) none _
noncomputable def fj_213_18  (g : am_G) (u0 : Nat) (u2 : Int64) (u4 : Int64) (u6 : Int32) : Option (am_G) := fj_213_23 g u0 u2 u4 u6 1
theorem dj_213_18 (L : Nat)   (g : am_G) (u0 : Nat) (u2 : Int64) (u4 : Int64) (u6 : Int32) (w1 w3 w5 w7 w8 : Option Value) (R : am_G) : fj_213_18  g u0 u2 u4 u6 = some R → ai_ev ap_P 213 (18, [some (.ref u0), w1, some (.long u2), w3, some (.long u4), w5, some (.int u6), w7, w8], [], (v0 L, g)) (.inl none) (v0 L, R) := by
  unfold fj_213_18
  refine ev_jm 1 (t := (23, [some (.ref u0), none, some (.long u2), none, some (.long u4), none, some (.int u6), none, none], [.int 1], (v0 L, g))) rfl ?_
  exact dj_213_23 L g u0 u2 u4 u6 1 none none none none none _
/-- DeclaredMarkup$Model.part(ZJJI)V -/
noncomputable def fm_213 (g : am_G) (u0 : Nat) (u1 : Int32) (u2 : Int64) (u4 : Int64) (u6 : Int32) : Option (am_G) := if u1 = 0 then if u6 = 63 then fj_213_18 g u0 u2 u4 u6 else if u6 = 42 then fj_213_18 g u0 u2 u4 u6 else fj_213_23 g u0 u2 u4 u6 0 else fj_213_18 g u0 u2 u4 u6
theorem dm_213 (L : Nat) (g : am_G) (u0 : Nat) (u1 : Int32) (u2 : Int64) (u4 : Int64) (u6 : Int32) (R : am_G) : fm_213 g u0 u1 u2 u4 u6 = some R → ai_ev ap_P 213 (ai_e0 ap_P 213 [.ref u0, .int u1, .long u2, .long u4, .int u6] (v0 L, g)) (.inl none) (v0 L, R) := by
  show _ → ai_ev ap_P 213 (0, [some (.ref u0), some (.int u1), some (.long u2), none, some (.long u4), none, some (.int u6), none, none], [], (v0 L, g)) _ _
  unfold fm_213
  refine ev_in 1 (p := u1 = 0) (a := 18) (b := 4) (T := ([some (.ref u0), some (.int u1), some (.long u2), none, some (.long u4), none, some (.int u6), none, none], [], (v0 L, g))) rfl ?_ ?_
  · refine ev_if 2 (p := u6 = 63) (a := 18) (b := 11) (T := ([some (.ref u0), some (.int u1), some (.long u2), none, some (.long u4), none, some (.int u6), none, none], [], (v0 L, g))) rfl ?_ ?_
    · exact dj_213_18 L g u0 u2 u4 u6 (some (.int u1)) none none none none _
    · refine ev_in 2 (p := u6 = 42) (a := 22) (b := 18) (T := ([some (.ref u0), some (.int u1), some (.long u2), none, some (.long u4), none, some (.int u6), none, none], [], (v0 L, g))) rfl ?_ ?_
      · exact dj_213_18 L g u0 u2 u4 u6 (some (.int u1)) none none none none _
      · refine ev_jm 0 (t := (23, [some (.ref u0), some (.int u1), some (.long u2), none, some (.long u4), none, some (.int u6), none, none], [.int 0], (v0 L, g))) rfl ?_
        exact dj_213_23 L g u0 u2 u4 u6 0 (some (.int u1)) none none none none _
  · exact dj_213_18 L g u0 u2 u4 u6 (some (.int u1)) none none none none _
/-- DeclaredMarkup$Model.place(II)V -/
noncomputable def fm_214 (g : am_G) (u0 : Nat) (u1 : Int32) (u2 : Int32) : Option (am_G) := lo_g (Nat.beq (v0_kd u0) 9) (lo_m (v0_fr u0 0) (none) fun o2 => lo_g (vk_iw o2 101 (am_i g u0 3)) (lo_m (v0_fr u0 1) (none) fun o4 => lo_g (vk_iw o4 105 (am_i (am_si g o2 ((am_i g u0 3)).toNatClampNeg u1) u0 3)) (lo_g ((Nat.beq (v0_kd u0) 9 && Nat.ble 32 u0)) (lo_l (1 <<< (((am_i (am_si (am_sj (am_si g o2 ((am_i g u0 3)).toNatClampNeg u1) o4 ((am_i (am_si g o2 ((am_i g u0 3)).toNatClampNeg u1) u0 3)).toNatClampNeg 0) u0 3 ((am_i (am_si g o2 ((am_i g u0 3)).toNatClampNeg u1) u0 3) + 1)) u0 3) - 1).toInt64 &&& 63)) fun x7 => lo_p (fm_213 (am_si (am_sj (am_si g o2 ((am_i g u0 3)).toNatClampNeg u1) o4 ((am_i (am_si g o2 ((am_i g u0 3)).toNatClampNeg u1) u0 3)).toNatClampNeg 0) u0 3 ((am_i (am_si g o2 ((am_i g u0 3)).toNatClampNeg u1) u0 3) + 1)) u0 0 x7 x7 u2) fun g9 => some g9))))
theorem dm_214 (L : Nat) (g : am_G) (u0 : Nat) (u1 : Int32) (u2 : Int32) (R : am_G) : fm_214 g u0 u1 u2 = some R → ai_ev ap_P 214 (ai_e0 ap_P 214 [.ref u0, .int u1, .int u2] (v0 L, g)) (.inl none) (v0 L, R) := by
  show _ → ai_ev ap_P 214 (0, [some (.ref u0), some (.int u1), some (.int u2), none, none], [], (v0 L, g)) _ _
  unfold fm_214
  refine ev_gd (c := Nat.beq (v0_kd u0) 9) (fun hc1 => ?_)
  refine ev_jm 1 (t := (4, [some (.ref u0), some (.int u1), some (.int u2), none, none], [am_v (v0_fr u0 0)], (v0 L, g))) (ai_gd (c := Nat.beq (v0_kd u0) 9) rfl hc1) ?_
  refine ev_om (S := fun (o : Option Nat) => (4, [some (.ref u0), some (.int u1), some (.int u2), none, none], [am_v o], (v0 L, g))) ?_ (fun o2 => ?_)
  · exact fun hR => nomatch hR
  · refine ev_jm 1 (t := (8, [some (.ref u0), some (.int u1), some (.int u2), none, none], [.int (am_i g u0 3), .ref o2], (v0 L, g))) (ai_gd (c := Nat.beq (v0_kd u0) 9) rfl hc1) ?_
    refine ev_gd (c := vk_iw o2 101 (am_i g u0 3)) (fun hc3 => ?_)
    refine ev_jm 1 (t := (10, [some (.ref u0), some (.int u1), some (.int u2), none, none], [], (v0 L, (am_si g o2 ((am_i g u0 3)).toNatClampNeg u1)))) (ai_gd (c := (Nat.beq (v0_kd o2) 101 && Nat.ble 32 o2) && ai_in (am_i g u0 3) (v0_ln L o2)) rfl (vk_st hc3)) ?_
    refine ev_jm 1 (t := (14, [some (.ref u0), some (.int u1), some (.int u2), none, none], [am_v (v0_fr u0 1)], (v0 L, (am_si g o2 ((am_i g u0 3)).toNatClampNeg u1)))) (ai_gd (c := Nat.beq (v0_kd u0) 9) rfl hc1) ?_
    refine ev_om (S := fun (o : Option Nat) => (14, [some (.ref u0), some (.int u1), some (.int u2), none, none], [am_v o], (v0 L, (am_si g o2 ((am_i g u0 3)).toNatClampNeg u1)))) ?_ (fun o4 => ?_)
    · exact fun hR => nomatch hR
    · refine ev_jm 1 (t := (18, [some (.ref u0), some (.int u1), some (.int u2), none, none], [.int (am_i (am_si g o2 ((am_i g u0 3)).toNatClampNeg u1) u0 3), .ref o4], (v0 L, (am_si g o2 ((am_i g u0 3)).toNatClampNeg u1)))) (ai_gd (c := Nat.beq (v0_kd u0) 9) rfl hc1) ?_
      refine ev_gd (c := vk_iw o4 105 (am_i (am_si g o2 ((am_i g u0 3)).toNatClampNeg u1) u0 3)) (fun hc5 => ?_)
      refine ev_jm 1 (t := (20, [some (.ref u0), some (.int u1), some (.int u2), none, none], [], (v0 L, (am_sj (am_si g o2 ((am_i g u0 3)).toNatClampNeg u1) o4 ((am_i (am_si g o2 ((am_i g u0 3)).toNatClampNeg u1) u0 3)).toNatClampNeg 0)))) (ai_gd (c := (Nat.beq (v0_kd o4) 105 && Nat.ble 32 o4) && ai_in (am_i (am_si g o2 ((am_i g u0 3)).toNatClampNeg u1) u0 3) (v0_ln L o4)) rfl (vk_st hc5)) ?_
      refine ev_jm 2 (t := (25, [some (.ref u0), some (.int u1), some (.int u2), none, none], [.int (am_i (am_si g o2 ((am_i g u0 3)).toNatClampNeg u1) u0 3), .ref u0], (v0 L, (am_sj (am_si g o2 ((am_i g u0 3)).toNatClampNeg u1) o4 ((am_i (am_si g o2 ((am_i g u0 3)).toNatClampNeg u1) u0 3)).toNatClampNeg 0)))) (ai_gd (c := Nat.beq (v0_kd u0) 9) rfl hc1) ?_
      refine ev_gd (c := (Nat.beq (v0_kd u0) 9 && Nat.ble 32 u0)) (fun hc6 => ?_)
      refine ev_jm 2 (t := (30, [some (.ref u0), some (.int u1), some (.int u2), none, none], [], (v0 L, (am_si (am_sj (am_si g o2 ((am_i g u0 3)).toNatClampNeg u1) o4 ((am_i (am_si g o2 ((am_i g u0 3)).toNatClampNeg u1) u0 3)).toNatClampNeg 0) u0 3 ((am_i (am_si g o2 ((am_i g u0 3)).toNatClampNeg u1) u0 3) + 1))))) (ai_gd (c := (Nat.beq (v0_kd u0) 9 && Nat.ble 32 u0)) rfl hc6) ?_
      refine ev_jm 2 (t := (35, [some (.ref u0), some (.int u1), some (.int u2), none, none], [.int (am_i (am_si (am_sj (am_si g o2 ((am_i g u0 3)).toNatClampNeg u1) o4 ((am_i (am_si g o2 ((am_i g u0 3)).toNatClampNeg u1) u0 3)).toNatClampNeg 0) u0 3 ((am_i (am_si g o2 ((am_i g u0 3)).toNatClampNeg u1) u0 3) + 1)) u0 3), .long 1], (v0 L, (am_si (am_sj (am_si g o2 ((am_i g u0 3)).toNatClampNeg u1) o4 ((am_i (am_si g o2 ((am_i g u0 3)).toNatClampNeg u1) u0 3)).toNatClampNeg 0) u0 3 ((am_i (am_si g o2 ((am_i g u0 3)).toNatClampNeg u1) u0 3) + 1))))) (ai_gd (c := Nat.beq (v0_kd u0) 9) rfl hc1) ?_
      refine ev_jm 2 (t := (38, [some (.ref u0), some (.int u1), some (.int u2), none, none], [.long (1 <<< (((am_i (am_si (am_sj (am_si g o2 ((am_i g u0 3)).toNatClampNeg u1) o4 ((am_i (am_si g o2 ((am_i g u0 3)).toNatClampNeg u1) u0 3)).toNatClampNeg 0) u0 3 ((am_i (am_si g o2 ((am_i g u0 3)).toNatClampNeg u1) u0 3) + 1)) u0 3) - 1).toInt64 &&& 63))], (v0 L, (am_si (am_sj (am_si g o2 ((am_i g u0 3)).toNatClampNeg u1) o4 ((am_i (am_si g o2 ((am_i g u0 3)).toNatClampNeg u1) u0 3)).toNatClampNeg 0) u0 3 ((am_i (am_si g o2 ((am_i g u0 3)).toNatClampNeg u1) u0 3) + 1))))) rfl ?_
      refine lo_e (S := fun (x7 : Int64) => (38, [some (.ref u0), some (.int u1), some (.int u2), none, none], [.long x7], (v0 L, (am_si (am_sj (am_si g o2 ((am_i g u0 3)).toNatClampNeg u1) o4 ((am_i (am_si g o2 ((am_i g u0 3)).toNatClampNeg u1) u0 3)).toNatClampNeg 0) u0 3 ((am_i (am_si g o2 ((am_i g u0 3)).toNatClampNeg u1) u0 3) + 1))))) (fun x7 => ?_)
      refine ev_ov0 6 (as := [.ref u0, .int 0, .long x7, .long x7, .int u2]) (pc := 47) (Lc := [some (.ref u0), some (.int u1), some (.int u2), some (.long x7), none]) (st := []) (V := v0 L) (g1 := (am_si (am_sj (am_si g o2 ((am_i g u0 3)).toNatClampNeg u1) o4 ((am_i (am_si g o2 ((am_i g u0 3)).toNatClampNeg u1) u0 3)).toNatClampNeg 0) u0 3 ((am_i (am_si g o2 ((am_i g u0 3)).toNatClampNeg u1) u0 3) + 1))) (ai_gd (c := Nat.beq (v0_kd u0) 9 && true) rfl (ai_ct hc1)) (dm_213 L (am_si (am_sj (am_si g o2 ((am_i g u0 3)).toNatClampNeg u1) o4 ((am_i (am_si g o2 ((am_i g u0 3)).toNatClampNeg u1) u0 3)).toNatClampNeg 0) u0 3 ((am_i (am_si g o2 ((am_i g u0 3)).toNatClampNeg u1) u0 3) + 1)) u0 0 x7 x7 u2) (fun g9 => ?_)
      exact fun hR => by cases hR; exact ev_rt 0 rfl
/-- DeclaredMarkup$Processor.place(LDeclaredMarkup$Model;)V -/
noncomputable def fm_311 (g : am_G) (u1 : Nat) : Option ((Unit ⊕ Nat) × am_G) := lo_p (fm_178 g ) fun y1 => lo_t (fm_247 g ) fun y3 g4 => lo_g (Nat.beq (v0_kd u1) 9) (lo_p (fm_209 g4 u1) fun y5 => if y5 = 0 then lo_i (fm_312 g4 u1) fun y8 g9 => lo_p (fm_214 g9 u1 y3 y8) fun g11 => some (.inl (), g11) else lo_i (fm_237 g4 3 y1) fun y12 g13 => lo_g (Nat.ble 1008 y12 && Nat.blt y12 (am_sz g13)) (some (.inr y12, g13)))
theorem dm_311 (L : Nat) (g : am_G) (u1 : Nat) (R : (Unit ⊕ Nat) × am_G) : fm_311 g u1 = some R → ai_ev ap_P 311 (ai_e0 ap_P 311 [.ref 33, .ref u1] (v0 L, g)) (oz_r ez_v R.1) (v0 L, R.2) := by
  show _ → ai_ev ap_P 311 (0, [some (.ref 33), some (.ref u1), none, none], [], (v0 L, g)) _ _
  unfold fm_311
  refine ev_op 2 (as := [.ref 39]) (pc := 7) (Lc := [some (.ref 33), some (.ref u1), none, none]) (st := []) (h1 := (v0 L, g)) (e := ez_i) rfl (dm_178 L g ) (fun y1 => ?_)
  refine ev_ot 2 (as := [.ref 33]) (pc := 12) (Lc := [some (.ref 33), some (.ref u1), some (.int y1), none]) (st := []) (V := v0 L) (g1 := g) (e := ez_i) rfl (dm_247 L g ) (fun _ => rfl) (fun y3 g4 => ?_)
  refine ev_gd (c := Nat.beq (v0_kd u1) 9) (fun hc7 => ?_)
  refine ev_op 2 (as := [.ref u1]) (pc := 17) (Lc := [some (.ref 33), some (.ref u1), some (.int y1), some (.int y3)]) (st := []) (h1 := (v0 L, g4)) (e := ez_i) (ai_gd (c := Nat.beq (v0_kd u1) 9 && true) rfl (ai_ct hc7)) (dm_209 L g4 u1) (fun y5 => ?_)
  refine ev_if 0 (p := y5 = 0) (a := 27) (b := 20) (T := ([some (.ref 33), some (.ref u1), some (.int y1), some (.int y3)], [], (v0 L, g4))) rfl ?_ ?_
  · refine ev_oi 4 (as := [.ref 33, .ref u1]) (pc := 34) (Lc := [some (.ref 33), some (.ref u1), some (.int y1), some (.int y3)]) (st := [.int y3, .ref u1]) (V := v0 L) (g1 := g4) (e := ez_i) rfl (dm_312 L g4 u1) (fun y8 g9 => ?_)
    refine ev_ov0 0 (as := [.ref u1, .int y3, .int y8]) (pc := 37) (Lc := [some (.ref 33), some (.ref u1), some (.int y1), some (.int y3)]) (st := []) (V := v0 L) (g1 := g9) (ai_gd (c := Nat.beq (v0_kd u1) 9 && true) rfl (ai_ct hc7)) (dm_214 L g9 u1 y3 y8) (fun g11 => ?_)
    exact fun hR => by cases hR; exact ev_rt 0 rfl
  · refine ev_oi 3 (as := [.ref 33, .int 3, .int y1]) (pc := 26) (Lc := [some (.ref 33), some (.ref u1), some (.int y1), some (.int y3)]) (st := []) (V := v0 L) (g1 := g4) (e := ez_a) rfl (dm_237 L g4 3 y1) (fun y12 g13 => ?_)
    exact ev_at 0 (a := y12) (g1 := g13) rfl
noncomputable def fb_310_21 (k21 : (am_G × Nat × Int32) → Option ((Unit ⊕ Nat) × am_G)) (g : am_G) (u1 : Nat) (u2 : Int32) : Option ((Unit ⊕ Nat) × am_G) := lo_p (fm_240 g 124) fun y1 => if y1 = 0 then lo_t (fm_244 g 41) fun y3 g4 => if u2 = 0 then lo_p (fm_240 g4 42) fun y5 => if y5 = 0 then some (.inl (), g4) else lo_p (fm_177 g4 ) fun g8 => some (.inl (), g8) else lo_t (fm_244 g4 42) fun y9 g10 => some (.inl (), g10) else lo_p (fm_177 g ) fun g12 => lo_i (fm_242 g12 ) fun y13 g14 => lo_t (fm_311 g14 u1) fun y15 g16 => lo_i (fm_242 g16 ) fun y17 g18 => k21 (g18, u1, 1)
theorem db_310_21 (L : Nat) {k21 : (am_G × Nat × Int32) → Option ((Unit ⊕ Nat) × am_G)} (hk21 : ∀ (x : am_G × Nat × Int32) (R : (Unit ⊕ Nat) × am_G), k21 x = some R → ai_ev ap_P 310 (21, [some (.ref 33), some (.ref x.2.1), some (.int x.2.2)], [], (v0 L, x.1)) (oz_r ez_v R.1) (v0 L, R.2)) (g : am_G) (u1 : Nat) (u2 : Int32) (R : (Unit ⊕ Nat) × am_G) : fb_310_21 k21 g u1 u2 = some R → ai_ev ap_P 310 (21, [some (.ref 33), some (.ref u1), some (.int u2)], [], (v0 L, g)) (oz_r ez_v R.1) (v0 L, R.2) := by
  unfold fb_310_21
  refine ev_op 2 (as := [.ref 33, .int 124]) (pc := 27) (Lc := [some (.ref 33), some (.ref u1), some (.int u2)]) (st := []) (h1 := (v0 L, g)) (e := ez_i) rfl (dm_240 L g 124) (fun y1 => ?_)
  refine ev_if 0 (p := y1 = 0) (a := 57) (b := 30) (T := ([some (.ref 33), some (.ref u1), some (.int u2)], [], (v0 L, g))) rfl ?_ ?_
  · refine ev_ot 2 (as := [.ref 33, .int 41]) (pc := 63) (Lc := [some (.ref 33), some (.ref u1), some (.int u2)]) (st := []) (V := v0 L) (g1 := g) (e := ez_v) rfl (dm_244 L g 41) (fun _ => rfl) (fun y3 g4 => ?_)
    refine ev_if 1 (p := u2 = 0) (a := 76) (b := 67) (T := ([some (.ref 33), some (.ref u1), some (.int u2)], [], (v0 L, g4))) rfl ?_ ?_
    · refine ev_op 2 (as := [.ref 33, .int 42]) (pc := 82) (Lc := [some (.ref 33), some (.ref u1), some (.int u2)]) (st := []) (h1 := (v0 L, g4)) (e := ez_i) rfl (dm_240 L g4 42) (fun y5 => ?_)
      refine ev_if 0 (p := y5 = 0) (a := 92) (b := 85) (T := ([some (.ref 33), some (.ref u1), some (.int u2)], [], (v0 L, g4))) rfl ?_ ?_
      · exact fun hR => by cases hR; exact ev_rt 0 rfl
      · refine ev_ov0 2 (as := [.ref 39]) (pc := 92) (Lc := [some (.ref 33), some (.ref u1), some (.int u2)]) (st := []) (V := v0 L) (g1 := g4) rfl (dm_177 L g4 ) (fun g8 => ?_)
        exact fun hR => by cases hR; exact ev_rt 0 rfl
    · refine ev_ot 2 (as := [.ref 33, .int 42]) (pc := 73) (Lc := [some (.ref 33), some (.ref u1), some (.int u2)]) (st := []) (V := v0 L) (g1 := g4) (e := ez_v) rfl (dm_244 L g4 42) (fun _ => rfl) (fun y9 g10 => ?_)
      exact fun hR => by cases hR; exact ev_rt 1 rfl
  · refine ev_ov0 4 (as := [.ref 39]) (pc := 39) (Lc := [some (.ref 33), some (.ref u1), some (.int 1)]) (st := []) (V := v0 L) (g1 := g) rfl (dm_177 L g ) (fun g12 => ?_)
    refine ev_oi 1 (as := [.ref 33]) (pc := 43) (Lc := [some (.ref 33), some (.ref u1), some (.int 1)]) (st := []) (V := v0 L) (g1 := g12) (e := ez_i) rfl (dm_242 L g12 ) (fun y13 g14 => ?_)
    refine ev_ot 3 (as := [.ref 33, .ref u1]) (pc := 49) (Lc := [some (.ref 33), some (.ref u1), some (.int 1)]) (st := []) (V := v0 L) (g1 := g14) (e := ez_v) rfl (dm_311 L g14 u1) (fun _ => rfl) (fun y15 g16 => ?_)
    refine ev_oi 1 (as := [.ref 33]) (pc := 53) (Lc := [some (.ref 33), some (.ref u1), some (.int 1)]) (st := []) (V := v0 L) (g1 := g16) (e := ez_i) rfl (dm_242 L g16 ) (fun y17 g18 => ?_)
    refine ev_jm 1 (t := (21, [some (.ref 33), some (.ref u1), some (.int 1)], [], (v0 L, g18))) rfl ?_
    exact hk21 (g18, u1, 1) _
noncomputable def fh_310_21  (x : am_G × Nat × Int32) : Option ((Unit ⊕ Nat) × am_G) := lo_it (fun k x => fb_310_21 k x.1 x.2.1 x.2.2) nf_F x
theorem dh_310_21 (L : Nat)   (x : am_G × Nat × Int32) (R : (Unit ⊕ Nat) × am_G) : fh_310_21  x = some R → ai_ev ap_P 310 (21, [some (.ref 33), some (.ref x.2.1), some (.int x.2.2)], [], (v0 L, x.1)) (oz_r ez_v R.1) (v0 L, R.2) :=
  fun hr => lo_ev (E := fun x R => ai_ev ap_P 310 (21, [some (.ref 33), some (.ref x.2.1), some (.int x.2.2)], [], (v0 L, x.1)) (oz_r ez_v R.1) (v0 L, R.2)) (fun k hk x R hr => db_310_21 L hk x.1 x.2.1 x.2.2  R hr) nf_F x R hr
/-- DeclaredMarkup$Processor.mixed(LDeclaredMarkup$Model;)V -/
noncomputable def fm_310 (g : am_G) (u1 : Nat) : Option ((Unit ⊕ Nat) × am_G) := lo_t (fm_245 g 151670441025) fun y1 g2 => lo_t (fm_245 g2 21569) fun y3 g4 => lo_i (fm_242 g4 ) fun y5 g6 => fh_310_21 (g6, u1, 0)
theorem dm_310 (L : Nat) (g : am_G) (u1 : Nat) (R : (Unit ⊕ Nat) × am_G) : fm_310 g u1 = some R → ai_ev ap_P 310 (ai_e0 ap_P 310 [.ref 33, .ref u1] (v0 L, g)) (oz_r ez_v R.1) (v0 L, R.2) := by
  show _ → ai_ev ap_P 310 (0, [some (.ref 33), some (.ref u1), none], [], (v0 L, g)) _ _
  unfold fm_310
  refine ev_ot 2 (as := [.ref 33, .long 151670441025]) (pc := 7) (Lc := [some (.ref 33), some (.ref u1), none]) (st := []) (V := v0 L) (g1 := g) (e := ez_v) rfl (dm_245 L g 151670441025) (fun _ => rfl) (fun y1 g2 => ?_)
  refine ev_ot 2 (as := [.ref 33, .long 21569]) (pc := 14) (Lc := [some (.ref 33), some (.ref u1), none]) (st := []) (V := v0 L) (g1 := g2) (e := ez_v) rfl (dm_245 L g2 21569) (fun _ => rfl) (fun y3 g4 => ?_)
  refine ev_oi 1 (as := [.ref 33]) (pc := 18) (Lc := [some (.ref 33), some (.ref u1), none]) (st := []) (V := v0 L) (g1 := g4) (e := ez_i) rfl (dm_242 L g4 ) (fun y5 g6 => ?_)
  refine ev_jm 2 (t := (21, [some (.ref 33), some (.ref u1), some (.int 0)], [], (v0 L, g6))) rfl ?_
  exact dh_310_21 L (g6, u1, 0) _
/-- DeclaredMarkup$Model.open()V -/
noncomputable def fm_211 (g : am_G) (u0 : Nat) : Option (am_G) := lo_g (Nat.beq (v0_kd u0) 9) (lo_g ((Nat.beq (v0_kd u0) 9 && Nat.ble 32 u0)) (lo_m (v0_fr u0 2) (none) fun o3 => lo_g (vk_in o3 120 (am_i (am_si g u0 4 ((am_i g u0 4) + 1)) u0 4)) (lo_m (v0_fr o3 ((am_i (am_si g u0 4 ((am_i g u0 4) + 1)) u0 4)).toNatClampNeg) (none) fun o5 => lo_g (Nat.beq (v0_kd o5) 10) (lo_p (fm_182 (am_si g u0 4 ((am_i g u0 4) + 1)) o5) fun g7 => some g7))))
theorem dm_211 (L : Nat) (g : am_G) (u0 : Nat) (R : am_G) : fm_211 g u0 = some R → ai_ev ap_P 211 (ai_e0 ap_P 211 [.ref u0] (v0 L, g)) (.inl none) (v0 L, R) := by
  show _ → ai_ev ap_P 211 (0, [some (.ref u0)], [], (v0 L, g)) _ _
  unfold fm_211
  refine ev_gd (c := Nat.beq (v0_kd u0) 9) (fun hc1 => ?_)
  refine ev_jm 2 (t := (5, [some (.ref u0)], [.int (am_i g u0 4), .ref u0], (v0 L, g))) (ai_gd (c := Nat.beq (v0_kd u0) 9) rfl hc1) ?_
  refine ev_gd (c := (Nat.beq (v0_kd u0) 9 && Nat.ble 32 u0)) (fun hc2 => ?_)
  refine ev_jm 2 (t := (10, [some (.ref u0)], [], (v0 L, (am_si g u0 4 ((am_i g u0 4) + 1))))) (ai_gd (c := (Nat.beq (v0_kd u0) 9 && Nat.ble 32 u0)) rfl hc2) ?_
  refine ev_jm 1 (t := (14, [some (.ref u0)], [am_v (v0_fr u0 2)], (v0 L, (am_si g u0 4 ((am_i g u0 4) + 1))))) (ai_gd (c := Nat.beq (v0_kd u0) 9) rfl hc1) ?_
  refine ev_om (S := fun (o : Option Nat) => (14, [some (.ref u0)], [am_v o], (v0 L, (am_si g u0 4 ((am_i g u0 4) + 1))))) ?_ (fun o3 => ?_)
  · exact fun hR => nomatch hR
  · refine ev_jm 1 (t := (18, [some (.ref u0)], [.int (am_i (am_si g u0 4 ((am_i g u0 4) + 1)) u0 4), .ref o3], (v0 L, (am_si g u0 4 ((am_i g u0 4) + 1))))) (ai_gd (c := Nat.beq (v0_kd u0) 9) rfl hc1) ?_
    refine ev_gd (c := vk_in o3 120 (am_i (am_si g u0 4 ((am_i g u0 4) + 1)) u0 4)) (fun hc4 => ?_)
    refine ev_jm 0 (t := (19, [some (.ref u0)], [am_v (v0_fr o3 ((am_i (am_si g u0 4 ((am_i g u0 4) + 1)) u0 4)).toNatClampNeg)], (v0 L, (am_si g u0 4 ((am_i g u0 4) + 1))))) (ai_gd (c := Nat.beq (v0_kd o3) 120 && ai_in (am_i (am_si g u0 4 ((am_i g u0 4) + 1)) u0 4) (v0_ln L o3)) rfl (vk_ld hc4)) ?_
    refine ev_om (S := fun (o : Option Nat) => (19, [some (.ref u0)], [am_v o], (v0 L, (am_si g u0 4 ((am_i g u0 4) + 1))))) ?_ (fun o5 => ?_)
    · exact fun hR => nomatch hR
    · refine ev_gd (c := Nat.beq (v0_kd o5) 10) (fun hc8 => ?_)
      refine ev_ov0 0 (as := [.ref o5]) (pc := 22) (Lc := [some (.ref u0)]) (st := []) (V := v0 L) (g1 := (am_si g u0 4 ((am_i g u0 4) + 1))) (ai_gd (c := Nat.beq (v0_kd o5) 10 && true) rfl (ai_ct hc8)) (dm_182 L (am_si g u0 4 ((am_i g u0 4) + 1)) o5) (fun g7 => ?_)
      exact fun hR => by cases hR; exact ev_rt 0 rfl
/-- DeclaredMarkup$Model.isDeep()Z -/
noncomputable def fm_210 (g : am_G) (u0 : Nat) : Option (Int32) := lo_g (Nat.beq (v0_kd u0) 9) (if (am_i g u0 4) = 12 then some 1 else some 0)
theorem dm_210 (L : Nat) (g : am_G) (u0 : Nat) (R : Int32) : fm_210 g u0 = some R → ai_ev ap_P 210 (ai_e0 ap_P 210 [.ref u0] (v0 L, g)) (.inl (ez_i R)) (v0 L, g) := by
  show _ → ai_ev ap_P 210 (0, [some (.ref u0)], [], (v0 L, g)) _ _
  unfold fm_210
  refine ev_gd (c := Nat.beq (v0_kd u0) 9) (fun hc1 => ?_)
  refine ev_jm 1 (t := (4, [some (.ref u0)], [.int (am_i g u0 4)], (v0 L, g))) (ai_gd (c := Nat.beq (v0_kd u0) 9) rfl hc1) ?_
  refine ev_in 1 (p := (am_i g u0 4) = 12) (a := 13) (b := 9) (T := ([some (.ref u0)], [], (v0 L, g))) rfl ?_ ?_
  · exact fun hR => by cases hR; exact ev_rt 2 rfl
  · exact fun hR => by cases hR; exact ev_rt 1 rfl
/-- DeclaredMarkup$Model.close(I)V -/
noncomputable def fm_215 (g : am_G) (u0 : Nat) (u1 : Int32) : Option (am_G) := lo_g (Nat.beq (v0_kd u0) 9) (lo_m (v0_fr u0 2) (none) fun o2 => lo_g (vk_in o2 120 (am_i g u0 4)) (lo_m (v0_fr o2 ((am_i g u0 4)).toNatClampNeg) (none) fun o4 => lo_g ((Nat.beq (v0_kd u0) 9 && Nat.ble 32 u0)) (lo_g (Nat.beq (v0_kd o4) 10) (lo_p (fm_213 (am_si g u0 4 ((am_i g u0 4) - 1)) u0 (am_i (am_si g u0 4 ((am_i g u0 4) - 1)) o4 2) (am_j g o4 3) (am_j g o4 4) u1) fun g8 => some g8))))
theorem dm_215 (L : Nat) (g : am_G) (u0 : Nat) (u1 : Int32) (R : am_G) : fm_215 g u0 u1 = some R → ai_ev ap_P 215 (ai_e0 ap_P 215 [.ref u0, .int u1] (v0 L, g)) (.inl none) (v0 L, R) := by
  show _ → ai_ev ap_P 215 (0, [some (.ref u0), some (.int u1), none], [], (v0 L, g)) _ _
  unfold fm_215
  refine ev_gd (c := Nat.beq (v0_kd u0) 9) (fun hc1 => ?_)
  refine ev_jm 1 (t := (4, [some (.ref u0), some (.int u1), none], [am_v (v0_fr u0 2)], (v0 L, g))) (ai_gd (c := Nat.beq (v0_kd u0) 9) rfl hc1) ?_
  refine ev_om (S := fun (o : Option Nat) => (4, [some (.ref u0), some (.int u1), none], [am_v o], (v0 L, g))) ?_ (fun o2 => ?_)
  · exact fun hR => nomatch hR
  · refine ev_jm 1 (t := (8, [some (.ref u0), some (.int u1), none], [.int (am_i g u0 4), .ref o2], (v0 L, g))) (ai_gd (c := Nat.beq (v0_kd u0) 9) rfl hc1) ?_
    refine ev_gd (c := vk_in o2 120 (am_i g u0 4)) (fun hc3 => ?_)
    refine ev_jm 0 (t := (9, [some (.ref u0), some (.int u1), none], [am_v (v0_fr o2 ((am_i g u0 4)).toNatClampNeg)], (v0 L, g))) (ai_gd (c := Nat.beq (v0_kd o2) 120 && ai_in (am_i g u0 4) (v0_ln L o2)) rfl (vk_ld hc3)) ?_
    refine ev_om (S := fun (o : Option Nat) => (9, [some (.ref u0), some (.int u1), none], [am_v o], (v0 L, g))) ?_ (fun o4 => ?_)
    · exact fun hR => nomatch hR
    · refine ev_jm 3 (t := (15, [some (.ref u0), some (.int u1), some (.ref o4)], [.int (am_i g u0 4), .ref u0], (v0 L, g))) (ai_gd (c := Nat.beq (v0_kd u0) 9) rfl hc1) ?_
      refine ev_gd (c := (Nat.beq (v0_kd u0) 9 && Nat.ble 32 u0)) (fun hc5 => ?_)
      refine ev_jm 2 (t := (20, [some (.ref u0), some (.int u1), some (.ref o4)], [], (v0 L, (am_si g u0 4 ((am_i g u0 4) - 1))))) (ai_gd (c := (Nat.beq (v0_kd u0) 9 && Nat.ble 32 u0)) rfl hc5) ?_
      refine ev_gd (c := Nat.beq (v0_kd o4) 10) (fun hc6 => ?_)
      refine ev_jm 2 (t := (25, [some (.ref u0), some (.int u1), some (.ref o4)], [.int (am_i (am_si g u0 4 ((am_i g u0 4) - 1)) o4 2), .ref u0], (v0 L, (am_si g u0 4 ((am_i g u0 4) - 1))))) (ai_gd (c := Nat.beq (v0_kd o4) 10) rfl hc6) ?_
      refine ev_jm 1 (t := (29, [some (.ref u0), some (.int u1), some (.ref o4)], [.long (am_j g o4 3), .int (am_i (am_si g u0 4 ((am_i g u0 4) - 1)) o4 2), .ref u0], (v0 L, (am_si g u0 4 ((am_i g u0 4) - 1))))) (ai_gd (c := Nat.beq (v0_kd o4) 10) rfl hc6) ?_
      refine ev_jm 1 (t := (33, [some (.ref u0), some (.int u1), some (.ref o4)], [.long (am_j g o4 4), .long (am_j g o4 3), .int (am_i (am_si g u0 4 ((am_i g u0 4) - 1)) o4 2), .ref u0], (v0 L, (am_si g u0 4 ((am_i g u0 4) - 1))))) (ai_gd (c := Nat.beq (v0_kd o4) 10) rfl hc6) ?_
      refine ev_ov0 1 (as := [.ref u0, .int (am_i (am_si g u0 4 ((am_i g u0 4) - 1)) o4 2), .long (am_j g o4 3), .long (am_j g o4 4), .int u1]) (pc := 37) (Lc := [some (.ref u0), some (.int u1), some (.ref o4)]) (st := []) (V := v0 L) (g1 := (am_si g u0 4 ((am_i g u0 4) - 1))) (ai_gd (c := Nat.beq (v0_kd u0) 9 && true) rfl (ai_ct hc1)) (dm_213 L (am_si g u0 4 ((am_i g u0 4) - 1)) u0 (am_i (am_si g u0 4 ((am_i g u0 4) - 1)) o4 2) (am_j g o4 3) (am_j g o4 4) u1) (fun g8 => ?_)
      exact fun hR => by cases hR; exact ev_rt 0 rfl
noncomputable def fj_314_88  (g : am_G) (t0 : Nat) (t1 : Int32) : Option ((Unit ⊕ Nat) × am_G) := lo_g ((Nat.beq (v0_kd t0) 10 && Nat.ble 32 t0)) (lo_p (fm_177 (am_si g t0 0 t1) ) fun g3 => lo_i (fm_242 g3 ) fun y4 g5 => some (.inl (), g5))
theorem dj_314_88 (L : Nat)   (g : am_G) (t0 : Nat) (t1 : Int32) (w1 w2 w3 w4 : Option Value) (R : (Unit ⊕ Nat) × am_G) : fj_314_88  g t0 t1 = some R → ai_ev ap_P 314 (88, [some (.ref 33), w1, w2, w3, w4], [.int t1, .ref t0], (v0 L, g)) (oz_r ez_v R.1) (v0 L, R.2) := by
  unfold fj_314_88
  refine ev_gd (c := (Nat.beq (v0_kd t0) 10 && Nat.ble 32 t0)) (fun hc1 => ?_)
  refine ev_jm 0 (t := (91, [some (.ref 33), none, none, none, none], [], (v0 L, (am_si g t0 0 t1)))) (ai_gd (c := (Nat.beq (v0_kd t0) 10 && Nat.ble 32 t0)) rfl hc1) ?_
  refine ev_ov0 2 (as := [.ref 39]) (pc := 98) (Lc := [some (.ref 33), none, none, none, none]) (st := []) (V := v0 L) (g1 := (am_si g t0 0 t1)) rfl (dm_177 L (am_si g t0 0 t1) ) (fun g3 => ?_)
  refine ev_oi 1 (as := [.ref 33]) (pc := 102) (Lc := [some (.ref 33), none, none, none, none]) (st := []) (V := v0 L) (g1 := g3) (e := ez_i) rfl (dm_242 L g3 ) (fun y4 g5 => ?_)
  exact fun hR => by cases hR; exact ev_rt 1 rfl
noncomputable def fj_314_78  (g : am_G) (u2 : Nat) (u3 : Int32) : Option ((Unit ⊕ Nat) × am_G) := if u3 = 0 then fj_314_88 g u2 1 else fj_314_88 g u2 2
theorem dj_314_78 (L : Nat)   (g : am_G) (u2 : Nat) (u3 : Int32) (w1 w4 : Option Value) (R : (Unit ⊕ Nat) × am_G) : fj_314_78  g u2 u3 = some R → ai_ev ap_P 314 (78, [some (.ref 33), w1, some (.ref u2), some (.int u3), w4], [], (v0 L, g)) (oz_r ez_v R.1) (v0 L, R.2) := by
  unfold fj_314_78
  refine ev_if 2 (p := u3 = 0) (a := 87) (b := 83) (T := ([some (.ref 33), none, some (.ref u2), some (.int u3), none], [.ref u2], (v0 L, g))) rfl ?_ ?_
  · refine ev_jm 0 (t := (88, [some (.ref 33), none, some (.ref u2), some (.int u3), none], [.int 1, .ref u2], (v0 L, g))) rfl ?_
    exact dj_314_88 L g u2 1 none (some (.ref u2)) (some (.int u3)) none _
  · refine ev_jm 1 (t := (88, [some (.ref 33), none, some (.ref u2), some (.int u3), none], [.int 2, .ref u2], (v0 L, g))) rfl ?_
    exact dj_314_88 L g u2 2 none (some (.ref u2)) (some (.int u3)) none _
noncomputable def fj_314_67 (k0 : (am_G × Nat) → Option ((Unit ⊕ Nat) × am_G)) (g : am_G) (u1 : Nat) (u2 : Nat) (u3 : Int32) (t0 : Int32) : Option ((Unit ⊕ Nat) × am_G) := if u3 = 0 then if t0 = 0 then lo_t (fm_244 g 41) fun y1 g2 => lo_i (fm_312 g2 u1) fun y3 g4 => lo_g (Nat.beq (v0_kd u1) 9) (lo_p (fm_215 g4 u1 y3) fun g6 => k0 (g6, u1)) else fj_314_78 g u2 u3 else fj_314_78 g u2 u3
theorem dj_314_67 (L : Nat) {k0 : (am_G × Nat) → Option ((Unit ⊕ Nat) × am_G)} (hk0 : ∀ (x : am_G × Nat) (w2 w3 w4 : Option Value) (R : (Unit ⊕ Nat) × am_G), k0 x = some R → ai_ev ap_P 314 (0, [some (.ref 33), some (.ref x.2), w2, w3, w4], [], (v0 L, x.1)) (oz_r ez_v R.1) (v0 L, R.2)) (g : am_G) (u1 : Nat) (u2 : Nat) (u3 : Int32) (t0 : Int32) (w4 : Option Value) (R : (Unit ⊕ Nat) × am_G) : fj_314_67 k0 g u1 u2 u3 t0 = some R → ai_ev ap_P 314 (67, [some (.ref 33), some (.ref u1), some (.ref u2), some (.int u3), w4], [.int t0], (v0 L, g)) (oz_r ez_v R.1) (v0 L, R.2) := by
  unfold fj_314_67
  refine ev_in 2 (p := u3 = 0) (a := 78) (b := 73) (T := ([some (.ref 33), some (.ref u1), some (.ref u2), some (.int u3), some (.int t0)], [], (v0 L, g))) rfl ?_ ?_
  · refine ev_if 1 (p := t0 = 0) (a := 104) (b := 78) (T := ([some (.ref 33), some (.ref u1), some (.ref u2), some (.int u3), some (.int t0)], [], (v0 L, g))) rfl ?_ ?_
    · refine ev_ot 2 (as := [.ref 33, .int 41]) (pc := 110) (Lc := [some (.ref 33), some (.ref u1), some (.ref u2), some (.int u3), some (.int t0)]) (st := []) (V := v0 L) (g1 := g) (e := ez_v) rfl (dm_244 L g 41) (fun _ => rfl) (fun y1 g2 => ?_)
      refine ev_oi 3 (as := [.ref 33, .ref u1]) (pc := 116) (Lc := [some (.ref 33), some (.ref u1), some (.ref u2), some (.int u3), some (.int t0)]) (st := [.ref u1]) (V := v0 L) (g1 := g2) (e := ez_i) rfl (dm_312 L g2 u1) (fun y3 g4 => ?_)
      refine ev_gd (c := Nat.beq (v0_kd u1) 9) (fun hc7 => ?_)
      refine ev_ov0 0 (as := [.ref u1, .int y3]) (pc := 119) (Lc := [some (.ref 33), some (.ref u1), some (.ref u2), some (.int u3), some (.int t0)]) (st := []) (V := v0 L) (g1 := g4) (ai_gd (c := Nat.beq (v0_kd u1) 9 && true) rfl (ai_ct hc7)) (dm_215 L g4 u1 y3) (fun g6 => ?_)
      refine ev_jm 0 (t := (0, [some (.ref 33), some (.ref u1), some (.ref u2), some (.int u3), some (.int t0)], [], (v0 L, g6))) rfl ?_
      exact hk0 (g6, u1) (some (.ref u2)) (some (.int u3)) (some (.int t0)) _
    · exact dj_314_78 L g u2 u3 (some (.ref u1)) (some (.int t0)) _
  · exact dj_314_78 L g u2 u3 (some (.ref u1)) (some (.int t0)) _
noncomputable def fj_314_66 (k0 : (am_G × Nat) → Option ((Unit ⊕ Nat) × am_G)) (g : am_G) (u1 : Nat) (u2 : Nat) (u3 : Int32) : Option ((Unit ⊕ Nat) × am_G) := fj_314_67 k0 g u1 u2 u3 0
theorem dj_314_66 (L : Nat) {k0 : (am_G × Nat) → Option ((Unit ⊕ Nat) × am_G)} (hk0 : ∀ (x : am_G × Nat) (w2 w3 w4 : Option Value) (R : (Unit ⊕ Nat) × am_G), k0 x = some R → ai_ev ap_P 314 (0, [some (.ref 33), some (.ref x.2), w2, w3, w4], [], (v0 L, x.1)) (oz_r ez_v R.1) (v0 L, R.2)) (g : am_G) (u1 : Nat) (u2 : Nat) (u3 : Int32) (w4 : Option Value) (R : (Unit ⊕ Nat) × am_G) : fj_314_66 k0 g u1 u2 u3 = some R → ai_ev ap_P 314 (66, [some (.ref 33), some (.ref u1), some (.ref u2), some (.int u3), w4], [], (v0 L, g)) (oz_r ez_v R.1) (v0 L, R.2) := by
  unfold fj_314_66
  refine ev_jm 0 (t := (67, [some (.ref 33), some (.ref u1), some (.ref u2), some (.int u3), none], [.int 0], (v0 L, g))) rfl ?_
  exact dj_314_67 L hk0 g u1 u2 u3 0 none _
noncomputable def fj_314_44 (k0 : (am_G × Nat) → Option ((Unit ⊕ Nat) × am_G)) (g : am_G) (u1 : Nat) (u2 : Nat) (t0 : Int32) : Option ((Unit ⊕ Nat) × am_G) := lo_p (fm_240 g 44) fun y1 => if y1 = 0 then fj_314_66 k0 g u1 u2 t0 else lo_g (Nat.beq (v0_kd u2) 10) (if (am_i g u2 0) = 2 then fj_314_66 k0 g u1 u2 t0 else fj_314_67 k0 g u1 u2 t0 1)
theorem dj_314_44 (L : Nat) {k0 : (am_G × Nat) → Option ((Unit ⊕ Nat) × am_G)} (hk0 : ∀ (x : am_G × Nat) (w2 w3 w4 : Option Value) (R : (Unit ⊕ Nat) × am_G), k0 x = some R → ai_ev ap_P 314 (0, [some (.ref 33), some (.ref x.2), w2, w3, w4], [], (v0 L, x.1)) (oz_r ez_v R.1) (v0 L, R.2)) (g : am_G) (u1 : Nat) (u2 : Nat) (t0 : Int32) (w3 w4 : Option Value) (R : (Unit ⊕ Nat) × am_G) : fj_314_44 k0 g u1 u2 t0 = some R → ai_ev ap_P 314 (44, [some (.ref 33), some (.ref u1), some (.ref u2), w3, w4], [.int t0], (v0 L, g)) (oz_r ez_v R.1) (v0 L, R.2) := by
  unfold fj_314_44
  refine ev_op 3 (as := [.ref 33, .int 44]) (pc := 51) (Lc := [some (.ref 33), some (.ref u1), some (.ref u2), some (.int t0), none]) (st := []) (h1 := (v0 L, g)) (e := ez_i) rfl (dm_240 L g 44) (fun y1 => ?_)
  refine ev_if 0 (p := y1 = 0) (a := 66) (b := 54) (T := ([some (.ref 33), some (.ref u1), some (.ref u2), some (.int t0), none], [], (v0 L, g))) rfl ?_ ?_
  · exact dj_314_66 L hk0 g u1 u2 t0 none _
  · refine ev_gd (c := Nat.beq (v0_kd u2) 10) (fun hc3 => ?_)
    refine ev_jm 1 (t := (58, [some (.ref 33), some (.ref u1), some (.ref u2), some (.int t0), none], [.int (am_i g u2 0)], (v0 L, g))) (ai_gd (c := Nat.beq (v0_kd u2) 10) rfl hc3) ?_
    refine ev_if 1 (p := (am_i g u2 0) = 2) (a := 66) (b := 62) (T := ([some (.ref 33), some (.ref u1), some (.ref u2), some (.int t0), none], [], (v0 L, g))) rfl ?_ ?_
    · exact dj_314_66 L hk0 g u1 u2 t0 none _
    · refine ev_jm 1 (t := (67, [some (.ref 33), some (.ref u1), some (.ref u2), some (.int t0), none], [.int 1], (v0 L, g))) rfl ?_
      exact dj_314_67 L hk0 g u1 u2 t0 1 none _
noncomputable def fj_314_43 (k0 : (am_G × Nat) → Option ((Unit ⊕ Nat) × am_G)) (g : am_G) (u1 : Nat) (u2 : Nat) : Option ((Unit ⊕ Nat) × am_G) := fj_314_44 k0 g u1 u2 0
theorem dj_314_43 (L : Nat) {k0 : (am_G × Nat) → Option ((Unit ⊕ Nat) × am_G)} (hk0 : ∀ (x : am_G × Nat) (w2 w3 w4 : Option Value) (R : (Unit ⊕ Nat) × am_G), k0 x = some R → ai_ev ap_P 314 (0, [some (.ref 33), some (.ref x.2), w2, w3, w4], [], (v0 L, x.1)) (oz_r ez_v R.1) (v0 L, R.2)) (g : am_G) (u1 : Nat) (u2 : Nat) (w3 w4 : Option Value) (R : (Unit ⊕ Nat) × am_G) : fj_314_43 k0 g u1 u2 = some R → ai_ev ap_P 314 (43, [some (.ref 33), some (.ref u1), some (.ref u2), w3, w4], [], (v0 L, g)) (oz_r ez_v R.1) (v0 L, R.2) := by
  unfold fj_314_43
  refine ev_jm 0 (t := (44, [some (.ref 33), some (.ref u1), some (.ref u2), none, none], [.int 0], (v0 L, g))) rfl ?_
  exact dj_314_44 L hk0 g u1 u2 0 none none _
noncomputable def fb_314_0 (k0 : (am_G × Nat) → Option ((Unit ⊕ Nat) × am_G)) (g : am_G) (u1 : Nat) : Option ((Unit ⊕ Nat) × am_G) := lo_g (Nat.beq (v0_kd u1) 9) (if (am_i g u1 4) ≤ 0 then some (.inl (), g) else lo_i (fm_242 g ) fun y2 g3 => lo_m (v0_fr u1 2) (none) fun o4 => lo_g (vk_in o4 120 (am_i g3 u1 4)) (lo_m (v0_fr o4 ((am_i g3 u1 4)).toNatClampNeg) (none) fun o6 => lo_p (fm_240 g3 124) fun y7 => if y7 = 0 then fj_314_43 k0 g3 u1 o6 else lo_g (Nat.beq (v0_kd o6) 10) (if (am_i g3 o6 0) = 1 then fj_314_43 k0 g3 u1 o6 else fj_314_44 k0 g3 u1 o6 1)))
theorem db_314_0 (L : Nat) {k0 : (am_G × Nat) → Option ((Unit ⊕ Nat) × am_G)} (hk0 : ∀ (x : am_G × Nat) (w2 w3 w4 : Option Value) (R : (Unit ⊕ Nat) × am_G), k0 x = some R → ai_ev ap_P 314 (0, [some (.ref 33), some (.ref x.2), w2, w3, w4], [], (v0 L, x.1)) (oz_r ez_v R.1) (v0 L, R.2)) (g : am_G) (u1 : Nat) (w2 w3 w4 : Option Value) (R : (Unit ⊕ Nat) × am_G) : fb_314_0 k0 g u1 = some R → ai_ev ap_P 314 (0, [some (.ref 33), some (.ref u1), w2, w3, w4], [], (v0 L, g)) (oz_r ez_v R.1) (v0 L, R.2) := by
  unfold fb_314_0
  refine ev_gd (c := Nat.beq (v0_kd u1) 9) (fun hc1 => ?_)
  refine ev_jm 1 (t := (4, [some (.ref 33), some (.ref u1), none, none, none], [.int (am_i g u1 4)], (v0 L, g))) (ai_gd (c := Nat.beq (v0_kd u1) 9) rfl hc1) ?_
  refine ev_if 0 (p := (am_i g u1 4) ≤ 0) (a := 122) (b := 7) (T := ([some (.ref 33), some (.ref u1), none, none, none], [], (v0 L, g))) rfl ?_ ?_
  · exact fun hR => by cases hR; exact ev_rt 0 rfl
  · refine ev_oi 1 (as := [.ref 33]) (pc := 11) (Lc := [some (.ref 33), some (.ref u1), none, none, none]) (st := []) (V := v0 L) (g1 := g) (e := ez_i) rfl (dm_242 L g ) (fun y2 g3 => ?_)
    refine ev_jm 2 (t := (16, [some (.ref 33), some (.ref u1), none, none, none], [am_v (v0_fr u1 2)], (v0 L, g3))) (ai_gd (c := Nat.beq (v0_kd u1) 9) rfl hc1) ?_
    refine ev_om (S := fun (o : Option Nat) => (16, [some (.ref 33), some (.ref u1), none, none, none], [am_v o], (v0 L, g3))) ?_ (fun o4 => ?_)
    · exact fun hR => nomatch hR
    · refine ev_jm 1 (t := (20, [some (.ref 33), some (.ref u1), none, none, none], [.int (am_i g3 u1 4), .ref o4], (v0 L, g3))) (ai_gd (c := Nat.beq (v0_kd u1) 9) rfl hc1) ?_
      refine ev_gd (c := vk_in o4 120 (am_i g3 u1 4)) (fun hc5 => ?_)
      refine ev_jm 0 (t := (21, [some (.ref 33), some (.ref u1), none, none, none], [am_v (v0_fr o4 ((am_i g3 u1 4)).toNatClampNeg)], (v0 L, g3))) (ai_gd (c := Nat.beq (v0_kd o4) 120 && ai_in (am_i g3 u1 4) (v0_ln L o4)) rfl (vk_ld hc5)) ?_
      refine ev_om (S := fun (o : Option Nat) => (21, [some (.ref 33), some (.ref u1), none, none, none], [am_v o], (v0 L, g3))) ?_ (fun o6 => ?_)
      · exact fun hR => nomatch hR
      · refine ev_op 3 (as := [.ref 33, .int 124]) (pc := 28) (Lc := [some (.ref 33), some (.ref u1), some (.ref o6), none, none]) (st := []) (h1 := (v0 L, g3)) (e := ez_i) rfl (dm_240 L g3 124) (fun y7 => ?_)
        refine ev_if 0 (p := y7 = 0) (a := 43) (b := 31) (T := ([some (.ref 33), some (.ref u1), some (.ref o6), none, none], [], (v0 L, g3))) rfl ?_ ?_
        · exact dj_314_43 L hk0 g3 u1 o6 none none _
        · refine ev_gd (c := Nat.beq (v0_kd o6) 10) (fun hc9 => ?_)
          refine ev_jm 1 (t := (35, [some (.ref 33), some (.ref u1), some (.ref o6), none, none], [.int (am_i g3 o6 0)], (v0 L, g3))) (ai_gd (c := Nat.beq (v0_kd o6) 10) rfl hc9) ?_
          refine ev_if 1 (p := (am_i g3 o6 0) = 1) (a := 43) (b := 39) (T := ([some (.ref 33), some (.ref u1), some (.ref o6), none, none], [], (v0 L, g3))) rfl ?_ ?_
          · exact dj_314_43 L hk0 g3 u1 o6 none none _
          · refine ev_jm 1 (t := (44, [some (.ref 33), some (.ref u1), some (.ref o6), none, none], [.int 1], (v0 L, g3))) rfl ?_
            exact dj_314_44 L hk0 g3 u1 o6 1 none none _
noncomputable def fh_314_0  (x : am_G × Nat) : Option ((Unit ⊕ Nat) × am_G) := lo_it (fun k x => fb_314_0 k x.1 x.2) nf_F x
theorem dh_314_0 (L : Nat)   (x : am_G × Nat) (w2 w3 w4 : Option Value) (R : (Unit ⊕ Nat) × am_G) : fh_314_0  x = some R → ai_ev ap_P 314 (0, [some (.ref 33), some (.ref x.2), w2, w3, w4], [], (v0 L, x.1)) (oz_r ez_v R.1) (v0 L, R.2) :=
  fun hr => lo_ev (E := fun x R => ∀ (w2 w3 w4 : Option Value), ai_ev ap_P 314 (0, [some (.ref 33), some (.ref x.2), w2, w3, w4], [], (v0 L, x.1)) (oz_r ez_v R.1) (v0 L, R.2)) (fun k hk x R hr => fun w2 w3 w4 => db_314_0 L (fun x w2 w3 w4 R hr => hk x R hr w2 w3 w4) x.1 x.2 w2 w3 w4 R hr) nf_F x R hr w2 w3 w4
/-- DeclaredMarkup$Processor.behindPart(LDeclaredMarkup$Model;)V -/
noncomputable def fm_314 (g : am_G) (u1 : Nat) : Option ((Unit ⊕ Nat) × am_G) := fh_314_0 (g, u1)
theorem dm_314 (L : Nat) (g : am_G) (u1 : Nat) (R : (Unit ⊕ Nat) × am_G) : fm_314 g u1 = some R → ai_ev ap_P 314 (ai_e0 ap_P 314 [.ref 33, .ref u1] (v0 L, g)) (oz_r ez_v R.1) (v0 L, R.2) :=
  dh_314_0 L (g, u1) none none none R
noncomputable def fb_313_0 (k0 : (am_G × Nat) → Option ((Unit ⊕ Nat) × am_G)) (g : am_G) (u1 : Nat) : Option ((Unit ⊕ Nat) × am_G) := lo_g (Nat.beq (v0_kd u1) 9) (if (am_i g u1 4) ≤ 0 then some (.inl (), g) else lo_p (fm_240 g 40) fun y2 => if y2 = 0 then lo_t (fm_311 g u1) fun y4 g5 => lo_t (fm_314 g5 u1) fun y6 g7 => k0 (g7, u1) else lo_p (fm_210 g u1) fun y8 => if y8 = 0 then lo_p (fm_211 g u1) fun g11 => lo_p (fm_177 g11 ) fun g13 => lo_i (fm_242 g13 ) fun y14 g15 => k0 (g15, u1) else lo_p (fm_178 g ) fun y16 => lo_i (fm_237 g 3 y16) fun y18 g19 => lo_g (Nat.ble 1008 y18 && Nat.blt y18 (am_sz g19)) (some (.inr y18, g19)))
theorem db_313_0 (L : Nat) {k0 : (am_G × Nat) → Option ((Unit ⊕ Nat) × am_G)} (hk0 : ∀ (x : am_G × Nat) (R : (Unit ⊕ Nat) × am_G), k0 x = some R → ai_ev ap_P 313 (0, [some (.ref 33), some (.ref x.2)], [], (v0 L, x.1)) (oz_r ez_v R.1) (v0 L, R.2)) (g : am_G) (u1 : Nat) (R : (Unit ⊕ Nat) × am_G) : fb_313_0 k0 g u1 = some R → ai_ev ap_P 313 (0, [some (.ref 33), some (.ref u1)], [], (v0 L, g)) (oz_r ez_v R.1) (v0 L, R.2) := by
  unfold fb_313_0
  refine ev_gd (c := Nat.beq (v0_kd u1) 9) (fun hc1 => ?_)
  refine ev_jm 1 (t := (4, [some (.ref 33), some (.ref u1)], [.int (am_i g u1 4)], (v0 L, g))) (ai_gd (c := Nat.beq (v0_kd u1) 9) rfl hc1) ?_
  refine ev_if 0 (p := (am_i g u1 4) ≤ 0) (a := 68) (b := 7) (T := ([some (.ref 33), some (.ref u1)], [], (v0 L, g))) rfl ?_ ?_
  · exact fun hR => by cases hR; exact ev_rt 0 rfl
  · refine ev_op 2 (as := [.ref 33, .int 40]) (pc := 13) (Lc := [some (.ref 33), some (.ref u1)]) (st := []) (h1 := (v0 L, g)) (e := ez_i) rfl (dm_240 L g 40) (fun y2 => ?_)
    refine ev_if 0 (p := y2 = 0) (a := 55) (b := 16) (T := ([some (.ref 33), some (.ref u1)], [], (v0 L, g))) rfl ?_ ?_
    · refine ev_ot 2 (as := [.ref 33, .ref u1]) (pc := 60) (Lc := [some (.ref 33), some (.ref u1)]) (st := []) (V := v0 L) (g1 := g) (e := ez_v) rfl (dm_311 L g u1) (fun _ => rfl) (fun y4 g5 => ?_)
      refine ev_ot 2 (as := [.ref 33, .ref u1]) (pc := 65) (Lc := [some (.ref 33), some (.ref u1)]) (st := []) (V := v0 L) (g1 := g5) (e := ez_v) rfl (dm_314 L g5 u1) (fun _ => rfl) (fun y6 g7 => ?_)
      refine ev_jm 0 (t := (0, [some (.ref 33), some (.ref u1)], [], (v0 L, g7))) rfl ?_
      exact hk0 (g7, u1) _
    · refine ev_op 1 (as := [.ref u1]) (pc := 20) (Lc := [some (.ref 33), some (.ref u1)]) (st := []) (h1 := (v0 L, g)) (e := ez_i) (ai_gd (c := Nat.beq (v0_kd u1) 9 && true) rfl (ai_ct hc1)) (dm_210 L g u1) (fun y8 => ?_)
      refine ev_if 0 (p := y8 = 0) (a := 36) (b := 23) (T := ([some (.ref 33), some (.ref u1)], [], (v0 L, g))) rfl ?_ ?_
      · refine ev_ov0 1 (as := [.ref u1]) (pc := 40) (Lc := [some (.ref 33), some (.ref u1)]) (st := []) (V := v0 L) (g1 := g) (ai_gd (c := Nat.beq (v0_kd u1) 9 && true) rfl (ai_ct hc1)) (dm_211 L g u1) (fun g11 => ?_)
        refine ev_ov0 2 (as := [.ref 39]) (pc := 47) (Lc := [some (.ref 33), some (.ref u1)]) (st := []) (V := v0 L) (g1 := g11) rfl (dm_177 L g11 ) (fun g13 => ?_)
        refine ev_oi 1 (as := [.ref 33]) (pc := 51) (Lc := [some (.ref 33), some (.ref u1)]) (st := []) (V := v0 L) (g1 := g13) (e := ez_i) rfl (dm_242 L g13 ) (fun y14 g15 => ?_)
        refine ev_jm 1 (t := (0, [some (.ref 33), some (.ref u1)], [], (v0 L, g15))) rfl ?_
        exact hk0 (g15, u1) _
      · refine ev_op 4 (as := [.ref 39]) (pc := 32) (Lc := [some (.ref 33), some (.ref u1)]) (st := [.int 3, .ref 33]) (h1 := (v0 L, g)) (e := ez_i) rfl (dm_178 L g ) (fun y16 => ?_)
        refine ev_oi 0 (as := [.ref 33, .int 3, .int y16]) (pc := 35) (Lc := [some (.ref 33), some (.ref u1)]) (st := []) (V := v0 L) (g1 := g) (e := ez_a) rfl (dm_237 L g 3 y16) (fun y18 g19 => ?_)
        exact ev_at 0 (a := y18) (g1 := g19) rfl
noncomputable def fh_313_0  (x : am_G × Nat) : Option ((Unit ⊕ Nat) × am_G) := lo_it (fun k x => fb_313_0 k x.1 x.2) nf_F x
theorem dh_313_0 (L : Nat)   (x : am_G × Nat) (R : (Unit ⊕ Nat) × am_G) : fh_313_0  x = some R → ai_ev ap_P 313 (0, [some (.ref 33), some (.ref x.2)], [], (v0 L, x.1)) (oz_r ez_v R.1) (v0 L, R.2) :=
  fun hr => lo_ev (E := fun x R => ai_ev ap_P 313 (0, [some (.ref 33), some (.ref x.2)], [], (v0 L, x.1)) (oz_r ez_v R.1) (v0 L, R.2)) (fun k hk x R hr => db_313_0 L hk x.1 x.2  R hr) nf_F x R hr
/-- DeclaredMarkup$Processor.model(LDeclaredMarkup$Model;)V -/
noncomputable def fm_313 (g : am_G) (u1 : Nat) : Option ((Unit ⊕ Nat) × am_G) := fh_313_0 (g, u1)
theorem dm_313 (L : Nat) (g : am_G) (u1 : Nat) (R : (Unit ⊕ Nat) × am_G) : fm_313 g u1 = some R → ai_ev ap_P 313 (ai_e0 ap_P 313 [.ref 33, .ref u1] (v0 L, g)) (oz_r ez_v R.1) (v0 L, R.2) :=
  dh_313_0 L (g, u1) R
/-- DeclaredMarkup$Processor.spec(LDeclaredMarkup$Model;)I -/
noncomputable def fm_309 (g : am_G) (u1 : Nat) : Option ((Int32 ⊕ Nat) × am_G) := lo_g (Nat.beq (v0_kd u1) 9) (lo_p (fm_208 g u1) fun g2 => lo_p (fm_240 g2 69) fun y4 => if y4 = 0 then lo_p (fm_240 g2 65) fun y6 => if y6 = 0 then lo_p (fm_240 g2 40) fun y8 => lo_t (fm_238 g2 y8) fun y10 g11 => lo_p (fm_177 g11 ) fun g13 => lo_i (fm_242 g13 ) fun y14 g15 => lo_p (fm_240 g15 35) fun y16 => if y16 = 0 then lo_p (fm_211 g15 u1) fun g19 => lo_t (fm_313 g19 u1) fun y20 g21 => lo_p (fm_216 g21 u1) fun g23 => some (.inl 4, g23) else lo_t (fm_310 g15 u1) fun y24 g25 => some (.inl 3, g25) else lo_t (fm_245 g2 4279897) fun y26 g27 => some (.inl 2, g27) else lo_t (fm_245 g2 297649853529) fun y28 g29 => some (.inl 1, g29))
theorem dm_309 (L : Nat) (g : am_G) (u1 : Nat) (R : (Int32 ⊕ Nat) × am_G) : fm_309 g u1 = some R → ai_ev ap_P 309 (ai_e0 ap_P 309 [.ref 33, .ref u1] (v0 L, g)) (oz_r ez_i R.1) (v0 L, R.2) := by
  show _ → ai_ev ap_P 309 (0, [some (.ref 33), some (.ref u1)], [], (v0 L, g)) _ _
  unfold fm_309
  refine ev_gd (c := Nat.beq (v0_kd u1) 9) (fun hc3 => ?_)
  refine ev_ov0 1 (as := [.ref u1]) (pc := 4) (Lc := [some (.ref 33), some (.ref u1)]) (st := []) (V := v0 L) (g1 := g) (ai_gd (c := Nat.beq (v0_kd u1) 9 && true) rfl (ai_ct hc3)) (dm_208 L g u1) (fun g2 => ?_)
  refine ev_op 2 (as := [.ref 33, .int 69]) (pc := 10) (Lc := [some (.ref 33), some (.ref u1)]) (st := []) (h1 := (v0 L, g2)) (e := ez_i) rfl (dm_240 L g2 69) (fun y4 => ?_)
  refine ev_if 0 (p := y4 = 0) (a := 22) (b := 13) (T := ([some (.ref 33), some (.ref u1)], [], (v0 L, g2))) rfl ?_ ?_
  · refine ev_op 2 (as := [.ref 33, .int 65]) (pc := 28) (Lc := [some (.ref 33), some (.ref u1)]) (st := []) (h1 := (v0 L, g2)) (e := ez_i) rfl (dm_240 L g2 65) (fun y6 => ?_)
    refine ev_if 0 (p := y6 = 0) (a := 40) (b := 31) (T := ([some (.ref 33), some (.ref u1)], [], (v0 L, g2))) rfl ?_ ?_
    · refine ev_op 3 (as := [.ref 33, .int 40]) (pc := 47) (Lc := [some (.ref 33), some (.ref u1)]) (st := [.ref 33]) (h1 := (v0 L, g2)) (e := ez_i) rfl (dm_240 L g2 40) (fun y8 => ?_)
      refine ev_ot 0 (as := [.ref 33, .int y8]) (pc := 50) (Lc := [some (.ref 33), some (.ref u1)]) (st := []) (V := v0 L) (g1 := g2) (e := ez_v) rfl (dm_238 L g2 y8) (fun _ => rfl) (fun y10 g11 => ?_)
      refine ev_ov0 2 (as := [.ref 39]) (pc := 57) (Lc := [some (.ref 33), some (.ref u1)]) (st := []) (V := v0 L) (g1 := g11) rfl (dm_177 L g11 ) (fun g13 => ?_)
      refine ev_oi 1 (as := [.ref 33]) (pc := 61) (Lc := [some (.ref 33), some (.ref u1)]) (st := []) (V := v0 L) (g1 := g13) (e := ez_i) rfl (dm_242 L g13 ) (fun y14 g15 => ?_)
      refine ev_op 3 (as := [.ref 33, .int 35]) (pc := 68) (Lc := [some (.ref 33), some (.ref u1)]) (st := []) (h1 := (v0 L, g15)) (e := ez_i) rfl (dm_240 L g15 35) (fun y16 => ?_)
      refine ev_if 0 (p := y16 = 0) (a := 78) (b := 71) (T := ([some (.ref 33), some (.ref u1)], [], (v0 L, g15))) rfl ?_ ?_
      · refine ev_ov0 1 (as := [.ref u1]) (pc := 82) (Lc := [some (.ref 33), some (.ref u1)]) (st := []) (V := v0 L) (g1 := g15) (ai_gd (c := Nat.beq (v0_kd u1) 9 && true) rfl (ai_ct hc3)) (dm_211 L g15 u1) (fun g19 => ?_)
        refine ev_ot 2 (as := [.ref 33, .ref u1]) (pc := 87) (Lc := [some (.ref 33), some (.ref u1)]) (st := []) (V := v0 L) (g1 := g19) (e := ez_v) rfl (dm_313 L g19 u1) (fun _ => rfl) (fun y20 g21 => ?_)
        refine ev_ov0 1 (as := [.ref u1]) (pc := 91) (Lc := [some (.ref 33), some (.ref u1)]) (st := []) (V := v0 L) (g1 := g21) (ai_gd (c := Nat.beq (v0_kd u1) 9 && true) rfl (ai_ct hc3)) (dm_216 L g21 u1) (fun g23 => ?_)
        exact fun hR => by cases hR; exact ev_rt 1 rfl
      · refine ev_ot 2 (as := [.ref 33, .ref u1]) (pc := 76) (Lc := [some (.ref 33), some (.ref u1)]) (st := []) (V := v0 L) (g1 := g15) (e := ez_v) rfl (dm_310 L g15 u1) (fun _ => rfl) (fun y24 g25 => ?_)
        exact fun hR => by cases hR; exact ev_rt 1 rfl
    · refine ev_ot 2 (as := [.ref 33, .long 4279897]) (pc := 38) (Lc := [some (.ref 33), some (.ref u1)]) (st := []) (V := v0 L) (g1 := g2) (e := ez_v) rfl (dm_245 L g2 4279897) (fun _ => rfl) (fun y26 g27 => ?_)
      exact fun hR => by cases hR; exact ev_rt 1 rfl
  · refine ev_ot 2 (as := [.ref 33, .long 297649853529]) (pc := 20) (Lc := [some (.ref 33), some (.ref u1)]) (st := []) (V := v0 L) (g1 := g2) (e := ez_v) rfl (dm_245 L g2 297649853529) (fun _ => rfl) (fun y28 g29 => ?_)
    exact fun hR => by cases hR; exact ev_rt 1 rfl
noncomputable def fb_308_14 (g : am_G) (k4 : (Nat × Int32 × Int32) → Option (Int32)) (k14 : (Nat × Int32 × Int32 × Int32) → Option (Int32)) (u0 : Nat) (u1 : Int32) (u2 : Int32) (u3 : Int32) : Option (Int32) := if u2 ≤ u3 then k4 (u0, u1, (u2 + 1)) else if u1 = 0 then lo_g (Nat.beq (v0_kd u0) 9) (lo_m (v0_fr u0 0) (none) fun o2 => lo_g (vk_in o2 101 u2) (lo_m (v0_fr u0 0) (none) fun o4 => lo_g (vk_in o4 101 u3) (if (am_i g o2 u2.toNatClampNeg) = (am_i g o4 u3.toNatClampNeg) then k14 (u0, 1, u2, (u3 + 1)) else k14 (u0, 0, u2, (u3 + 1))))) else k14 (u0, 1, u2, (u3 + 1))
theorem db_308_14 (L : Nat) (g : am_G) {k4 : (Nat × Int32 × Int32) → Option (Int32)} {k14 : (Nat × Int32 × Int32 × Int32) → Option (Int32)} (hk4 : ∀ (x : Nat × Int32 × Int32) (w3 : Option Value) (R : Int32), k4 x = some R → ai_ev ap_P 308 (4, [some (.ref x.1), some (.int x.2.1), some (.int x.2.2), w3], [], (v0 L, g)) (.inl (ez_i R)) (v0 L, g)) (hk14 : ∀ (x : Nat × Int32 × Int32 × Int32) (R : Int32), k14 x = some R → ai_ev ap_P 308 (14, [some (.ref x.1), some (.int x.2.1), some (.int x.2.2.1), some (.int x.2.2.2)], [], (v0 L, g)) (.inl (ez_i R)) (v0 L, g)) (u0 : Nat) (u1 : Int32) (u2 : Int32) (u3 : Int32) (R : Int32) : fb_308_14 g k4 k14 u0 u1 u2 u3 = some R → ai_ev ap_P 308 (14, [some (.ref u0), some (.int u1), some (.int u2), some (.int u3)], [], (v0 L, g)) (.inl (ez_i R)) (v0 L, g) := by
  unfold fb_308_14
  refine ev_if 2 (p := u2 ≤ u3) (a := 50) (b := 19) (T := ([some (.ref u0), some (.int u1), some (.int u2), some (.int u3)], [], (v0 L, g))) rfl ?_ ?_
  · refine ev_jm 1 (t := (4, [some (.ref u0), some (.int u1), some (.int (u2 + 1)), some (.int u3)], [], (v0 L, g))) rfl ?_
    exact hk4 (u0, u1, (u2 + 1)) (some (.int u3)) _
  · refine ev_in 1 (p := u1 = 0) (a := 38) (b := 23) (T := ([some (.ref u0), some (.int u1), some (.int u2), some (.int u3)], [], (v0 L, g))) rfl ?_ ?_
    · refine ev_gd (c := Nat.beq (v0_kd u0) 9) (fun hc1 => ?_)
      refine ev_jm 1 (t := (27, [some (.ref u0), some (.int u1), some (.int u2), some (.int u3)], [am_v (v0_fr u0 0)], (v0 L, g))) (ai_gd (c := Nat.beq (v0_kd u0) 9) rfl hc1) ?_
      refine ev_om (S := fun (o : Option Nat) => (27, [some (.ref u0), some (.int u1), some (.int u2), some (.int u3)], [am_v o], (v0 L, g))) ?_ (fun o2 => ?_)
      · exact fun hR => nomatch hR
      · refine ev_gd (c := vk_in o2 101 u2) (fun hc3 => ?_)
        refine ev_jm 1 (t := (29, [some (.ref u0), some (.int u1), some (.int u2), some (.int u3)], [.int (am_i g o2 u2.toNatClampNeg)], (v0 L, g))) (ai_gd (c := Nat.beq (v0_kd o2) 101 && ai_in u2 (v0_ln L o2)) rfl (vk_ld hc3)) ?_
        refine ev_jm 1 (t := (33, [some (.ref u0), some (.int u1), some (.int u2), some (.int u3)], [am_v (v0_fr u0 0), .int (am_i g o2 u2.toNatClampNeg)], (v0 L, g))) (ai_gd (c := Nat.beq (v0_kd u0) 9) rfl hc1) ?_
        refine ev_om (S := fun (o : Option Nat) => (33, [some (.ref u0), some (.int u1), some (.int u2), some (.int u3)], [am_v o, .int (am_i g o2 u2.toNatClampNeg)], (v0 L, g))) ?_ (fun o4 => ?_)
        · exact fun hR => nomatch hR
        · refine ev_gd (c := vk_in o4 101 u3) (fun hc5 => ?_)
          refine ev_jm 1 (t := (35, [some (.ref u0), some (.int u1), some (.int u2), some (.int u3)], [.int (am_i g o4 u3.toNatClampNeg), .int (am_i g o2 u2.toNatClampNeg)], (v0 L, g))) (ai_gd (c := Nat.beq (v0_kd o4) 101 && ai_in u3 (v0_ln L o4)) rfl (vk_ld hc5)) ?_
          refine ev_in 0 (p := (am_i g o2 u2.toNatClampNeg) = (am_i g o4 u3.toNatClampNeg)) (a := 42) (b := 38) (T := ([some (.ref u0), some (.int u1), some (.int u2), some (.int u3)], [], (v0 L, g))) rfl ?_ ?_
          · refine ev_jm 4 (t := (14, [some (.ref u0), some (.int 1), some (.int u2), some (.int (u3 + 1))], [], (v0 L, g))) rfl ?_
            exact hk14 (u0, 1, u2, (u3 + 1)) _
          · refine ev_jm 3 (t := (14, [some (.ref u0), some (.int 0), some (.int u2), some (.int (u3 + 1))], [], (v0 L, g))) rfl ?_
            exact hk14 (u0, 0, u2, (u3 + 1)) _
    · refine ev_jm 4 (t := (14, [some (.ref u0), some (.int 1), some (.int u2), some (.int (u3 + 1))], [], (v0 L, g))) rfl ?_
      exact hk14 (u0, 1, u2, (u3 + 1)) _
noncomputable def fh_308_14 (g : am_G) (k4 : (Nat × Int32 × Int32) → Option (Int32)) (x : Nat × Int32 × Int32 × Int32) : Option (Int32) := lo_it (fun k x => fb_308_14 g k4 k x.1 x.2.1 x.2.2.1 x.2.2.2) nf_F x
theorem dh_308_14 (L : Nat) (g : am_G) {k4 : (Nat × Int32 × Int32) → Option (Int32)} (hk4 : ∀ (x : Nat × Int32 × Int32) (w3 : Option Value) (R : Int32), k4 x = some R → ai_ev ap_P 308 (4, [some (.ref x.1), some (.int x.2.1), some (.int x.2.2), w3], [], (v0 L, g)) (.inl (ez_i R)) (v0 L, g)) (x : Nat × Int32 × Int32 × Int32) (R : Int32) : fh_308_14 g k4 x = some R → ai_ev ap_P 308 (14, [some (.ref x.1), some (.int x.2.1), some (.int x.2.2.1), some (.int x.2.2.2)], [], (v0 L, g)) (.inl (ez_i R)) (v0 L, g) :=
  fun hr => lo_ev (E := fun x R => ai_ev ap_P 308 (14, [some (.ref x.1), some (.int x.2.1), some (.int x.2.2.1), some (.int x.2.2.2)], [], (v0 L, g)) (.inl (ez_i R)) (v0 L, g)) (fun k hk x R hr => db_308_14 L g hk4 hk x.1 x.2.1 x.2.2.1 x.2.2.2  R hr) nf_F x R hr
noncomputable def fb_308_4 (g : am_G) (k4 : (Nat × Int32 × Int32) → Option (Int32)) (u0 : Nat) (u1 : Int32) (u2 : Int32) : Option (Int32) := lo_g (Nat.beq (v0_kd u0) 9) (if (am_i g u0 3) ≤ u2 then some (vp_nar .boolean u1) else fh_308_14 g k4 (u0, u1, u2, 0))
theorem db_308_4 (L : Nat) (g : am_G) {k4 : (Nat × Int32 × Int32) → Option (Int32)} (hk4 : ∀ (x : Nat × Int32 × Int32) (w3 : Option Value) (R : Int32), k4 x = some R → ai_ev ap_P 308 (4, [some (.ref x.1), some (.int x.2.1), some (.int x.2.2), w3], [], (v0 L, g)) (.inl (ez_i R)) (v0 L, g)) (u0 : Nat) (u1 : Int32) (u2 : Int32) (w3 : Option Value) (R : Int32) : fb_308_4 g k4 u0 u1 u2 = some R → ai_ev ap_P 308 (4, [some (.ref u0), some (.int u1), some (.int u2), w3], [], (v0 L, g)) (.inl (ez_i R)) (v0 L, g) := by
  unfold fb_308_4
  refine ev_gd (c := Nat.beq (v0_kd u0) 9) (fun hc1 => ?_)
  refine ev_jm 2 (t := (9, [some (.ref u0), some (.int u1), some (.int u2), none], [.int (am_i g u0 3), .int u2], (v0 L, g))) (ai_gd (c := Nat.beq (v0_kd u0) 9) rfl hc1) ?_
  refine ev_if 0 (p := (am_i g u0 3) ≤ u2) (a := 56) (b := 12) (T := ([some (.ref u0), some (.int u1), some (.int u2), none], [], (v0 L, g))) rfl ?_ ?_
  · exact fun hR => by cases hR; exact ev_rt 1 rfl
  · refine ev_jm 1 (t := (14, [some (.ref u0), some (.int u1), some (.int u2), some (.int 0)], [], (v0 L, g))) rfl ?_
    exact dh_308_14 L g hk4 (u0, u1, u2, 0) _
noncomputable def fh_308_4 (g : am_G)  (x : Nat × Int32 × Int32) : Option (Int32) := lo_it (fun k x => fb_308_4 g k x.1 x.2.1 x.2.2) nf_F x
theorem dh_308_4 (L : Nat) (g : am_G)   (x : Nat × Int32 × Int32) (w3 : Option Value) (R : Int32) : fh_308_4 g  x = some R → ai_ev ap_P 308 (4, [some (.ref x.1), some (.int x.2.1), some (.int x.2.2), w3], [], (v0 L, g)) (.inl (ez_i R)) (v0 L, g) :=
  fun hr => lo_ev (E := fun x R => ∀ (w3 : Option Value), ai_ev ap_P 308 (4, [some (.ref x.1), some (.int x.2.1), some (.int x.2.2), w3], [], (v0 L, g)) (.inl (ez_i R)) (v0 L, g)) (fun k hk x R hr => fun w3 => db_308_4 L g (fun x w3 R hr => hk x R hr w3) x.1 x.2.1 x.2.2 w3 R hr) nf_F x R hr w3
/-- DeclaredMarkup$Processor.hasTwice(LDeclaredMarkup$Model;)Z -/
noncomputable def fm_308 (g : am_G) (u0 : Nat) : Option (Int32) := fh_308_4 g (u0, 0, 0)
theorem dm_308 (L : Nat) (g : am_G) (u0 : Nat) (R : Int32) : fm_308 g u0 = some R → ai_ev ap_P 308 (ai_e0 ap_P 308 [.ref u0] (v0 L, g)) (.inl (ez_i R)) (v0 L, g) := by
  show _ → ai_ev ap_P 308 (0, [some (.ref u0), none, none, none], [], (v0 L, g)) _ _
  unfold fm_308
  refine ev_jm 3 (t := (4, [some (.ref u0), some (.int 0), some (.int 0), none], [], (v0 L, g))) rfl ?_
  exact dh_308_4 L g (u0, 0, 0) none _
/-- java/lang/Long.bitCount(J)I -/
noncomputable def fm_332 (g : am_G) (u0 : Int64) : Option (Int32) := lo_l (u0 - ((u0.toUInt64 >>> ((1 : Int32).toInt64.toUInt64 &&& Int64.toUInt64 63)).toInt64 &&& 6148914691236517205)) fun x1 => lo_l ((x1 &&& 3689348814741910323) + ((x1.toUInt64 >>> ((2 : Int32).toInt64.toUInt64 &&& Int64.toUInt64 63)).toInt64 &&& 3689348814741910323)) fun x2 => lo_l ((x2 + (x2.toUInt64 >>> ((4 : Int32).toInt64.toUInt64 &&& Int64.toUInt64 63)).toInt64) &&& 1085102592571150095) fun x3 => lo_l (x3 + (x3.toUInt64 >>> ((8 : Int32).toInt64.toUInt64 &&& Int64.toUInt64 63)).toInt64) fun x4 => lo_l (x4 + (x4.toUInt64 >>> ((16 : Int32).toInt64.toUInt64 &&& Int64.toUInt64 63)).toInt64) fun x5 => lo_l (x5 + (x5.toUInt64 >>> ((32 : Int32).toInt64.toUInt64 &&& Int64.toUInt64 63)).toInt64) fun x6 => some (x6.toInt32 &&& 127)
theorem dm_332 (L : Nat) (g : am_G) (u0 : Int64) (R : Int32) : fm_332 g u0 = some R → ai_ev ap_P 332 (ai_e0 ap_P 332 [.long u0] (v0 L, g)) (.inl (ez_i R)) (v0 L, g) := by
  show _ → ai_ev ap_P 332 (0, [some (.long u0), none], [], (v0 L, g)) _ _
  unfold fm_332
  refine ev_jm 6 (t := (9, [some (.long u0), none], [.long (u0 - ((u0.toUInt64 >>> ((1 : Int32).toInt64.toUInt64 &&& Int64.toUInt64 63)).toInt64 &&& 6148914691236517205))], (v0 L, g))) rfl ?_
  refine lo_e (S := fun (x1 : Int64) => (9, [some (.long u0), none], [.long x1], (v0 L, g))) (fun x1 => ?_)
  refine ev_jm 9 (t := (23, [some (.long x1), none], [.long ((x1 &&& 3689348814741910323) + ((x1.toUInt64 >>> ((2 : Int32).toInt64.toUInt64 &&& Int64.toUInt64 63)).toInt64 &&& 3689348814741910323))], (v0 L, g))) rfl ?_
  refine lo_e (S := fun (x2 : Int64) => (23, [some (.long x1), none], [.long x2], (v0 L, g))) (fun x2 => ?_)
  refine ev_jm 7 (t := (33, [some (.long x2), none], [.long ((x2 + (x2.toUInt64 >>> ((4 : Int32).toInt64.toUInt64 &&& Int64.toUInt64 63)).toInt64) &&& 1085102592571150095)], (v0 L, g))) rfl ?_
  refine lo_e (S := fun (x3 : Int64) => (33, [some (.long x2), none], [.long x3], (v0 L, g))) (fun x3 => ?_)
  refine ev_jm 5 (t := (40, [some (.long x3), none], [.long (x3 + (x3.toUInt64 >>> ((8 : Int32).toInt64.toUInt64 &&& Int64.toUInt64 63)).toInt64)], (v0 L, g))) rfl ?_
  refine lo_e (S := fun (x4 : Int64) => (40, [some (.long x3), none], [.long x4], (v0 L, g))) (fun x4 => ?_)
  refine ev_jm 5 (t := (47, [some (.long x4), none], [.long (x4 + (x4.toUInt64 >>> ((16 : Int32).toInt64.toUInt64 &&& Int64.toUInt64 63)).toInt64)], (v0 L, g))) rfl ?_
  refine lo_e (S := fun (x5 : Int64) => (47, [some (.long x4), none], [.long x5], (v0 L, g))) (fun x5 => ?_)
  refine ev_jm 5 (t := (54, [some (.long x5), none], [.long (x5 + (x5.toUInt64 >>> ((32 : Int32).toInt64.toUInt64 &&& Int64.toUInt64 63)).toInt64)], (v0 L, g))) rfl ?_
  refine lo_e (S := fun (x6 : Int64) => (54, [some (.long x5), none], [.long x6], (v0 L, g))) (fun x6 => ?_)
  exact fun hR => by cases hR; exact ev_rt 5 rfl
/-- DeclaredMarkup$Model.competes(IJ)Z -/
noncomputable def fm_218 (g : am_G) (u0 : Nat) (u1 : Int32) (u2 : Int64) : Option (Int32) := if (lg_cmp ((u2.toUInt64 >>> (u1.toInt64.toUInt64 &&& Int64.toUInt64 63)).toInt64 &&& 1) 1) = 0 then lo_g (Nat.beq (v0_kd u0) 9) (lo_m (v0_fr u0 0) (none) fun o2 => lo_g (vk_in o2 101 u1) (lo_p (fm_217 g u0 u2 (am_i g o2 u1.toNatClampNeg)) fun y4 => lo_p (fm_332 g y4) fun y6 => if y6 ≤ 1 then some 0 else some 1)) else some 0
theorem dm_218 (L : Nat) (g : am_G) (u0 : Nat) (u1 : Int32) (u2 : Int64) (R : Int32) : fm_218 g u0 u1 u2 = some R → ai_ev ap_P 218 (ai_e0 ap_P 218 [.ref u0, .int u1, .long u2] (v0 L, g)) (.inl (ez_i R)) (v0 L, g) := by
  show _ → ai_ev ap_P 218 (0, [some (.ref u0), some (.int u1), some (.long u2), none], [], (v0 L, g)) _ _
  unfold fm_218
  refine ev_in 7 (p := (lg_cmp ((u2.toUInt64 >>> (u1.toInt64.toUInt64 &&& Int64.toUInt64 63)).toInt64 &&& 1) 1) = 0) (a := 32) (b := 10) (T := ([some (.ref u0), some (.int u1), some (.long u2), none], [], (v0 L, g))) rfl ?_ ?_
  · refine ev_gd (c := Nat.beq (v0_kd u0) 9) (fun hc1 => ?_)
    refine ev_jm 3 (t := (16, [some (.ref u0), some (.int u1), some (.long u2), none], [am_v (v0_fr u0 0), .long u2, .ref u0], (v0 L, g))) (ai_gd (c := Nat.beq (v0_kd u0) 9) rfl hc1) ?_
    refine ev_om (S := fun (o : Option Nat) => (16, [some (.ref u0), some (.int u1), some (.long u2), none], [am_v o, .long u2, .ref u0], (v0 L, g))) ?_ (fun o2 => ?_)
    · exact fun hR => nomatch hR
    · refine ev_gd (c := vk_in o2 101 u1) (fun hc3 => ?_)
      refine ev_jm 1 (t := (18, [some (.ref u0), some (.int u1), some (.long u2), none], [.int (am_i g o2 u1.toNatClampNeg), .long u2, .ref u0], (v0 L, g))) (ai_gd (c := Nat.beq (v0_kd o2) 101 && ai_in u1 (v0_ln L o2)) rfl (vk_ld hc3)) ?_
      refine ev_op 0 (as := [.ref u0, .long u2, .int (am_i g o2 u1.toNatClampNeg)]) (pc := 21) (Lc := [some (.ref u0), some (.int u1), some (.long u2), none]) (st := []) (h1 := (v0 L, g)) (e := ez_j) (ai_gd (c := Nat.beq (v0_kd u0) 9 && true) rfl (ai_ct hc1)) (dm_217 L g u0 u2 (am_i g o2 u1.toNatClampNeg)) (fun y4 => ?_)
      refine ev_op 0 (as := [.long y4]) (pc := 24) (Lc := [some (.ref u0), some (.int u1), some (.long u2), none]) (st := []) (h1 := (v0 L, g)) (e := ez_i) rfl (dm_332 L g y4) (fun y6 => ?_)
      refine ev_if 1 (p := y6 ≤ 1) (a := 32) (b := 28) (T := ([some (.ref u0), some (.int u1), some (.long u2), none], [], (v0 L, g))) rfl ?_ ?_
      · exact fun hR => by cases hR; exact ev_rt 1 rfl
      · exact fun hR => by cases hR; exact ev_rt 2 rfl
  · exact fun hR => by cases hR; exact ev_rt 1 rfl
noncomputable def fb_219_12 (g : am_G) (k12 : (Nat × Int32 × Int32 × Int32) → Option (Int32)) (u0 : Nat) (u1 : Int32) (u2 : Int32) (u3 : Int32) : Option (Int32) := lo_g (Nat.beq (v0_kd u0) 9) (if (am_i g u0 3) ≤ u3 then some (vp_nar .boolean u2) else if u2 = 0 then lo_m (v0_fr u0 1) (none) fun o2 => lo_g (vk_in o2 105 u3) (lo_p (fm_218 g u0 u1 (am_j g o2 u3.toNatClampNeg)) fun y4 => k12 (u0, u1, y4, (u3 + 1))) else some (vp_nar .boolean u2))
theorem db_219_12 (L : Nat) (g : am_G) {k12 : (Nat × Int32 × Int32 × Int32) → Option (Int32)} (hk12 : ∀ (x : Nat × Int32 × Int32 × Int32) (R : Int32), k12 x = some R → ai_ev ap_P 219 (12, [some (.ref x.1), some (.int x.2.1), some (.int x.2.2.1), some (.int x.2.2.2)], [], (v0 L, g)) (.inl (ez_i R)) (v0 L, g)) (u0 : Nat) (u1 : Int32) (u2 : Int32) (u3 : Int32) (R : Int32) : fb_219_12 g k12 u0 u1 u2 u3 = some R → ai_ev ap_P 219 (12, [some (.ref u0), some (.int u1), some (.int u2), some (.int u3)], [], (v0 L, g)) (.inl (ez_i R)) (v0 L, g) := by
  unfold fb_219_12
  refine ev_gd (c := Nat.beq (v0_kd u0) 9) (fun hc1 => ?_)
  refine ev_jm 2 (t := (17, [some (.ref u0), some (.int u1), some (.int u2), some (.int u3)], [.int (am_i g u0 3), .int u3], (v0 L, g))) (ai_gd (c := Nat.beq (v0_kd u0) 9) rfl hc1) ?_
  refine ev_if 0 (p := (am_i g u0 3) ≤ u3) (a := 42) (b := 20) (T := ([some (.ref u0), some (.int u1), some (.int u2), some (.int u3)], [], (v0 L, g))) rfl ?_ ?_
  · exact fun hR => by cases hR; exact ev_rt 1 rfl
  · refine ev_in 1 (p := u2 = 0) (a := 42) (b := 24) (T := ([some (.ref u0), some (.int u1), some (.int u2), some (.int u3)], [], (v0 L, g))) rfl ?_ ?_
    · refine ev_jm 3 (t := (30, [some (.ref u0), some (.int u1), some (.int u2), some (.int u3)], [am_v (v0_fr u0 1), .int u1, .ref u0], (v0 L, g))) (ai_gd (c := Nat.beq (v0_kd u0) 9) rfl hc1) ?_
      refine ev_om (S := fun (o : Option Nat) => (30, [some (.ref u0), some (.int u1), some (.int u2), some (.int u3)], [am_v o, .int u1, .ref u0], (v0 L, g))) ?_ (fun o2 => ?_)
      · exact fun hR => nomatch hR
      · refine ev_gd (c := vk_in o2 105 u3) (fun hc3 => ?_)
        refine ev_jm 1 (t := (32, [some (.ref u0), some (.int u1), some (.int u2), some (.int u3)], [.long (am_j g o2 u3.toNatClampNeg), .int u1, .ref u0], (v0 L, g))) (ai_gd (c := Nat.beq (v0_kd o2) 105 && ai_in u3 (v0_ln L o2)) rfl (vk_ld hc3)) ?_
        refine ev_op 0 (as := [.ref u0, .int u1, .long (am_j g o2 u3.toNatClampNeg)]) (pc := 35) (Lc := [some (.ref u0), some (.int u1), some (.int u2), some (.int u3)]) (st := []) (h1 := (v0 L, g)) (e := ez_i) (ai_gd (c := Nat.beq (v0_kd u0) 9 && true) rfl (ai_ct hc1)) (dm_218 L g u0 u1 (am_j g o2 u3.toNatClampNeg)) (fun y4 => ?_)
        refine ev_jm 2 (t := (12, [some (.ref u0), some (.int u1), some (.int y4), some (.int (u3 + 1))], [], (v0 L, g))) rfl ?_
        exact hk12 (u0, u1, y4, (u3 + 1)) _
    · exact fun hR => by cases hR; exact ev_rt 1 rfl
noncomputable def fh_219_12 (g : am_G)  (x : Nat × Int32 × Int32 × Int32) : Option (Int32) := lo_it (fun k x => fb_219_12 g k x.1 x.2.1 x.2.2.1 x.2.2.2) nf_F x
theorem dh_219_12 (L : Nat) (g : am_G)   (x : Nat × Int32 × Int32 × Int32) (R : Int32) : fh_219_12 g  x = some R → ai_ev ap_P 219 (12, [some (.ref x.1), some (.int x.2.1), some (.int x.2.2.1), some (.int x.2.2.2)], [], (v0 L, g)) (.inl (ez_i R)) (v0 L, g) :=
  fun hr => lo_ev (E := fun x R => ai_ev ap_P 219 (12, [some (.ref x.1), some (.int x.2.1), some (.int x.2.2.1), some (.int x.2.2.2)], [], (v0 L, g)) (.inl (ez_i R)) (v0 L, g)) (fun k hk x R hr => db_219_12 L g hk x.1 x.2.1 x.2.2.1 x.2.2.2  R hr) nf_F x R hr
/-- DeclaredMarkup$Model.competes(I)Z -/
noncomputable def fm_219 (g : am_G) (u0 : Nat) (u1 : Int32) : Option (Int32) := lo_g (Nat.beq (v0_kd u0) 9) (lo_p (fm_218 g u0 u1 (am_j g u0 6)) fun y2 => fh_219_12 g (u0, u1, y2, 0))
theorem dm_219 (L : Nat) (g : am_G) (u0 : Nat) (u1 : Int32) (R : Int32) : fm_219 g u0 u1 = some R → ai_ev ap_P 219 (ai_e0 ap_P 219 [.ref u0, .int u1] (v0 L, g)) (.inl (ez_i R)) (v0 L, g) := by
  show _ → ai_ev ap_P 219 (0, [some (.ref u0), some (.int u1), none, none], [], (v0 L, g)) _ _
  unfold fm_219
  refine ev_gd (c := Nat.beq (v0_kd u0) 9) (fun hc1 => ?_)
  refine ev_jm 3 (t := (6, [some (.ref u0), some (.int u1), none, none], [.long (am_j g u0 6), .int u1, .ref u0], (v0 L, g))) (ai_gd (c := Nat.beq (v0_kd u0) 9) rfl hc1) ?_
  refine ev_op 0 (as := [.ref u0, .int u1, .long (am_j g u0 6)]) (pc := 9) (Lc := [some (.ref u0), some (.int u1), none, none]) (st := []) (h1 := (v0 L, g)) (e := ez_i) (ai_gd (c := Nat.beq (v0_kd u0) 9 && true) rfl (ai_ct hc1)) (dm_218 L g u0 u1 (am_j g u0 6)) (fun y2 => ?_)
  refine ev_jm 2 (t := (12, [some (.ref u0), some (.int u1), some (.int y2), some (.int 0)], [], (v0 L, g))) rfl ?_
  exact dh_219_12 L g (u0, u1, y2, 0) _
noncomputable def fb_220_4 (g : am_G) (k4 : (Nat × Int32 × Int32) → Option (Int32)) (u0 : Nat) (u1 : Int32) (u2 : Int32) : Option (Int32) := lo_g (Nat.beq (v0_kd u0) 9) (if (am_i g u0 3) ≤ u2 then some (vp_nar .boolean u1) else if u1 = 0 then some (vp_nar .boolean u1) else lo_p (fm_219 g u0 u2) fun y2 => if y2 = 0 then k4 (u0, 1, (u2 + 1)) else k4 (u0, 0, (u2 + 1)))
theorem db_220_4 (L : Nat) (g : am_G) {k4 : (Nat × Int32 × Int32) → Option (Int32)} (hk4 : ∀ (x : Nat × Int32 × Int32) (R : Int32), k4 x = some R → ai_ev ap_P 220 (4, [some (.ref x.1), some (.int x.2.1), some (.int x.2.2)], [], (v0 L, g)) (.inl (ez_i R)) (v0 L, g)) (u0 : Nat) (u1 : Int32) (u2 : Int32) (R : Int32) : fb_220_4 g k4 u0 u1 u2 = some R → ai_ev ap_P 220 (4, [some (.ref u0), some (.int u1), some (.int u2)], [], (v0 L, g)) (.inl (ez_i R)) (v0 L, g) := by
  unfold fb_220_4
  refine ev_gd (c := Nat.beq (v0_kd u0) 9) (fun hc1 => ?_)
  refine ev_jm 2 (t := (9, [some (.ref u0), some (.int u1), some (.int u2)], [.int (am_i g u0 3), .int u2], (v0 L, g))) (ai_gd (c := Nat.beq (v0_kd u0) 9) rfl hc1) ?_
  refine ev_if 0 (p := (am_i g u0 3) ≤ u2) (a := 36) (b := 12) (T := ([some (.ref u0), some (.int u1), some (.int u2)], [], (v0 L, g))) rfl ?_ ?_
  · exact fun hR => by cases hR; exact ev_rt 1 rfl
  · refine ev_if 1 (p := u1 = 0) (a := 36) (b := 16) (T := ([some (.ref u0), some (.int u1), some (.int u2)], [], (v0 L, g))) rfl ?_ ?_
    · exact fun hR => by cases hR; exact ev_rt 1 rfl
    · refine ev_op 2 (as := [.ref u0, .int u2]) (pc := 21) (Lc := [some (.ref u0), some (.int u1), some (.int u2)]) (st := []) (h1 := (v0 L, g)) (e := ez_i) (ai_gd (c := Nat.beq (v0_kd u0) 9 && true) rfl (ai_ct hc1)) (dm_219 L g u0 u2) (fun y2 => ?_)
      refine ev_in 0 (p := y2 = 0) (a := 28) (b := 24) (T := ([some (.ref u0), some (.int u1), some (.int u2)], [], (v0 L, g))) rfl ?_ ?_
      · refine ev_jm 4 (t := (4, [some (.ref u0), some (.int 1), some (.int (u2 + 1))], [], (v0 L, g))) rfl ?_
        exact hk4 (u0, 1, (u2 + 1)) _
      · refine ev_jm 3 (t := (4, [some (.ref u0), some (.int 0), some (.int (u2 + 1))], [], (v0 L, g))) rfl ?_
        exact hk4 (u0, 0, (u2 + 1)) _
noncomputable def fh_220_4 (g : am_G)  (x : Nat × Int32 × Int32) : Option (Int32) := lo_it (fun k x => fb_220_4 g k x.1 x.2.1 x.2.2) nf_F x
theorem dh_220_4 (L : Nat) (g : am_G)   (x : Nat × Int32 × Int32) (R : Int32) : fh_220_4 g  x = some R → ai_ev ap_P 220 (4, [some (.ref x.1), some (.int x.2.1), some (.int x.2.2)], [], (v0 L, g)) (.inl (ez_i R)) (v0 L, g) :=
  fun hr => lo_ev (E := fun x R => ai_ev ap_P 220 (4, [some (.ref x.1), some (.int x.2.1), some (.int x.2.2)], [], (v0 L, g)) (.inl (ez_i R)) (v0 L, g)) (fun k hk x R hr => db_220_4 L g hk x.1 x.2.1 x.2.2  R hr) nf_F x R hr
/-- DeclaredMarkup$Model.isClear()Z -/
noncomputable def fm_220 (g : am_G) (u0 : Nat) : Option (Int32) := fh_220_4 g (u0, 1, 0)
theorem dm_220 (L : Nat) (g : am_G) (u0 : Nat) (R : Int32) : fm_220 g u0 = some R → ai_ev ap_P 220 (ai_e0 ap_P 220 [.ref u0] (v0 L, g)) (.inl (ez_i R)) (v0 L, g) := by
  show _ → ai_ev ap_P 220 (0, [some (.ref u0), none, none], [], (v0 L, g)) _ _
  unfold fm_220
  refine ev_jm 3 (t := (4, [some (.ref u0), some (.int 1), some (.int 0)], [], (v0 L, g))) rfl ?_
  exact dh_220_4 L g (u0, 1, 0) _
noncomputable def fj_307_189  (g : am_G) (u5 : Nat) (u6 : Int32) : Option ((Unit ⊕ Nat) × am_G) := if u6 = 4 then lo_g (Nat.beq (v0_kd u5) 9) (lo_p (fm_220 g u5) fun y1 => if y1 = 0 then lo_p (fm_239 g 6) fun g5 => some (.inl (), g5) else some (.inl (), g)) else some (.inl (), g)
theorem dj_307_189 (L : Nat)   (g : am_G) (u5 : Nat) (u6 : Int32) (w1 w2 w3 w4 : Option Value) (R : (Unit ⊕ Nat) × am_G) : fj_307_189  g u5 u6 = some R → ai_ev ap_P 307 (189, [some (.ref 33), w1, w2, w3, w4, some (.ref u5), some (.int u6)], [], (v0 L, g)) (oz_r ez_v R.1) (v0 L, R.2) := by
  unfold fj_307_189
  refine ev_in 2 (p := u6 = 4) (a := 209) (b := 195) (T := ([some (.ref 33), none, none, none, none, some (.ref u5), some (.int u6)], [], (v0 L, g))) rfl ?_ ?_
  · refine ev_gd (c := Nat.beq (v0_kd u5) 9) (fun hc3 => ?_)
    refine ev_op 1 (as := [.ref u5]) (pc := 200) (Lc := [some (.ref 33), none, none, none, none, some (.ref u5), some (.int u6)]) (st := []) (h1 := (v0 L, g)) (e := ez_i) (ai_gd (c := Nat.beq (v0_kd u5) 9 && true) rfl (ai_ct hc3)) (dm_220 L g u5) (fun y1 => ?_)
    refine ev_in 0 (p := y1 = 0) (a := 209) (b := 203) (T := ([some (.ref 33), none, none, none, none, some (.ref u5), some (.int u6)], [], (v0 L, g))) rfl ?_ ?_
    · refine ev_ov0 2 (as := [.ref 33, .int 6]) (pc := 209) (Lc := [some (.ref 33), none, none, none, none, some (.ref u5), some (.int u6)]) (st := []) (V := v0 L) (g1 := g) rfl (dm_239 L g 6) (fun g5 => ?_)
      exact fun hR => by cases hR; exact ev_rt 0 rfl
    · exact fun hR => by cases hR; exact ev_rt 0 rfl
  · exact fun hR => by cases hR; exact ev_rt 0 rfl
noncomputable def fj_307_118  (g : am_G) (u2 : Int32) (u3 : Int32) (u4 : Option Nat) (t0 : Nat) : Option ((Unit ⊕ Nat) × am_G) := lo_m u4 (lo_t (fm_309 g t0) fun y2 g3 => lo_i (fm_242 g3 ) fun y4 g5 => lo_t (fm_244 g5 62) fun y6 g7 => if u3 = 0 then none else some (.inl (), g7)) fun o1 => lo_t (fm_309 g t0) fun y8 g9 => lo_i (fm_242 g9 ) fun y10 g11 => lo_t (fm_244 g11 62) fun y12 g13 => if u3 = 0 then lo_g ((Nat.beq (v0_kd o1) 8 && Nat.ble 32 o1)) (if y8 = 3 then lo_p (fm_308 (am_si (am_si (am_si g13 o1 0 u2) o1 1 y8) 49 5 ((am_i (am_si (am_si g13 o1 0 u2) o1 1 y8) 49 5) + 1)) t0) fun y15 => if y15 = 0 then fj_307_189 (am_si (am_si (am_si g13 o1 0 u2) o1 1 y8) 49 5 ((am_i (am_si (am_si g13 o1 0 u2) o1 1 y8) 49 5) + 1)) t0 y8 else lo_p (fm_239 (am_si (am_si (am_si g13 o1 0 u2) o1 1 y8) 49 5 ((am_i (am_si (am_si g13 o1 0 u2) o1 1 y8) 49 5) + 1)) 5) fun g18 => fj_307_189 g18 t0 y8 else fj_307_189 (am_si (am_si (am_si g13 o1 0 u2) o1 1 y8) 49 5 ((am_i (am_si (am_si g13 o1 0 u2) o1 1 y8) 49 5) + 1)) t0 y8) else some (.inl (), g13)
theorem dj_307_118 (L : Nat)   (g : am_G) (u2 : Int32) (u3 : Int32) (u4 : Option Nat) (t0 : Nat) (w1 w5 w6 : Option Value) (R : (Unit ⊕ Nat) × am_G) : fj_307_118  g u2 u3 u4 t0 = some R → ai_ev ap_P 307 (118, [some (.ref 33), w1, some (.int u2), some (.int u3), some (am_v u4), w5, w6], [.ref t0], (v0 L, g)) (oz_r ez_v R.1) (v0 L, R.2) := by
  unfold fj_307_118
  refine ev_om (S := fun (o : Option Nat) => (118, [some (.ref 33), w1, some (.int u2), some (.int u3), some (am_v o), w5, w6], [.ref t0], (v0 L, g))) ?_ (fun o1 => ?_)
  · refine ev_ot 3 (as := [.ref 33, .ref t0]) (pc := 126) (Lc := [some (.ref 33), none, some (.int u2), some (.int u3), some (.null), some (.ref t0), none]) (st := []) (V := v0 L) (g1 := g) (e := ez_i) rfl (dm_309 L g t0) (fun _ => rfl) (fun y2 g3 => ?_)
    refine ev_oi 2 (as := [.ref 33]) (pc := 132) (Lc := [some (.ref 33), none, some (.int u2), some (.int u3), some (.null), some (.ref t0), some (.int y2)]) (st := []) (V := v0 L) (g1 := g3) (e := ez_i) rfl (dm_242 L g3 ) (fun y4 g5 => ?_)
    refine ev_ot 3 (as := [.ref 33, .int 62]) (pc := 139) (Lc := [some (.ref 33), none, some (.int u2), some (.int u3), some (.null), some (.ref t0), some (.int y2)]) (st := []) (V := v0 L) (g1 := g5) (e := ez_v) rfl (dm_244 L g5 62) (fun _ => rfl) (fun y6 g7 => ?_)
    refine ev_if 1 (p := u3 = 0) (a := 144) (b := 143) (T := ([some (.ref 33), none, some (.int u2), some (.int u3), some (.null), some (.ref t0), some (.int y2)], [], (v0 L, g7))) rfl ?_ ?_
    · exact fun hR => nomatch hR
    · exact fun hR => by cases hR; exact ev_rt 0 rfl
  · refine ev_ot 3 (as := [.ref 33, .ref t0]) (pc := 126) (Lc := [some (.ref 33), none, some (.int u2), some (.int u3), some (.ref o1), some (.ref t0), none]) (st := []) (V := v0 L) (g1 := g) (e := ez_i) rfl (dm_309 L g t0) (fun _ => rfl) (fun y8 g9 => ?_)
    refine ev_oi 2 (as := [.ref 33]) (pc := 132) (Lc := [some (.ref 33), none, some (.int u2), some (.int u3), some (.ref o1), some (.ref t0), some (.int y8)]) (st := []) (V := v0 L) (g1 := g9) (e := ez_i) rfl (dm_242 L g9 ) (fun y10 g11 => ?_)
    refine ev_ot 3 (as := [.ref 33, .int 62]) (pc := 139) (Lc := [some (.ref 33), none, some (.int u2), some (.int u3), some (.ref o1), some (.ref t0), some (.int y8)]) (st := []) (V := v0 L) (g1 := g11) (e := ez_v) rfl (dm_244 L g11 62) (fun _ => rfl) (fun y12 g13 => ?_)
    refine ev_if 1 (p := u3 = 0) (a := 144) (b := 143) (T := ([some (.ref 33), none, some (.int u2), some (.int u3), some (.ref o1), some (.ref t0), some (.int y8)], [], (v0 L, g13))) rfl ?_ ?_
    · refine ev_gd (c := (Nat.beq (v0_kd o1) 8 && Nat.ble 32 o1)) (fun hc14 => ?_)
      refine ev_jm 2 (t := (150, [some (.ref 33), none, some (.int u2), some (.int u3), some (.ref o1), some (.ref t0), some (.int y8)], [], (v0 L, (am_si g13 o1 0 u2)))) (ai_gd (c := (Nat.beq (v0_kd o1) 8 && Nat.ble 32 o1)) rfl hc14) ?_
      refine ev_jm 2 (t := (157, [some (.ref 33), none, some (.int u2), some (.int u3), some (.ref o1), some (.ref t0), some (.int y8)], [], (v0 L, (am_si (am_si g13 o1 0 u2) o1 1 y8)))) (ai_gd (c := (Nat.beq (v0_kd o1) 8 && Nat.ble 32 o1)) rfl hc14) ?_
      refine ev_in 9 (p := y8 = 3) (a := 189) (b := 176) (T := ([some (.ref 33), none, some (.int u2), some (.int u3), some (.ref o1), some (.ref t0), some (.int y8)], [], (v0 L, (am_si (am_si (am_si g13 o1 0 u2) o1 1 y8) 49 5 ((am_i (am_si (am_si g13 o1 0 u2) o1 1 y8) 49 5) + 1))))) rfl ?_ ?_
      · refine ev_op 1 (as := [.ref t0]) (pc := 181) (Lc := [some (.ref 33), none, some (.int u2), some (.int u3), some (.ref o1), some (.ref t0), some (.int y8)]) (st := []) (h1 := (v0 L, (am_si (am_si (am_si g13 o1 0 u2) o1 1 y8) 49 5 ((am_i (am_si (am_si g13 o1 0 u2) o1 1 y8) 49 5) + 1)))) (e := ez_i) rfl (dm_308 L (am_si (am_si (am_si g13 o1 0 u2) o1 1 y8) 49 5 ((am_i (am_si (am_si g13 o1 0 u2) o1 1 y8) 49 5) + 1)) t0) (fun y15 => ?_)
        refine ev_if 0 (p := y15 = 0) (a := 189) (b := 184) (T := ([some (.ref 33), none, some (.int u2), some (.int u3), some (.ref o1), some (.ref t0), some (.int y8)], [], (v0 L, (am_si (am_si (am_si g13 o1 0 u2) o1 1 y8) 49 5 ((am_i (am_si (am_si g13 o1 0 u2) o1 1 y8) 49 5) + 1))))) rfl ?_ ?_
        · exact dj_307_189 L (am_si (am_si (am_si g13 o1 0 u2) o1 1 y8) 49 5 ((am_i (am_si (am_si g13 o1 0 u2) o1 1 y8) 49 5) + 1)) t0 y8 none (some (.int u2)) (some (.int u3)) (some (.ref o1)) _
        · refine ev_ov0 2 (as := [.ref 33, .int 5]) (pc := 189) (Lc := [some (.ref 33), none, some (.int u2), some (.int u3), some (.ref o1), some (.ref t0), some (.int y8)]) (st := []) (V := v0 L) (g1 := (am_si (am_si (am_si g13 o1 0 u2) o1 1 y8) 49 5 ((am_i (am_si (am_si g13 o1 0 u2) o1 1 y8) 49 5) + 1))) rfl (dm_239 L (am_si (am_si (am_si g13 o1 0 u2) o1 1 y8) 49 5 ((am_i (am_si (am_si g13 o1 0 u2) o1 1 y8) 49 5) + 1)) 5) (fun g18 => ?_)
          exact dj_307_189 L g18 t0 y8 none (some (.int u2)) (some (.int u3)) (some (.ref o1)) _
      · exact dj_307_189 L (am_si (am_si (am_si g13 o1 0 u2) o1 1 y8) 49 5 ((am_i (am_si (am_si g13 o1 0 u2) o1 1 y8) 49 5) + 1)) t0 y8 none (some (.int u2)) (some (.int u3)) (some (.ref o1)) _
    · exact fun hR => by cases hR; exact ev_rt 0 rfl
noncomputable def fj_307_96  (g : am_G) (u2 : Int32) (u3 : Int32) (t0 : Option Nat) : Option ((Unit ⊕ Nat) × am_G) := lo_m t0 (lo_t (fm_243 g ) fun y2 g3 => if u3 = 0 then none else fj_307_118 g3 u2 u3 none 886) fun o1 => lo_t (fm_243 g ) fun y4 g5 => if u3 = 0 then lo_g (Nat.beq (v0_kd o1) 8) (lo_m (v0_fr o1 2) (none) fun o7 => fj_307_118 g5 u2 u3 (some o1) o7) else fj_307_118 g5 u2 u3 (some o1) 886
theorem dj_307_96 (L : Nat)   (g : am_G) (u2 : Int32) (u3 : Int32) (t0 : Option Nat) (w1 w4 w5 w6 : Option Value) (R : (Unit ⊕ Nat) × am_G) : fj_307_96  g u2 u3 t0 = some R → ai_ev ap_P 307 (96, [some (.ref 33), w1, some (.int u2), some (.int u3), w4, w5, w6], [am_v t0], (v0 L, g)) (oz_r ez_v R.1) (v0 L, R.2) := by
  unfold fj_307_96
  refine ev_om (S := fun (o : Option Nat) => (96, [some (.ref 33), w1, some (.int u2), some (.int u3), w4, w5, w6], [am_v o], (v0 L, g))) ?_ (fun o1 => ?_)
  · refine ev_ot 2 (as := [.ref 33]) (pc := 102) (Lc := [some (.ref 33), none, some (.int u2), some (.int u3), some (.null), none, none]) (st := []) (V := v0 L) (g1 := g) (e := ez_v) rfl (dm_243 L g ) (fun _ => rfl) (fun y2 g3 => ?_)
    refine ev_if 1 (p := u3 = 0) (a := 113) (b := 106) (T := ([some (.ref 33), none, some (.int u2), some (.int u3), some (.null), none, none], [], (v0 L, g3))) rfl ?_ ?_
    · exact fun hR => nomatch hR
    · refine ev_jm 2 (t := (118, [some (.ref 33), none, some (.int u2), some (.int u3), some (.null), none, none], [.ref 886], (v0 L, g3))) rfl ?_
      exact dj_307_118 L g3 u2 u3 none 886 none none none _
  · refine ev_ot 2 (as := [.ref 33]) (pc := 102) (Lc := [some (.ref 33), none, some (.int u2), some (.int u3), some (.ref o1), none, none]) (st := []) (V := v0 L) (g1 := g) (e := ez_v) rfl (dm_243 L g ) (fun _ => rfl) (fun y4 g5 => ?_)
    refine ev_if 1 (p := u3 = 0) (a := 113) (b := 106) (T := ([some (.ref 33), none, some (.int u2), some (.int u3), some (.ref o1), none, none], [], (v0 L, g5))) rfl ?_ ?_
    · refine ev_gd (c := Nat.beq (v0_kd o1) 8) (fun hc6 => ?_)
      refine ev_jm 1 (t := (118, [some (.ref 33), none, some (.int u2), some (.int u3), some (.ref o1), none, none], [am_v (v0_fr o1 2)], (v0 L, g5))) (ai_gd (c := Nat.beq (v0_kd o1) 8) rfl hc6) ?_
      refine ev_om (S := fun (o : Option Nat) => (118, [some (.ref 33), none, some (.int u2), some (.int u3), some (.ref o1), none, none], [am_v o], (v0 L, g5))) ?_ (fun o7 => ?_)
      · exact fun hR => nomatch hR
      · exact dj_307_118 L g5 u2 u3 (some o1) o7 none none none _
    · refine ev_jm 2 (t := (118, [some (.ref 33), none, some (.int u2), some (.int u3), some (.ref o1), none, none], [.ref 886], (v0 L, g5))) rfl ?_
      exact dj_307_118 L g5 u2 u3 (some o1) 886 none none none _
noncomputable def fj_307_73  (g : am_G) (u2 : Int32) (u3 : Int32) : Option ((Unit ⊕ Nat) × am_G) := if u3 = 0 then lo_g (ai_in (am_i g 49 5) 40) (fj_307_96 g u2 u3 (some (55 + 18 * ((am_i g 49 5)).toNatClampNeg))) else fj_307_96 g u2 u3 none
theorem dj_307_73 (L : Nat)   (g : am_G) (u2 : Int32) (u3 : Int32) (w1 w4 w5 w6 : Option Value) (R : (Unit ⊕ Nat) × am_G) : fj_307_73  g u2 u3 = some R → ai_ev ap_P 307 (73, [some (.ref 33), w1, some (.int u2), some (.int u3), w4, w5, w6], [], (v0 L, g)) (oz_r ez_v R.1) (v0 L, R.2) := by
  unfold fj_307_73
  refine ev_if 1 (p := u3 = 0) (a := 81) (b := 77) (T := ([some (.ref 33), none, some (.int u2), some (.int u3), none, none, none], [], (v0 L, g))) rfl ?_ ?_
  · refine ev_gd (c := ai_in (am_i g 49 5) 40) (fun hc1 => ?_)
    refine ev_fr (S := fun (o : Option Nat) => (96, [some (.ref 33), none, some (.int u2), some (.int u3), none, none, none], [am_v o], (v0 L, g))) 6 (e := v0_fr 50 ((am_i g 49 5)).toNatClampNeg) (q := (55 + 18 * ((am_i g 49 5)).toNatClampNeg)) (ai_gd (c := ai_in (am_i g 49 5) 40) rfl hc1) (fr_50 hc1) ?_
    exact dj_307_96 L g u2 u3 (some (55 + 18 * ((am_i g 49 5)).toNatClampNeg)) none none none none _
  · refine ev_jm 1 (t := (96, [some (.ref 33), none, some (.int u2), some (.int u3), none, none, none], [.null], (v0 L, g))) rfl ?_
    exact dj_307_96 L g u2 u3 none none none none none _
noncomputable def fj_307_41  (g : am_G) (u1 : Int32) (u2 : Int32) (t0 : Int32) : Option ((Unit ⊕ Nat) × am_G) := if t0 = 0 then if (am_i g 49 5) = 40 then lo_i (fm_237 g 2 u1) fun y1 g2 => lo_g (Nat.ble 1008 y1 && Nat.blt y1 (am_sz g2)) (some (.inr y1, g2)) else fj_307_73 g u2 t0 else lo_p (fm_239 g 4) fun g4 => fj_307_73 g4 u2 t0
theorem dj_307_41 (L : Nat)   (g : am_G) (u1 : Int32) (u2 : Int32) (t0 : Int32) (w3 w4 w5 w6 : Option Value) (R : (Unit ⊕ Nat) × am_G) : fj_307_41  g u1 u2 t0 = some R → ai_ev ap_P 307 (41, [some (.ref 33), some (.int u1), some (.int u2), w3, w4, w5, w6], [.int t0], (v0 L, g)) (oz_r ez_v R.1) (v0 L, R.2) := by
  unfold fj_307_41
  refine ev_if 2 (p := t0 = 0) (a := 54) (b := 46) (T := ([some (.ref 33), some (.int u1), some (.int u2), some (.int t0), none, none, none], [], (v0 L, g))) rfl ?_ ?_
  · refine ev_in 4 (p := (am_i g 49 5) = 40) (a := 73) (b := 66) (T := ([some (.ref 33), some (.int u1), some (.int u2), some (.int t0), none, none, none], [], (v0 L, g))) rfl ?_ ?_
    · refine ev_oi 3 (as := [.ref 33, .int 2, .int u1]) (pc := 72) (Lc := [some (.ref 33), some (.int u1), some (.int u2), some (.int t0), none, none, none]) (st := []) (V := v0 L) (g1 := g) (e := ez_a) rfl (dm_237 L g 2 u1) (fun y1 g2 => ?_)
      exact ev_at 0 (a := y1) (g1 := g2) rfl
    · exact dj_307_73 L g u2 t0 (some (.int u1)) none none none _
  · refine ev_ov0 2 (as := [.ref 33, .int 4]) (pc := 51) (Lc := [some (.ref 33), some (.int u1), some (.int u2), some (.int t0), none, none, none]) (st := []) (V := v0 L) (g1 := g) rfl (dm_239 L g 4) (fun g4 => ?_)
    refine ev_jm 0 (t := (73, [some (.ref 33), some (.int u1), some (.int u2), some (.int t0), none, none, none], [], (v0 L, g4))) rfl ?_
    exact dj_307_73 L g4 u2 t0 (some (.int u1)) none none none _
/-- DeclaredMarkup$Processor.elementDecl()V -/
noncomputable def fm_307 (g : am_G)  : Option ((Unit ⊕ Nat) × am_G) := lo_t (fm_245 g 83860532842068) fun y1 g2 => lo_t (fm_243 g2 ) fun y3 g4 => lo_p (fm_178 g4 ) fun y5 => lo_t (fm_247 g4 ) fun y7 g8 => lo_p (fm_163 g8 y7) fun y9 => if y9 = (-1) then fj_307_41 g8 y5 y7 0 else fj_307_41 g8 y5 y7 1
theorem dm_307 (L : Nat) (g : am_G)  (R : (Unit ⊕ Nat) × am_G) : fm_307 g  = some R → ai_ev ap_P 307 (ai_e0 ap_P 307 [.ref 33] (v0 L, g)) (oz_r ez_v R.1) (v0 L, R.2) := by
  show _ → ai_ev ap_P 307 (0, [some (.ref 33), none, none, none, none, none, none], [], (v0 L, g)) _ _
  unfold fm_307
  refine ev_ot 2 (as := [.ref 33, .long 83860532842068]) (pc := 7) (Lc := [some (.ref 33), none, none, none, none, none, none]) (st := []) (V := v0 L) (g1 := g) (e := ez_v) rfl (dm_245 L g 83860532842068) (fun _ => rfl) (fun y1 g2 => ?_)
  refine ev_ot 1 (as := [.ref 33]) (pc := 11) (Lc := [some (.ref 33), none, none, none, none, none, none]) (st := []) (V := v0 L) (g1 := g2) (e := ez_v) rfl (dm_243 L g2 ) (fun _ => rfl) (fun y3 g4 => ?_)
  refine ev_op 2 (as := [.ref 39]) (pc := 18) (Lc := [some (.ref 33), none, none, none, none, none, none]) (st := []) (h1 := (v0 L, g4)) (e := ez_i) rfl (dm_178 L g4 ) (fun y5 => ?_)
  refine ev_ot 2 (as := [.ref 33]) (pc := 23) (Lc := [some (.ref 33), some (.int y5), none, none, none, none, none]) (st := []) (V := v0 L) (g1 := g4) (e := ez_i) rfl (dm_247 L g4 ) (fun _ => rfl) (fun y7 g8 => ?_)
  refine ev_op 4 (as := [.ref 49, .int y7]) (pc := 32) (Lc := [some (.ref 33), some (.int y5), some (.int y7), none, none, none, none]) (st := []) (h1 := (v0 L, g8)) (e := ez_i) rfl (dm_163 L g8 y7) (fun y9 => ?_)
  refine ev_if 1 (p := y9 = (-1)) (a := 40) (b := 36) (T := ([some (.ref 33), some (.int y5), some (.int y7), none, none, none, none], [], (v0 L, g8))) rfl ?_ ?_
  · refine ev_jm 0 (t := (41, [some (.ref 33), some (.int y5), some (.int y7), none, none, none, none], [.int 0], (v0 L, g8))) rfl ?_
    exact dj_307_41 L g8 y5 y7 0 none none none none _
  · refine ev_jm 1 (t := (41, [some (.ref 33), some (.int y5), some (.int y7), none, none, none, none], [.int 1], (v0 L, g8))) rfl ?_
    exact dj_307_41 L g8 y5 y7 1 none none none none _
/-- DeclaredMarkup$Processor.declares()V -/
noncomputable def fm_305 (g : am_G)  : Option ((Unit ⊕ Nat) × am_G) := lo_p (fm_240 g 63) fun y1 => if y1 = 0 then lo_t (fm_244 g 33) fun y3 g4 => lo_p (fm_240 g4 65) fun y5 => if y5 = 0 then lo_p (fm_240 g4 78) fun y7 => if y7 = 0 then lo_p (fm_240 g4 69) fun y9 => if y9 = 0 then lo_t (fm_264 g4 ) fun y19 g20 => some (.inl (), g20) else lo_p (fm_177 g4 ) fun g12 => lo_p (fm_240 g12 78) fun y13 => if y13 = 0 then lo_t (fm_307 g12 ) fun y15 g16 => some (.inl (), g16) else lo_t (fm_323 g12 ) fun y17 g18 => some (.inl (), g18) else lo_t (fm_327 g4 ) fun y21 g22 => some (.inl (), g22) else lo_t (fm_315 g4 ) fun y23 g24 => some (.inl (), g24) else lo_t (fm_265 g 0) fun y25 g26 => some (.inl (), g26)
theorem dm_305 (L : Nat) (g : am_G)  (R : (Unit ⊕ Nat) × am_G) : fm_305 g  = some R → ai_ev ap_P 305 (ai_e0 ap_P 305 [.ref 33] (v0 L, g)) (oz_r ez_v R.1) (v0 L, R.2) := by
  show _ → ai_ev ap_P 305 (0, [some (.ref 33)], [], (v0 L, g)) _ _
  unfold fm_305
  refine ev_op 2 (as := [.ref 33, .int 63]) (pc := 6) (Lc := [some (.ref 33)]) (st := []) (h1 := (v0 L, g)) (e := ez_i) rfl (dm_240 L g 63) (fun y1 => ?_)
  refine ev_if 0 (p := y1 = 0) (a := 15) (b := 9) (T := ([some (.ref 33)], [], (v0 L, g))) rfl ?_ ?_
  · refine ev_ot 2 (as := [.ref 33, .int 33]) (pc := 21) (Lc := [some (.ref 33)]) (st := []) (V := v0 L) (g1 := g) (e := ez_v) rfl (dm_244 L g 33) (fun _ => rfl) (fun y3 g4 => ?_)
    refine ev_op 2 (as := [.ref 33, .int 65]) (pc := 27) (Lc := [some (.ref 33)]) (st := []) (h1 := (v0 L, g4)) (e := ez_i) rfl (dm_240 L g4 65) (fun y5 => ?_)
    refine ev_if 0 (p := y5 = 0) (a := 37) (b := 30) (T := ([some (.ref 33)], [], (v0 L, g4))) rfl ?_ ?_
    · refine ev_op 2 (as := [.ref 33, .int 78]) (pc := 43) (Lc := [some (.ref 33)]) (st := []) (h1 := (v0 L, g4)) (e := ez_i) rfl (dm_240 L g4 78) (fun y7 => ?_)
      refine ev_if 0 (p := y7 = 0) (a := 53) (b := 46) (T := ([some (.ref 33)], [], (v0 L, g4))) rfl ?_ ?_
      · refine ev_op 2 (as := [.ref 33, .int 69]) (pc := 59) (Lc := [some (.ref 33)]) (st := []) (h1 := (v0 L, g4)) (e := ez_i) rfl (dm_240 L g4 69) (fun y9 => ?_)
        refine ev_in 0 (p := y9 = 0) (a := 69) (b := 62) (T := ([some (.ref 33)], [], (v0 L, g4))) rfl ?_ ?_
        · refine ev_ot 1 (as := [.ref 33]) (pc := 66) (Lc := [some (.ref 33)]) (st := []) (V := v0 L) (g1 := g4) (e := ez_v) rfl (dm_264 L g4 ) (fun _ => rfl) (fun y19 g20 => ?_)
          exact fun hR => by cases hR; exact ev_rt 1 rfl
        · refine ev_ov0 2 (as := [.ref 39]) (pc := 76) (Lc := [some (.ref 33)]) (st := []) (V := v0 L) (g1 := g4) rfl (dm_177 L g4 ) (fun g12 => ?_)
          refine ev_op 2 (as := [.ref 33, .int 78]) (pc := 82) (Lc := [some (.ref 33)]) (st := []) (h1 := (v0 L, g12)) (e := ez_i) rfl (dm_240 L g12 78) (fun y13 => ?_)
          refine ev_if 0 (p := y13 = 0) (a := 92) (b := 85) (T := ([some (.ref 33)], [], (v0 L, g12))) rfl ?_ ?_
          · refine ev_ot 1 (as := [.ref 33]) (pc := 96) (Lc := [some (.ref 33)]) (st := []) (V := v0 L) (g1 := g12) (e := ez_v) rfl (dm_307 L g12 ) (fun _ => rfl) (fun y15 g16 => ?_)
            exact fun hR => by cases hR; exact ev_rt 0 rfl
          · refine ev_ot 1 (as := [.ref 33]) (pc := 89) (Lc := [some (.ref 33)]) (st := []) (V := v0 L) (g1 := g12) (e := ez_v) rfl (dm_323 L g12 ) (fun _ => rfl) (fun y17 g18 => ?_)
            exact fun hR => by cases hR; exact ev_rt 1 rfl
      · refine ev_ot 1 (as := [.ref 33]) (pc := 50) (Lc := [some (.ref 33)]) (st := []) (V := v0 L) (g1 := g4) (e := ez_v) rfl (dm_327 L g4 ) (fun _ => rfl) (fun y21 g22 => ?_)
        exact fun hR => by cases hR; exact ev_rt 1 rfl
    · refine ev_ot 1 (as := [.ref 33]) (pc := 34) (Lc := [some (.ref 33)]) (st := []) (V := v0 L) (g1 := g4) (e := ez_v) rfl (dm_315 L g4 ) (fun _ => rfl) (fun y23 g24 => ?_)
      exact fun hR => by cases hR; exact ev_rt 1 rfl
  · refine ev_ot 2 (as := [.ref 33, .int 0]) (pc := 14) (Lc := [some (.ref 33)]) (st := []) (V := v0 L) (g1 := g) (e := ez_v) rfl (dm_265 L g 0) (fun _ => rfl) (fun y25 g26 => ?_)
    exact fun hR => by cases hR; exact ev_rt 0 rfl
noncomputable def fj_304_145 (k0 : am_G → Option ((Unit ⊕ Nat) × am_G)) (g : am_G) : Option ((Unit ⊕ Nat) × am_G) := lo_t (fm_244 g 60) fun y1 g2 => lo_t (fm_305 g2 ) fun y3 g4 => k0 g4
theorem dj_304_145 (L : Nat) {k0 : am_G → Option ((Unit ⊕ Nat) × am_G)} (hk0 : ∀ (x : am_G) (w1 w2 : Option Value) (R : (Unit ⊕ Nat) × am_G), k0 x = some R → ai_ev ap_P 304 (0, [some (.ref 33), w1, w2], [], (v0 L, x)) (oz_r ez_v R.1) (v0 L, R.2)) (g : am_G) (w1 w2 : Option Value) (R : (Unit ⊕ Nat) × am_G) : fj_304_145 k0 g = some R → ai_ev ap_P 304 (145, [some (.ref 33), w1, w2], [], (v0 L, g)) (oz_r ez_v R.1) (v0 L, R.2) := by
  unfold fj_304_145
  refine ev_ot 2 (as := [.ref 33, .int 60]) (pc := 151) (Lc := [some (.ref 33), none, none]) (st := []) (V := v0 L) (g1 := g) (e := ez_v) rfl (dm_244 L g 60) (fun _ => rfl) (fun y1 g2 => ?_)
  refine ev_ot 1 (as := [.ref 33]) (pc := 155) (Lc := [some (.ref 33), none, none]) (st := []) (V := v0 L) (g1 := g2) (e := ez_v) rfl (dm_305 L g2 ) (fun _ => rfl) (fun y3 g4 => ?_)
  refine ev_jm 0 (t := (0, [some (.ref 33), none, none], [], (v0 L, g4))) rfl ?_
  exact hk0 g4 none none _
noncomputable def fj_304_57 (k0 : am_G → Option ((Unit ⊕ Nat) × am_G)) (g : am_G) : Option ((Unit ⊕ Nat) × am_G) := lo_p (fm_240 g 37) fun y1 => if y1 = 0 then if (am_i g 39 4) ≤ 0 then fj_304_145 k0 g else lo_p (fm_240 g 93) fun y3 => if y3 = 0 then fj_304_145 k0 g else lo_p (fm_178 g ) fun y5 => lo_i (fm_236 g 13 y5) fun y7 g8 => lo_g (Nat.ble 1008 y7 && Nat.blt y7 (am_sz g8)) (some (.inr y7, g8)) else lo_p (fm_178 g ) fun y9 => lo_p (fm_177 g ) fun g12 => lo_t (fm_248 g12 ) fun y13 g14 => lo_p (fm_233 g14 ) fun y15 => lo_t (fm_244 g14 59) fun y17 g18 => lo_t (fm_275 g18 861 y15 y9) fun y19 g20 => k0 g20
theorem dj_304_57 (L : Nat) {k0 : am_G → Option ((Unit ⊕ Nat) × am_G)} (hk0 : ∀ (x : am_G) (w1 w2 : Option Value) (R : (Unit ⊕ Nat) × am_G), k0 x = some R → ai_ev ap_P 304 (0, [some (.ref 33), w1, w2], [], (v0 L, x)) (oz_r ez_v R.1) (v0 L, R.2)) (g : am_G) (w1 w2 : Option Value) (R : (Unit ⊕ Nat) × am_G) : fj_304_57 k0 g = some R → ai_ev ap_P 304 (57, [some (.ref 33), w1, w2], [], (v0 L, g)) (oz_r ez_v R.1) (v0 L, R.2) := by
  unfold fj_304_57
  refine ev_op 2 (as := [.ref 33, .int 37]) (pc := 63) (Lc := [some (.ref 33), none, none]) (st := []) (h1 := (v0 L, g)) (e := ez_i) rfl (dm_240 L g 37) (fun y1 => ?_)
  refine ev_if 0 (p := y1 = 0) (a := 112) (b := 66) (T := ([some (.ref 33), none, none], [], (v0 L, g))) rfl ?_ ?_
  · refine ev_if 3 (p := (am_i g 39 4) ≤ 0) (a := 145) (b := 122) (T := ([some (.ref 33), none, none], [], (v0 L, g))) rfl ?_ ?_
    · exact dj_304_145 L hk0 g none none _
    · refine ev_op 2 (as := [.ref 33, .int 93]) (pc := 128) (Lc := [some (.ref 33), none, none]) (st := []) (h1 := (v0 L, g)) (e := ez_i) rfl (dm_240 L g 93) (fun y3 => ?_)
      refine ev_if 0 (p := y3 = 0) (a := 145) (b := 131) (T := ([some (.ref 33), none, none], [], (v0 L, g))) rfl ?_ ?_
      · exact dj_304_145 L hk0 g none none _
      · refine ev_op 4 (as := [.ref 39]) (pc := 141) (Lc := [some (.ref 33), none, none]) (st := [.int 13, .ref 33]) (h1 := (v0 L, g)) (e := ez_i) rfl (dm_178 L g ) (fun y5 => ?_)
        refine ev_oi 0 (as := [.ref 33, .int 13, .int y5]) (pc := 144) (Lc := [some (.ref 33), none, none]) (st := []) (V := v0 L) (g1 := g) (e := ez_a) rfl (dm_236 L g 13 y5) (fun y7 g8 => ?_)
        exact ev_at 0 (a := y7) (g1 := g8) rfl
  · refine ev_op 2 (as := [.ref 39]) (pc := 73) (Lc := [some (.ref 33), none, none]) (st := []) (h1 := (v0 L, g)) (e := ez_i) rfl (dm_178 L g ) (fun y9 => ?_)
    refine ev_ov0 3 (as := [.ref 39]) (pc := 81) (Lc := [some (.ref 33), some (.int y9), none]) (st := []) (V := v0 L) (g1 := g) rfl (dm_177 L g ) (fun g12 => ?_)
    refine ev_ot 1 (as := [.ref 33]) (pc := 85) (Lc := [some (.ref 33), some (.int y9), none]) (st := []) (V := v0 L) (g1 := g12) (e := ez_v) rfl (dm_248 L g12 ) (fun _ => rfl) (fun y13 g14 => ?_)
    refine ev_op 2 (as := [.ref 43]) (pc := 92) (Lc := [some (.ref 33), some (.int y9), none]) (st := []) (h1 := (v0 L, g14)) (e := ez_i) rfl (dm_233 L g14 ) (fun y15 => ?_)
    refine ev_ot 3 (as := [.ref 33, .int 59]) (pc := 99) (Lc := [some (.ref 33), some (.int y9), some (.int y15)]) (st := []) (V := v0 L) (g1 := g14) (e := ez_v) rfl (dm_244 L g14 59) (fun _ => rfl) (fun y17 g18 => ?_)
    refine ev_ot 5 (as := [.ref 33, .ref 861, .int y15, .int y9]) (pc := 109) (Lc := [some (.ref 33), some (.int y9), some (.int y15)]) (st := []) (V := v0 L) (g1 := g18) (e := ez_v) rfl (dm_275 L g18 861 y15 y9) (fun _ => rfl) (fun y19 g20 => ?_)
    refine ev_jm 0 (t := (0, [some (.ref 33), some (.int y9), some (.int y15)], [], (v0 L, g20))) rfl ?_
    exact hk0 g20 (some (.int y9)) (some (.int y15)) _
noncomputable def fj_304_19 (k0 : am_G → Option ((Unit ⊕ Nat) × am_G)) (g : am_G) : Option ((Unit ⊕ Nat) × am_G) := lo_i (fm_242 g ) fun y1 g2 => if y1 = 0 then if (am_i g2 39 4) ≤ 0 then fj_304_57 k0 g2 else lo_p (fm_240 g2 (-1)) fun y3 => if y3 = 0 then fj_304_57 k0 g2 else lo_p (fm_180 g2 ) fun g6 => k0 g6 else k0 g2
theorem dj_304_19 (L : Nat) {k0 : am_G → Option ((Unit ⊕ Nat) × am_G)} (hk0 : ∀ (x : am_G) (w1 w2 : Option Value) (R : (Unit ⊕ Nat) × am_G), k0 x = some R → ai_ev ap_P 304 (0, [some (.ref 33), w1, w2], [], (v0 L, x)) (oz_r ez_v R.1) (v0 L, R.2)) (g : am_G) (w1 w2 : Option Value) (R : (Unit ⊕ Nat) × am_G) : fj_304_19 k0 g = some R → ai_ev ap_P 304 (19, [some (.ref 33), w1, w2], [], (v0 L, g)) (oz_r ez_v R.1) (v0 L, R.2) := by
  unfold fj_304_19
  refine ev_oi 1 (as := [.ref 33]) (pc := 23) (Lc := [some (.ref 33), none, none]) (st := []) (V := v0 L) (g1 := g) (e := ez_i) rfl (dm_242 L g ) (fun y1 g2 => ?_)
  refine ev_if 0 (p := y1 = 0) (a := 29) (b := 26) (T := ([some (.ref 33), none, none], [], (v0 L, g2))) rfl ?_ ?_
  · refine ev_if 3 (p := (am_i g2 39 4) ≤ 0) (a := 57) (b := 39) (T := ([some (.ref 33), none, none], [], (v0 L, g2))) rfl ?_ ?_
    · exact dj_304_57 L hk0 g2 none none _
    · refine ev_op 2 (as := [.ref 33, .int (-1)]) (pc := 44) (Lc := [some (.ref 33), none, none]) (st := []) (h1 := (v0 L, g2)) (e := ez_i) rfl (dm_240 L g2 (-1)) (fun y3 => ?_)
      refine ev_if 0 (p := y3 = 0) (a := 57) (b := 47) (T := ([some (.ref 33), none, none], [], (v0 L, g2))) rfl ?_ ?_
      · exact dj_304_57 L hk0 g2 none none _
      · refine ev_ov0 2 (as := [.ref 39]) (pc := 54) (Lc := [some (.ref 33), none, none]) (st := []) (V := v0 L) (g1 := g2) rfl (dm_180 L g2 ) (fun g6 => ?_)
        refine ev_jm 0 (t := (0, [some (.ref 33), none, none], [], (v0 L, g6))) rfl ?_
        exact hk0 g6 none none _
  · refine ev_jm 0 (t := (0, [some (.ref 33), none, none], [], (v0 L, g2))) rfl ?_
    exact hk0 g2 none none _
noncomputable def fb_304_0 (k0 : am_G → Option ((Unit ⊕ Nat) × am_G)) (g : am_G) : Option ((Unit ⊕ Nat) × am_G) := if (0 : Int32) < (am_i g 39 4) then fj_304_19 k0 g else lo_p (fm_240 g 93) fun y1 => if y1 = 0 then fj_304_19 k0 g else some (.inl (), g)
theorem db_304_0 (L : Nat) {k0 : am_G → Option ((Unit ⊕ Nat) × am_G)} (hk0 : ∀ (x : am_G) (w1 w2 : Option Value) (R : (Unit ⊕ Nat) × am_G), k0 x = some R → ai_ev ap_P 304 (0, [some (.ref 33), w1, w2], [], (v0 L, x)) (oz_r ez_v R.1) (v0 L, R.2)) (g : am_G) (w1 w2 : Option Value) (R : (Unit ⊕ Nat) × am_G) : fb_304_0 k0 g = some R → ai_ev ap_P 304 (0, [some (.ref 33), w1, w2], [], (v0 L, g)) (oz_r ez_v R.1) (v0 L, R.2) := by
  unfold fb_304_0
  refine ev_if 3 (p := (0 : Int32) < (am_i g 39 4)) (a := 19) (b := 10) (T := ([some (.ref 33), none, none], [], (v0 L, g))) rfl ?_ ?_
  · exact dj_304_19 L hk0 g none none _
  · refine ev_op 2 (as := [.ref 33, .int 93]) (pc := 16) (Lc := [some (.ref 33), none, none]) (st := []) (h1 := (v0 L, g)) (e := ez_i) rfl (dm_240 L g 93) (fun y1 => ?_)
    refine ev_in 0 (p := y1 = 0) (a := 158) (b := 19) (T := ([some (.ref 33), none, none], [], (v0 L, g))) rfl ?_ ?_
    · exact dj_304_19 L hk0 g none none _
    · exact fun hR => by cases hR; exact ev_rt 0 rfl
noncomputable def fh_304_0  (x : am_G) : Option ((Unit ⊕ Nat) × am_G) := lo_it (fun k x => fb_304_0 k x) nf_F x
theorem dh_304_0 (L : Nat)   (x : am_G) (w1 w2 : Option Value) (R : (Unit ⊕ Nat) × am_G) : fh_304_0  x = some R → ai_ev ap_P 304 (0, [some (.ref 33), w1, w2], [], (v0 L, x)) (oz_r ez_v R.1) (v0 L, R.2) :=
  fun hr => lo_ev (E := fun x R => ∀ (w1 w2 : Option Value), ai_ev ap_P 304 (0, [some (.ref 33), w1, w2], [], (v0 L, x)) (oz_r ez_v R.1) (v0 L, R.2)) (fun k hk x R hr => fun w1 w2 => db_304_0 L (fun x w1 w2 R hr => hk x R hr w1 w2) x w1 w2 R hr) nf_F x R hr w1 w2
/-- DeclaredMarkup$Processor.subset()V -/
noncomputable def fm_304 (g : am_G)  : Option ((Unit ⊕ Nat) × am_G) := fh_304_0 g
theorem dm_304 (L : Nat) (g : am_G)  (R : (Unit ⊕ Nat) × am_G) : fm_304 g  = some R → ai_ev ap_P 304 (ai_e0 ap_P 304 [.ref 33] (v0 L, g)) (oz_r ez_v R.1) (v0 L, R.2) :=
  dh_304_0 L g none none R
noncomputable def fb_306_38 (k2 : (am_G × Int32) → Option (am_G)) (k38 : (am_G × Int32 × Nat × Int32) → Option (am_G)) (g : am_G) (u1 : Int32) (u2 : Nat) (u3 : Int32) : Option (am_G) := lo_g (Nat.beq (v0_kd u2) 11) (if (am_i g u2 4) ≤ u3 then lo_p (fm_163 g (am_i g u2 0)) fun y2 => if y2 = (-1) then k2 (g, (u1 + 1)) else lo_g (ai_in y2 40) (lo_g (Nat.beq (v0_kd (55 + 18 * y2.toNatClampNeg)) 8) (if (am_i g (55 + 18 * y2.toNatClampNeg) 1) = 1 then lo_p (fm_239 g 19) fun g7 => k2 (g7, (u1 + 1)) else k2 (g, (u1 + 1)))) else lo_g (ai_in ((am_i g u2 3) + u3) 300) (lo_p (fm_167 g (am_i g 52 (((am_i g u2 3) + u3)).toNatClampNeg)) fun y9 => if y9 = 0 then lo_p (fm_239 g 17) fun g12 => k38 (g12, u1, u2, (u3 + 1)) else k38 (g, u1, u2, (u3 + 1))))
theorem db_306_38 (L : Nat) {k2 : (am_G × Int32) → Option (am_G)} {k38 : (am_G × Int32 × Nat × Int32) → Option (am_G)} (hk2 : ∀ (x : am_G × Int32) (w2 w3 : Option Value) (R : am_G), k2 x = some R → ai_ev ap_P 306 (2, [some (.ref 33), some (.int x.2), w2, w3], [], (v0 L, x.1)) (.inl none) (v0 L, R)) (hk38 : ∀ (x : am_G × Int32 × Nat × Int32) (R : am_G), k38 x = some R → ai_ev ap_P 306 (38, [some (.ref 33), some (.int x.2.1), some (.ref x.2.2.1), some (.int x.2.2.2)], [], (v0 L, x.1)) (.inl none) (v0 L, R)) (g : am_G) (u1 : Int32) (u2 : Nat) (u3 : Int32) (R : am_G) : fb_306_38 k2 k38 g u1 u2 u3 = some R → ai_ev ap_P 306 (38, [some (.ref 33), some (.int u1), some (.ref u2), some (.int u3)], [], (v0 L, g)) (.inl none) (v0 L, R) := by
  unfold fb_306_38
  refine ev_gd (c := Nat.beq (v0_kd u2) 11) (fun hc1 => ?_)
  refine ev_jm 2 (t := (43, [some (.ref 33), some (.int u1), some (.ref u2), some (.int u3)], [.int (am_i g u2 4), .int u3], (v0 L, g))) (ai_gd (c := Nat.beq (v0_kd u2) 11) rfl hc1) ?_
  refine ev_if 0 (p := (am_i g u2 4) ≤ u3) (a := 82) (b := 46) (T := ([some (.ref 33), some (.int u1), some (.ref u2), some (.int u3)], [], (v0 L, g))) rfl ?_ ?_
  · refine ev_jm 3 (t := (90, [some (.ref 33), some (.int u1), some (.ref u2), some (.int u3)], [.int (am_i g u2 0), .ref 49], (v0 L, g))) (ai_gd (c := Nat.beq (v0_kd u2) 11) rfl hc1) ?_
    refine ev_op 0 (as := [.ref 49, .int (am_i g u2 0)]) (pc := 93) (Lc := [some (.ref 33), some (.int u1), some (.ref u2), some (.int u3)]) (st := []) (h1 := (v0 L, g)) (e := ez_i) rfl (dm_163 L g (am_i g u2 0)) (fun y2 => ?_)
    refine ev_if 3 (p := y2 = (-1)) (a := 121) (b := 99) (T := ([some (.ref 33), some (.int u1), some (.ref u2), some (.int y2)], [], (v0 L, g))) rfl ?_ ?_
    · refine ev_jm 1 (t := (2, [some (.ref 33), some (.int (u1 + 1)), none, none], [], (v0 L, g))) rfl ?_
      exact hk2 (g, (u1 + 1)) none none _
    · refine ev_gd (c := ai_in y2 40) (fun hc4 => ?_)
      refine ev_fr (S := fun (o : Option Nat) => (108, [some (.ref 33), some (.int u1), some (.ref u2), some (.int y2)], [am_v o], (v0 L, g))) 4 (e := v0_fr 50 y2.toNatClampNeg) (q := (55 + 18 * y2.toNatClampNeg)) (ai_gd (c := ai_in y2 40) rfl hc4) (fr_50 hc4) ?_
      refine ev_gd (c := Nat.beq (v0_kd (55 + 18 * y2.toNatClampNeg)) 8) (fun hc5 => ?_)
      refine ev_jm 0 (t := (111, [some (.ref 33), some (.int u1), some (.ref u2), some (.int y2)], [.int (am_i g (55 + 18 * y2.toNatClampNeg) 1)], (v0 L, g))) (ai_gd (c := Nat.beq (v0_kd (55 + 18 * y2.toNatClampNeg)) 8) rfl hc5) ?_
      refine ev_in 1 (p := (am_i g (55 + 18 * y2.toNatClampNeg) 1) = 1) (a := 121) (b := 115) (T := ([some (.ref 33), some (.int u1), some (.ref u2), some (.int y2)], [], (v0 L, g))) rfl ?_ ?_
      · refine ev_ov0 2 (as := [.ref 33, .int 19]) (pc := 121) (Lc := [some (.ref 33), some (.int u1), some (.ref u2), some (.int y2)]) (st := []) (V := v0 L) (g1 := g) rfl (dm_239 L g 19) (fun g7 => ?_)
        refine ev_jm 1 (t := (2, [some (.ref 33), some (.int (u1 + 1)), none, none], [], (v0 L, g7))) rfl ?_
        exact hk2 (g7, (u1 + 1)) none none _
      · refine ev_jm 1 (t := (2, [some (.ref 33), some (.int (u1 + 1)), none, none], [], (v0 L, g))) rfl ?_
        exact hk2 (g, (u1 + 1)) none none _
  · refine ev_jm 6 (t := (61, [some (.ref 33), some (.int u1), some (.ref u2), some (.int u3)], [.int (am_i g u2 3), .ref 52, .ref 49], (v0 L, g))) (ai_gd (c := Nat.beq (v0_kd u2) 11) rfl hc1) ?_
    refine ev_gd (c := ai_in ((am_i g u2 3) + u3) 300) (fun hc8 => ?_)
    refine ev_jm 2 (t := (64, [some (.ref 33), some (.int u1), some (.ref u2), some (.int u3)], [.int (am_i g 52 (((am_i g u2 3) + u3)).toNatClampNeg), .ref 49], (v0 L, g))) (ai_gd (c := ai_in ((am_i g u2 3) + u3) 300) rfl hc8) ?_
    refine ev_op 0 (as := [.ref 49, .int (am_i g 52 (((am_i g u2 3) + u3)).toNatClampNeg)]) (pc := 67) (Lc := [some (.ref 33), some (.int u1), some (.ref u2), some (.int u3)]) (st := []) (h1 := (v0 L, g)) (e := ez_i) rfl (dm_167 L g (am_i g 52 (((am_i g u2 3) + u3)).toNatClampNeg)) (fun y9 => ?_)
    refine ev_in 0 (p := y9 = 0) (a := 76) (b := 70) (T := ([some (.ref 33), some (.int u1), some (.ref u2), some (.int u3)], [], (v0 L, g))) rfl ?_ ?_
    · refine ev_ov0 2 (as := [.ref 33, .int 17]) (pc := 76) (Lc := [some (.ref 33), some (.int u1), some (.ref u2), some (.int u3)]) (st := []) (V := v0 L) (g1 := g) rfl (dm_239 L g 17) (fun g12 => ?_)
      refine ev_jm 1 (t := (38, [some (.ref 33), some (.int u1), some (.ref u2), some (.int (u3 + 1))], [], (v0 L, g12))) rfl ?_
      exact hk38 (g12, u1, u2, (u3 + 1)) _
    · refine ev_jm 1 (t := (38, [some (.ref 33), some (.int u1), some (.ref u2), some (.int (u3 + 1))], [], (v0 L, g))) rfl ?_
      exact hk38 (g, u1, u2, (u3 + 1)) _
noncomputable def fh_306_38 (k2 : (am_G × Int32) → Option (am_G)) (x : am_G × Int32 × Nat × Int32) : Option (am_G) := lo_it (fun k x => fb_306_38 k2 k x.1 x.2.1 x.2.2.1 x.2.2.2) nf_F x
theorem dh_306_38 (L : Nat) {k2 : (am_G × Int32) → Option (am_G)} (hk2 : ∀ (x : am_G × Int32) (w2 w3 : Option Value) (R : am_G), k2 x = some R → ai_ev ap_P 306 (2, [some (.ref 33), some (.int x.2), w2, w3], [], (v0 L, x.1)) (.inl none) (v0 L, R)) (x : am_G × Int32 × Nat × Int32) (R : am_G) : fh_306_38 k2 x = some R → ai_ev ap_P 306 (38, [some (.ref 33), some (.int x.2.1), some (.ref x.2.2.1), some (.int x.2.2.2)], [], (v0 L, x.1)) (.inl none) (v0 L, R) :=
  fun hr => lo_ev (E := fun x R => ai_ev ap_P 306 (38, [some (.ref 33), some (.int x.2.1), some (.ref x.2.2.1), some (.int x.2.2.2)], [], (v0 L, x.1)) (.inl none) (v0 L, R)) (fun k hk x R hr => db_306_38 L hk2 hk x.1 x.2.1 x.2.2.1 x.2.2.2  R hr) nf_F x R hr
noncomputable def fb_306_2 (k2 : (am_G × Int32) → Option (am_G)) (g : am_G) (u1 : Int32) : Option (am_G) := if (am_i g 49 6) ≤ u1 then some g else lo_g (ai_in u1 80) (lo_g (Nat.beq (v0_kd (775 + u1.toNatClampNeg)) 11) (lo_m (am_r g (775 + u1.toNatClampNeg) 7) (none) fun o3 => lo_g (ai_oc (some o3)) (if (some o3) = (some 9) then fh_306_38 k2 (g, u1, (775 + u1.toNatClampNeg), 0) else k2 (g, (u1 + 1)))))
theorem db_306_2 (L : Nat) {k2 : (am_G × Int32) → Option (am_G)} (hk2 : ∀ (x : am_G × Int32) (w2 w3 : Option Value) (R : am_G), k2 x = some R → ai_ev ap_P 306 (2, [some (.ref 33), some (.int x.2), w2, w3], [], (v0 L, x.1)) (.inl none) (v0 L, R)) (g : am_G) (u1 : Int32) (w2 w3 : Option Value) (R : am_G) : fb_306_2 k2 g u1 = some R → ai_ev ap_P 306 (2, [some (.ref 33), some (.int u1), w2, w3], [], (v0 L, g)) (.inl none) (v0 L, R) := by
  unfold fb_306_2
  refine ev_if 4 (p := (am_i g 49 6) ≤ u1) (a := 127) (b := 13) (T := ([some (.ref 33), some (.int u1), none, none], [], (v0 L, g))) rfl ?_ ?_
  · exact fun hR => by cases hR; exact ev_rt 0 rfl
  · refine ev_gd (c := ai_in u1 80) (fun hc1 => ?_)
    refine ev_fr (S := fun (o : Option Nat) => (22, [some (.ref 33), some (.int u1), none, none], [am_v o], (v0 L, g))) 4 (e := v0_fr 51 u1.toNatClampNeg) (q := (775 + u1.toNatClampNeg)) (ai_gd (c := ai_in u1 80) rfl hc1) (fr_51 hc1) ?_
    refine ev_gd (c := Nat.beq (v0_kd (775 + u1.toNatClampNeg)) 11) (fun hc2 => ?_)
    refine ev_jm 2 (t := (27, [some (.ref 33), some (.int u1), some (.ref (775 + u1.toNatClampNeg)), none], [am_v (am_r g (775 + u1.toNatClampNeg) 7)], (v0 L, g))) (ai_gd (c := Nat.beq (v0_kd (775 + u1.toNatClampNeg)) 11) rfl hc2) ?_
    refine ev_om (S := fun (o : Option Nat) => (27, [some (.ref 33), some (.int u1), some (.ref (775 + u1.toNatClampNeg)), none], [am_v o], (v0 L, g))) ?_ (fun o3 => ?_)
    · exact fun hR => nomatch hR
    · refine ev_gd (c := ai_oc (some o3)) (fun hc4 => ?_)
      refine ev_ac 1 (x := (some o3)) (y := (some 9)) (a := 36) (b := 33) (T := ([some (.ref 33), some (.int u1), some (.ref (775 + u1.toNatClampNeg)), none], [], (v0 L, g))) (ai_gd (c := ai_oc (some o3) && ai_oc (some 9)) rfl (by first | exact hc4 | (have hz := hc4; simp only [hz]; rfl))) ?_ ?_
      · refine ev_jm 1 (t := (38, [some (.ref 33), some (.int u1), some (.ref (775 + u1.toNatClampNeg)), some (.int 0)], [], (v0 L, g))) rfl ?_
        exact dh_306_38 L hk2 (g, u1, (775 + u1.toNatClampNeg), 0) _
      · refine ev_jm 2 (t := (2, [some (.ref 33), some (.int (u1 + 1)), none, none], [], (v0 L, g))) rfl ?_
        exact hk2 (g, (u1 + 1)) none none _
noncomputable def fh_306_2  (x : am_G × Int32) : Option (am_G) := lo_it (fun k x => fb_306_2 k x.1 x.2) nf_F x
theorem dh_306_2 (L : Nat)   (x : am_G × Int32) (w2 w3 : Option Value) (R : am_G) : fh_306_2  x = some R → ai_ev ap_P 306 (2, [some (.ref 33), some (.int x.2), w2, w3], [], (v0 L, x.1)) (.inl none) (v0 L, R) :=
  fun hr => lo_ev (E := fun x R => ∀ (w2 w3 : Option Value), ai_ev ap_P 306 (2, [some (.ref 33), some (.int x.2), w2, w3], [], (v0 L, x.1)) (.inl none) (v0 L, R)) (fun k hk x R hr => fun w2 w3 => db_306_2 L (fun x w2 w3 R hr => hk x R hr w2 w3) x.1 x.2 w2 w3 R hr) nf_F x R hr w2 w3
/-- DeclaredMarkup$Processor.behind()V -/
noncomputable def fm_306 (g : am_G)  : Option (am_G) := fh_306_2 (g, 0)
theorem dm_306 (L : Nat) (g : am_G)  (R : am_G) : fm_306 g  = some R → ai_ev ap_P 306 (ai_e0 ap_P 306 [.ref 33] (v0 L, g)) (.inl none) (v0 L, R) := by
  show _ → ai_ev ap_P 306 (0, [some (.ref 33), none, none, none], [], (v0 L, g)) _ _
  unfold fm_306
  refine ev_jm 1 (t := (2, [some (.ref 33), some (.int 0), none, none], [], (v0 L, g))) rfl ?_
  exact dh_306_2 L (g, 0) none none _
noncomputable def fj_301_94  (g : am_G) : Option ((Unit ⊕ Nat) × am_G) := lo_t (fm_244 g 62) fun y1 g2 => lo_p (fm_306 g2 ) fun g4 => some (.inl (), g4)
theorem dj_301_94 (L : Nat)   (g : am_G) (w1 : Option Value) (R : (Unit ⊕ Nat) × am_G) : fj_301_94  g = some R → ai_ev ap_P 301 (94, [some (.ref 33), w1], [], (v0 L, g)) (oz_r ez_v R.1) (v0 L, R.2) := by
  unfold fj_301_94
  refine ev_ot 2 (as := [.ref 33, .int 62]) (pc := 100) (Lc := [some (.ref 33), none]) (st := []) (V := v0 L) (g1 := g) (e := ez_v) rfl (dm_244 L g 62) (fun _ => rfl) (fun y1 g2 => ?_)
  refine ev_ov0 1 (as := [.ref 33]) (pc := 104) (Lc := [some (.ref 33), none]) (st := []) (V := v0 L) (g1 := g2) rfl (dm_306 L g2 ) (fun g4 => ?_)
  exact fun hR => by cases hR; exact ev_rt 0 rfl
noncomputable def fj_301_62  (g : am_G) : Option ((Unit ⊕ Nat) × am_G) := lo_p (fm_240 g 91) fun y1 => if y1 = 0 then fj_301_94 g else lo_p (fm_177 g ) fun g4 => lo_t (fm_304 g4 ) fun y5 g6 => lo_p (fm_177 g6 ) fun g8 => lo_i (fm_242 g8 ) fun y9 g10 => fj_301_94 g10
theorem dj_301_62 (L : Nat)   (g : am_G) (w1 : Option Value) (R : (Unit ⊕ Nat) × am_G) : fj_301_62  g = some R → ai_ev ap_P 301 (62, [some (.ref 33), w1], [], (v0 L, g)) (oz_r ez_v R.1) (v0 L, R.2) := by
  unfold fj_301_62
  refine ev_op 2 (as := [.ref 33, .int 91]) (pc := 68) (Lc := [some (.ref 33), none]) (st := []) (h1 := (v0 L, g)) (e := ez_i) rfl (dm_240 L g 91) (fun y1 => ?_)
  refine ev_if 0 (p := y1 = 0) (a := 94) (b := 71) (T := ([some (.ref 33), none], [], (v0 L, g))) rfl ?_ ?_
  · exact dj_301_94 L g none _
  · refine ev_ov0 2 (as := [.ref 39]) (pc := 78) (Lc := [some (.ref 33), none]) (st := []) (V := v0 L) (g1 := g) rfl (dm_177 L g ) (fun g4 => ?_)
    refine ev_ot 1 (as := [.ref 33]) (pc := 82) (Lc := [some (.ref 33), none]) (st := []) (V := v0 L) (g1 := g4) (e := ez_v) rfl (dm_304 L g4 ) (fun _ => rfl) (fun y5 g6 => ?_)
    refine ev_ov0 2 (as := [.ref 39]) (pc := 89) (Lc := [some (.ref 33), none]) (st := []) (V := v0 L) (g1 := g6) rfl (dm_177 L g6 ) (fun g8 => ?_)
    refine ev_oi 1 (as := [.ref 33]) (pc := 93) (Lc := [some (.ref 33), none]) (st := []) (V := v0 L) (g1 := g8) (e := ez_i) rfl (dm_242 L g8 ) (fun y9 g10 => ?_)
    refine ev_jm 0 (t := (94, [some (.ref 33), none], [], (v0 L, g10))) rfl ?_
    exact dj_301_94 L g10 none _
noncomputable def fj_301_58  (g : am_G) : Option ((Unit ⊕ Nat) × am_G) := lo_t (fm_302 g ) fun y1 g2 => fj_301_62 g2
theorem dj_301_58 (L : Nat)   (g : am_G) (w1 : Option Value) (R : (Unit ⊕ Nat) × am_G) : fj_301_58  g = some R → ai_ev ap_P 301 (58, [some (.ref 33), w1], [], (v0 L, g)) (oz_r ez_v R.1) (v0 L, R.2) := by
  unfold fj_301_58
  refine ev_ot 1 (as := [.ref 33]) (pc := 62) (Lc := [some (.ref 33), none]) (st := []) (V := v0 L) (g1 := g) (e := ez_v) rfl (dm_302 L g ) (fun _ => rfl) (fun y1 g2 => ?_)
  exact dj_301_62 L g2 none _
/-- DeclaredMarkup$Processor.doctype()V -/
noncomputable def fm_301 (g : am_G)  : Option ((Unit ⊕ Nat) × am_G) := lo_t (fm_245 g 4476739) fun y1 g2 => lo_t (fm_245 g2 1415139397) fun y3 g4 => lo_t (fm_243 g4 ) fun y5 g6 => lo_t (fm_247 (am_si g6 33 17 1) ) fun y7 g8 => lo_i (fm_242 (am_si g8 33 18 y7) ) fun y9 g10 => if y9 = 0 then fj_301_62 g10 else lo_p (fm_240 g10 83) fun y11 => if y11 = 0 then lo_p (fm_240 g10 80) fun y13 => if y13 = 0 then fj_301_62 g10 else fj_301_58 g10 else fj_301_58 g10
theorem dm_301 (L : Nat) (g : am_G)  (R : (Unit ⊕ Nat) × am_G) : fm_301 g  = some R → ai_ev ap_P 301 (ai_e0 ap_P 301 [.ref 33] (v0 L, g)) (oz_r ez_v R.1) (v0 L, R.2) := by
  show _ → ai_ev ap_P 301 (0, [some (.ref 33), none], [], (v0 L, g)) _ _
  unfold fm_301
  refine ev_ot 2 (as := [.ref 33, .long 4476739]) (pc := 7) (Lc := [some (.ref 33), none]) (st := []) (V := v0 L) (g1 := g) (e := ez_v) rfl (dm_245 L g 4476739) (fun _ => rfl) (fun y1 g2 => ?_)
  refine ev_ot 2 (as := [.ref 33, .long 1415139397]) (pc := 14) (Lc := [some (.ref 33), none]) (st := []) (V := v0 L) (g1 := g2) (e := ez_v) rfl (dm_245 L g2 1415139397) (fun _ => rfl) (fun y3 g4 => ?_)
  refine ev_ot 1 (as := [.ref 33]) (pc := 18) (Lc := [some (.ref 33), none]) (st := []) (V := v0 L) (g1 := g4) (e := ez_v) rfl (dm_243 L g4 ) (fun _ => rfl) (fun y5 g6 => ?_)
  refine ev_ot 5 (as := [.ref 33]) (pc := 28) (Lc := [some (.ref 33), none]) (st := [.ref 33]) (V := v0 L) (g1 := (am_si g6 33 17 1)) (e := ez_i) rfl (dm_247 L (am_si g6 33 17 1) ) (fun _ => rfl) (fun y7 g8 => ?_)
  refine ev_oi 2 (as := [.ref 33]) (pc := 35) (Lc := [some (.ref 33), none]) (st := []) (V := v0 L) (g1 := (am_si g8 33 18 y7)) (e := ez_i) rfl (dm_242 L (am_si g8 33 18 y7) ) (fun y9 g10 => ?_)
  refine ev_if 2 (p := y9 = 0) (a := 62) (b := 40) (T := ([some (.ref 33), some (.int y9)], [], (v0 L, g10))) rfl ?_ ?_
  · exact dj_301_62 L g10 (some (.int y9)) _
  · refine ev_op 2 (as := [.ref 33, .int 83]) (pc := 46) (Lc := [some (.ref 33), some (.int y9)]) (st := []) (h1 := (v0 L, g10)) (e := ez_i) rfl (dm_240 L g10 83) (fun y11 => ?_)
    refine ev_in 0 (p := y11 = 0) (a := 58) (b := 49) (T := ([some (.ref 33), some (.int y9)], [], (v0 L, g10))) rfl ?_ ?_
    · refine ev_op 2 (as := [.ref 33, .int 80]) (pc := 55) (Lc := [some (.ref 33), some (.int y9)]) (st := []) (h1 := (v0 L, g10)) (e := ez_i) rfl (dm_240 L g10 80) (fun y13 => ?_)
      refine ev_if 0 (p := y13 = 0) (a := 62) (b := 58) (T := ([some (.ref 33), some (.int y9)], [], (v0 L, g10))) rfl ?_ ?_
      · exact dj_301_62 L g10 (some (.int y9)) _
      · exact dj_301_58 L g10 (some (.int y9)) _
    · exact dj_301_58 L g10 (some (.int y9)) _
noncomputable def fj_263_81 (k0 : am_G → Option ((Unit ⊕ Nat) × am_G)) (g : am_G) : Option ((Unit ⊕ Nat) × am_G) := lo_t (fm_264 g ) fun y1 g2 => k0 g2
theorem dj_263_81 (L : Nat) {k0 : am_G → Option ((Unit ⊕ Nat) × am_G)} (hk0 : ∀ (x : am_G) (R : (Unit ⊕ Nat) × am_G), k0 x = some R → ai_ev ap_P 263 (0, [some (.ref 33)], [], (v0 L, x)) (oz_r ez_v R.1) (v0 L, R.2)) (g : am_G) (R : (Unit ⊕ Nat) × am_G) : fj_263_81 k0 g = some R → ai_ev ap_P 263 (81, [some (.ref 33)], [], (v0 L, g)) (oz_r ez_v R.1) (v0 L, R.2) := by
  unfold fj_263_81
  refine ev_ot 1 (as := [.ref 33]) (pc := 85) (Lc := [some (.ref 33)]) (st := []) (V := v0 L) (g1 := g) (e := ez_v) rfl (dm_264 L g ) (fun _ => rfl) (fun y1 g2 => ?_)
  refine ev_jm 0 (t := (0, [some (.ref 33)], [], (v0 L, g2))) rfl ?_
  exact hk0 g2 _
noncomputable def fb_263_0 (k0 : am_G → Option ((Unit ⊕ Nat) × am_G)) (g : am_G) : Option ((Unit ⊕ Nat) × am_G) := if (am_i g 33 15) = 0 then lo_i (fm_242 g ) fun y1 g2 => lo_t (fm_244 g2 60) fun y3 g4 => lo_p (fm_240 g4 63) fun y5 => if y5 = 0 then lo_p (fm_240 g4 33) fun y7 => if y7 = 0 then lo_t (fm_280 g4 ) fun y15 g16 => k0 g16 else lo_p (fm_177 g4 ) fun g10 => lo_p (fm_240 g10 68) fun y11 => if y11 = 0 then fj_263_81 k0 g10 else if (am_i g10 33 17) = 0 then lo_t (fm_301 g10 ) fun y13 g14 => k0 g14 else fj_263_81 k0 g10 else lo_t (fm_265 g4 1) fun y17 g18 => k0 g18 else some (.inl (), g)
theorem db_263_0 (L : Nat) {k0 : am_G → Option ((Unit ⊕ Nat) × am_G)} (hk0 : ∀ (x : am_G) (R : (Unit ⊕ Nat) × am_G), k0 x = some R → ai_ev ap_P 263 (0, [some (.ref 33)], [], (v0 L, x)) (oz_r ez_v R.1) (v0 L, R.2)) (g : am_G) (R : (Unit ⊕ Nat) × am_G) : fb_263_0 k0 g = some R → ai_ev ap_P 263 (0, [some (.ref 33)], [], (v0 L, g)) (oz_r ez_v R.1) (v0 L, R.2) := by
  unfold fb_263_0
  refine ev_in 2 (p := (am_i g 33 15) = 0) (a := 88) (b := 7) (T := ([some (.ref 33)], [], (v0 L, g))) rfl ?_ ?_
  · refine ev_oi 1 (as := [.ref 33]) (pc := 11) (Lc := [some (.ref 33)]) (st := []) (V := v0 L) (g1 := g) (e := ez_i) rfl (dm_242 L g ) (fun y1 g2 => ?_)
    refine ev_ot 3 (as := [.ref 33, .int 60]) (pc := 18) (Lc := [some (.ref 33)]) (st := []) (V := v0 L) (g1 := g2) (e := ez_v) rfl (dm_244 L g2 60) (fun _ => rfl) (fun y3 g4 => ?_)
    refine ev_op 2 (as := [.ref 33, .int 63]) (pc := 24) (Lc := [some (.ref 33)]) (st := []) (h1 := (v0 L, g4)) (e := ez_i) rfl (dm_240 L g4 63) (fun y5 => ?_)
    refine ev_if 0 (p := y5 = 0) (a := 35) (b := 27) (T := ([some (.ref 33)], [], (v0 L, g4))) rfl ?_ ?_
    · refine ev_op 2 (as := [.ref 33, .int 33]) (pc := 41) (Lc := [some (.ref 33)]) (st := []) (h1 := (v0 L, g4)) (e := ez_i) rfl (dm_240 L g4 33) (fun y7 => ?_)
      refine ev_in 0 (p := y7 = 0) (a := 51) (b := 44) (T := ([some (.ref 33)], [], (v0 L, g4))) rfl ?_ ?_
      · refine ev_ot 1 (as := [.ref 33]) (pc := 48) (Lc := [some (.ref 33)]) (st := []) (V := v0 L) (g1 := g4) (e := ez_v) rfl (dm_280 L g4 ) (fun _ => rfl) (fun y15 g16 => ?_)
        refine ev_jm 0 (t := (0, [some (.ref 33)], [], (v0 L, g16))) rfl ?_
        exact hk0 g16 _
      · refine ev_ov0 2 (as := [.ref 39]) (pc := 58) (Lc := [some (.ref 33)]) (st := []) (V := v0 L) (g1 := g4) rfl (dm_177 L g4 ) (fun g10 => ?_)
        refine ev_op 2 (as := [.ref 33, .int 68]) (pc := 64) (Lc := [some (.ref 33)]) (st := []) (h1 := (v0 L, g10)) (e := ez_i) rfl (dm_240 L g10 68) (fun y11 => ?_)
        refine ev_if 0 (p := y11 = 0) (a := 81) (b := 67) (T := ([some (.ref 33)], [], (v0 L, g10))) rfl ?_ ?_
        · exact dj_263_81 L hk0 g10 _
        · refine ev_in 2 (p := (am_i g10 33 17) = 0) (a := 81) (b := 74) (T := ([some (.ref 33)], [], (v0 L, g10))) rfl ?_ ?_
          · refine ev_ot 1 (as := [.ref 33]) (pc := 78) (Lc := [some (.ref 33)]) (st := []) (V := v0 L) (g1 := g10) (e := ez_v) rfl (dm_301 L g10 ) (fun _ => rfl) (fun y13 g14 => ?_)
            refine ev_jm 0 (t := (0, [some (.ref 33)], [], (v0 L, g14))) rfl ?_
            exact hk0 g14 _
          · exact dj_263_81 L hk0 g10 _
    · refine ev_ot 2 (as := [.ref 33, .int 1]) (pc := 32) (Lc := [some (.ref 33)]) (st := []) (V := v0 L) (g1 := g4) (e := ez_v) rfl (dm_265 L g4 1) (fun _ => rfl) (fun y17 g18 => ?_)
      refine ev_jm 0 (t := (0, [some (.ref 33)], [], (v0 L, g18))) rfl ?_
      exact hk0 g18 _
  · exact fun hR => by cases hR; exact ev_rt 0 rfl
noncomputable def fh_263_0  (x : am_G) : Option ((Unit ⊕ Nat) × am_G) := lo_it (fun k x => fb_263_0 k x) nf_F x
theorem dh_263_0 (L : Nat)   (x : am_G) (R : (Unit ⊕ Nat) × am_G) : fh_263_0  x = some R → ai_ev ap_P 263 (0, [some (.ref 33)], [], (v0 L, x)) (oz_r ez_v R.1) (v0 L, R.2) :=
  fun hr => lo_ev (E := fun x R => ai_ev ap_P 263 (0, [some (.ref 33)], [], (v0 L, x)) (oz_r ez_v R.1) (v0 L, R.2)) (fun k hk x R hr => db_263_0 L hk x  R hr) nf_F x R hr
/-- DeclaredMarkup$Processor.prolog()V -/
noncomputable def fm_263 (g : am_G)  : Option ((Unit ⊕ Nat) × am_G) := fh_263_0 g
theorem dm_263 (L : Nat) (g : am_G)  (R : (Unit ⊕ Nat) × am_G) : fm_263 g  = some R → ai_ev ap_P 263 (ai_e0 ap_P 263 [.ref 33] (v0 L, g)) (oz_r ez_v R.1) (v0 L, R.2) :=
  dh_263_0 L g R
