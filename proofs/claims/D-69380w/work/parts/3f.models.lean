noncomputable def fj_295_31  (g : am_G) : Option (am_G) := lo_p (fm_239 g 2) fun g2 => some g2
theorem dj_295_31 (L : Nat)   (g : am_G) (w1 w2 : Option Value) (R : am_G) : fj_295_31  g = some R → ai_ev ap_P 295 (31, [some (.ref 33), w1, w2], [], (v0 L, g)) (.inl none) (v0 L, R) := by
  unfold fj_295_31
  refine ev_ov0 2 (as := [.ref 33, .int 2]) (pc := 36) (Lc := [some (.ref 33), none, none]) (st := []) (V := v0 L) (g1 := g) rfl (dm_239 L g 2) (fun g2 => ?_)
  exact fun hR => by cases hR; exact ev_rt 0 rfl
/-- DeclaredMarkup$Processor.stands(I)V -/
noncomputable def fm_295 (g : am_G) (u1 : Int32) : Option (am_G) := lo_p (fm_279 g ) fun y1 => lo_m y1 (some g) fun o3 => lo_g (Nat.beq (v0_kd o3) 8) (if (am_i g o3 1) = 1 then fj_295_31 g else if (am_i g o3 1) = 4 then if u1 = 1 then fj_295_31 g else some g else some g)
theorem dm_295 (L : Nat) (g : am_G) (u1 : Int32) (R : am_G) : fm_295 g u1 = some R → ai_ev ap_P 295 (ai_e0 ap_P 295 [.ref 33, .int u1] (v0 L, g)) (.inl none) (v0 L, R) := by
  show _ → ai_ev ap_P 295 (0, [some (.ref 33), some (.int u1), none], [], (v0 L, g)) _ _
  unfold fm_295
  refine ev_op 1 (as := [.ref 33]) (pc := 4) (Lc := [some (.ref 33), some (.int u1), none]) (st := []) (h1 := (v0 L, g)) (e := ez_o) rfl (dm_279 L g ) (fun y1 => ?_)
  refine ev_om (S := fun (o : Option Nat) => (4, [some (.ref 33), some (.int u1), none], [am_v o], (v0 L, g))) ?_ (fun o3 => ?_)
  · exact fun hR => by cases hR; exact ev_rt 3 rfl
  · refine ev_gd (c := Nat.beq (v0_kd o3) 8) (fun hc4 => ?_)
    refine ev_jm 4 (t := (14, [some (.ref 33), some (.int u1), some (.ref o3)], [.int (am_i g o3 1)], (v0 L, g))) (ai_gd (c := Nat.beq (v0_kd o3) 8) rfl hc4) ?_
    refine ev_if 1 (p := (am_i g o3 1) = 1) (a := 31) (b := 18) (T := ([some (.ref 33), some (.int u1), some (.ref o3)], [], (v0 L, g))) rfl ?_ ?_
    · exact dj_295_31 L g (some (.int u1)) (some (.ref o3)) _
    · refine ev_jm 1 (t := (22, [some (.ref 33), some (.int u1), some (.ref o3)], [.int (am_i g o3 1)], (v0 L, g))) (ai_gd (c := Nat.beq (v0_kd o3) 8) rfl hc4) ?_
      refine ev_in 1 (p := (am_i g o3 1) = 4) (a := 36) (b := 26) (T := ([some (.ref 33), some (.int u1), some (.ref o3)], [], (v0 L, g))) rfl ?_ ?_
      · refine ev_in 2 (p := u1 = 1) (a := 36) (b := 31) (T := ([some (.ref 33), some (.int u1), some (.ref o3)], [], (v0 L, g))) rfl ?_ ?_
        · exact dj_295_31 L g (some (.int u1)) (some (.ref o3)) _
        · exact fun hR => by cases hR; exact ev_rt 0 rfl
      · exact fun hR => by cases hR; exact ev_rt 0 rfl
noncomputable def fj_197_28  (g : am_G) (u1 : Int32) (t0 : Int32) : Option (Int32 × am_G) := lo_p (fm_195 g u1) fun y1 => lo_p (fm_190 g ((t0 + 1) + y1)) fun y3 => if y3 = 0 then some (0, g) else lo_i (fm_192 g 15) fun y5 g6 => if y5 = 0 then some (0, g6) else lo_i (fm_196 g6 u1) fun y7 g8 => if y7 = 0 then some (0, g8) else some (1, g8)
theorem dj_197_28 (L : Nat)   (g : am_G) (u1 : Int32) (t0 : Int32) (w2 : Option Value) (R : Int32 × am_G) : fj_197_28  g u1 t0 = some R → ai_ev ap_P 197 (28, [some (.ref 872), some (.int u1), w2], [.int t0], (v0 L, g)) (.inl (ez_i R.1)) (v0 L, R.2) := by
  unfold fj_197_28
  refine ev_op 6 (as := [.int u1]) (pc := 37) (Lc := [some (.ref 872), some (.int u1), some (.int t0)]) (st := [.int (t0 + 1), .ref 872]) (h1 := (v0 L, g)) (e := ez_i) rfl (dm_195 L g u1) (fun y1 => ?_)
  refine ev_op 1 (as := [.ref 872, .int ((t0 + 1) + y1)]) (pc := 41) (Lc := [some (.ref 872), some (.int u1), some (.int t0)]) (st := []) (h1 := (v0 L, g)) (e := ez_i) rfl (dm_190 L g ((t0 + 1) + y1)) (fun y3 => ?_)
  refine ev_if 0 (p := y3 = 0) (a := 66) (b := 44) (T := ([some (.ref 872), some (.int u1), some (.int t0)], [], (v0 L, g))) rfl ?_ ?_
  · exact fun hR => by cases hR; exact ev_rt 1 rfl
  · refine ev_oi 2 (as := [.ref 872, .ref 15]) (pc := 51) (Lc := [some (.ref 872), some (.int u1), some (.int t0)]) (st := []) (V := v0 L) (g1 := g) (e := ez_i) rfl (dm_192 L g 15) (fun y5 g6 => ?_)
    refine ev_if 0 (p := y5 = 0) (a := 66) (b := 54) (T := ([some (.ref 872), some (.int u1), some (.int t0)], [], (v0 L, g6))) rfl ?_ ?_
    · exact fun hR => by cases hR; exact ev_rt 1 rfl
    · refine ev_oi 2 (as := [.ref 872, .int u1]) (pc := 59) (Lc := [some (.ref 872), some (.int u1), some (.int t0)]) (st := []) (V := v0 L) (g1 := g6) (e := ez_i) rfl (dm_196 L g6 u1) (fun y7 g8 => ?_)
      refine ev_if 0 (p := y7 = 0) (a := 66) (b := 62) (T := ([some (.ref 872), some (.int u1), some (.int t0)], [], (v0 L, g8))) rfl ?_ ?_
      · exact fun hR => by cases hR; exact ev_rt 1 rfl
      · exact fun hR => by cases hR; exact ev_rt 2 rfl
/-- DeclaredMarkup$Lines.text(I)Z -/
noncomputable def fm_197 (g : am_G) (u1 : Int32) : Option (Int32 × am_G) := lo_m (am_r g 872 1) (lo_m (am_r g 872 1) (fj_197_28 g u1 0) fun o2 => fj_197_28 g u1 1) fun o1 => lo_g (ai_oc (some o1)) (if (some o1) = (some 15) then lo_i (fm_196 g u1) fun y4 g5 => some ((vp_nar .boolean y4), g5) else lo_m (am_r g 872 1) (fj_197_28 g u1 0) fun o6 => fj_197_28 g u1 1)
theorem dm_197 (L : Nat) (g : am_G) (u1 : Int32) (R : Int32 × am_G) : fm_197 g u1 = some R → ai_ev ap_P 197 (ai_e0 ap_P 197 [.ref 872, .int u1] (v0 L, g)) (.inl (ez_i R.1)) (v0 L, R.2) := by
  show _ → ai_ev ap_P 197 (0, [some (.ref 872), some (.int u1), none], [], (v0 L, g)) _ _
  unfold fm_197
  refine ev_jm 1 (t := (4, [some (.ref 872), some (.int u1), none], [am_v (am_r g 872 1)], (v0 L, g))) rfl ?_
  refine ev_om (S := fun (o : Option Nat) => (4, [some (.ref 872), some (.int u1), none], [am_v o], (v0 L, g))) ?_ (fun o1 => ?_)
  · refine ev_jm 3 (t := (20, [some (.ref 872), some (.int u1), none], [am_v (am_r g 872 1)], (v0 L, g))) rfl ?_
    refine ev_om (S := fun (o : Option Nat) => (20, [some (.ref 872), some (.int u1), none], [am_v o], (v0 L, g))) ?_ (fun o2 => ?_)
    · refine ev_jm 2 (t := (28, [some (.ref 872), some (.int u1), none], [.int 0], (v0 L, g))) rfl ?_
      exact dj_197_28 L g u1 0 none _
    · refine ev_jm 1 (t := (28, [some (.ref 872), some (.int u1), none], [.int 1], (v0 L, g))) rfl ?_
      exact dj_197_28 L g u1 1 none _
  · refine ev_gd (c := ai_oc (some o1)) (fun hc3 => ?_)
    refine ev_ac 1 (x := (some o1)) (y := (some 15)) (a := 10) (b := 16) (T := ([some (.ref 872), some (.int u1), none], [], (v0 L, g))) (ai_gd (c := ai_oc (some o1) && ai_oc (some 15)) rfl (by first | exact hc3 | (have hz := hc3; simp only [hz]; rfl))) ?_ ?_
    · refine ev_oi 2 (as := [.ref 872, .int u1]) (pc := 15) (Lc := [some (.ref 872), some (.int u1), none]) (st := []) (V := v0 L) (g1 := g) (e := ez_i) rfl (dm_196 L g u1) (fun y4 g5 => ?_)
      exact fun hR => by cases hR; exact ev_rt 0 rfl
    · refine ev_jm 1 (t := (20, [some (.ref 872), some (.int u1), none], [am_v (am_r g 872 1)], (v0 L, g))) rfl ?_
      refine ev_om (S := fun (o : Option Nat) => (20, [some (.ref 872), some (.int u1), none], [am_v o], (v0 L, g))) ?_ (fun o6 => ?_)
      · refine ev_jm 2 (t := (28, [some (.ref 872), some (.int u1), none], [.int 0], (v0 L, g))) rfl ?_
        exact dj_197_28 L g u1 0 none _
      · refine ev_jm 1 (t := (28, [some (.ref 872), some (.int u1), none], [.int 1], (v0 L, g))) rfl ?_
        exact dj_197_28 L g u1 1 none _
/-- DeclaredMarkup$Processor.tell(I)V -/
noncomputable def fm_269 (g : am_G) (u1 : Int32) : Option (am_G) := if (am_i g 33 16) = 0 then lo_i (fm_197 g u1) fun y1 g2 => if y1 = 0 then some (am_si g2 33 16 1) else some g2 else some g
theorem dm_269 (L : Nat) (g : am_G) (u1 : Int32) (R : am_G) : fm_269 g u1 = some R → ai_ev ap_P 269 (ai_e0 ap_P 269 [.ref 33, .int u1] (v0 L, g)) (.inl none) (v0 L, R) := by
  show _ → ai_ev ap_P 269 (0, [some (.ref 33), some (.int u1)], [], (v0 L, g)) _ _
  unfold fm_269
  refine ev_in 2 (p := (am_i g 33 16) = 0) (a := 23) (b := 7) (T := ([some (.ref 33), some (.int u1)], [], (v0 L, g))) rfl ?_ ?_
  · refine ev_oi 3 (as := [.ref 872, .int u1]) (pc := 15) (Lc := [some (.ref 33), some (.int u1)]) (st := []) (V := v0 L) (g1 := g) (e := ez_i) rfl (dm_197 L g u1) (fun y1 g2 => ?_)
    refine ev_in 0 (p := y1 = 0) (a := 23) (b := 18) (T := ([some (.ref 33), some (.int u1)], [], (v0 L, g2))) rfl ?_ ?_
    · exact fun hR => by cases hR; exact ev_rt 3 rfl
    · exact fun hR => by cases hR; exact ev_rt 0 rfl
  · exact fun hR => by cases hR; exact ev_rt 0 rfl
/-- DeclaredMarkup$Processor.end()V -/
noncomputable def fm_299 (g : am_G)  : Option ((Unit ⊕ Nat) × am_G) := lo_g (ai_in ((am_i g 33 24) - 1) 40) (if (am_i g 877 (((am_i g 33 24) - 1)).toNatClampNeg) = (am_i g 39 4) then lo_p (fm_177 g ) fun g3 => lo_p (fm_178 g3 ) fun y4 => lo_t (fm_248 g3 ) fun y6 g7 => lo_p (fm_233 g7 ) fun y8 => lo_g (ai_in ((am_i g7 33 24) - 1) 40) (if y8 = (am_i g7 875 (((am_i g7 33 24) - 1)).toNatClampNeg) then lo_i (fm_242 g7 ) fun y11 g12 => lo_t (fm_244 g12 62) fun y13 g14 => lo_p (fm_283 g14 ) fun g16 => some (.inl (), g16) else lo_i (fm_236 g7 3 y4) fun y17 g18 => lo_g (Nat.ble 1008 y17 && Nat.blt y17 (am_sz g18)) (some (.inr y17, g18))) else lo_p (fm_178 g ) fun y19 => lo_i (fm_236 g 13 y19) fun y21 g22 => lo_g (Nat.ble 1008 y21 && Nat.blt y21 (am_sz g22)) (some (.inr y21, g22)))
theorem dm_299 (L : Nat) (g : am_G)  (R : (Unit ⊕ Nat) × am_G) : fm_299 g  = some R → ai_ev ap_P 299 (ai_e0 ap_P 299 [.ref 33] (v0 L, g)) (oz_r ez_v R.1) (v0 L, R.2) := by
  show _ → ai_ev ap_P 299 (0, [some (.ref 33), none], [], (v0 L, g)) _ _
  unfold fm_299
  refine ev_gd (c := ai_in ((am_i g 33 24) - 1) 40) (fun hc1 => ?_)
  refine ev_jm 6 (t := (11, [some (.ref 33), none], [.int (am_i g 877 (((am_i g 33 24) - 1)).toNatClampNeg)], (v0 L, g))) (ai_gd (c := ai_in ((am_i g 33 24) - 1) 40) rfl hc1) ?_
  refine ev_if 3 (p := (am_i g 877 (((am_i g 33 24) - 1)).toNatClampNeg) = (am_i g 39 4)) (a := 35) (b := 21) (T := ([some (.ref 33), none], [], (v0 L, g))) rfl ?_ ?_
  · refine ev_ov0 2 (as := [.ref 39]) (pc := 42) (Lc := [some (.ref 33), none]) (st := []) (V := v0 L) (g1 := g) rfl (dm_177 L g ) (fun g3 => ?_)
    refine ev_op 2 (as := [.ref 39]) (pc := 49) (Lc := [some (.ref 33), none]) (st := []) (h1 := (v0 L, g3)) (e := ez_i) rfl (dm_178 L g3 ) (fun y4 => ?_)
    refine ev_ot 2 (as := [.ref 33]) (pc := 54) (Lc := [some (.ref 33), some (.int y4)]) (st := []) (V := v0 L) (g1 := g3) (e := ez_v) rfl (dm_248 L g3 ) (fun _ => rfl) (fun y6 g7 => ?_)
    refine ev_op 2 (as := [.ref 43]) (pc := 61) (Lc := [some (.ref 33), some (.int y4)]) (st := []) (h1 := (v0 L, g7)) (e := ez_i) rfl (dm_233 L g7 ) (fun y8 => ?_)
    refine ev_gd (c := ai_in ((am_i g7 33 24) - 1) 40) (fun hc10 => ?_)
    refine ev_jm 6 (t := (72, [some (.ref 33), some (.int y4)], [.int (am_i g7 875 (((am_i g7 33 24) - 1)).toNatClampNeg), .int y8], (v0 L, g7))) (ai_gd (c := ai_in ((am_i g7 33 24) - 1) 40) rfl hc10) ?_
    refine ev_if 0 (p := y8 = (am_i g7 875 (((am_i g7 33 24) - 1)).toNatClampNeg)) (a := 82) (b := 75) (T := ([some (.ref 33), some (.int y4)], [], (v0 L, g7))) rfl ?_ ?_
    · refine ev_oi 1 (as := [.ref 33]) (pc := 86) (Lc := [some (.ref 33), some (.int y4)]) (st := []) (V := v0 L) (g1 := g7) (e := ez_i) rfl (dm_242 L g7 ) (fun y11 g12 => ?_)
      refine ev_ot 3 (as := [.ref 33, .int 62]) (pc := 93) (Lc := [some (.ref 33), some (.int y4)]) (st := []) (V := v0 L) (g1 := g12) (e := ez_v) rfl (dm_244 L g12 62) (fun _ => rfl) (fun y13 g14 => ?_)
      refine ev_ov0 1 (as := [.ref 33]) (pc := 97) (Lc := [some (.ref 33), some (.int y4)]) (st := []) (V := v0 L) (g1 := g14) rfl (dm_283 L g14 ) (fun g16 => ?_)
      exact fun hR => by cases hR; exact ev_rt 0 rfl
    · refine ev_oi 3 (as := [.ref 33, .int 3, .int y4]) (pc := 81) (Lc := [some (.ref 33), some (.int y4)]) (st := []) (V := v0 L) (g1 := g7) (e := ez_a) rfl (dm_236 L g7 3 y4) (fun y17 g18 => ?_)
      exact ev_at 0 (a := y17) (g1 := g18) rfl
  · refine ev_op 4 (as := [.ref 39]) (pc := 31) (Lc := [some (.ref 33), none]) (st := [.int 13, .ref 33]) (h1 := (v0 L, g)) (e := ez_i) rfl (dm_178 L g ) (fun y19 => ?_)
    refine ev_oi 0 (as := [.ref 33, .int 13, .int y19]) (pc := 34) (Lc := [some (.ref 33), none]) (st := []) (V := v0 L) (g1 := g) (e := ez_a) rfl (dm_236 L g 13 y19) (fun y21 g22 => ?_)
    exact ev_at 0 (a := y21) (g1 := g22) rfl
noncomputable def fj_300_117 (k21 : (am_G × Int32) → Option ((Unit ⊕ Nat) × am_G)) (g : am_G) (u1 : Int32) : Option ((Unit ⊕ Nat) × am_G) := lo_p (fm_177 g ) fun g2 => k21 (g2, u1)
theorem dj_300_117 (L : Nat) {k21 : (am_G × Int32) → Option ((Unit ⊕ Nat) × am_G)} (hk21 : ∀ (x : am_G × Int32) (R : (Unit ⊕ Nat) × am_G), k21 x = some R → ai_ev ap_P 300 (21, [some (.ref 33), some (.int x.2)], [], (v0 L, x.1)) (oz_r ez_v R.1) (v0 L, R.2)) (g : am_G) (u1 : Int32) (R : (Unit ⊕ Nat) × am_G) : fj_300_117 k21 g u1 = some R → ai_ev ap_P 300 (117, [some (.ref 33), some (.int u1)], [], (v0 L, g)) (oz_r ez_v R.1) (v0 L, R.2) := by
  unfold fj_300_117
  refine ev_ov0 2 (as := [.ref 39]) (pc := 124) (Lc := [some (.ref 33), some (.int u1)]) (st := []) (V := v0 L) (g1 := g) rfl (dm_177 L g ) (fun g2 => ?_)
  refine ev_jm 0 (t := (21, [some (.ref 33), some (.int u1)], [], (v0 L, g2))) rfl ?_
  exact hk21 (g2, u1) _
noncomputable def fj_300_97 (k21 : (am_G × Int32) → Option ((Unit ⊕ Nat) × am_G)) (g : am_G) (u1 : Int32) (t1 : Int32) : Option ((Unit ⊕ Nat) × am_G) := lo_t (fm_238 g t1) fun y1 g2 => lo_p (fm_176 g2 ) fun y3 => lo_p (fm_269 g2 y3) fun g6 => fj_300_117 k21 g6 u1
theorem dj_300_97 (L : Nat) {k21 : (am_G × Int32) → Option ((Unit ⊕ Nat) × am_G)} (hk21 : ∀ (x : am_G × Int32) (R : (Unit ⊕ Nat) × am_G), k21 x = some R → ai_ev ap_P 300 (21, [some (.ref 33), some (.int x.2)], [], (v0 L, x.1)) (oz_r ez_v R.1) (v0 L, R.2)) (g : am_G) (u1 : Int32) (t1 : Int32) (R : (Unit ⊕ Nat) × am_G) : fj_300_97 k21 g u1 t1 = some R → ai_ev ap_P 300 (97, [some (.ref 33), some (.int u1)], [.int t1, .ref 33], (v0 L, g)) (oz_r ez_v R.1) (v0 L, R.2) := by
  unfold fj_300_97
  refine ev_ot 0 (as := [.ref 33, .int t1]) (pc := 100) (Lc := [some (.ref 33), some (.int u1)]) (st := []) (V := v0 L) (g1 := g) (e := ez_v) rfl (dm_238 L g t1) (fun _ => rfl) (fun y1 g2 => ?_)
  refine ev_op 3 (as := [.ref 39]) (pc := 108) (Lc := [some (.ref 33), some (.int u1)]) (st := [.ref 33]) (h1 := (v0 L, g2)) (e := ez_i) rfl (dm_176 L g2 ) (fun y3 => ?_)
  refine ev_ov0 0 (as := [.ref 33, .int y3]) (pc := 111) (Lc := [some (.ref 33), some (.int u1)]) (st := []) (V := v0 L) (g1 := g2) rfl (dm_269 L g2 y3) (fun g6 => ?_)
  refine ev_jm 0 (t := (117, [some (.ref 33), some (.int u1)], [], (v0 L, g6))) rfl ?_
  exact dj_300_117 L hk21 g6 u1 _
noncomputable def fb_300_67 (k21 : (am_G × Int32) → Option ((Unit ⊕ Nat) × am_G)) (k67 : (am_G × Int32) → Option ((Unit ⊕ Nat) × am_G)) (g : am_G) (u1 : Int32) : Option ((Unit ⊕ Nat) × am_G) := if u1 ≤ 0 then lo_p (fm_240 g (-1)) fun y1 => if y1 = 0 then fj_300_97 k21 g u1 1 else fj_300_97 k21 g u1 0 else lo_p (fm_269 g 93) fun g4 => k67 (g4, (u1 + (-1)))
theorem db_300_67 (L : Nat) {k21 : (am_G × Int32) → Option ((Unit ⊕ Nat) × am_G)} {k67 : (am_G × Int32) → Option ((Unit ⊕ Nat) × am_G)} (hk21 : ∀ (x : am_G × Int32) (R : (Unit ⊕ Nat) × am_G), k21 x = some R → ai_ev ap_P 300 (21, [some (.ref 33), some (.int x.2)], [], (v0 L, x.1)) (oz_r ez_v R.1) (v0 L, R.2)) (hk67 : ∀ (x : am_G × Int32) (R : (Unit ⊕ Nat) × am_G), k67 x = some R → ai_ev ap_P 300 (67, [some (.ref 33), some (.int x.2)], [], (v0 L, x.1)) (oz_r ez_v R.1) (v0 L, R.2)) (g : am_G) (u1 : Int32) (R : (Unit ⊕ Nat) × am_G) : fb_300_67 k21 k67 g u1 = some R → ai_ev ap_P 300 (67, [some (.ref 33), some (.int u1)], [], (v0 L, g)) (oz_r ez_v R.1) (v0 L, R.2) := by
  unfold fb_300_67
  refine ev_if 1 (p := u1 ≤ 0) (a := 83) (b := 71) (T := ([some (.ref 33), some (.int u1)], [], (v0 L, g))) rfl ?_ ?_
  · refine ev_op 3 (as := [.ref 33, .int (-1)]) (pc := 89) (Lc := [some (.ref 33), some (.int u1)]) (st := [.ref 33]) (h1 := (v0 L, g)) (e := ez_i) rfl (dm_240 L g (-1)) (fun y1 => ?_)
    refine ev_in 0 (p := y1 = 0) (a := 96) (b := 92) (T := ([some (.ref 33), some (.int u1)], [.ref 33], (v0 L, g))) rfl ?_ ?_
    · refine ev_jm 1 (t := (97, [some (.ref 33), some (.int u1)], [.int 1, .ref 33], (v0 L, g))) rfl ?_
      exact dj_300_97 L hk21 g u1 1 _
    · refine ev_jm 0 (t := (97, [some (.ref 33), some (.int u1)], [.int 0, .ref 33], (v0 L, g))) rfl ?_
      exact dj_300_97 L hk21 g u1 0 _
  · refine ev_ov0 2 (as := [.ref 33, .int 93]) (pc := 77) (Lc := [some (.ref 33), some (.int u1)]) (st := []) (V := v0 L) (g1 := g) rfl (dm_269 L g 93) (fun g4 => ?_)
    refine ev_jm 1 (t := (67, [some (.ref 33), some (.int (u1 + (-1)))], [], (v0 L, g4))) rfl ?_
    exact hk67 (g4, (u1 + (-1))) _
noncomputable def fh_300_67 (k21 : (am_G × Int32) → Option ((Unit ⊕ Nat) × am_G)) (x : am_G × Int32) : Option ((Unit ⊕ Nat) × am_G) := lo_it (fun k x => fb_300_67 k21 k x.1 x.2) nf_F x
theorem dh_300_67 (L : Nat) {k21 : (am_G × Int32) → Option ((Unit ⊕ Nat) × am_G)} (hk21 : ∀ (x : am_G × Int32) (R : (Unit ⊕ Nat) × am_G), k21 x = some R → ai_ev ap_P 300 (21, [some (.ref 33), some (.int x.2)], [], (v0 L, x.1)) (oz_r ez_v R.1) (v0 L, R.2)) (x : am_G × Int32) (R : (Unit ⊕ Nat) × am_G) : fh_300_67 k21 x = some R → ai_ev ap_P 300 (67, [some (.ref 33), some (.int x.2)], [], (v0 L, x.1)) (oz_r ez_v R.1) (v0 L, R.2) :=
  fun hr => lo_ev (E := fun x R => ai_ev ap_P 300 (67, [some (.ref 33), some (.int x.2)], [], (v0 L, x.1)) (oz_r ez_v R.1) (v0 L, R.2)) (fun k hk x R hr => db_300_67 L hk21 hk x.1 x.2  R hr) nf_F x R hr
noncomputable def fj_300_58 (k21 : (am_G × Int32) → Option ((Unit ⊕ Nat) × am_G)) (g : am_G) (u1 : Int32) : Option ((Unit ⊕ Nat) × am_G) := lo_p (fm_240 g 93) fun y1 => if y1 = 0 then fh_300_67 k21 (g, u1) else fj_300_117 k21 g (u1 + 1)
theorem dj_300_58 (L : Nat) {k21 : (am_G × Int32) → Option ((Unit ⊕ Nat) × am_G)} (hk21 : ∀ (x : am_G × Int32) (R : (Unit ⊕ Nat) × am_G), k21 x = some R → ai_ev ap_P 300 (21, [some (.ref 33), some (.int x.2)], [], (v0 L, x.1)) (oz_r ez_v R.1) (v0 L, R.2)) (g : am_G) (u1 : Int32) (R : (Unit ⊕ Nat) × am_G) : fj_300_58 k21 g u1 = some R → ai_ev ap_P 300 (58, [some (.ref 33), some (.int u1)], [], (v0 L, g)) (oz_r ez_v R.1) (v0 L, R.2) := by
  unfold fj_300_58
  refine ev_op 2 (as := [.ref 33, .int 93]) (pc := 64) (Lc := [some (.ref 33), some (.int u1)]) (st := []) (h1 := (v0 L, g)) (e := ez_i) rfl (dm_240 L g 93) (fun y1 => ?_)
  refine ev_in 0 (p := y1 = 0) (a := 114) (b := 67) (T := ([some (.ref 33), some (.int u1)], [], (v0 L, g))) rfl ?_ ?_
  · exact dh_300_67 L hk21 (g, u1) _
  · refine ev_jm 0 (t := (117, [some (.ref 33), some (.int (u1 + 1))], [], (v0 L, g))) rfl ?_
    exact dj_300_117 L hk21 g (u1 + 1) _
noncomputable def fj_300_35 (k21 : (am_G × Int32) → Option ((Unit ⊕ Nat) × am_G)) (g : am_G) (u1 : Int32) : Option ((Unit ⊕ Nat) × am_G) := lo_p (fm_240 g 93) fun y1 => if y1 = 0 then fj_300_58 k21 g u1 else if u1 = 2 then lo_p (fm_269 g 93) fun g4 => fj_300_58 k21 g4 (u1 + (-1)) else fj_300_58 k21 g u1
theorem dj_300_35 (L : Nat) {k21 : (am_G × Int32) → Option ((Unit ⊕ Nat) × am_G)} (hk21 : ∀ (x : am_G × Int32) (R : (Unit ⊕ Nat) × am_G), k21 x = some R → ai_ev ap_P 300 (21, [some (.ref 33), some (.int x.2)], [], (v0 L, x.1)) (oz_r ez_v R.1) (v0 L, R.2)) (g : am_G) (u1 : Int32) (R : (Unit ⊕ Nat) × am_G) : fj_300_35 k21 g u1 = some R → ai_ev ap_P 300 (35, [some (.ref 33), some (.int u1)], [], (v0 L, g)) (oz_r ez_v R.1) (v0 L, R.2) := by
  unfold fj_300_35
  refine ev_op 2 (as := [.ref 33, .int 93]) (pc := 41) (Lc := [some (.ref 33), some (.int u1)]) (st := []) (h1 := (v0 L, g)) (e := ez_i) rfl (dm_240 L g 93) (fun y1 => ?_)
  refine ev_if 0 (p := y1 = 0) (a := 58) (b := 44) (T := ([some (.ref 33), some (.int u1)], [], (v0 L, g))) rfl ?_ ?_
  · exact dj_300_58 L hk21 g u1 _
  · refine ev_in 2 (p := u1 = 2) (a := 58) (b := 49) (T := ([some (.ref 33), some (.int u1)], [], (v0 L, g))) rfl ?_ ?_
    · refine ev_ov0 2 (as := [.ref 33, .int 93]) (pc := 55) (Lc := [some (.ref 33), some (.int u1)]) (st := []) (V := v0 L) (g1 := g) rfl (dm_269 L g 93) (fun g4 => ?_)
      refine ev_jm 0 (t := (58, [some (.ref 33), some (.int (u1 + (-1)))], [], (v0 L, g4))) rfl ?_
      exact dj_300_58 L hk21 g4 (u1 + (-1)) _
    · exact dj_300_58 L hk21 g u1 _
noncomputable def fb_300_21 (k21 : (am_G × Int32) → Option ((Unit ⊕ Nat) × am_G)) (g : am_G) (u1 : Int32) : Option ((Unit ⊕ Nat) × am_G) := lo_p (fm_240 g 62) fun y1 => if y1 = 0 then fj_300_35 k21 g u1 else if (2 : Int32) ≤ u1 then lo_p (fm_177 g ) fun g4 => some (.inl (), g4) else fj_300_35 k21 g u1
theorem db_300_21 (L : Nat) {k21 : (am_G × Int32) → Option ((Unit ⊕ Nat) × am_G)} (hk21 : ∀ (x : am_G × Int32) (R : (Unit ⊕ Nat) × am_G), k21 x = some R → ai_ev ap_P 300 (21, [some (.ref 33), some (.int x.2)], [], (v0 L, x.1)) (oz_r ez_v R.1) (v0 L, R.2)) (g : am_G) (u1 : Int32) (R : (Unit ⊕ Nat) × am_G) : fb_300_21 k21 g u1 = some R → ai_ev ap_P 300 (21, [some (.ref 33), some (.int u1)], [], (v0 L, g)) (oz_r ez_v R.1) (v0 L, R.2) := by
  unfold fb_300_21
  refine ev_op 2 (as := [.ref 33, .int 62]) (pc := 27) (Lc := [some (.ref 33), some (.int u1)]) (st := []) (h1 := (v0 L, g)) (e := ez_i) rfl (dm_240 L g 62) (fun y1 => ?_)
  refine ev_if 0 (p := y1 = 0) (a := 35) (b := 30) (T := ([some (.ref 33), some (.int u1)], [], (v0 L, g))) rfl ?_ ?_
  · exact dj_300_35 L hk21 g u1 _
  · refine ev_if 2 (p := (2 : Int32) ≤ u1) (a := 127) (b := 35) (T := ([some (.ref 33), some (.int u1)], [], (v0 L, g))) rfl ?_ ?_
    · refine ev_ov0 2 (as := [.ref 39]) (pc := 134) (Lc := [some (.ref 33), some (.int u1)]) (st := []) (V := v0 L) (g1 := g) rfl (dm_177 L g ) (fun g4 => ?_)
      exact fun hR => by cases hR; exact ev_rt 0 rfl
    · exact dj_300_35 L hk21 g u1 _
noncomputable def fh_300_21  (x : am_G × Int32) : Option ((Unit ⊕ Nat) × am_G) := lo_it (fun k x => fb_300_21 k x.1 x.2) nf_F x
theorem dh_300_21 (L : Nat)   (x : am_G × Int32) (R : (Unit ⊕ Nat) × am_G) : fh_300_21  x = some R → ai_ev ap_P 300 (21, [some (.ref 33), some (.int x.2)], [], (v0 L, x.1)) (oz_r ez_v R.1) (v0 L, R.2) :=
  fun hr => lo_ev (E := fun x R => ai_ev ap_P 300 (21, [some (.ref 33), some (.int x.2)], [], (v0 L, x.1)) (oz_r ez_v R.1) (v0 L, R.2)) (fun k hk x R hr => db_300_21 L hk x.1 x.2  R hr) nf_F x R hr
/-- DeclaredMarkup$Processor.section()V -/
noncomputable def fm_300 (g : am_G)  : Option ((Unit ⊕ Nat) × am_G) := lo_t (fm_245 g 1531135041) fun y1 g2 => lo_t (fm_245 g2 5521755) fun y3 g4 => lo_p (fm_295 g4 1) fun g6 => fh_300_21 (g6, 0)
theorem dm_300 (L : Nat) (g : am_G)  (R : (Unit ⊕ Nat) × am_G) : fm_300 g  = some R → ai_ev ap_P 300 (ai_e0 ap_P 300 [.ref 33] (v0 L, g)) (oz_r ez_v R.1) (v0 L, R.2) := by
  show _ → ai_ev ap_P 300 (0, [some (.ref 33), none], [], (v0 L, g)) _ _
  unfold fm_300
  refine ev_ot 2 (as := [.ref 33, .long 1531135041]) (pc := 7) (Lc := [some (.ref 33), none]) (st := []) (V := v0 L) (g1 := g) (e := ez_v) rfl (dm_245 L g 1531135041) (fun _ => rfl) (fun y1 g2 => ?_)
  refine ev_ot 2 (as := [.ref 33, .long 5521755]) (pc := 14) (Lc := [some (.ref 33), none]) (st := []) (V := v0 L) (g1 := g2) (e := ez_v) rfl (dm_245 L g2 5521755) (fun _ => rfl) (fun y3 g4 => ?_)
  refine ev_ov0 2 (as := [.ref 33, .int 1]) (pc := 19) (Lc := [some (.ref 33), none]) (st := []) (V := v0 L) (g1 := g4) rfl (dm_295 L g4 1) (fun g6 => ?_)
  refine ev_jm 1 (t := (21, [some (.ref 33), some (.int 0)], [], (v0 L, g6))) rfl ?_
  exact dh_300_21 L (g6, 0) _
/-- DeclaredMarkup$Processor.mark()V -/
noncomputable def fm_298 (g : am_G)  : Option ((Unit ⊕ Nat) × am_G) := lo_p (fm_240 g 47) fun y1 => if y1 = 0 then lo_p (fm_240 g 63) fun y3 => if y3 = 0 then lo_p (fm_240 g 33) fun y5 => if y5 = 0 then lo_t (fm_280 g ) fun y17 g18 => some (.inl (), g18) else lo_p (fm_177 g ) fun g8 => lo_p (fm_240 g8 91) fun y9 => if y9 = 0 then lo_p (fm_295 g8 2) fun g12 => lo_t (fm_264 g12 ) fun y13 g14 => some (.inl (), g14) else lo_t (fm_300 g8 ) fun y15 g16 => some (.inl (), g16) else lo_p (fm_295 g 2) fun g20 => lo_t (fm_265 g20 1) fun y21 g22 => some (.inl (), g22) else lo_t (fm_299 g ) fun y23 g24 => some (.inl (), g24)
theorem dm_298 (L : Nat) (g : am_G)  (R : (Unit ⊕ Nat) × am_G) : fm_298 g  = some R → ai_ev ap_P 298 (ai_e0 ap_P 298 [.ref 33] (v0 L, g)) (oz_r ez_v R.1) (v0 L, R.2) := by
  show _ → ai_ev ap_P 298 (0, [some (.ref 33)], [], (v0 L, g)) _ _
  unfold fm_298
  refine ev_op 2 (as := [.ref 33, .int 47]) (pc := 6) (Lc := [some (.ref 33)]) (st := []) (h1 := (v0 L, g)) (e := ez_i) rfl (dm_240 L g 47) (fun y1 => ?_)
  refine ev_if 0 (p := y1 = 0) (a := 16) (b := 9) (T := ([some (.ref 33)], [], (v0 L, g))) rfl ?_ ?_
  · refine ev_op 2 (as := [.ref 33, .int 63]) (pc := 22) (Lc := [some (.ref 33)]) (st := []) (h1 := (v0 L, g)) (e := ez_i) rfl (dm_240 L g 63) (fun y3 => ?_)
    refine ev_if 0 (p := y3 = 0) (a := 38) (b := 25) (T := ([some (.ref 33)], [], (v0 L, g))) rfl ?_ ?_
    · refine ev_op 2 (as := [.ref 33, .int 33]) (pc := 44) (Lc := [some (.ref 33)]) (st := []) (h1 := (v0 L, g)) (e := ez_i) rfl (dm_240 L g 33) (fun y5 => ?_)
      refine ev_in 0 (p := y5 = 0) (a := 54) (b := 47) (T := ([some (.ref 33)], [], (v0 L, g))) rfl ?_ ?_
      · refine ev_ot 1 (as := [.ref 33]) (pc := 51) (Lc := [some (.ref 33)]) (st := []) (V := v0 L) (g1 := g) (e := ez_v) rfl (dm_280 L g ) (fun _ => rfl) (fun y17 g18 => ?_)
        exact fun hR => by cases hR; exact ev_rt 1 rfl
      · refine ev_ov0 2 (as := [.ref 39]) (pc := 61) (Lc := [some (.ref 33)]) (st := []) (V := v0 L) (g1 := g) rfl (dm_177 L g ) (fun g8 => ?_)
        refine ev_op 2 (as := [.ref 33, .int 91]) (pc := 67) (Lc := [some (.ref 33)]) (st := []) (h1 := (v0 L, g8)) (e := ez_i) rfl (dm_240 L g8 91) (fun y9 => ?_)
        refine ev_if 0 (p := y9 = 0) (a := 77) (b := 70) (T := ([some (.ref 33)], [], (v0 L, g8))) rfl ?_ ?_
        · refine ev_ov0 2 (as := [.ref 33, .int 2]) (pc := 82) (Lc := [some (.ref 33)]) (st := []) (V := v0 L) (g1 := g8) rfl (dm_295 L g8 2) (fun g12 => ?_)
          refine ev_ot 1 (as := [.ref 33]) (pc := 86) (Lc := [some (.ref 33)]) (st := []) (V := v0 L) (g1 := g12) (e := ez_v) rfl (dm_264 L g12 ) (fun _ => rfl) (fun y13 g14 => ?_)
          exact fun hR => by cases hR; exact ev_rt 0 rfl
        · refine ev_ot 1 (as := [.ref 33]) (pc := 74) (Lc := [some (.ref 33)]) (st := []) (V := v0 L) (g1 := g8) (e := ez_v) rfl (dm_300 L g8 ) (fun _ => rfl) (fun y15 g16 => ?_)
          exact fun hR => by cases hR; exact ev_rt 1 rfl
    · refine ev_ov0 2 (as := [.ref 33, .int 2]) (pc := 30) (Lc := [some (.ref 33)]) (st := []) (V := v0 L) (g1 := g) rfl (dm_295 L g 2) (fun g20 => ?_)
      refine ev_ot 2 (as := [.ref 33, .int 1]) (pc := 35) (Lc := [some (.ref 33)]) (st := []) (V := v0 L) (g1 := g20) (e := ez_v) rfl (dm_265 L g20 1) (fun _ => rfl) (fun y21 g22 => ?_)
      exact fun hR => by cases hR; exact ev_rt 1 rfl
  · refine ev_ot 1 (as := [.ref 33]) (pc := 13) (Lc := [some (.ref 33)]) (st := []) (V := v0 L) (g1 := g) (e := ez_v) rfl (dm_299 L g ) (fun _ => rfl) (fun y23 g24 => ?_)
    exact fun hR => by cases hR; exact ev_rt 1 rfl
noncomputable def fj_297_88 (k24 : (am_G × Int32 × Int32) → Option ((Unit ⊕ Nat) × am_G)) (g : am_G) (u1 : Int32) (u2 : Int32) (t1 : Int32) : Option ((Unit ⊕ Nat) × am_G) := lo_p (fm_295 g t1) fun g2 => lo_p (fm_269 g2 u2) fun g4 => lo_p (fm_177 g4 ) fun g6 => lo_p (fm_176 g6 ) fun y7 => k24 (g6, u1, y7)
theorem dj_297_88 (L : Nat) {k24 : (am_G × Int32 × Int32) → Option ((Unit ⊕ Nat) × am_G)} (hk24 : ∀ (x : am_G × Int32 × Int32) (R : (Unit ⊕ Nat) × am_G), k24 x = some R → ai_ev ap_P 297 (24, [some (.ref 33), some (.int x.2.1), some (.int x.2.2)], [], (v0 L, x.1)) (oz_r ez_v R.1) (v0 L, R.2)) (g : am_G) (u1 : Int32) (u2 : Int32) (t1 : Int32) (R : (Unit ⊕ Nat) × am_G) : fj_297_88 k24 g u1 u2 t1 = some R → ai_ev ap_P 297 (88, [some (.ref 33), some (.int u1), some (.int u2)], [.int t1, .ref 33], (v0 L, g)) (oz_r ez_v R.1) (v0 L, R.2) := by
  unfold fj_297_88
  refine ev_ov0 0 (as := [.ref 33, .int t1]) (pc := 91) (Lc := [some (.ref 33), some (.int u1), some (.int u2)]) (st := []) (V := v0 L) (g1 := g) rfl (dm_295 L g t1) (fun g2 => ?_)
  refine ev_ov0 2 (as := [.ref 33, .int u2]) (pc := 96) (Lc := [some (.ref 33), some (.int u1), some (.int u2)]) (st := []) (V := v0 L) (g1 := g2) rfl (dm_269 L g2 u2) (fun g4 => ?_)
  refine ev_ov0 2 (as := [.ref 39]) (pc := 103) (Lc := [some (.ref 33), some (.int u1), some (.int u2)]) (st := []) (V := v0 L) (g1 := g4) rfl (dm_177 L g4 ) (fun g6 => ?_)
  refine ev_op 2 (as := [.ref 39]) (pc := 110) (Lc := [some (.ref 33), some (.int u1), some (.int u2)]) (st := []) (h1 := (v0 L, g6)) (e := ez_i) rfl (dm_176 L g6 ) (fun y7 => ?_)
  refine ev_jm 1 (t := (24, [some (.ref 33), some (.int u1), some (.int y7)], [], (v0 L, g6))) rfl ?_
  exact hk24 (g6, u1, y7) _
noncomputable def fj_297_74 (k24 : (am_G × Int32 × Int32) → Option ((Unit ⊕ Nat) × am_G)) (g : am_G) (u2 : Int32) (t0 : Int32) : Option ((Unit ⊕ Nat) × am_G) := lo_p (fm_185 g u2) fun y1 => if y1 = 0 then fj_297_88 k24 g t0 u2 1 else fj_297_88 k24 g t0 u2 0
theorem dj_297_74 (L : Nat) {k24 : (am_G × Int32 × Int32) → Option ((Unit ⊕ Nat) × am_G)} (hk24 : ∀ (x : am_G × Int32 × Int32) (R : (Unit ⊕ Nat) × am_G), k24 x = some R → ai_ev ap_P 297 (24, [some (.ref 33), some (.int x.2.1), some (.int x.2.2)], [], (v0 L, x.1)) (oz_r ez_v R.1) (v0 L, R.2)) (g : am_G) (u2 : Int32) (t0 : Int32) (w1 : Option Value) (R : (Unit ⊕ Nat) × am_G) : fj_297_74 k24 g u2 t0 = some R → ai_ev ap_P 297 (74, [some (.ref 33), w1, some (.int u2)], [.int t0], (v0 L, g)) (oz_r ez_v R.1) (v0 L, R.2) := by
  unfold fj_297_74
  refine ev_op 3 (as := [.int u2]) (pc := 80) (Lc := [some (.ref 33), some (.int t0), some (.int u2)]) (st := [.ref 33]) (h1 := (v0 L, g)) (e := ez_i) rfl (dm_185 L g u2) (fun y1 => ?_)
  refine ev_if 0 (p := y1 = 0) (a := 87) (b := 83) (T := ([some (.ref 33), some (.int t0), some (.int u2)], [.ref 33], (v0 L, g))) rfl ?_ ?_
  · refine ev_jm 0 (t := (88, [some (.ref 33), some (.int t0), some (.int u2)], [.int 1, .ref 33], (v0 L, g))) rfl ?_
    exact dj_297_88 L hk24 g t0 u2 1 _
  · refine ev_jm 1 (t := (88, [some (.ref 33), some (.int t0), some (.int u2)], [.int 0, .ref 33], (v0 L, g))) rfl ?_
    exact dj_297_88 L hk24 g t0 u2 0 _
noncomputable def fj_297_58 (k24 : (am_G × Int32 × Int32) → Option ((Unit ⊕ Nat) × am_G)) (g : am_G) (u1 : Int32) (u2 : Int32) (t1 : Int32) : Option ((Unit ⊕ Nat) × am_G) := lo_t (fm_238 g t1) fun y1 g2 => if u2 = 93 then fj_297_74 k24 g2 u2 (u1 + 1) else fj_297_74 k24 g2 u2 0
theorem dj_297_58 (L : Nat) {k24 : (am_G × Int32 × Int32) → Option ((Unit ⊕ Nat) × am_G)} (hk24 : ∀ (x : am_G × Int32 × Int32) (R : (Unit ⊕ Nat) × am_G), k24 x = some R → ai_ev ap_P 297 (24, [some (.ref 33), some (.int x.2.1), some (.int x.2.2)], [], (v0 L, x.1)) (oz_r ez_v R.1) (v0 L, R.2)) (g : am_G) (u1 : Int32) (u2 : Int32) (t1 : Int32) (R : (Unit ⊕ Nat) × am_G) : fj_297_58 k24 g u1 u2 t1 = some R → ai_ev ap_P 297 (58, [some (.ref 33), some (.int u1), some (.int u2)], [.int t1, .ref 33], (v0 L, g)) (oz_r ez_v R.1) (v0 L, R.2) := by
  unfold fj_297_58
  refine ev_ot 0 (as := [.ref 33, .int t1]) (pc := 61) (Lc := [some (.ref 33), some (.int u1), some (.int u2)]) (st := []) (V := v0 L) (g1 := g) (e := ez_v) rfl (dm_238 L g t1) (fun _ => rfl) (fun y1 g2 => ?_)
  refine ev_in 2 (p := u2 = 93) (a := 73) (b := 67) (T := ([some (.ref 33), some (.int u1), some (.int u2)], [], (v0 L, g2))) rfl ?_ ?_
  · refine ev_jm 3 (t := (74, [some (.ref 33), some (.int u1), some (.int u2)], [.int (u1 + 1)], (v0 L, g2))) rfl ?_
    exact dj_297_74 L hk24 g2 u2 (u1 + 1) (some (.int u1)) _
  · refine ev_jm 0 (t := (74, [some (.ref 33), some (.int u1), some (.int u2)], [.int 0], (v0 L, g2))) rfl ?_
    exact dj_297_74 L hk24 g2 u2 0 (some (.int u1)) _
noncomputable def fj_297_53 (k24 : (am_G × Int32 × Int32) → Option ((Unit ⊕ Nat) × am_G)) (g : am_G) (u1 : Int32) (u2 : Int32) : Option ((Unit ⊕ Nat) × am_G) := fj_297_58 k24 g u1 u2 1
theorem dj_297_53 (L : Nat) {k24 : (am_G × Int32 × Int32) → Option ((Unit ⊕ Nat) × am_G)} (hk24 : ∀ (x : am_G × Int32 × Int32) (R : (Unit ⊕ Nat) × am_G), k24 x = some R → ai_ev ap_P 297 (24, [some (.ref 33), some (.int x.2.1), some (.int x.2.2)], [], (v0 L, x.1)) (oz_r ez_v R.1) (v0 L, R.2)) (g : am_G) (u1 : Int32) (u2 : Int32) (R : (Unit ⊕ Nat) × am_G) : fj_297_53 k24 g u1 u2 = some R → ai_ev ap_P 297 (53, [some (.ref 33), some (.int u1), some (.int u2)], [.ref 33], (v0 L, g)) (oz_r ez_v R.1) (v0 L, R.2) := by
  unfold fj_297_53
  refine ev_jm 1 (t := (58, [some (.ref 33), some (.int u1), some (.int u2)], [.int 1, .ref 33], (v0 L, g))) rfl ?_
  exact dj_297_58 L hk24 g u1 u2 1 _
noncomputable def fb_297_24 (k24 : (am_G × Int32 × Int32) → Option ((Unit ⊕ Nat) × am_G)) (g : am_G) (u1 : Int32) (u2 : Int32) : Option ((Unit ⊕ Nat) × am_G) := if u2 = 60 then some (.inl (), g) else if u2 = 38 then some (.inl (), g) else if u2 = (-1) then some (.inl (), g) else if u2 = 62 then if (2 : Int32) ≤ u1 then fj_297_58 k24 g u1 u2 0 else fj_297_53 k24 g u1 u2 else fj_297_53 k24 g u1 u2
theorem db_297_24 (L : Nat) {k24 : (am_G × Int32 × Int32) → Option ((Unit ⊕ Nat) × am_G)} (hk24 : ∀ (x : am_G × Int32 × Int32) (R : (Unit ⊕ Nat) × am_G), k24 x = some R → ai_ev ap_P 297 (24, [some (.ref 33), some (.int x.2.1), some (.int x.2.2)], [], (v0 L, x.1)) (oz_r ez_v R.1) (v0 L, R.2)) (g : am_G) (u1 : Int32) (u2 : Int32) (R : (Unit ⊕ Nat) × am_G) : fb_297_24 k24 g u1 u2 = some R → ai_ev ap_P 297 (24, [some (.ref 33), some (.int u1), some (.int u2)], [], (v0 L, g)) (oz_r ez_v R.1) (v0 L, R.2) := by
  unfold fb_297_24
  refine ev_if 2 (p := u2 = 60) (a := 114) (b := 30) (T := ([some (.ref 33), some (.int u1), some (.int u2)], [], (v0 L, g))) rfl ?_ ?_
  · exact fun hR => by cases hR; exact ev_rt 0 rfl
  · refine ev_if 2 (p := u2 = 38) (a := 114) (b := 36) (T := ([some (.ref 33), some (.int u1), some (.int u2)], [], (v0 L, g))) rfl ?_ ?_
    · exact fun hR => by cases hR; exact ev_rt 0 rfl
    · refine ev_if 2 (p := u2 = (-1)) (a := 114) (b := 41) (T := ([some (.ref 33), some (.int u1), some (.int u2)], [], (v0 L, g))) rfl ?_ ?_
      · exact fun hR => by cases hR; exact ev_rt 0 rfl
      · refine ev_in 3 (p := u2 = 62) (a := 53) (b := 48) (T := ([some (.ref 33), some (.int u1), some (.int u2)], [.ref 33], (v0 L, g))) rfl ?_ ?_
        · refine ev_if 2 (p := (2 : Int32) ≤ u1) (a := 57) (b := 53) (T := ([some (.ref 33), some (.int u1), some (.int u2)], [.ref 33], (v0 L, g))) rfl ?_ ?_
          · refine ev_jm 0 (t := (58, [some (.ref 33), some (.int u1), some (.int u2)], [.int 0, .ref 33], (v0 L, g))) rfl ?_
            exact dj_297_58 L hk24 g u1 u2 0 _
          · exact dj_297_53 L hk24 g u1 u2 _
        · exact dj_297_53 L hk24 g u1 u2 _
noncomputable def fh_297_24  (x : am_G × Int32 × Int32) : Option ((Unit ⊕ Nat) × am_G) := lo_it (fun k x => fb_297_24 k x.1 x.2.1 x.2.2) nf_F x
theorem dh_297_24 (L : Nat)   (x : am_G × Int32 × Int32) (R : (Unit ⊕ Nat) × am_G) : fh_297_24  x = some R → ai_ev ap_P 297 (24, [some (.ref 33), some (.int x.2.1), some (.int x.2.2)], [], (v0 L, x.1)) (oz_r ez_v R.1) (v0 L, R.2) :=
  fun hr => lo_ev (E := fun x R => ai_ev ap_P 297 (24, [some (.ref 33), some (.int x.2.1), some (.int x.2.2)], [], (v0 L, x.1)) (oz_r ez_v R.1) (v0 L, R.2)) (fun k hk x R hr => db_297_24 L hk x.1 x.2.1 x.2.2  R hr) nf_F x R hr
noncomputable def fj_297_21  (g : am_G) (u1 : Int32) (u2 : Int32) (t1 : Int32) : Option ((Unit ⊕ Nat) × am_G) := lo_t (fm_238 g t1) fun y1 g2 => fh_297_24 (g2, u1, u2)
theorem dj_297_21 (L : Nat)   (g : am_G) (u1 : Int32) (u2 : Int32) (t1 : Int32) (R : (Unit ⊕ Nat) × am_G) : fj_297_21  g u1 u2 t1 = some R → ai_ev ap_P 297 (21, [some (.ref 33), some (.int u1), some (.int u2)], [.int t1, .ref 33], (v0 L, g)) (oz_r ez_v R.1) (v0 L, R.2) := by
  unfold fj_297_21
  refine ev_ot 0 (as := [.ref 33, .int t1]) (pc := 24) (Lc := [some (.ref 33), some (.int u1), some (.int u2)]) (st := []) (V := v0 L) (g1 := g) (e := ez_v) rfl (dm_238 L g t1) (fun _ => rfl) (fun y1 g2 => ?_)
  exact dh_297_24 L (g2, u1, u2) _
/-- DeclaredMarkup$Processor.characters()V -/
noncomputable def fm_297 (g : am_G)  : Option ((Unit ⊕ Nat) × am_G) := lo_p (fm_176 g ) fun y1 => if y1 = (-1) then fj_297_21 g 0 y1 0 else fj_297_21 g 0 y1 1
theorem dm_297 (L : Nat) (g : am_G)  (R : (Unit ⊕ Nat) × am_G) : fm_297 g  = some R → ai_ev ap_P 297 (ai_e0 ap_P 297 [.ref 33] (v0 L, g)) (oz_r ez_v R.1) (v0 L, R.2) := by
  show _ → ai_ev ap_P 297 (0, [some (.ref 33), none, none], [], (v0 L, g)) _ _
  unfold fm_297
  refine ev_op 4 (as := [.ref 39]) (pc := 9) (Lc := [some (.ref 33), some (.int 0), none]) (st := []) (h1 := (v0 L, g)) (e := ez_i) rfl (dm_176 L g ) (fun y1 => ?_)
  refine ev_if 4 (p := y1 = (-1)) (a := 20) (b := 16) (T := ([some (.ref 33), some (.int 0), some (.int y1)], [.ref 33], (v0 L, g))) rfl ?_ ?_
  · refine ev_jm 0 (t := (21, [some (.ref 33), some (.int 0), some (.int y1)], [.int 0, .ref 33], (v0 L, g))) rfl ?_
    exact dj_297_21 L g 0 y1 0 _
  · refine ev_jm 1 (t := (21, [some (.ref 33), some (.int 0), some (.int y1)], [.int 1, .ref 33], (v0 L, g))) rfl ?_
    exact dj_297_21 L g 0 y1 1 _
noncomputable def fj_296_90  (g : am_G) (u2 : Int32) (t1 : Int32) : Option ((Unit ⊕ Nat) × am_G) := lo_p (fm_295 g t1) fun g2 => if u2 = (-1) then some (.inl (), g2) else lo_p (fm_269 g2 u2) fun g4 => some (.inl (), g4)
theorem dj_296_90 (L : Nat)   (g : am_G) (u2 : Int32) (t1 : Int32) (w1 : Option Value) (R : (Unit ⊕ Nat) × am_G) : fj_296_90  g u2 t1 = some R → ai_ev ap_P 296 (90, [some (.ref 33), w1, some (.int u2)], [.int t1, .ref 33], (v0 L, g)) (oz_r ez_v R.1) (v0 L, R.2) := by
  unfold fj_296_90
  refine ev_ov0 0 (as := [.ref 33, .int t1]) (pc := 93) (Lc := [some (.ref 33), none, some (.int u2)]) (st := []) (V := v0 L) (g1 := g) rfl (dm_295 L g t1) (fun g2 => ?_)
  refine ev_if 2 (p := u2 = (-1)) (a := 103) (b := 98) (T := ([some (.ref 33), none, some (.int u2)], [], (v0 L, g2))) rfl ?_ ?_
  · exact fun hR => by cases hR; exact ev_rt 1 rfl
  · refine ev_ov0 2 (as := [.ref 33, .int u2]) (pc := 103) (Lc := [some (.ref 33), none, some (.int u2)]) (st := []) (V := v0 L) (g1 := g2) rfl (dm_269 L g2 u2) (fun g4 => ?_)
    exact fun hR => by cases hR; exact ev_rt 1 rfl
noncomputable def fj_296_68  (g : am_G) (u1 : Int32) : Option ((Unit ⊕ Nat) × am_G) := if u1 = 38 then lo_t (fm_274 g ) fun y7 g8 => if y7 = (-1) then fj_296_90 g8 y7 2 else fj_296_90 g8 y7 1 else if u1 = 60 then lo_p (fm_177 g ) fun g4 => lo_t (fm_298 g4 ) fun y5 g6 => some (.inl (), g6) else lo_t (fm_297 g ) fun y1 g2 => some (.inl (), g2)
theorem dj_296_68 (L : Nat)   (g : am_G) (u1 : Int32) (w2 : Option Value) (R : (Unit ⊕ Nat) × am_G) : fj_296_68  g u1 = some R → ai_ev ap_P 296 (68, [some (.ref 33), some (.int u1), w2], [], (v0 L, g)) (oz_r ez_v R.1) (v0 L, R.2) := by
  unfold fj_296_68
  refine ev_in 2 (p := u1 = 38) (a := 106) (b := 74) (T := ([some (.ref 33), some (.int u1), none], [], (v0 L, g))) rfl ?_ ?_
  · refine ev_ot 1 (as := [.ref 33]) (pc := 78) (Lc := [some (.ref 33), some (.int u1), none]) (st := []) (V := v0 L) (g1 := g) (e := ez_i) rfl (dm_274 L g ) (fun _ => rfl) (fun y7 g8 => ?_)
    refine ev_in 4 (p := y7 = (-1)) (a := 89) (b := 85) (T := ([some (.ref 33), some (.int u1), some (.int y7)], [.ref 33], (v0 L, g8))) rfl ?_ ?_
    · refine ev_jm 1 (t := (90, [some (.ref 33), some (.int u1), some (.int y7)], [.int 2, .ref 33], (v0 L, g8))) rfl ?_
      exact dj_296_90 L g8 y7 2 (some (.int u1)) _
    · refine ev_jm 0 (t := (90, [some (.ref 33), some (.int u1), some (.int y7)], [.int 1, .ref 33], (v0 L, g8))) rfl ?_
      exact dj_296_90 L g8 y7 1 (some (.int u1)) _
  · refine ev_in 2 (p := u1 = 60) (a := 126) (b := 112) (T := ([some (.ref 33), some (.int u1), none], [], (v0 L, g))) rfl ?_ ?_
    · refine ev_ov0 2 (as := [.ref 39]) (pc := 119) (Lc := [some (.ref 33), some (.int u1), none]) (st := []) (V := v0 L) (g1 := g) rfl (dm_177 L g ) (fun g4 => ?_)
      refine ev_ot 1 (as := [.ref 33]) (pc := 123) (Lc := [some (.ref 33), some (.int u1), none]) (st := []) (V := v0 L) (g1 := g4) (e := ez_v) rfl (dm_298 L g4 ) (fun _ => rfl) (fun y5 g6 => ?_)
      exact fun hR => by cases hR; exact ev_rt 1 rfl
    · refine ev_ot 1 (as := [.ref 33]) (pc := 130) (Lc := [some (.ref 33), some (.int u1), none]) (st := []) (V := v0 L) (g1 := g) (e := ez_v) rfl (dm_297 L g ) (fun _ => rfl) (fun y1 g2 => ?_)
      exact fun hR => by cases hR; exact ev_rt 0 rfl
/-- DeclaredMarkup$Processor.inside()V -/
noncomputable def fm_296 (g : am_G)  : Option ((Unit ⊕ Nat) × am_G) := lo_p (fm_176 g ) fun y1 => if y1 = (-1) then if (am_i g 39 4) ≤ 0 then fj_296_68 g y1 else lo_g (ai_in ((am_i g 33 24) - 1) 40) (if (am_i g 877 (((am_i g 33 24) - 1)).toNatClampNeg) = (am_i g 39 4) then lo_p (fm_178 g ) fun y6 => lo_i (fm_236 g 13 y6) fun y8 g9 => lo_g (Nat.ble 1008 y8 && Nat.blt y8 (am_sz g9)) (some (.inr y8, g9)) else lo_p (fm_180 g ) fun g5 => some (.inl (), g5)) else fj_296_68 g y1
theorem dm_296 (L : Nat) (g : am_G)  (R : (Unit ⊕ Nat) × am_G) : fm_296 g  = some R → ai_ev ap_P 296 (ai_e0 ap_P 296 [.ref 33] (v0 L, g)) (oz_r ez_v R.1) (v0 L, R.2) := by
  show _ → ai_ev ap_P 296 (0, [some (.ref 33), none, none], [], (v0 L, g)) _ _
  unfold fm_296
  refine ev_op 2 (as := [.ref 39]) (pc := 7) (Lc := [some (.ref 33), none, none]) (st := []) (h1 := (v0 L, g)) (e := ez_i) rfl (dm_176 L g ) (fun y1 => ?_)
  refine ev_in 3 (p := y1 = (-1)) (a := 68) (b := 13) (T := ([some (.ref 33), some (.int y1), none], [], (v0 L, g))) rfl ?_ ?_
  · refine ev_if 3 (p := (am_i g 39 4) ≤ 0) (a := 68) (b := 23) (T := ([some (.ref 33), some (.int y1), none], [], (v0 L, g))) rfl ?_ ?_
    · exact dj_296_68 L g y1 none _
    · refine ev_gd (c := ai_in ((am_i g 33 24) - 1) 40) (fun hc3 => ?_)
      refine ev_jm 6 (t := (34, [some (.ref 33), some (.int y1), none], [.int (am_i g 877 (((am_i g 33 24) - 1)).toNatClampNeg)], (v0 L, g))) (ai_gd (c := ai_in ((am_i g 33 24) - 1) 40) rfl hc3) ?_
      refine ev_in 3 (p := (am_i g 877 (((am_i g 33 24) - 1)).toNatClampNeg) = (am_i g 39 4)) (a := 58) (b := 44) (T := ([some (.ref 33), some (.int y1), none], [], (v0 L, g))) rfl ?_ ?_
      · refine ev_op 4 (as := [.ref 39]) (pc := 54) (Lc := [some (.ref 33), some (.int y1), none]) (st := [.int 13, .ref 33]) (h1 := (v0 L, g)) (e := ez_i) rfl (dm_178 L g ) (fun y6 => ?_)
        refine ev_oi 0 (as := [.ref 33, .int 13, .int y6]) (pc := 57) (Lc := [some (.ref 33), some (.int y1), none]) (st := []) (V := v0 L) (g1 := g) (e := ez_a) rfl (dm_236 L g 13 y6) (fun y8 g9 => ?_)
        exact ev_at 0 (a := y8) (g1 := g9) rfl
      · refine ev_ov0 2 (as := [.ref 39]) (pc := 65) (Lc := [some (.ref 33), some (.int y1), none]) (st := []) (V := v0 L) (g1 := g) rfl (dm_180 L g ) (fun g5 => ?_)
        exact fun hR => by cases hR; exact ev_rt 1 rfl
  · exact dj_296_68 L g y1 none _
noncomputable def fb_203_20 (g : am_G) (k20 : (Int32 × Int32 × Int32 × Int32 × Int32) → Option (Int32)) (u1 : Int32) (u2 : Int32) (u3 : Int32) (u4 : Int32) (u5 : Int32) : Option (Int32) := if u2 ≤ u5 then some (vp_nar .boolean u4) else if u4 = 0 then some (vp_nar .boolean u4) else lo_g (ai_in (u1 + u5) 8000) (lo_g (ai_in u3 200) (lo_g (ai_in ((am_i g 869 u3.toNatClampNeg) + u5) 8000) (if (am_i g 868 ((u1 + u5)).toNatClampNeg) = (am_i g 868 (((am_i g 869 u3.toNatClampNeg) + u5)).toNatClampNeg) then k20 (u1, u2, u3, 1, (u5 + 1)) else k20 (u1, u2, u3, 0, (u5 + 1)))))
theorem db_203_20 (L : Nat) (g : am_G) {k20 : (Int32 × Int32 × Int32 × Int32 × Int32) → Option (Int32)} (hk20 : ∀ (x : Int32 × Int32 × Int32 × Int32 × Int32) (R : Int32), k20 x = some R → ai_ev ap_P 203 (20, [some (.ref 867), some (.int x.1), some (.int x.2.1), some (.int x.2.2.1), some (.int x.2.2.2.1), some (.int x.2.2.2.2)], [], (v0 L, g)) (.inl (ez_i R)) (v0 L, g)) (u1 : Int32) (u2 : Int32) (u3 : Int32) (u4 : Int32) (u5 : Int32) (R : Int32) : fb_203_20 g k20 u1 u2 u3 u4 u5 = some R → ai_ev ap_P 203 (20, [some (.ref 867), some (.int u1), some (.int u2), some (.int u3), some (.int u4), some (.int u5)], [], (v0 L, g)) (.inl (ez_i R)) (v0 L, g) := by
  unfold fb_203_20
  refine ev_if 2 (p := u2 ≤ u5) (a := 70) (b := 26) (T := ([some (.ref 867), some (.int u1), some (.int u2), some (.int u3), some (.int u4), some (.int u5)], [], (v0 L, g))) rfl ?_ ?_
  · exact fun hR => by cases hR; exact ev_rt 1 rfl
  · refine ev_if 1 (p := u4 = 0) (a := 70) (b := 31) (T := ([some (.ref 867), some (.int u1), some (.int u2), some (.int u3), some (.int u4), some (.int u5)], [], (v0 L, g))) rfl ?_ ?_
    · exact fun hR => by cases hR; exact ev_rt 1 rfl
    · refine ev_gd (c := ai_in (u1 + u5) 8000) (fun hc1 => ?_)
      refine ev_jm 5 (t := (40, [some (.ref 867), some (.int u1), some (.int u2), some (.int u3), some (.int u4), some (.int u5)], [.int (am_i g 868 ((u1 + u5)).toNatClampNeg)], (v0 L, g))) (ai_gd (c := ai_in (u1 + u5) 8000) rfl hc1) ?_
      refine ev_gd (c := ai_in u3 200) (fun hc2 => ?_)
      refine ev_jm 5 (t := (50, [some (.ref 867), some (.int u1), some (.int u2), some (.int u3), some (.int u4), some (.int u5)], [.int (am_i g 869 u3.toNatClampNeg), .ref 868, .int (am_i g 868 ((u1 + u5)).toNatClampNeg)], (v0 L, g))) (ai_gd (c := ai_in u3 200) rfl hc2) ?_
      refine ev_gd (c := ai_in ((am_i g 869 u3.toNatClampNeg) + u5) 8000) (fun hc3 => ?_)
      refine ev_jm 2 (t := (54, [some (.ref 867), some (.int u1), some (.int u2), some (.int u3), some (.int u4), some (.int u5)], [.int (am_i g 868 (((am_i g 869 u3.toNatClampNeg) + u5)).toNatClampNeg), .int (am_i g 868 ((u1 + u5)).toNatClampNeg)], (v0 L, g))) (ai_gd (c := ai_in ((am_i g 869 u3.toNatClampNeg) + u5) 8000) rfl hc3) ?_
      refine ev_in 0 (p := (am_i g 868 ((u1 + u5)).toNatClampNeg) = (am_i g 868 (((am_i g 869 u3.toNatClampNeg) + u5)).toNatClampNeg)) (a := 61) (b := 57) (T := ([some (.ref 867), some (.int u1), some (.int u2), some (.int u3), some (.int u4), some (.int u5)], [], (v0 L, g))) rfl ?_ ?_
      · refine ev_jm 4 (t := (20, [some (.ref 867), some (.int u1), some (.int u2), some (.int u3), some (.int 1), some (.int (u5 + 1))], [], (v0 L, g))) rfl ?_
        exact hk20 (u1, u2, u3, 1, (u5 + 1)) _
      · refine ev_jm 3 (t := (20, [some (.ref 867), some (.int u1), some (.int u2), some (.int u3), some (.int 0), some (.int (u5 + 1))], [], (v0 L, g))) rfl ?_
        exact hk20 (u1, u2, u3, 0, (u5 + 1)) _
noncomputable def fh_203_20 (g : am_G)  (x : Int32 × Int32 × Int32 × Int32 × Int32) : Option (Int32) := lo_it (fun k x => fb_203_20 g k x.1 x.2.1 x.2.2.1 x.2.2.2.1 x.2.2.2.2) nf_F x
theorem dh_203_20 (L : Nat) (g : am_G)   (x : Int32 × Int32 × Int32 × Int32 × Int32) (R : Int32) : fh_203_20 g  x = some R → ai_ev ap_P 203 (20, [some (.ref 867), some (.int x.1), some (.int x.2.1), some (.int x.2.2.1), some (.int x.2.2.2.1), some (.int x.2.2.2.2)], [], (v0 L, g)) (.inl (ez_i R)) (v0 L, g) :=
  fun hr => lo_ev (E := fun x R => ai_ev ap_P 203 (20, [some (.ref 867), some (.int x.1), some (.int x.2.1), some (.int x.2.2.1), some (.int x.2.2.2.1), some (.int x.2.2.2.2)], [], (v0 L, g)) (.inl (ez_i R)) (v0 L, g)) (fun k hk x R hr => db_203_20 L g hk x.1 x.2.1 x.2.2.1 x.2.2.2.1 x.2.2.2.2  R hr) nf_F x R hr
/-- DeclaredMarkup$Marks.isLike(III)Z -/
noncomputable def fm_203 (g : am_G) (u1 : Int32) (u2 : Int32) (u3 : Int32) : Option (Int32) := lo_g (ai_in u3 200) (if (am_i g 870 u3.toNatClampNeg) = u2 then fh_203_20 g (u1, u2, u3, 1, 0) else fh_203_20 g (u1, u2, u3, 0, 0))
theorem dm_203 (L : Nat) (g : am_G) (u1 : Int32) (u2 : Int32) (u3 : Int32) (R : Int32) : fm_203 g u1 u2 u3 = some R → ai_ev ap_P 203 (ai_e0 ap_P 203 [.ref 867, .int u1, .int u2, .int u3] (v0 L, g)) (.inl (ez_i R)) (v0 L, g) := by
  show _ → ai_ev ap_P 203 (0, [some (.ref 867), some (.int u1), some (.int u2), some (.int u3), none, none], [], (v0 L, g)) _ _
  unfold fm_203
  refine ev_gd (c := ai_in u3 200) (fun hc1 => ?_)
  refine ev_jm 3 (t := (6, [some (.ref 867), some (.int u1), some (.int u2), some (.int u3), none, none], [.int (am_i g 870 u3.toNatClampNeg)], (v0 L, g))) (ai_gd (c := ai_in u3 200) rfl hc1) ?_
  refine ev_in 1 (p := (am_i g 870 u3.toNatClampNeg) = u2) (a := 14) (b := 10) (T := ([some (.ref 867), some (.int u1), some (.int u2), some (.int u3), none, none], [], (v0 L, g))) rfl ?_ ?_
  · refine ev_jm 4 (t := (20, [some (.ref 867), some (.int u1), some (.int u2), some (.int u3), some (.int 1), some (.int 0)], [], (v0 L, g))) rfl ?_
    exact dh_203_20 L g (u1, u2, u3, 1, 0) _
  · refine ev_jm 3 (t := (20, [some (.ref 867), some (.int u1), some (.int u2), some (.int u3), some (.int 0), some (.int 0)], [], (v0 L, g))) rfl ?_
    exact dh_203_20 L g (u1, u2, u3, 0, 0) _
noncomputable def fb_205_14 (g : am_G) (k4 : (Int32 × Int32) → Option (Int32)) (k14 : (Int32 × Int32 × Int32) → Option (Int32)) (u1 : Int32) (u2 : Int32) (u3 : Int32) : Option (Int32) := if u2 ≤ u3 then k4 (u1, (u2 + 1)) else if u1 = 0 then lo_g (ai_in u2 200) (if (am_i g 871 u2.toNatClampNeg) = 0 then k14 (0, u2, (u3 + 1)) else lo_g (ai_in u3 200) (if (am_i g 871 u3.toNatClampNeg) = 0 then k14 (0, u2, (u3 + 1)) else lo_p (fm_203 g (am_i g 869 u2.toNatClampNeg) (am_i g 870 u2.toNatClampNeg) u3) fun y3 => if y3 = 0 then k14 (0, u2, (u3 + 1)) else k14 (1, u2, (u3 + 1)))) else k14 (1, u2, (u3 + 1))
theorem db_205_14 (L : Nat) (g : am_G) {k4 : (Int32 × Int32) → Option (Int32)} {k14 : (Int32 × Int32 × Int32) → Option (Int32)} (hk4 : ∀ (x : Int32 × Int32) (w3 : Option Value) (R : Int32), k4 x = some R → ai_ev ap_P 205 (4, [some (.ref 867), some (.int x.1), some (.int x.2), w3], [], (v0 L, g)) (.inl (ez_i R)) (v0 L, g)) (hk14 : ∀ (x : Int32 × Int32 × Int32) (R : Int32), k14 x = some R → ai_ev ap_P 205 (14, [some (.ref 867), some (.int x.1), some (.int x.2.1), some (.int x.2.2)], [], (v0 L, g)) (.inl (ez_i R)) (v0 L, g)) (u1 : Int32) (u2 : Int32) (u3 : Int32) (R : Int32) : fb_205_14 g k4 k14 u1 u2 u3 = some R → ai_ev ap_P 205 (14, [some (.ref 867), some (.int u1), some (.int u2), some (.int u3)], [], (v0 L, g)) (.inl (ez_i R)) (v0 L, g) := by
  unfold fb_205_14
  refine ev_if 2 (p := u2 ≤ u3) (a := 73) (b := 19) (T := ([some (.ref 867), some (.int u1), some (.int u2), some (.int u3)], [], (v0 L, g))) rfl ?_ ?_
  · refine ev_jm 1 (t := (4, [some (.ref 867), some (.int u1), some (.int (u2 + 1)), some (.int u3)], [], (v0 L, g))) rfl ?_
    exact hk4 (u1, (u2 + 1)) (some (.int u3)) _
  · refine ev_in 1 (p := u1 = 0) (a := 61) (b := 23) (T := ([some (.ref 867), some (.int u1), some (.int u2), some (.int u3)], [], (v0 L, g))) rfl ?_ ?_
    · refine ev_gd (c := ai_in u2 200) (fun hc1 => ?_)
      refine ev_jm 3 (t := (29, [some (.ref 867), some (.int u1), some (.int u2), some (.int u3)], [.int (am_i g 871 u2.toNatClampNeg)], (v0 L, g))) (ai_gd (c := ai_in u2 200) rfl hc1) ?_
      refine ev_if 0 (p := (am_i g 871 u2.toNatClampNeg) = 0) (a := 65) (b := 32) (T := ([some (.ref 867), some (.int u1), some (.int u2), some (.int u3)], [], (v0 L, g))) rfl ?_ ?_
      · refine ev_jm 3 (t := (14, [some (.ref 867), some (.int 0), some (.int u2), some (.int (u3 + 1))], [], (v0 L, g))) rfl ?_
        exact hk14 (0, u2, (u3 + 1)) _
      · refine ev_gd (c := ai_in u3 200) (fun hc2 => ?_)
        refine ev_jm 3 (t := (38, [some (.ref 867), some (.int u1), some (.int u2), some (.int u3)], [.int (am_i g 871 u3.toNatClampNeg)], (v0 L, g))) (ai_gd (c := ai_in u3 200) rfl hc2) ?_
        refine ev_if 0 (p := (am_i g 871 u3.toNatClampNeg) = 0) (a := 65) (b := 41) (T := ([some (.ref 867), some (.int u1), some (.int u2), some (.int u3)], [], (v0 L, g))) rfl ?_ ?_
        · refine ev_jm 3 (t := (14, [some (.ref 867), some (.int 0), some (.int u2), some (.int (u3 + 1))], [], (v0 L, g))) rfl ?_
          exact hk14 (0, u2, (u3 + 1)) _
        · refine ev_jm 4 (t := (48, [some (.ref 867), some (.int u1), some (.int u2), some (.int u3)], [.int (am_i g 869 u2.toNatClampNeg), .ref 867], (v0 L, g))) (ai_gd (c := ai_in u2 200) rfl hc1) ?_
          refine ev_jm 3 (t := (54, [some (.ref 867), some (.int u1), some (.int u2), some (.int u3)], [.int (am_i g 870 u2.toNatClampNeg), .int (am_i g 869 u2.toNatClampNeg), .ref 867], (v0 L, g))) (ai_gd (c := ai_in u2 200) rfl hc1) ?_
          refine ev_op 1 (as := [.ref 867, .int (am_i g 869 u2.toNatClampNeg), .int (am_i g 870 u2.toNatClampNeg), .int u3]) (pc := 58) (Lc := [some (.ref 867), some (.int u1), some (.int u2), some (.int u3)]) (st := []) (h1 := (v0 L, g)) (e := ez_i) rfl (dm_203 L g (am_i g 869 u2.toNatClampNeg) (am_i g 870 u2.toNatClampNeg) u3) (fun y3 => ?_)
          refine ev_if 0 (p := y3 = 0) (a := 65) (b := 61) (T := ([some (.ref 867), some (.int u1), some (.int u2), some (.int u3)], [], (v0 L, g))) rfl ?_ ?_
          · refine ev_jm 3 (t := (14, [some (.ref 867), some (.int 0), some (.int u2), some (.int (u3 + 1))], [], (v0 L, g))) rfl ?_
            exact hk14 (0, u2, (u3 + 1)) _
          · refine ev_jm 4 (t := (14, [some (.ref 867), some (.int 1), some (.int u2), some (.int (u3 + 1))], [], (v0 L, g))) rfl ?_
            exact hk14 (1, u2, (u3 + 1)) _
    · refine ev_jm 4 (t := (14, [some (.ref 867), some (.int 1), some (.int u2), some (.int (u3 + 1))], [], (v0 L, g))) rfl ?_
      exact hk14 (1, u2, (u3 + 1)) _
noncomputable def fh_205_14 (g : am_G) (k4 : (Int32 × Int32) → Option (Int32)) (x : Int32 × Int32 × Int32) : Option (Int32) := lo_it (fun k x => fb_205_14 g k4 k x.1 x.2.1 x.2.2) nf_F x
theorem dh_205_14 (L : Nat) (g : am_G) {k4 : (Int32 × Int32) → Option (Int32)} (hk4 : ∀ (x : Int32 × Int32) (w3 : Option Value) (R : Int32), k4 x = some R → ai_ev ap_P 205 (4, [some (.ref 867), some (.int x.1), some (.int x.2), w3], [], (v0 L, g)) (.inl (ez_i R)) (v0 L, g)) (x : Int32 × Int32 × Int32) (R : Int32) : fh_205_14 g k4 x = some R → ai_ev ap_P 205 (14, [some (.ref 867), some (.int x.1), some (.int x.2.1), some (.int x.2.2)], [], (v0 L, g)) (.inl (ez_i R)) (v0 L, g) :=
  fun hr => lo_ev (E := fun x R => ai_ev ap_P 205 (14, [some (.ref 867), some (.int x.1), some (.int x.2.1), some (.int x.2.2)], [], (v0 L, g)) (.inl (ez_i R)) (v0 L, g)) (fun k hk x R hr => db_205_14 L g hk4 hk x.1 x.2.1 x.2.2  R hr) nf_F x R hr
noncomputable def fb_205_4 (g : am_G) (k4 : (Int32 × Int32) → Option (Int32)) (u1 : Int32) (u2 : Int32) : Option (Int32) := if (am_i g 867 4) ≤ u2 then some (vp_nar .boolean u1) else fh_205_14 g k4 (u1, u2, 0)
theorem db_205_4 (L : Nat) (g : am_G) {k4 : (Int32 × Int32) → Option (Int32)} (hk4 : ∀ (x : Int32 × Int32) (w3 : Option Value) (R : Int32), k4 x = some R → ai_ev ap_P 205 (4, [some (.ref 867), some (.int x.1), some (.int x.2), w3], [], (v0 L, g)) (.inl (ez_i R)) (v0 L, g)) (u1 : Int32) (u2 : Int32) (w3 : Option Value) (R : Int32) : fb_205_4 g k4 u1 u2 = some R → ai_ev ap_P 205 (4, [some (.ref 867), some (.int u1), some (.int u2), w3], [], (v0 L, g)) (.inl (ez_i R)) (v0 L, g) := by
  unfold fb_205_4
  refine ev_if 3 (p := (am_i g 867 4) ≤ u2) (a := 79) (b := 12) (T := ([some (.ref 867), some (.int u1), some (.int u2), none], [], (v0 L, g))) rfl ?_ ?_
  · exact fun hR => by cases hR; exact ev_rt 1 rfl
  · refine ev_jm 1 (t := (14, [some (.ref 867), some (.int u1), some (.int u2), some (.int 0)], [], (v0 L, g))) rfl ?_
    exact dh_205_14 L g hk4 (u1, u2, 0) _
noncomputable def fh_205_4 (g : am_G)  (x : Int32 × Int32) : Option (Int32) := lo_it (fun k x => fb_205_4 g k x.1 x.2) nf_F x
theorem dh_205_4 (L : Nat) (g : am_G)   (x : Int32 × Int32) (w3 : Option Value) (R : Int32) : fh_205_4 g  x = some R → ai_ev ap_P 205 (4, [some (.ref 867), some (.int x.1), some (.int x.2), w3], [], (v0 L, g)) (.inl (ez_i R)) (v0 L, g) :=
  fun hr => lo_ev (E := fun x R => ∀ (w3 : Option Value), ai_ev ap_P 205 (4, [some (.ref 867), some (.int x.1), some (.int x.2), w3], [], (v0 L, g)) (.inl (ez_i R)) (v0 L, g)) (fun k hk x R hr => fun w3 => db_205_4 L g (fun x w3 R hr => hk x R hr w3) x.1 x.2 w3 R hr) nf_F x R hr w3
/-- DeclaredMarkup$Marks.hasTwice()Z -/
noncomputable def fm_205 (g : am_G)  : Option (Int32) := fh_205_4 g (0, 0)
theorem dm_205 (L : Nat) (g : am_G)  (R : Int32) : fm_205 g  = some R → ai_ev ap_P 205 (ai_e0 ap_P 205 [.ref 867] (v0 L, g)) (.inl (ez_i R)) (v0 L, g) := by
  show _ → ai_ev ap_P 205 (0, [some (.ref 867), none, none, none], [], (v0 L, g)) _ _
  unfold fm_205
  refine ev_jm 3 (t := (4, [some (.ref 867), some (.int 0), some (.int 0), none], [], (v0 L, g))) rfl ?_
  exact dh_205_4 L g (0, 0) none _
noncomputable def fb_204_5 (g : am_G) (k5 : (Int32 × Int32 × Int32 × Int32) → Option (Int32)) (u1 : Int32) (u2 : Int32) (u3 : Int32) (u4 : Int32) : Option (Int32) := if (am_i g 867 4) ≤ u4 then some (vp_nar .boolean u3) else if u3 = 0 then lo_g (ai_in u4 200) (if (am_i g 871 u4.toNatClampNeg) = 0 then k5 (u1, u2, 0, (u4 + 1)) else lo_p (fm_203 g u1 u2 u4) fun y2 => if y2 = 0 then k5 (u1, u2, 0, (u4 + 1)) else k5 (u1, u2, 1, (u4 + 1))) else k5 (u1, u2, 1, (u4 + 1))
theorem db_204_5 (L : Nat) (g : am_G) {k5 : (Int32 × Int32 × Int32 × Int32) → Option (Int32)} (hk5 : ∀ (x : Int32 × Int32 × Int32 × Int32) (R : Int32), k5 x = some R → ai_ev ap_P 204 (5, [some (.ref 867), some (.int x.1), some (.int x.2.1), some (.int x.2.2.1), some (.int x.2.2.2)], [], (v0 L, g)) (.inl (ez_i R)) (v0 L, g)) (u1 : Int32) (u2 : Int32) (u3 : Int32) (u4 : Int32) (R : Int32) : fb_204_5 g k5 u1 u2 u3 u4 = some R → ai_ev ap_P 204 (5, [some (.ref 867), some (.int u1), some (.int u2), some (.int u3), some (.int u4)], [], (v0 L, g)) (.inl (ez_i R)) (v0 L, g) := by
  unfold fb_204_5
  refine ev_if 3 (p := (am_i g 867 4) ≤ u4) (a := 51) (b := 14) (T := ([some (.ref 867), some (.int u1), some (.int u2), some (.int u3), some (.int u4)], [], (v0 L, g))) rfl ?_ ?_
  · exact fun hR => by cases hR; exact ev_rt 1 rfl
  · refine ev_in 1 (p := u3 = 0) (a := 39) (b := 18) (T := ([some (.ref 867), some (.int u1), some (.int u2), some (.int u3), some (.int u4)], [], (v0 L, g))) rfl ?_ ?_
    · refine ev_gd (c := ai_in u4 200) (fun hc1 => ?_)
      refine ev_jm 3 (t := (25, [some (.ref 867), some (.int u1), some (.int u2), some (.int u3), some (.int u4)], [.int (am_i g 871 u4.toNatClampNeg)], (v0 L, g))) (ai_gd (c := ai_in u4 200) rfl hc1) ?_
      refine ev_if 0 (p := (am_i g 871 u4.toNatClampNeg) = 0) (a := 43) (b := 28) (T := ([some (.ref 867), some (.int u1), some (.int u2), some (.int u3), some (.int u4)], [], (v0 L, g))) rfl ?_ ?_
      · refine ev_jm 3 (t := (5, [some (.ref 867), some (.int u1), some (.int u2), some (.int 0), some (.int (u4 + 1))], [], (v0 L, g))) rfl ?_
        exact hk5 (u1, u2, 0, (u4 + 1)) _
      · refine ev_op 4 (as := [.ref 867, .int u1, .int u2, .int u4]) (pc := 36) (Lc := [some (.ref 867), some (.int u1), some (.int u2), some (.int u3), some (.int u4)]) (st := []) (h1 := (v0 L, g)) (e := ez_i) rfl (dm_203 L g u1 u2 u4) (fun y2 => ?_)
        refine ev_if 0 (p := y2 = 0) (a := 43) (b := 39) (T := ([some (.ref 867), some (.int u1), some (.int u2), some (.int u3), some (.int u4)], [], (v0 L, g))) rfl ?_ ?_
        · refine ev_jm 3 (t := (5, [some (.ref 867), some (.int u1), some (.int u2), some (.int 0), some (.int (u4 + 1))], [], (v0 L, g))) rfl ?_
          exact hk5 (u1, u2, 0, (u4 + 1)) _
        · refine ev_jm 4 (t := (5, [some (.ref 867), some (.int u1), some (.int u2), some (.int 1), some (.int (u4 + 1))], [], (v0 L, g))) rfl ?_
          exact hk5 (u1, u2, 1, (u4 + 1)) _
    · refine ev_jm 4 (t := (5, [some (.ref 867), some (.int u1), some (.int u2), some (.int 1), some (.int (u4 + 1))], [], (v0 L, g))) rfl ?_
      exact hk5 (u1, u2, 1, (u4 + 1)) _
noncomputable def fh_204_5 (g : am_G)  (x : Int32 × Int32 × Int32 × Int32) : Option (Int32) := lo_it (fun k x => fb_204_5 g k x.1 x.2.1 x.2.2.1 x.2.2.2) nf_F x
theorem dh_204_5 (L : Nat) (g : am_G)   (x : Int32 × Int32 × Int32 × Int32) (R : Int32) : fh_204_5 g  x = some R → ai_ev ap_P 204 (5, [some (.ref 867), some (.int x.1), some (.int x.2.1), some (.int x.2.2.1), some (.int x.2.2.2)], [], (v0 L, g)) (.inl (ez_i R)) (v0 L, g) :=
  fun hr => lo_ev (E := fun x R => ai_ev ap_P 204 (5, [some (.ref 867), some (.int x.1), some (.int x.2.1), some (.int x.2.2.1), some (.int x.2.2.2)], [], (v0 L, g)) (.inl (ez_i R)) (v0 L, g)) (fun k hk x R hr => db_204_5 L g hk x.1 x.2.1 x.2.2.1 x.2.2.2  R hr) nf_F x R hr
/-- DeclaredMarkup$Marks.isKnown(II)Z -/
noncomputable def fm_204 (g : am_G) (u1 : Int32) (u2 : Int32) : Option (Int32) := fh_204_5 g (u1, u2, 0, 0)
theorem dm_204 (L : Nat) (g : am_G) (u1 : Int32) (u2 : Int32) (R : Int32) : fm_204 g u1 u2 = some R → ai_ev ap_P 204 (ai_e0 ap_P 204 [.ref 867, .int u1, .int u2] (v0 L, g)) (.inl (ez_i R)) (v0 L, g) := by
  show _ → ai_ev ap_P 204 (0, [some (.ref 867), some (.int u1), some (.int u2), none, none], [], (v0 L, g)) _ _
  unfold fm_204
  refine ev_jm 3 (t := (5, [some (.ref 867), some (.int u1), some (.int u2), some (.int 0), some (.int 0)], [], (v0 L, g))) rfl ?_
  exact dh_204_5 L g (u1, u2, 0, 0) _
noncomputable def fj_206_87 (g : am_G) (k4 : (Int32 × Int32) → Option (Int32)) (k27 : (Int32 × Int32 × Int32 × Int32) → Option (Int32)) (u1 : Int32) (u2 : Int32) (u3 : Int32) (u4 : Int32) : Option (Int32) := if u1 = 0 then lo_l (u4 + 1) fun x1 => k27 (0, u2, x1, (u4 + 1)) else lo_p (fm_204 g u3 (u4 - u3)) fun y2 => if y2 = 0 then lo_l (u4 + 1) fun x4 => k27 (0, u2, x4, (u4 + 1)) else lo_l (u4 + 1) fun x5 => k27 (1, u2, x5, (u4 + 1))
theorem dj_206_87 (L : Nat) (g : am_G) {k4 : (Int32 × Int32) → Option (Int32)} {k27 : (Int32 × Int32 × Int32 × Int32) → Option (Int32)} (hk4 : ∀ (x : Int32 × Int32) (w3 w4 : Option Value) (R : Int32), k4 x = some R → ai_ev ap_P 206 (4, [some (.ref 867), some (.int x.1), some (.int x.2), w3, w4], [], (v0 L, g)) (.inl (ez_i R)) (v0 L, g)) (hk27 : ∀ (x : Int32 × Int32 × Int32 × Int32) (R : Int32), k27 x = some R → ai_ev ap_P 206 (27, [some (.ref 867), some (.int x.1), some (.int x.2.1), some (.int x.2.2.1), some (.int x.2.2.2)], [], (v0 L, g)) (.inl (ez_i R)) (v0 L, g)) (u1 : Int32) (u2 : Int32) (u3 : Int32) (u4 : Int32) (R : Int32) : fj_206_87 g k4 k27 u1 u2 u3 u4 = some R → ai_ev ap_P 206 (87, [some (.ref 867), some (.int u1), some (.int u2), some (.int u3), some (.int u4)], [], (v0 L, g)) (.inl (ez_i R)) (v0 L, g) := by
  unfold fj_206_87
  refine ev_if 1 (p := u1 = 0) (a := 107) (b := 91) (T := ([some (.ref 867), some (.int u1), some (.int u2), some (.int u3), some (.int u4)], [], (v0 L, g))) rfl ?_ ?_
  · refine ev_jm 4 (t := (113, [some (.ref 867), some (.int 0), some (.int u2), none, some (.int u4)], [.int (u4 + 1)], (v0 L, g))) rfl ?_
    refine lo_e (S := fun (x1 : Int32) => (113, [some (.ref 867), some (.int 0), some (.int u2), none, some (.int u4)], [.int x1], (v0 L, g))) (fun x1 => ?_)
    refine ev_jm 2 (t := (27, [some (.ref 867), some (.int 0), some (.int u2), some (.int x1), some (.int (u4 + 1))], [], (v0 L, g))) rfl ?_
    exact hk27 (0, u2, x1, (u4 + 1)) _
  · refine ev_op 5 (as := [.ref 867, .int u3, .int (u4 - u3)]) (pc := 100) (Lc := [some (.ref 867), some (.int u1), some (.int u2), some (.int u3), some (.int u4)]) (st := []) (h1 := (v0 L, g)) (e := ez_i) rfl (dm_204 L g u3 (u4 - u3)) (fun y2 => ?_)
    refine ev_if 0 (p := y2 = 0) (a := 107) (b := 103) (T := ([some (.ref 867), some (.int u1), some (.int u2), some (.int u3), some (.int u4)], [], (v0 L, g))) rfl ?_ ?_
    · refine ev_jm 4 (t := (113, [some (.ref 867), some (.int 0), some (.int u2), none, some (.int u4)], [.int (u4 + 1)], (v0 L, g))) rfl ?_
      refine lo_e (S := fun (x4 : Int32) => (113, [some (.ref 867), some (.int 0), some (.int u2), none, some (.int u4)], [.int x4], (v0 L, g))) (fun x4 => ?_)
      refine ev_jm 2 (t := (27, [some (.ref 867), some (.int 0), some (.int u2), some (.int x4), some (.int (u4 + 1))], [], (v0 L, g))) rfl ?_
      exact hk27 (0, u2, x4, (u4 + 1)) _
    · refine ev_jm 5 (t := (113, [some (.ref 867), some (.int 1), some (.int u2), none, some (.int u4)], [.int (u4 + 1)], (v0 L, g))) rfl ?_
      refine lo_e (S := fun (x5 : Int32) => (113, [some (.ref 867), some (.int 1), some (.int u2), none, some (.int u4)], [.int x5], (v0 L, g))) (fun x5 => ?_)
      refine ev_jm 2 (t := (27, [some (.ref 867), some (.int 1), some (.int u2), some (.int x5), some (.int (u4 + 1))], [], (v0 L, g))) rfl ?_
      exact hk27 (1, u2, x5, (u4 + 1)) _
noncomputable def fb_206_27 (g : am_G) (k4 : (Int32 × Int32) → Option (Int32)) (k27 : (Int32 × Int32 × Int32 × Int32) → Option (Int32)) (u1 : Int32) (u2 : Int32) (u3 : Int32) (u4 : Int32) : Option (Int32) := lo_g (ai_in u2 200) (if ((am_i g 869 u2.toNatClampNeg) + (am_i g 870 u2.toNatClampNeg)) < u4 then k4 (u1, (u2 + 1)) else if (am_i g 871 u2.toNatClampNeg) = 0 then if ((am_i g 869 u2.toNatClampNeg) + (am_i g 870 u2.toNatClampNeg)) ≤ u4 then fj_206_87 g k4 k27 u1 u2 u3 u4 else lo_g (ai_in u4 8000) (if (am_i g 868 u4.toNatClampNeg) = 32 then fj_206_87 g k4 k27 u1 u2 u3 u4 else k27 (u1, u2, u3, (u4 + 1))) else k4 (u1, (u2 + 1)))
theorem db_206_27 (L : Nat) (g : am_G) {k4 : (Int32 × Int32) → Option (Int32)} {k27 : (Int32 × Int32 × Int32 × Int32) → Option (Int32)} (hk4 : ∀ (x : Int32 × Int32) (w3 w4 : Option Value) (R : Int32), k4 x = some R → ai_ev ap_P 206 (4, [some (.ref 867), some (.int x.1), some (.int x.2), w3, w4], [], (v0 L, g)) (.inl (ez_i R)) (v0 L, g)) (hk27 : ∀ (x : Int32 × Int32 × Int32 × Int32) (R : Int32), k27 x = some R → ai_ev ap_P 206 (27, [some (.ref 867), some (.int x.1), some (.int x.2.1), some (.int x.2.2.1), some (.int x.2.2.2)], [], (v0 L, g)) (.inl (ez_i R)) (v0 L, g)) (u1 : Int32) (u2 : Int32) (u3 : Int32) (u4 : Int32) (R : Int32) : fb_206_27 g k4 k27 u1 u2 u3 u4 = some R → ai_ev ap_P 206 (27, [some (.ref 867), some (.int u1), some (.int u2), some (.int u3), some (.int u4)], [], (v0 L, g)) (.inl (ez_i R)) (v0 L, g) := by
  unfold fb_206_27
  refine ev_gd (c := ai_in u2 200) (fun hc1 => ?_)
  refine ev_jm 4 (t := (35, [some (.ref 867), some (.int u1), some (.int u2), some (.int u3), some (.int u4)], [.int (am_i g 869 u2.toNatClampNeg), .int u4], (v0 L, g))) (ai_gd (c := ai_in u2 200) rfl hc1) ?_
  refine ev_jm 3 (t := (41, [some (.ref 867), some (.int u1), some (.int u2), some (.int u3), some (.int u4)], [.int (am_i g 870 u2.toNatClampNeg), .int (am_i g 869 u2.toNatClampNeg), .int u4], (v0 L, g))) (ai_gd (c := ai_in u2 200) rfl hc1) ?_
  refine ev_if 1 (p := ((am_i g 869 u2.toNatClampNeg) + (am_i g 870 u2.toNatClampNeg)) < u4) (a := 120) (b := 45) (T := ([some (.ref 867), some (.int u1), some (.int u2), some (.int u3), some (.int u4)], [], (v0 L, g))) rfl ?_ ?_
  · refine ev_jm 1 (t := (4, [some (.ref 867), some (.int u1), some (.int (u2 + 1)), none, none], [], (v0 L, g))) rfl ?_
    exact hk4 (u1, (u2 + 1)) none none _
  · refine ev_jm 3 (t := (51, [some (.ref 867), some (.int u1), some (.int u2), some (.int u3), some (.int u4)], [.int (am_i g 871 u2.toNatClampNeg)], (v0 L, g))) (ai_gd (c := ai_in u2 200) rfl hc1) ?_
    refine ev_in 0 (p := (am_i g 871 u2.toNatClampNeg) = 0) (a := 120) (b := 54) (T := ([some (.ref 867), some (.int u1), some (.int u2), some (.int u3), some (.int u4)], [], (v0 L, g))) rfl ?_ ?_
    · refine ev_jm 4 (t := (62, [some (.ref 867), some (.int u1), some (.int u2), some (.int u3), some (.int u4)], [.int (am_i g 869 u2.toNatClampNeg), .int u4], (v0 L, g))) (ai_gd (c := ai_in u2 200) rfl hc1) ?_
      refine ev_jm 3 (t := (68, [some (.ref 867), some (.int u1), some (.int u2), some (.int u3), some (.int u4)], [.int (am_i g 870 u2.toNatClampNeg), .int (am_i g 869 u2.toNatClampNeg), .int u4], (v0 L, g))) (ai_gd (c := ai_in u2 200) rfl hc1) ?_
      refine ev_if 1 (p := ((am_i g 869 u2.toNatClampNeg) + (am_i g 870 u2.toNatClampNeg)) ≤ u4) (a := 87) (b := 72) (T := ([some (.ref 867), some (.int u1), some (.int u2), some (.int u3), some (.int u4)], [], (v0 L, g))) rfl ?_ ?_
      · exact dj_206_87 L g hk4 hk27 u1 u2 u3 u4 _
      · refine ev_gd (c := ai_in u4 8000) (fun hc2 => ?_)
        refine ev_jm 3 (t := (79, [some (.ref 867), some (.int u1), some (.int u2), some (.int u3), some (.int u4)], [.int (am_i g 868 u4.toNatClampNeg)], (v0 L, g))) (ai_gd (c := ai_in u4 8000) rfl hc2) ?_
        refine ev_if 1 (p := (am_i g 868 u4.toNatClampNeg) = 32) (a := 87) (b := 84) (T := ([some (.ref 867), some (.int u1), some (.int u2), some (.int u3), some (.int u4)], [], (v0 L, g))) rfl ?_ ?_
        · exact dj_206_87 L g hk4 hk27 u1 u2 u3 u4 _
        · refine ev_jm 2 (t := (27, [some (.ref 867), some (.int u1), some (.int u2), some (.int u3), some (.int (u4 + 1))], [], (v0 L, g))) rfl ?_
          exact hk27 (u1, u2, u3, (u4 + 1)) _
    · refine ev_jm 1 (t := (4, [some (.ref 867), some (.int u1), some (.int (u2 + 1)), none, none], [], (v0 L, g))) rfl ?_
      exact hk4 (u1, (u2 + 1)) none none _
noncomputable def fh_206_27 (g : am_G) (k4 : (Int32 × Int32) → Option (Int32)) (x : Int32 × Int32 × Int32 × Int32) : Option (Int32) := lo_it (fun k x => fb_206_27 g k4 k x.1 x.2.1 x.2.2.1 x.2.2.2) nf_F x
theorem dh_206_27 (L : Nat) (g : am_G) {k4 : (Int32 × Int32) → Option (Int32)} (hk4 : ∀ (x : Int32 × Int32) (w3 w4 : Option Value) (R : Int32), k4 x = some R → ai_ev ap_P 206 (4, [some (.ref 867), some (.int x.1), some (.int x.2), w3, w4], [], (v0 L, g)) (.inl (ez_i R)) (v0 L, g)) (x : Int32 × Int32 × Int32 × Int32) (R : Int32) : fh_206_27 g k4 x = some R → ai_ev ap_P 206 (27, [some (.ref 867), some (.int x.1), some (.int x.2.1), some (.int x.2.2.1), some (.int x.2.2.2)], [], (v0 L, g)) (.inl (ez_i R)) (v0 L, g) :=
  fun hr => lo_ev (E := fun x R => ai_ev ap_P 206 (27, [some (.ref 867), some (.int x.1), some (.int x.2.1), some (.int x.2.2.1), some (.int x.2.2.2)], [], (v0 L, g)) (.inl (ez_i R)) (v0 L, g)) (fun k hk x R hr => db_206_27 L g hk4 hk x.1 x.2.1 x.2.2.1 x.2.2.2  R hr) nf_F x R hr
noncomputable def fb_206_4 (g : am_G) (k4 : (Int32 × Int32) → Option (Int32)) (u1 : Int32) (u2 : Int32) : Option (Int32) := if (am_i g 867 4) ≤ u2 then some (vp_nar .boolean u1) else lo_g (ai_in u2 200) (lo_l (am_i g 869 u2.toNatClampNeg) fun x2 => lo_l (am_i g 869 u2.toNatClampNeg) fun x3 => fh_206_27 g k4 (u1, u2, x2, x3))
theorem db_206_4 (L : Nat) (g : am_G) {k4 : (Int32 × Int32) → Option (Int32)} (hk4 : ∀ (x : Int32 × Int32) (w3 w4 : Option Value) (R : Int32), k4 x = some R → ai_ev ap_P 206 (4, [some (.ref 867), some (.int x.1), some (.int x.2), w3, w4], [], (v0 L, g)) (.inl (ez_i R)) (v0 L, g)) (u1 : Int32) (u2 : Int32) (w3 w4 : Option Value) (R : Int32) : fb_206_4 g k4 u1 u2 = some R → ai_ev ap_P 206 (4, [some (.ref 867), some (.int u1), some (.int u2), w3, w4], [], (v0 L, g)) (.inl (ez_i R)) (v0 L, g) := by
  unfold fb_206_4
  refine ev_if 3 (p := (am_i g 867 4) ≤ u2) (a := 126) (b := 12) (T := ([some (.ref 867), some (.int u1), some (.int u2), none, none], [], (v0 L, g))) rfl ?_ ?_
  · exact fun hR => by cases hR; exact ev_rt 1 rfl
  · refine ev_gd (c := ai_in u2 200) (fun hc1 => ?_)
    refine ev_jm 3 (t := (18, [some (.ref 867), some (.int u1), some (.int u2), none, none], [.int (am_i g 869 u2.toNatClampNeg)], (v0 L, g))) (ai_gd (c := ai_in u2 200) rfl hc1) ?_
    refine lo_e (S := fun (x2 : Int32) => (18, [some (.ref 867), some (.int u1), some (.int u2), none, none], [.int x2], (v0 L, g))) (fun x2 => ?_)
    refine ev_jm 4 (t := (25, [some (.ref 867), some (.int u1), some (.int u2), some (.int x2), none], [.int (am_i g 869 u2.toNatClampNeg)], (v0 L, g))) (ai_gd (c := ai_in u2 200) rfl hc1) ?_
    refine lo_e (S := fun (x3 : Int32) => (25, [some (.ref 867), some (.int u1), some (.int u2), some (.int x2), none], [.int x3], (v0 L, g))) (fun x3 => ?_)
    refine ev_jm 0 (t := (27, [some (.ref 867), some (.int u1), some (.int u2), some (.int x2), some (.int x3)], [], (v0 L, g))) rfl ?_
    exact dh_206_27 L g hk4 (u1, u2, x2, x3) _
noncomputable def fh_206_4 (g : am_G)  (x : Int32 × Int32) : Option (Int32) := lo_it (fun k x => fb_206_4 g k x.1 x.2) nf_F x
theorem dh_206_4 (L : Nat) (g : am_G)   (x : Int32 × Int32) (w3 w4 : Option Value) (R : Int32) : fh_206_4 g  x = some R → ai_ev ap_P 206 (4, [some (.ref 867), some (.int x.1), some (.int x.2), w3, w4], [], (v0 L, g)) (.inl (ez_i R)) (v0 L, g) :=
  fun hr => lo_ev (E := fun x R => ∀ (w3 w4 : Option Value), ai_ev ap_P 206 (4, [some (.ref 867), some (.int x.1), some (.int x.2), w3, w4], [], (v0 L, g)) (.inl (ez_i R)) (v0 L, g)) (fun k hk x R hr => fun w3 w4 => db_206_4 L g (fun x w3 w4 R hr => hk x R hr w3 w4) x.1 x.2 w3 w4 R hr) nf_F x R hr w3 w4
/-- DeclaredMarkup$Marks.areKnown()Z -/
noncomputable def fm_206 (g : am_G)  : Option (Int32) := fh_206_4 g (1, 0)
theorem dm_206 (L : Nat) (g : am_G)  (R : Int32) : fm_206 g  = some R → ai_ev ap_P 206 (ai_e0 ap_P 206 [.ref 867] (v0 L, g)) (.inl (ez_i R)) (v0 L, g) := by
  show _ → ai_ev ap_P 206 (0, [some (.ref 867), none, none, none, none], [], (v0 L, g)) _ _
  unfold fm_206
  refine ev_jm 3 (t := (4, [some (.ref 867), some (.int 1), some (.int 0), none, none], [], (v0 L, g))) rfl ?_
  exact dh_206_4 L g (1, 0) none none _
noncomputable def fj_255_128  (g : am_G) : Option ((Unit ⊕ Nat) × am_G) := lo_p (fm_206 g ) fun y1 => if y1 = 0 then lo_p (fm_239 g 14) fun g4 => some (.inl (), g4) else some (.inl (), g)
theorem dj_255_128 (L : Nat)   (g : am_G) (R : (Unit ⊕ Nat) × am_G) : fj_255_128  g = some R → ai_ev ap_P 255 (128, [some (.ref 33)], [], (v0 L, g)) (oz_r ez_v R.1) (v0 L, R.2) := by
  unfold fj_255_128
  refine ev_op 2 (as := [.ref 867]) (pc := 135) (Lc := [some (.ref 33)]) (st := []) (h1 := (v0 L, g)) (e := ez_i) rfl (dm_206 L g ) (fun y1 => ?_)
  refine ev_in 0 (p := y1 = 0) (a := 144) (b := 138) (T := ([some (.ref 33)], [], (v0 L, g))) rfl ?_ ?_
  · refine ev_ov0 2 (as := [.ref 33, .int 14]) (pc := 144) (Lc := [some (.ref 33)]) (st := []) (V := v0 L) (g1 := g) rfl (dm_239 L g 14) (fun g4 => ?_)
    exact fun hR => by cases hR; exact ev_rt 0 rfl
  · exact fun hR => by cases hR; exact ev_rt 0 rfl
noncomputable def fj_255_92  (g : am_G) : Option ((Unit ⊕ Nat) × am_G) := lo_p (fm_193 g ) fun g2 => if (am_i g2 33 17) = 0 then some (.inl (), (am_si g2 33 14 1)) else lo_p (fm_205 g2 ) fun y3 => if y3 = 0 then fj_255_128 g2 else lo_p (fm_239 g2 11) fun g6 => fj_255_128 g6
theorem dj_255_92 (L : Nat)   (g : am_G) (R : (Unit ⊕ Nat) × am_G) : fj_255_92  g = some R → ai_ev ap_P 255 (92, [some (.ref 33)], [], (v0 L, g)) (oz_r ez_v R.1) (v0 L, R.2) := by
  unfold fj_255_92
  refine ev_ov0 2 (as := [.ref 872]) (pc := 99) (Lc := [some (.ref 33)]) (st := []) (V := v0 L) (g1 := g) rfl (dm_193 L g ) (fun g2 => ?_)
  refine ev_in 2 (p := (am_i g2 33 17) = 0) (a := 112) (b := 106) (T := ([some (.ref 33)], [], (v0 L, g2))) rfl ?_ ?_
  · exact fun hR => by cases hR; exact ev_rt 3 rfl
  · refine ev_op 2 (as := [.ref 867]) (pc := 119) (Lc := [some (.ref 33)]) (st := []) (h1 := (v0 L, g2)) (e := ez_i) rfl (dm_205 L g2 ) (fun y3 => ?_)
    refine ev_if 0 (p := y3 = 0) (a := 128) (b := 122) (T := ([some (.ref 33)], [], (v0 L, g2))) rfl ?_ ?_
    · exact dj_255_128 L g2 _
    · refine ev_ov0 2 (as := [.ref 33, .int 11]) (pc := 128) (Lc := [some (.ref 33)]) (st := []) (V := v0 L) (g1 := g2) rfl (dm_239 L g2 11) (fun g6 => ?_)
      exact dj_255_128 L g6 _
noncomputable def fj_255_44 (k29 : am_G → Option ((Unit ⊕ Nat) × am_G)) (g : am_G) : Option ((Unit ⊕ Nat) × am_G) := lo_p (fm_240 g (-1)) fun y1 => if y1 = 0 then lo_t (fm_244 g 60) fun y3 g4 => lo_p (fm_240 g4 33) fun y5 => if y5 = 0 then lo_t (fm_265 g4 1) fun y7 g8 => k29 g8 else lo_p (fm_177 g4 ) fun g10 => lo_t (fm_264 g10 ) fun y11 g12 => k29 g12 else fj_255_92 g
theorem dj_255_44 (L : Nat) {k29 : am_G → Option ((Unit ⊕ Nat) × am_G)} (hk29 : ∀ (x : am_G) (R : (Unit ⊕ Nat) × am_G), k29 x = some R → ai_ev ap_P 255 (29, [some (.ref 33)], [], (v0 L, x)) (oz_r ez_v R.1) (v0 L, R.2)) (g : am_G) (R : (Unit ⊕ Nat) × am_G) : fj_255_44 k29 g = some R → ai_ev ap_P 255 (44, [some (.ref 33)], [], (v0 L, g)) (oz_r ez_v R.1) (v0 L, R.2) := by
  unfold fj_255_44
  refine ev_op 2 (as := [.ref 33, .int (-1)]) (pc := 49) (Lc := [some (.ref 33)]) (st := []) (h1 := (v0 L, g)) (e := ez_i) rfl (dm_240 L g (-1)) (fun y1 => ?_)
  refine ev_if 0 (p := y1 = 0) (a := 55) (b := 52) (T := ([some (.ref 33)], [], (v0 L, g))) rfl ?_ ?_
  · refine ev_ot 2 (as := [.ref 33, .int 60]) (pc := 61) (Lc := [some (.ref 33)]) (st := []) (V := v0 L) (g1 := g) (e := ez_v) rfl (dm_244 L g 60) (fun _ => rfl) (fun y3 g4 => ?_)
    refine ev_op 2 (as := [.ref 33, .int 33]) (pc := 67) (Lc := [some (.ref 33)]) (st := []) (h1 := (v0 L, g4)) (e := ez_i) rfl (dm_240 L g4 33) (fun y5 => ?_)
    refine ev_if 0 (p := y5 = 0) (a := 84) (b := 70) (T := ([some (.ref 33)], [], (v0 L, g4))) rfl ?_ ?_
    · refine ev_ot 2 (as := [.ref 33, .int 1]) (pc := 89) (Lc := [some (.ref 33)]) (st := []) (V := v0 L) (g1 := g4) (e := ez_v) rfl (dm_265 L g4 1) (fun _ => rfl) (fun y7 g8 => ?_)
      refine ev_jm 0 (t := (29, [some (.ref 33)], [], (v0 L, g8))) rfl ?_
      exact hk29 g8 _
    · refine ev_ov0 2 (as := [.ref 39]) (pc := 77) (Lc := [some (.ref 33)]) (st := []) (V := v0 L) (g1 := g4) rfl (dm_177 L g4 ) (fun g10 => ?_)
      refine ev_ot 1 (as := [.ref 33]) (pc := 81) (Lc := [some (.ref 33)]) (st := []) (V := v0 L) (g1 := g10) (e := ez_v) rfl (dm_264 L g10 ) (fun _ => rfl) (fun y11 g12 => ?_)
      refine ev_jm 0 (t := (29, [some (.ref 33)], [], (v0 L, g12))) rfl ?_
      exact hk29 g12 _
  · refine ev_jm 0 (t := (92, [some (.ref 33)], [], (v0 L, g))) rfl ?_
    exact dj_255_92 L g _
noncomputable def fb_255_29 (k29 : am_G → Option ((Unit ⊕ Nat) × am_G)) (g : am_G) : Option ((Unit ⊕ Nat) × am_G) := lo_i (fm_242 g ) fun y1 g2 => if y1 = 0 then lo_p (fm_240 g2 (-1)) fun y3 => if y3 = 0 then fj_255_44 k29 g2 else fj_255_92 g2 else fj_255_44 k29 g2
theorem db_255_29 (L : Nat) {k29 : am_G → Option ((Unit ⊕ Nat) × am_G)} (hk29 : ∀ (x : am_G) (R : (Unit ⊕ Nat) × am_G), k29 x = some R → ai_ev ap_P 255 (29, [some (.ref 33)], [], (v0 L, x)) (oz_r ez_v R.1) (v0 L, R.2)) (g : am_G) (R : (Unit ⊕ Nat) × am_G) : fb_255_29 k29 g = some R → ai_ev ap_P 255 (29, [some (.ref 33)], [], (v0 L, g)) (oz_r ez_v R.1) (v0 L, R.2) := by
  unfold fb_255_29
  refine ev_oi 1 (as := [.ref 33]) (pc := 33) (Lc := [some (.ref 33)]) (st := []) (V := v0 L) (g1 := g) (e := ez_i) rfl (dm_242 L g ) (fun y1 g2 => ?_)
  refine ev_in 0 (p := y1 = 0) (a := 44) (b := 36) (T := ([some (.ref 33)], [], (v0 L, g2))) rfl ?_ ?_
  · refine ev_op 2 (as := [.ref 33, .int (-1)]) (pc := 41) (Lc := [some (.ref 33)]) (st := []) (h1 := (v0 L, g2)) (e := ez_i) rfl (dm_240 L g2 (-1)) (fun y3 => ?_)
    refine ev_in 0 (p := y3 = 0) (a := 92) (b := 44) (T := ([some (.ref 33)], [], (v0 L, g2))) rfl ?_ ?_
    · exact dj_255_44 L hk29 g2 _
    · exact dj_255_92 L g2 _
  · exact dj_255_44 L hk29 g2 _
noncomputable def fh_255_29  (x : am_G) : Option ((Unit ⊕ Nat) × am_G) := lo_it (fun k x => fb_255_29 k x) nf_F x
theorem dh_255_29 (L : Nat)   (x : am_G) (R : (Unit ⊕ Nat) × am_G) : fh_255_29  x = some R → ai_ev ap_P 255 (29, [some (.ref 33)], [], (v0 L, x)) (oz_r ez_v R.1) (v0 L, R.2) :=
  fun hr => lo_ev (E := fun x R => ai_ev ap_P 255 (29, [some (.ref 33)], [], (v0 L, x)) (oz_r ez_v R.1) (v0 L, R.2)) (fun k hk x R hr => db_255_29 L hk x  R hr) nf_F x R hr
noncomputable def fb_255_15 (k15 : am_G → Option ((Unit ⊕ Nat) × am_G)) (g : am_G) : Option ((Unit ⊕ Nat) × am_G) := if (am_i g 33 24) ≤ 0 then fh_255_29 g else lo_t (fm_296 g ) fun y1 g2 => k15 g2
theorem db_255_15 (L : Nat) {k15 : am_G → Option ((Unit ⊕ Nat) × am_G)} (hk15 : ∀ (x : am_G) (R : (Unit ⊕ Nat) × am_G), k15 x = some R → ai_ev ap_P 255 (15, [some (.ref 33)], [], (v0 L, x)) (oz_r ez_v R.1) (v0 L, R.2)) (g : am_G) (R : (Unit ⊕ Nat) × am_G) : fb_255_15 k15 g = some R → ai_ev ap_P 255 (15, [some (.ref 33)], [], (v0 L, g)) (oz_r ez_v R.1) (v0 L, R.2) := by
  unfold fb_255_15
  refine ev_if 2 (p := (am_i g 33 24) ≤ 0) (a := 29) (b := 22) (T := ([some (.ref 33)], [], (v0 L, g))) rfl ?_ ?_
  · exact dh_255_29 L g _
  · refine ev_ot 1 (as := [.ref 33]) (pc := 26) (Lc := [some (.ref 33)]) (st := []) (V := v0 L) (g1 := g) (e := ez_v) rfl (dm_296 L g ) (fun _ => rfl) (fun y1 g2 => ?_)
    refine ev_jm 0 (t := (15, [some (.ref 33)], [], (v0 L, g2))) rfl ?_
    exact hk15 g2 _
noncomputable def fh_255_15  (x : am_G) : Option ((Unit ⊕ Nat) × am_G) := lo_it (fun k x => fb_255_15 k x) nf_F x
theorem dh_255_15 (L : Nat)   (x : am_G) (R : (Unit ⊕ Nat) × am_G) : fh_255_15  x = some R → ai_ev ap_P 255 (15, [some (.ref 33)], [], (v0 L, x)) (oz_r ez_v R.1) (v0 L, R.2) :=
  fun hr => lo_ev (E := fun x R => ai_ev ap_P 255 (15, [some (.ref 33)], [], (v0 L, x)) (oz_r ez_v R.1) (v0 L, R.2)) (fun k hk x R hr => db_255_15 L hk x  R hr) nf_F x R hr
noncomputable def fj_255_11  (g : am_G) : Option ((Unit ⊕ Nat) × am_G) := lo_t (fm_263 g ) fun y1 g2 => fh_255_15 g2
theorem dj_255_11 (L : Nat)   (g : am_G) (R : (Unit ⊕ Nat) × am_G) : fj_255_11  g = some R → ai_ev ap_P 255 (11, [some (.ref 33)], [], (v0 L, g)) (oz_r ez_v R.1) (v0 L, R.2) := by
  unfold fj_255_11
  refine ev_ot 1 (as := [.ref 33]) (pc := 15) (Lc := [some (.ref 33)]) (st := []) (V := v0 L) (g1 := g) (e := ez_v) rfl (dm_263 L g ) (fun _ => rfl) (fun y1 g2 => ?_)
  exact dh_255_15 L g2 _
/-- DeclaredMarkup$Processor.document()V -/
noncomputable def fm_255 (g : am_G)  : Option ((Unit ⊕ Nat) × am_G) := lo_p (fm_256 g ) fun y1 => if y1 = 0 then fj_255_11 g else lo_t (fm_258 g ) fun y3 g4 => fj_255_11 g4
theorem dm_255 (L : Nat) (g : am_G)  (R : (Unit ⊕ Nat) × am_G) : fm_255 g  = some R → ai_ev ap_P 255 (ai_e0 ap_P 255 [.ref 33] (v0 L, g)) (oz_r ez_v R.1) (v0 L, R.2) := by
  show _ → ai_ev ap_P 255 (0, [some (.ref 33)], [], (v0 L, g)) _ _
  unfold fm_255
  refine ev_op 1 (as := [.ref 33]) (pc := 4) (Lc := [some (.ref 33)]) (st := []) (h1 := (v0 L, g)) (e := ez_i) rfl (dm_256 L g ) (fun y1 => ?_)
  refine ev_if 0 (p := y1 = 0) (a := 11) (b := 7) (T := ([some (.ref 33)], [], (v0 L, g))) rfl ?_ ?_
  · exact dj_255_11 L g _
  · refine ev_ot 1 (as := [.ref 33]) (pc := 11) (Lc := [some (.ref 33)]) (st := []) (V := v0 L) (g1 := g) (e := ez_v) rfl (dm_258 L g ) (fun _ => rfl) (fun y3 g4 => ?_)
    exact dj_255_11 L g4 _
/-- DeclaredMarkup$Processor.all()V -/
noncomputable def fm_254 (g : am_G)  : Option ((Unit ⊕ Nat) × am_G) := lo_t (fm_255 g ) fun y1 g2 => if (am_i g2 33 16) = 0 then some (.inl (), g2) else lo_g (ai_in (am_i g2 35 3) 6001) (lo_i (fm_237 g2 12 (am_i g2 38 ((am_i g2 35 3)).toNatClampNeg)) fun y4 g5 => lo_g (Nat.ble 1008 y4 && Nat.blt y4 (am_sz g5)) (some (.inr y4, g5)))
theorem dm_254 (L : Nat) (g : am_G)  (R : (Unit ⊕ Nat) × am_G) : fm_254 g  = some R → ai_ev ap_P 254 (ai_e0 ap_P 254 [.ref 33] (v0 L, g)) (oz_r ez_v R.1) (v0 L, R.2) := by
  show _ → ai_ev ap_P 254 (0, [some (.ref 33)], [], (v0 L, g)) _ _
  unfold fm_254
  refine ev_ot 1 (as := [.ref 33]) (pc := 4) (Lc := [some (.ref 33)]) (st := []) (V := v0 L) (g1 := g) (e := ez_v) rfl (dm_255 L g ) (fun _ => rfl) (fun y1 g2 => ?_)
  refine ev_if 2 (p := (am_i g2 33 16) = 0) (a := 33) (b := 11) (T := ([some (.ref 33)], [], (v0 L, g2))) rfl ?_ ?_
  · exact fun hR => by cases hR; exact ev_rt 0 rfl
  · refine ev_gd (c := ai_in (am_i g2 35 3) 6001) (fun hc3 => ?_)
    refine ev_jm 8 (t := (29, [some (.ref 33)], [.int (am_i g2 38 ((am_i g2 35 3)).toNatClampNeg), .int 12, .ref 33], (v0 L, g2))) (ai_gd (c := ai_in (am_i g2 35 3) 6001) rfl hc3) ?_
    refine ev_oi 0 (as := [.ref 33, .int 12, .int (am_i g2 38 ((am_i g2 35 3)).toNatClampNeg)]) (pc := 32) (Lc := [some (.ref 33)]) (st := []) (V := v0 L) (g1 := g2) (e := ez_a) rfl (dm_237 L g2 12 (am_i g2 38 ((am_i g2 35 3)).toNatClampNeg)) (fun y4 g5 => ?_)
    exact ev_at 0 (a := y4) (g1 := g5) rfl
noncomputable def fj_251_45  (g : am_G) (t0 : Nat) : Option (Int32 × am_G) := lo_p (fm_253 g ) fun g2 => some (1, g2)
theorem dj_251_45 (L : Nat)   (g : am_G) (t0 : Nat) (w1 w2 w3 : Option Value) (R : Int32 × am_G) : fj_251_45  g t0 = some R → ai_ev ap_P 251 (45, [some (.ref 33), w1, w2, w3], [.ref t0], (v0 L, g)) (.inl (ez_i R.1)) (v0 L, R.2) := by
  unfold fj_251_45
  refine ev_ov0 2 (as := [.ref 33]) (pc := 50) (Lc := [some (.ref 33), none, none, some (.ref t0)]) (st := []) (V := v0 L) (g1 := g) rfl (dm_253 L g ) (fun g2 => ?_)
  exact fun hR => by cases hR; exact ev_rt 1 rfl
/-- DeclaredMarkup$Processor.judge(II)I -/
noncomputable def fm_251 (g : am_G) (u1 : Int32) (u2 : Int32) : Option (Int32 × am_G) := lo_p (fm_252 g u2) fun g2 => lo_i (fm_153 g2 u1) fun y3 g4 => if y3 = 0 then lo_c (fm_254 g4 ) (fun y5 g6 => if (am_i g6 33 14) = 0 then some (3, g6) else some (2, g6)) (fun y5 g6 => fj_251_45 g6 y5) else some (1, (am_si (am_si g4 33 11 1) 33 12 (am_i g4 35 4)))
theorem dm_251 (L : Nat) (g : am_G) (u1 : Int32) (u2 : Int32) (R : Int32 × am_G) : fm_251 g u1 u2 = some R → ai_ev ap_P 251 (ai_e0 ap_P 251 [.ref 33, .int u1, .int u2] (v0 L, g)) (.inl (ez_i R.1)) (v0 L, R.2) := by
  show _ → ai_ev ap_P 251 (0, [some (.ref 33), some (.int u1), some (.int u2), none], [], (v0 L, g)) _ _
  unfold fm_251
  refine ev_ov0 2 (as := [.ref 33, .int u2]) (pc := 5) (Lc := [some (.ref 33), some (.int u1), some (.int u2), none]) (st := []) (V := v0 L) (g1 := g) rfl (dm_252 L g u2) (fun g2 => ?_)
  refine ev_oi 5 (as := [.ref 35, .ref 34, .int u1]) (pc := 17) (Lc := [some (.ref 33), some (.int u1), some (.int u2), none]) (st := []) (V := v0 L) (g1 := g2) (e := ez_i) rfl (dm_153 L g2 u1) (fun y3 g4 => ?_)
  refine ev_if 0 (p := y3 = 0) (a := 38) (b := 20) (T := ([some (.ref 33), some (.int u1), some (.int u2), none], [], (v0 L, g4))) rfl ?_ ?_
  · refine ev_jm 0 (t := (39, [some (.ref 33), some (.int u1), some (.int u2), none], [.ref 33], (v0 L, g4))) rfl ?_
    refine ev_oc (as := [.ref 33]) (pc := 42) (Lc := [some (.ref 33), some (.int u1), some (.int u2), none]) (st := []) (V := v0 L) (g1 := g4) (e := ez_v) (q := 45) rfl (dm_254 L g4 ) rfl (fun y5 g6 => ?_) (fun y5 g6 => ?_)
    · refine ev_in 3 (p := (am_i g6 33 14) = 0) (a := 63) (b := 59) (T := ([some (.ref 33), some (.int u1), some (.int u2), none], [], (v0 L, g6))) rfl ?_ ?_
      · exact fun hR => by cases hR; exact ev_rt 2 rfl
      · exact fun hR => by cases hR; exact ev_rt 1 rfl
    · exact dj_251_45 L g6 y5 (some (.int u1)) (some (.int u2)) none _
  · exact fun hR => by cases hR; exact ev_rt 9 rfl
/-- DeclaredMarkup.judge(II)I -/
noncomputable def fm_5 (g : am_G) (u1 : Int32) (u2 : Int32) : Option (Int32 × am_G) := if u1 < 0 then some (0, g) else if (am_i g 32 1) < u1 then some (0, g) else if u2 < 0 then some (0, g) else if u2 ≤ 100000 then lo_i (fm_251 (am_si g 32 1 0) u1 u2) fun y1 g2 => some (y1, g2) else some (0, g)
theorem dm_5 (L : Nat) (g : am_G) (u1 : Int32) (u2 : Int32) (R : Int32 × am_G) : fm_5 g u1 u2 = some R → ai_ev ap_P 5 (ai_e0 ap_P 5 [.ref 32, .int u1, .int u2] (v0 L, g)) (.inl (ez_i R.1)) (v0 L, R.2) := by
  show _ → ai_ev ap_P 5 (0, [some (.ref 32), some (.int u1), some (.int u2)], [], (v0 L, g)) _ _
  unfold fm_5
  refine ev_if 1 (p := u1 < 0) (a := 22) (b := 4) (T := ([some (.ref 32), some (.int u1), some (.int u2)], [], (v0 L, g))) rfl ?_ ?_
  · exact fun hR => by cases hR; exact ev_rt 1 rfl
  · refine ev_if 3 (p := (am_i g 32 1) < u1) (a := 22) (b := 12) (T := ([some (.ref 32), some (.int u1), some (.int u2)], [], (v0 L, g))) rfl ?_ ?_
    · exact fun hR => by cases hR; exact ev_rt 1 rfl
    · refine ev_if 1 (p := u2 < 0) (a := 22) (b := 16) (T := ([some (.ref 32), some (.int u1), some (.int u2)], [], (v0 L, g))) rfl ?_ ?_
      · exact fun hR => by cases hR; exact ev_rt 1 rfl
      · refine ev_if 2 (p := u2 ≤ 100000) (a := 24) (b := 22) (T := ([some (.ref 32), some (.int u1), some (.int u2)], [], (v0 L, g))) rfl ?_ ?_
        · refine ev_oi 7 (as := [.ref 33, .int u1, .int u2]) (pc := 38) (Lc := [some (.ref 32), some (.int u1), some (.int u2)]) (st := []) (V := v0 L) (g1 := (am_si g 32 1 0)) (e := ez_i) rfl (dm_251 L (am_si g 32 1 0) u1 u2) (fun y1 g2 => ?_)
          exact fun hR => by cases hR; exact ev_rt 0 rfl
        · exact fun hR => by cases hR; exact ev_rt 1 rfl
noncomputable def fb_136_37 (k37 : (am_G × Int32) → Option (am_G)) (g : am_G) (u1 : Int32) : Option (am_G) := if (512 : Int32) ≤ u1 then some (am_si (am_si (am_si (am_si (am_si (am_si (am_si (am_si (am_si (am_si (am_si (am_si (am_si (am_si (am_si (am_si (am_si (am_si (am_si (am_si (am_si (am_si (am_si (am_si (am_si (am_si (am_si (am_si g 943 26 0) 943 27 0) 943 28 0) 943 43 0) 943 44 0) 943 49 0) 943 57 0) 943 61 0) 943 77 0) 943 86 0) 943 94 0) 943 95 0) 943 101 0) 943 104 0) 943 106 0) 943 112 0) 943 128 0) 943 129 0) 943 135 0) 943 134 0) 943 138 0) 943 139 0) 943 140 0) 943 142 0) 943 143 (-1)) 943 144 0) 943 145 0) 943 146 0) else lo_g (ai_in u1 512) (k37 ((am_si g 955 u1.toNatClampNeg (-1)), (u1 + 1)))
theorem db_136_37 (L : Nat) {k37 : (am_G × Int32) → Option (am_G)} (hk37 : ∀ (x : am_G × Int32) (R : am_G), k37 x = some R → ai_ev ap_P 136 (37, [some (.ref 943), some (.int x.2)], [], (v0 L, x.1)) (.inl none) (v0 L, R)) (g : am_G) (u1 : Int32) (R : am_G) : fb_136_37 k37 g u1 = some R → ai_ev ap_P 136 (37, [some (.ref 943), some (.int u1)], [], (v0 L, g)) (.inl none) (v0 L, R) := by
  unfold fb_136_37
  refine ev_if 2 (p := (512 : Int32) ≤ u1) (a := 57) (b := 44) (T := ([some (.ref 943), some (.int u1)], [], (v0 L, g))) rfl ?_ ?_
  · refine ev_jm 23 (t := (97, [some (.ref 943), some (.int u1)], [], (v0 L, (am_si (am_si (am_si (am_si (am_si (am_si (am_si (am_si g 943 26 0) 943 27 0) 943 28 0) 943 43 0) 943 44 0) 943 49 0) 943 57 0) 943 61 0)))) rfl ?_
    refine ev_jm 23 (t := (137, [some (.ref 943), some (.int u1)], [], (v0 L, (am_si (am_si (am_si (am_si (am_si (am_si (am_si (am_si (am_si (am_si (am_si (am_si (am_si (am_si (am_si (am_si g 943 26 0) 943 27 0) 943 28 0) 943 43 0) 943 44 0) 943 49 0) 943 57 0) 943 61 0) 943 77 0) 943 86 0) 943 94 0) 943 95 0) 943 101 0) 943 104 0) 943 106 0) 943 112 0)))) rfl ?_
    refine ev_jm 23 (t := (177, [some (.ref 943), some (.int u1)], [], (v0 L, (am_si (am_si (am_si (am_si (am_si (am_si (am_si (am_si (am_si (am_si (am_si (am_si (am_si (am_si (am_si (am_si (am_si (am_si (am_si (am_si (am_si (am_si (am_si (am_si g 943 26 0) 943 27 0) 943 28 0) 943 43 0) 943 44 0) 943 49 0) 943 57 0) 943 61 0) 943 77 0) 943 86 0) 943 94 0) 943 95 0) 943 101 0) 943 104 0) 943 106 0) 943 112 0) 943 128 0) 943 129 0) 943 135 0) 943 134 0) 943 138 0) 943 139 0) 943 140 0) 943 142 0)))) rfl ?_
    exact fun hR => by cases hR; exact ev_rt 12 rfl
  · refine ev_gd (c := ai_in u1 512) (fun hc1 => ?_)
    refine ev_jm 4 (t := (51, [some (.ref 943), some (.int u1)], [], (v0 L, (am_si g 955 u1.toNatClampNeg (-1))))) (ai_gd (c := ai_in u1 512) rfl hc1) ?_
    refine ev_jm 1 (t := (37, [some (.ref 943), some (.int (u1 + 1))], [], (v0 L, (am_si g 955 u1.toNatClampNeg (-1))))) rfl ?_
    exact hk37 ((am_si g 955 u1.toNatClampNeg (-1)), (u1 + 1)) _
noncomputable def fh_136_37  (x : am_G × Int32) : Option (am_G) := lo_it (fun k x => fb_136_37 k x.1 x.2) nf_F x
theorem dh_136_37 (L : Nat)   (x : am_G × Int32) (R : am_G) : fh_136_37  x = some R → ai_ev ap_P 136 (37, [some (.ref 943), some (.int x.2)], [], (v0 L, x.1)) (.inl none) (v0 L, R) :=
  fun hr => lo_ev (E := fun x R => ai_ev ap_P 136 (37, [some (.ref 943), some (.int x.2)], [], (v0 L, x.1)) (.inl none) (v0 L, R)) (fun k hk x R hr => db_136_37 L hk x.1 x.2  R hr) nf_F x R hr
/-- DeclaredMarkupModel.anew()V -/
noncomputable def fm_136 (g : am_G)  : Option (am_G) := fh_136_37 ((am_si (am_si (am_si (am_si (am_si (am_si (am_si g 943 4 0) 943 5 0) 943 8 0) 943 9 0) 943 14 0) 943 17 0) 943 21 0), 0)
theorem dm_136 (L : Nat) (g : am_G)  (R : am_G) : fm_136 g  = some R → ai_ev ap_P 136 (ai_e0 ap_P 136 [.ref 943] (v0 L, g)) (.inl none) (v0 L, R) := by
  show _ → ai_ev ap_P 136 (0, [some (.ref 943), none], [], (v0 L, g)) _ _
  unfold fm_136
  refine ev_jm 22 (t := (37, [some (.ref 943), some (.int 0)], [], (v0 L, (am_si (am_si (am_si (am_si (am_si (am_si (am_si g 943 4 0) 943 5 0) 943 8 0) 943 9 0) 943 14 0) 943 17 0) 943 21 0)))) rfl ?_
  exact dh_136_37 L ((am_si (am_si (am_si (am_si (am_si (am_si (am_si g 943 4 0) 943 5 0) 943 8 0) 943 9 0) 943 14 0) 943 17 0) 943 21 0), 0) _
/-- DeclaredMarkupModel.beginning(I)I -/
noncomputable def fm_19 (g : am_G) (u0 : Int32) : Option (Int32) := if (128 : Int32) ≤ u0 then if (194 : Int32) ≤ u0 then if (224 : Int32) ≤ u0 then if (240 : Int32) ≤ u0 then if (245 : Int32) ≤ u0 then some 0 else some 4 else some 3 else some 2 else some 0 else some 1
theorem dm_19 (L : Nat) (g : am_G) (u0 : Int32) (R : Int32) : fm_19 g u0 = some R → ai_ev ap_P 19 (ai_e0 ap_P 19 [.int u0] (v0 L, g)) (.inl (ez_i R)) (v0 L, g) := by
  show _ → ai_ev ap_P 19 (0, [some (.int u0)], [], (v0 L, g)) _ _
  unfold fm_19
  refine ev_if 2 (p := (128 : Int32) ≤ u0) (a := 11) (b := 7) (T := ([some (.int u0)], [], (v0 L, g))) rfl ?_ ?_
  · refine ev_if 2 (p := (194 : Int32) ≤ u0) (a := 22) (b := 18) (T := ([some (.int u0)], [], (v0 L, g))) rfl ?_ ?_
    · refine ev_if 2 (p := (224 : Int32) ≤ u0) (a := 33) (b := 29) (T := ([some (.int u0)], [], (v0 L, g))) rfl ?_ ?_
      · refine ev_if 2 (p := (240 : Int32) ≤ u0) (a := 44) (b := 40) (T := ([some (.int u0)], [], (v0 L, g))) rfl ?_ ?_
        · refine ev_if 2 (p := (245 : Int32) ≤ u0) (a := 55) (b := 51) (T := ([some (.int u0)], [], (v0 L, g))) rfl ?_ ?_
          · exact fun hR => by cases hR; exact ev_rt 1 rfl
          · exact fun hR => by cases hR; exact ev_rt 2 rfl
        · exact fun hR => by cases hR; exact ev_rt 2 rfl
      · exact fun hR => by cases hR; exact ev_rt 2 rfl
    · exact fun hR => by cases hR; exact ev_rt 2 rfl
  · exact fun hR => by cases hR; exact ev_rt 2 rfl
noncomputable def fj_21_21  (g : am_G) (t1 : Int32) : Option (Int32 × am_G) := some ((-1), (am_si g 943 143 t1))
theorem dj_21_21 (L : Nat)   (g : am_G) (t1 : Int32) (w0 w1 w2 : Option Value) (R : Int32 × am_G) : fj_21_21  g t1 = some R → ai_ev ap_P 21 (21, [w0, w1, w2], [.int t1, .ref 943], (v0 L, g)) (.inl (ez_i R.1)) (v0 L, R.2) := by
  unfold fj_21_21
  exact fun hR => by cases hR; exact ev_rt 2 rfl
/-- DeclaredMarkupModel.fail(II)I -/
noncomputable def fm_21 (g : am_G) (u1 : Int32) (u2 : Int32) : Option (Int32 × am_G) := if (am_i g 943 9) ≤ 0 then fj_21_21 (am_si g 943 142 u1) u2 else fj_21_21 (am_si g 943 142 u1) (am_i g 943 13)
theorem dm_21 (L : Nat) (g : am_G) (u1 : Int32) (u2 : Int32) (R : Int32 × am_G) : fm_21 g u1 u2 = some R → ai_ev ap_P 21 (ai_e0 ap_P 21 [.ref 943, .int u1, .int u2] (v0 L, g)) (.inl (ez_i R.1)) (v0 L, R.2) := by
  show _ → ai_ev ap_P 21 (0, [some (.ref 943), some (.int u1), some (.int u2)], [], (v0 L, g)) _ _
  unfold fm_21
  refine ev_if 6 (p := (am_i g 943 9) ≤ 0) (a := 20) (b := 13) (T := ([some (.ref 943), some (.int u1), some (.int u2)], [.ref 943], (v0 L, (am_si g 943 142 u1)))) rfl ?_ ?_
  · refine ev_jm 0 (t := (21, [some (.ref 943), some (.int u1), some (.int u2)], [.int u2, .ref 943], (v0 L, (am_si g 943 142 u1)))) rfl ?_
    exact dj_21_21 L (am_si g 943 142 u1) u2 (some (.ref 943)) (some (.int u1)) (some (.int u2)) _
  · refine ev_jm 2 (t := (21, [some (.ref 943), some (.int u1), some (.int u2)], [.int (am_i g 943 13), .ref 943], (v0 L, (am_si g 943 142 u1)))) rfl ?_
    exact dj_21_21 L (am_si g 943 142 u1) (am_i g 943 13) (some (.ref 943)) (some (.int u1)) (some (.int u2)) _
noncomputable def fj_15_42 (g : am_G)  (u0 : Int32) : Option (Int32) := if u0 < 65536 then some 0 else if (1114112 : Int32) ≤ u0 then some 0 else some 1
theorem dj_15_42 (L : Nat) (g : am_G)   (u0 : Int32) (R : Int32) : fj_15_42 g  u0 = some R → ai_ev ap_P 15 (42, [some (.int u0)], [], (v0 L, g)) (.inl (ez_i R)) (v0 L, g) := by
  unfold fj_15_42
  refine ev_if 2 (p := u0 < 65536) (a := 58) (b := 48) (T := ([some (.int u0)], [], (v0 L, g))) rfl ?_ ?_
  · exact fun hR => by cases hR; exact ev_rt 1 rfl
  · refine ev_if 2 (p := (1114112 : Int32) ≤ u0) (a := 58) (b := 54) (T := ([some (.int u0)], [], (v0 L, g))) rfl ?_ ?_
    · exact fun hR => by cases hR; exact ev_rt 1 rfl
    · exact fun hR => by cases hR; exact ev_rt 2 rfl
noncomputable def fj_15_30 (g : am_G)  (u0 : Int32) : Option (Int32) := if u0 < 57344 then fj_15_42 g u0 else if u0 < 65534 then some 1 else fj_15_42 g u0
theorem dj_15_30 (L : Nat) (g : am_G)   (u0 : Int32) (R : Int32) : fj_15_30 g  u0 = some R → ai_ev ap_P 15 (30, [some (.int u0)], [], (v0 L, g)) (.inl (ez_i R)) (v0 L, g) := by
  unfold fj_15_30
  refine ev_if 2 (p := u0 < 57344) (a := 42) (b := 36) (T := ([some (.int u0)], [], (v0 L, g))) rfl ?_ ?_
  · exact dj_15_42 L g u0 _
  · refine ev_if 2 (p := u0 < 65534) (a := 54) (b := 42) (T := ([some (.int u0)], [], (v0 L, g))) rfl ?_ ?_
    · exact fun hR => by cases hR; exact ev_rt 2 rfl
    · exact dj_15_42 L g u0 _
/-- DeclaredMarkupModel.isAllowed(I)Z -/
noncomputable def fm_15 (g : am_G) (u0 : Int32) : Option (Int32) := if u0 = 9 then some 1 else if u0 = 10 then some 1 else if u0 = 13 then some 1 else if u0 < 32 then fj_15_30 g u0 else if u0 < 55296 then some 1 else fj_15_30 g u0
theorem dm_15 (L : Nat) (g : am_G) (u0 : Int32) (R : Int32) : fm_15 g u0 = some R → ai_ev ap_P 15 (ai_e0 ap_P 15 [.int u0] (v0 L, g)) (.inl (ez_i R)) (v0 L, g) := by
  show _ → ai_ev ap_P 15 (0, [some (.int u0)], [], (v0 L, g)) _ _
  unfold fm_15
  refine ev_if 2 (p := u0 = 9) (a := 54) (b := 6) (T := ([some (.int u0)], [], (v0 L, g))) rfl ?_ ?_
  · exact fun hR => by cases hR; exact ev_rt 2 rfl
  · refine ev_if 2 (p := u0 = 10) (a := 54) (b := 12) (T := ([some (.int u0)], [], (v0 L, g))) rfl ?_ ?_
    · exact fun hR => by cases hR; exact ev_rt 2 rfl
    · refine ev_if 2 (p := u0 = 13) (a := 54) (b := 18) (T := ([some (.int u0)], [], (v0 L, g))) rfl ?_ ?_
      · exact fun hR => by cases hR; exact ev_rt 2 rfl
      · refine ev_if 2 (p := u0 < 32) (a := 30) (b := 24) (T := ([some (.int u0)], [], (v0 L, g))) rfl ?_ ?_
        · exact dj_15_30 L g u0 _
        · refine ev_if 2 (p := u0 < 55296) (a := 54) (b := 30) (T := ([some (.int u0)], [], (v0 L, g))) rfl ?_ ?_
          · exact fun hR => by cases hR; exact ev_rt 2 rfl
          · exact dj_15_30 L g u0 _
noncomputable def fj_20_33  (g : am_G) (u2 : Int32) : Option (Int32 × am_G) := lo_i (fm_21 g 1 u2) fun y1 g2 => some (y1, g2)
theorem dj_20_33 (L : Nat)   (g : am_G) (u2 : Int32) (w1 w3 w4 w5 w6 : Option Value) (R : Int32 × am_G) : fj_20_33  g u2 = some R → ai_ev ap_P 20 (33, [some (.ref 943), w1, some (.int u2), w3, w4, w5, w6], [], (v0 L, g)) (.inl (ez_i R.1)) (v0 L, R.2) := by
  unfold fj_20_33
  refine ev_oi 3 (as := [.ref 943, .int 1, .int u2]) (pc := 39) (Lc := [some (.ref 943), none, some (.int u2), none, none, none, none]) (st := []) (V := v0 L) (g1 := g) (e := ez_i) rfl (dm_21 L g 1 u2) (fun y1 g2 => ?_)
  exact fun hR => by cases hR; exact ev_rt 0 rfl
noncomputable def fj_20_141  (g : am_G) (u2 : Int32) : Option (Int32 × am_G) := lo_i (fm_21 g 1 u2) fun y1 g2 => some (y1, g2)
theorem dj_20_141 (L : Nat)   (g : am_G) (u2 : Int32) (w1 w3 w4 w5 w6 : Option Value) (R : Int32 × am_G) : fj_20_141  g u2 = some R → ai_ev ap_P 20 (141, [some (.ref 943), w1, some (.int u2), w3, w4, w5, w6], [], (v0 L, g)) (.inl (ez_i R.1)) (v0 L, R.2) := by
  unfold fj_20_141
  refine ev_oi 3 (as := [.ref 943, .int 1, .int u2]) (pc := 147) (Lc := [some (.ref 943), none, some (.int u2), none, none, none, none]) (st := []) (V := v0 L) (g1 := g) (e := ez_i) rfl (dm_21 L g 1 u2) (fun y1 g2 => ?_)
  exact fun hR => by cases hR; exact ev_rt 0 rfl
noncomputable def fj_20_220  (g : am_G) (u2 : Int32) : Option (Int32 × am_G) := lo_i (fm_21 g 1 u2) fun y1 g2 => some (y1, g2)
theorem dj_20_220 (L : Nat)   (g : am_G) (u2 : Int32) (w1 w3 w4 w5 w6 : Option Value) (R : Int32 × am_G) : fj_20_220  g u2 = some R → ai_ev ap_P 20 (220, [some (.ref 943), w1, some (.int u2), w3, w4, w5, w6], [], (v0 L, g)) (.inl (ez_i R.1)) (v0 L, R.2) := by
  unfold fj_20_220
  refine ev_oi 3 (as := [.ref 943, .int 1, .int u2]) (pc := 226) (Lc := [some (.ref 943), none, some (.int u2), none, none, none, none]) (st := []) (V := v0 L) (g1 := g) (e := ez_i) rfl (dm_21 L g 1 u2) (fun y1 g2 => ?_)
  exact fun hR => by cases hR; exact ev_rt 0 rfl
noncomputable def fj_20_296 (k7 : (am_G × Int32 × Int32) → Option (Int32 × am_G)) (g : am_G) (u1 : Int32) (u2 : Int32) (u3 : Int32) (t1 : Int32) (t2 : Int32) : Option (Int32 × am_G) := lo_g (ai_in t1 6000) (lo_g (ai_in (am_i g 943 4) 6000) (lo_l (u2 + u3) fun x3 => k7 ((am_si (am_si (am_si g 945 t1.toNatClampNeg t2) 946 ((am_i g 943 4)).toNatClampNeg u2) 943 4 ((am_i g 943 4) + 1)), u1, x3)))
theorem dj_20_296 (L : Nat) {k7 : (am_G × Int32 × Int32) → Option (Int32 × am_G)} (hk7 : ∀ (x : am_G × Int32 × Int32) (w3 w4 w5 w6 : Option Value) (R : Int32 × am_G), k7 x = some R → ai_ev ap_P 20 (7, [some (.ref 943), some (.int x.2.1), some (.int x.2.2), w3, w4, w5, w6], [], (v0 L, x.1)) (.inl (ez_i R.1)) (v0 L, R.2)) (g : am_G) (u1 : Int32) (u2 : Int32) (u3 : Int32) (t1 : Int32) (t2 : Int32) (w4 w5 w6 : Option Value) (R : Int32 × am_G) : fj_20_296 k7 g u1 u2 u3 t1 t2 = some R → ai_ev ap_P 20 (296, [some (.ref 943), some (.int u1), some (.int u2), some (.int u3), w4, w5, w6], [.int t2, .int t1, .ref 945], (v0 L, g)) (.inl (ez_i R.1)) (v0 L, R.2) := by
  unfold fj_20_296
  refine ev_gd (c := ai_in t1 6000) (fun hc1 => ?_)
  refine ev_jm 0 (t := (297, [some (.ref 943), some (.int u1), some (.int u2), some (.int u3), none, none, none], [], (v0 L, (am_si g 945 t1.toNatClampNeg t2)))) (ai_gd (c := ai_in t1 6000) rfl hc1) ?_
  refine ev_gd (c := ai_in (am_i g 943 4) 6000) (fun hc2 => ?_)
  refine ev_jm 5 (t := (307, [some (.ref 943), some (.int u1), some (.int u2), some (.int u3), none, none, none], [], (v0 L, (am_si (am_si g 945 t1.toNatClampNeg t2) 946 ((am_i g 943 4)).toNatClampNeg u2)))) (ai_gd (c := ai_in (am_i g 943 4) 6000) rfl hc2) ?_
  refine ev_jm 8 (t := (320, [some (.ref 943), some (.int u1), some (.int u2), some (.int u3), none, none, none], [.int (u2 + u3)], (v0 L, (am_si (am_si (am_si g 945 t1.toNatClampNeg t2) 946 ((am_i g 943 4)).toNatClampNeg u2) 943 4 ((am_i g 943 4) + 1))))) rfl ?_
  refine lo_e (S := fun (x3 : Int32) => (320, [some (.ref 943), some (.int u1), some (.int u2), some (.int u3), none, none, none], [.int x3], (v0 L, (am_si (am_si (am_si g 945 t1.toNatClampNeg t2) 946 ((am_i g 943 4)).toNatClampNeg u2) 943 4 ((am_i g 943 4) + 1))))) (fun x3 => ?_)
  refine ev_jm 1 (t := (7, [some (.ref 943), some (.int u1), some (.int x3), some (.int u3), none, none, none], [], (v0 L, (am_si (am_si (am_si g 945 t1.toNatClampNeg t2) 946 ((am_i g 943 4)).toNatClampNeg u2) 943 4 ((am_i g 943 4) + 1))))) rfl ?_
  exact hk7 ((am_si (am_si (am_si g 945 t1.toNatClampNeg t2) 946 ((am_i g 943 4)).toNatClampNeg u2) 943 4 ((am_i g 943 4) + 1)), u1, x3) (some (.int u3)) none none none _
noncomputable def fj_20_274 (k7 : (am_G × Int32 × Int32) → Option (Int32 × am_G)) (g : am_G) (u1 : Int32) (u2 : Int32) (u3 : Int32) (u4 : Int32) : Option (Int32 × am_G) := if u4 = 13 then fj_20_296 k7 g u1 u2 u3 (am_i g 943 4) 10 else fj_20_296 k7 g u1 u2 u3 (am_i g 943 4) u4
theorem dj_20_274 (L : Nat) {k7 : (am_G × Int32 × Int32) → Option (Int32 × am_G)} (hk7 : ∀ (x : am_G × Int32 × Int32) (w3 w4 w5 w6 : Option Value) (R : Int32 × am_G), k7 x = some R → ai_ev ap_P 20 (7, [some (.ref 943), some (.int x.2.1), some (.int x.2.2), w3, w4, w5, w6], [], (v0 L, x.1)) (.inl (ez_i R.1)) (v0 L, R.2)) (g : am_G) (u1 : Int32) (u2 : Int32) (u3 : Int32) (u4 : Int32) (w5 w6 : Option Value) (R : Int32 × am_G) : fj_20_274 k7 g u1 u2 u3 u4 = some R → ai_ev ap_P 20 (274, [some (.ref 943), some (.int u1), some (.int u2), some (.int u3), some (.int u4), w5, w6], [], (v0 L, g)) (.inl (ez_i R.1)) (v0 L, R.2) := by
  unfold fj_20_274
  refine ev_in 6 (p := u4 = 13) (a := 294) (b := 289) (T := ([some (.ref 943), some (.int u1), some (.int u2), some (.int u3), some (.int u4), none, none], [.int (am_i g 943 4), .ref 945], (v0 L, g))) rfl ?_ ?_
  · refine ev_jm 1 (t := (296, [some (.ref 943), some (.int u1), some (.int u2), some (.int u3), some (.int u4), none, none], [.int 10, .int (am_i g 943 4), .ref 945], (v0 L, g))) rfl ?_
    exact dj_20_296 L hk7 g u1 u2 u3 (am_i g 943 4) 10 (some (.int u4)) none none _
  · refine ev_jm 0 (t := (296, [some (.ref 943), some (.int u1), some (.int u2), some (.int u3), some (.int u4), none, none], [.int u4, .int (am_i g 943 4), .ref 945], (v0 L, g))) rfl ?_
    exact dj_20_296 L hk7 g u1 u2 u3 (am_i g 943 4) u4 (some (.int u4)) none none _
noncomputable def fj_20_256 (k7 : (am_G × Int32 × Int32) → Option (Int32 × am_G)) (g : am_G) (u1 : Int32) (u2 : Int32) (u3 : Int32) (u4 : Int32) (t0 : Int32) : Option (Int32 × am_G) := if t0 = 0 then if (0 : Int32) < u2 then fj_20_274 k7 g u1 u2 u3 u4 else if u4 = 65279 then lo_l (u2 + u3) fun x2 => k7 (g, u1, x2) else fj_20_274 k7 g u1 u2 u3 u4 else lo_l (u2 + u3) fun x1 => k7 (g, u1, x1)
theorem dj_20_256 (L : Nat) {k7 : (am_G × Int32 × Int32) → Option (Int32 × am_G)} (hk7 : ∀ (x : am_G × Int32 × Int32) (w3 w4 w5 w6 : Option Value) (R : Int32 × am_G), k7 x = some R → ai_ev ap_P 20 (7, [some (.ref 943), some (.int x.2.1), some (.int x.2.2), w3, w4, w5, w6], [], (v0 L, x.1)) (.inl (ez_i R.1)) (v0 L, R.2)) (g : am_G) (u1 : Int32) (u2 : Int32) (u3 : Int32) (u4 : Int32) (t0 : Int32) (w5 w6 : Option Value) (R : Int32 × am_G) : fj_20_256 k7 g u1 u2 u3 u4 t0 = some R → ai_ev ap_P 20 (256, [some (.ref 943), some (.int u1), some (.int u2), some (.int u3), some (.int u4), w5, w6], [.int t0], (v0 L, g)) (.inl (ez_i R.1)) (v0 L, R.2) := by
  unfold fj_20_256
  refine ev_in 2 (p := t0 = 0) (a := 317) (b := 263) (T := ([some (.ref 943), some (.int u1), some (.int u2), some (.int u3), some (.int u4), none, some (.int t0)], [], (v0 L, g))) rfl ?_ ?_
  · refine ev_if 1 (p := (0 : Int32) < u2) (a := 274) (b := 267) (T := ([some (.ref 943), some (.int u1), some (.int u2), some (.int u3), some (.int u4), none, some (.int t0)], [], (v0 L, g))) rfl ?_ ?_
    · exact dj_20_274 L hk7 g u1 u2 u3 u4 none (some (.int t0)) _
    · refine ev_if 2 (p := u4 = 65279) (a := 317) (b := 274) (T := ([some (.ref 943), some (.int u1), some (.int u2), some (.int u3), some (.int u4), none, some (.int t0)], [], (v0 L, g))) rfl ?_ ?_
      · refine ev_jm 2 (t := (320, [some (.ref 943), some (.int u1), some (.int u2), some (.int u3), none, none, none], [.int (u2 + u3)], (v0 L, g))) rfl ?_
        refine lo_e (S := fun (x2 : Int32) => (320, [some (.ref 943), some (.int u1), some (.int u2), some (.int u3), none, none, none], [.int x2], (v0 L, g))) (fun x2 => ?_)
        refine ev_jm 1 (t := (7, [some (.ref 943), some (.int u1), some (.int x2), some (.int u3), none, none, none], [], (v0 L, g))) rfl ?_
        exact hk7 (g, u1, x2) (some (.int u3)) none none none _
      · exact dj_20_274 L hk7 g u1 u2 u3 u4 none (some (.int t0)) _
  · refine ev_jm 2 (t := (320, [some (.ref 943), some (.int u1), some (.int u2), some (.int u3), none, none, none], [.int (u2 + u3)], (v0 L, g))) rfl ?_
    refine lo_e (S := fun (x1 : Int32) => (320, [some (.ref 943), some (.int u1), some (.int u2), some (.int u3), none, none, none], [.int x1], (v0 L, g))) (fun x1 => ?_)
    refine ev_jm 1 (t := (7, [some (.ref 943), some (.int u1), some (.int x1), some (.int u3), none, none, none], [], (v0 L, g))) rfl ?_
    exact hk7 (g, u1, x1) (some (.int u3)) none none none _
noncomputable def fj_20_255 (k7 : (am_G × Int32 × Int32) → Option (Int32 × am_G)) (g : am_G) (u1 : Int32) (u2 : Int32) (u3 : Int32) (u4 : Int32) : Option (Int32 × am_G) := fj_20_256 k7 g u1 u2 u3 u4 0
theorem dj_20_255 (L : Nat) {k7 : (am_G × Int32 × Int32) → Option (Int32 × am_G)} (hk7 : ∀ (x : am_G × Int32 × Int32) (w3 w4 w5 w6 : Option Value) (R : Int32 × am_G), k7 x = some R → ai_ev ap_P 20 (7, [some (.ref 943), some (.int x.2.1), some (.int x.2.2), w3, w4, w5, w6], [], (v0 L, x.1)) (.inl (ez_i R.1)) (v0 L, R.2)) (g : am_G) (u1 : Int32) (u2 : Int32) (u3 : Int32) (u4 : Int32) (w5 w6 : Option Value) (R : Int32 × am_G) : fj_20_255 k7 g u1 u2 u3 u4 = some R → ai_ev ap_P 20 (255, [some (.ref 943), some (.int u1), some (.int u2), some (.int u3), some (.int u4), w5, w6], [], (v0 L, g)) (.inl (ez_i R.1)) (v0 L, R.2) := by
  unfold fj_20_255
  refine ev_jm 0 (t := (256, [some (.ref 943), some (.int u1), some (.int u2), some (.int u3), some (.int u4), none, none], [.int 0], (v0 L, g))) rfl ?_
  exact dj_20_256 L hk7 g u1 u2 u3 u4 0 none none _
noncomputable def fj_20_205 (k7 : (am_G × Int32 × Int32) → Option (Int32 × am_G)) (g : am_G) (u1 : Int32) (u2 : Int32) (u3 : Int32) (u4 : Int32) (t0 : Int32) : Option (Int32 × am_G) := if t0 = 0 then lo_p (fm_15 g u4) fun y1 => if y1 = 0 then fj_20_220 g u2 else if u4 = 10 then if u2 ≤ 0 then fj_20_255 k7 g u1 u2 u3 u4 else lo_g (ai_in (u2 - 1) 6020) (if (am_i g 944 ((u2 - 1)).toNatClampNeg) = 13 then fj_20_256 k7 g u1 u2 u3 u4 1 else fj_20_255 k7 g u1 u2 u3 u4) else fj_20_255 k7 g u1 u2 u3 u4 else fj_20_220 g u2
theorem dj_20_205 (L : Nat) {k7 : (am_G × Int32 × Int32) → Option (Int32 × am_G)} (hk7 : ∀ (x : am_G × Int32 × Int32) (w3 w4 w5 w6 : Option Value) (R : Int32 × am_G), k7 x = some R → ai_ev ap_P 20 (7, [some (.ref 943), some (.int x.2.1), some (.int x.2.2), w3, w4, w5, w6], [], (v0 L, x.1)) (.inl (ez_i R.1)) (v0 L, R.2)) (g : am_G) (u1 : Int32) (u2 : Int32) (u3 : Int32) (u4 : Int32) (t0 : Int32) (w5 w6 : Option Value) (R : Int32 × am_G) : fj_20_205 k7 g u1 u2 u3 u4 t0 = some R → ai_ev ap_P 20 (205, [some (.ref 943), some (.int u1), some (.int u2), some (.int u3), some (.int u4), w5, w6], [.int t0], (v0 L, g)) (.inl (ez_i R.1)) (v0 L, R.2) := by
  unfold fj_20_205
  refine ev_in 2 (p := t0 = 0) (a := 220) (b := 212) (T := ([some (.ref 943), some (.int u1), some (.int u2), some (.int u3), some (.int u4), some (.int t0), none], [], (v0 L, g))) rfl ?_ ?_
  · refine ev_op 1 (as := [.int u4]) (pc := 217) (Lc := [some (.ref 943), some (.int u1), some (.int u2), some (.int u3), some (.int u4), some (.int t0), none]) (st := []) (h1 := (v0 L, g)) (e := ez_i) rfl (dm_15 L g u4) (fun y1 => ?_)
    refine ev_in 0 (p := y1 = 0) (a := 227) (b := 220) (T := ([some (.ref 943), some (.int u1), some (.int u2), some (.int u3), some (.int u4), some (.int t0), none], [], (v0 L, g))) rfl ?_ ?_
    · exact dj_20_220 L g u2 (some (.int u1)) (some (.int u3)) (some (.int u4)) (some (.int t0)) none _
    · refine ev_in 2 (p := u4 = 10) (a := 255) (b := 234) (T := ([some (.ref 943), some (.int u1), some (.int u2), some (.int u3), some (.int u4), some (.int t0), none], [], (v0 L, g))) rfl ?_ ?_
      · refine ev_if 1 (p := u2 ≤ 0) (a := 255) (b := 238) (T := ([some (.ref 943), some (.int u1), some (.int u2), some (.int u3), some (.int u4), some (.int t0), none], [], (v0 L, g))) rfl ?_ ?_
        · exact dj_20_255 L hk7 g u1 u2 u3 u4 (some (.int t0)) none _
        · refine ev_gd (c := ai_in (u2 - 1) 6020) (fun hc3 => ?_)
          refine ev_jm 5 (t := (246, [some (.ref 943), some (.int u1), some (.int u2), some (.int u3), some (.int u4), some (.int t0), none], [.int (am_i g 944 ((u2 - 1)).toNatClampNeg)], (v0 L, g))) (ai_gd (c := ai_in (u2 - 1) 6020) rfl hc3) ?_
          refine ev_in 1 (p := (am_i g 944 ((u2 - 1)).toNatClampNeg) = 13) (a := 255) (b := 251) (T := ([some (.ref 943), some (.int u1), some (.int u2), some (.int u3), some (.int u4), some (.int t0), none], [], (v0 L, g))) rfl ?_ ?_
          · refine ev_jm 1 (t := (256, [some (.ref 943), some (.int u1), some (.int u2), some (.int u3), some (.int u4), some (.int t0), none], [.int 1], (v0 L, g))) rfl ?_
            exact dj_20_256 L hk7 g u1 u2 u3 u4 1 (some (.int t0)) none _
          · exact dj_20_255 L hk7 g u1 u2 u3 u4 (some (.int t0)) none _
      · exact dj_20_255 L hk7 g u1 u2 u3 u4 (some (.int t0)) none _
  · exact dj_20_220 L g u2 (some (.int u1)) (some (.int u3)) (some (.int u4)) (some (.int t0)) none _
noncomputable def fj_20_200 (k7 : (am_G × Int32 × Int32) → Option (Int32 × am_G)) (g : am_G) (u1 : Int32) (u2 : Int32) (u3 : Int32) (u4 : Int32) : Option (Int32 × am_G) := fj_20_205 k7 g u1 u2 u3 u4 1
theorem dj_20_200 (L : Nat) {k7 : (am_G × Int32 × Int32) → Option (Int32 × am_G)} (hk7 : ∀ (x : am_G × Int32 × Int32) (w3 w4 w5 w6 : Option Value) (R : Int32 × am_G), k7 x = some R → ai_ev ap_P 20 (7, [some (.ref 943), some (.int x.2.1), some (.int x.2.2), w3, w4, w5, w6], [], (v0 L, x.1)) (.inl (ez_i R.1)) (v0 L, R.2)) (g : am_G) (u1 : Int32) (u2 : Int32) (u3 : Int32) (u4 : Int32) (w5 w6 : Option Value) (R : Int32 × am_G) : fj_20_200 k7 g u1 u2 u3 u4 = some R → ai_ev ap_P 20 (200, [some (.ref 943), some (.int u1), some (.int u2), some (.int u3), some (.int u4), w5, w6], [], (v0 L, g)) (.inl (ez_i R.1)) (v0 L, R.2) := by
  unfold fj_20_200
  refine ev_jm 1 (t := (205, [some (.ref 943), some (.int u1), some (.int u2), some (.int u3), some (.int u4), none, none], [.int 1], (v0 L, g))) rfl ?_
  exact dj_20_205 L hk7 g u1 u2 u3 u4 1 none none _
noncomputable def fj_20_204 (k7 : (am_G × Int32 × Int32) → Option (Int32 × am_G)) (g : am_G) (u1 : Int32) (u2 : Int32) (u3 : Int32) (u4 : Int32) : Option (Int32 × am_G) := fj_20_205 k7 g u1 u2 u3 u4 0
theorem dj_20_204 (L : Nat) {k7 : (am_G × Int32 × Int32) → Option (Int32 × am_G)} (hk7 : ∀ (x : am_G × Int32 × Int32) (w3 w4 w5 w6 : Option Value) (R : Int32 × am_G), k7 x = some R → ai_ev ap_P 20 (7, [some (.ref 943), some (.int x.2.1), some (.int x.2.2), w3, w4, w5, w6], [], (v0 L, x.1)) (.inl (ez_i R.1)) (v0 L, R.2)) (g : am_G) (u1 : Int32) (u2 : Int32) (u3 : Int32) (u4 : Int32) (w5 w6 : Option Value) (R : Int32 × am_G) : fj_20_204 k7 g u1 u2 u3 u4 = some R → ai_ev ap_P 20 (204, [some (.ref 943), some (.int u1), some (.int u2), some (.int u3), some (.int u4), w5, w6], [], (v0 L, g)) (.inl (ez_i R.1)) (v0 L, R.2) := by
  unfold fj_20_204
  refine ev_jm 0 (t := (205, [some (.ref 943), some (.int u1), some (.int u2), some (.int u3), some (.int u4), none, none], [.int 0], (v0 L, g))) rfl ?_
  exact dj_20_205 L hk7 g u1 u2 u3 u4 0 none none _
noncomputable def fj_20_188 (k7 : (am_G × Int32 × Int32) → Option (Int32 × am_G)) (g : am_G) (u1 : Int32) (u2 : Int32) (u3 : Int32) (u4 : Int32) : Option (Int32 × am_G) := if u3 = 4 then if (65536 : Int32) ≤ u4 then fj_20_204 k7 g u1 u2 u3 u4 else fj_20_200 k7 g u1 u2 u3 u4 else fj_20_204 k7 g u1 u2 u3 u4
theorem dj_20_188 (L : Nat) {k7 : (am_G × Int32 × Int32) → Option (Int32 × am_G)} (hk7 : ∀ (x : am_G × Int32 × Int32) (w3 w4 w5 w6 : Option Value) (R : Int32 × am_G), k7 x = some R → ai_ev ap_P 20 (7, [some (.ref 943), some (.int x.2.1), some (.int x.2.2), w3, w4, w5, w6], [], (v0 L, x.1)) (.inl (ez_i R.1)) (v0 L, R.2)) (g : am_G) (u1 : Int32) (u2 : Int32) (u3 : Int32) (u4 : Int32) (w5 w6 : Option Value) (R : Int32 × am_G) : fj_20_188 k7 g u1 u2 u3 u4 = some R → ai_ev ap_P 20 (188, [some (.ref 943), some (.int u1), some (.int u2), some (.int u3), some (.int u4), w5, w6], [], (v0 L, g)) (.inl (ez_i R.1)) (v0 L, R.2) := by
  unfold fj_20_188
  refine ev_in 2 (p := u3 = 4) (a := 204) (b := 193) (T := ([some (.ref 943), some (.int u1), some (.int u2), some (.int u3), some (.int u4), none, none], [], (v0 L, g))) rfl ?_ ?_
  · refine ev_if 2 (p := (65536 : Int32) ≤ u4) (a := 204) (b := 200) (T := ([some (.ref 943), some (.int u1), some (.int u2), some (.int u3), some (.int u4), none, none], [], (v0 L, g))) rfl ?_ ?_
    · exact dj_20_204 L hk7 g u1 u2 u3 u4 none none _
    · exact dj_20_200 L hk7 g u1 u2 u3 u4 none none _
  · exact dj_20_204 L hk7 g u1 u2 u3 u4 none none _
noncomputable def fb_20_105 (k7 : (am_G × Int32 × Int32) → Option (Int32 × am_G)) (k105 : (am_G × Int32 × Int32 × Int32 × Int32 × Int32) → Option (Int32 × am_G)) (g : am_G) (u1 : Int32) (u2 : Int32) (u3 : Int32) (u4 : Int32) (u5 : Int32) : Option (Int32 × am_G) := if u3 ≤ u5 then if u3 = 3 then if u4 < 2048 then fj_20_200 k7 g u1 u2 u3 u4 else fj_20_188 k7 g u1 u2 u3 u4 else fj_20_188 k7 g u1 u2 u3 u4 else lo_g (ai_in (u2 + u5) 6020) (if (am_i g 944 ((u2 + u5)).toNatClampNeg) < 128 then fj_20_141 g u2 else if (am_i g 944 ((u2 + u5)).toNatClampNeg) ≤ 191 then lo_l (((64 * u4) + (am_i g 944 ((u2 + u5)).toNatClampNeg)) - 128) fun x2 => k105 (g, u1, u2, u3, x2, (u5 + 1)) else fj_20_141 g u2)
theorem db_20_105 (L : Nat) {k7 : (am_G × Int32 × Int32) → Option (Int32 × am_G)} {k105 : (am_G × Int32 × Int32 × Int32 × Int32 × Int32) → Option (Int32 × am_G)} (hk7 : ∀ (x : am_G × Int32 × Int32) (w3 w4 w5 w6 : Option Value) (R : Int32 × am_G), k7 x = some R → ai_ev ap_P 20 (7, [some (.ref 943), some (.int x.2.1), some (.int x.2.2), w3, w4, w5, w6], [], (v0 L, x.1)) (.inl (ez_i R.1)) (v0 L, R.2)) (hk105 : ∀ (x : am_G × Int32 × Int32 × Int32 × Int32 × Int32) (w6 : Option Value) (R : Int32 × am_G), k105 x = some R → ai_ev ap_P 20 (105, [some (.ref 943), some (.int x.2.1), some (.int x.2.2.1), some (.int x.2.2.2.1), some (.int x.2.2.2.2.1), some (.int x.2.2.2.2.2), w6], [], (v0 L, x.1)) (.inl (ez_i R.1)) (v0 L, R.2)) (g : am_G) (u1 : Int32) (u2 : Int32) (u3 : Int32) (u4 : Int32) (u5 : Int32) (w6 : Option Value) (R : Int32 × am_G) : fb_20_105 k7 k105 g u1 u2 u3 u4 u5 = some R → ai_ev ap_P 20 (105, [some (.ref 943), some (.int u1), some (.int u2), some (.int u3), some (.int u4), some (.int u5), w6], [], (v0 L, g)) (.inl (ez_i R.1)) (v0 L, R.2) := by
  unfold fb_20_105
  refine ev_if 2 (p := u3 ≤ u5) (a := 175) (b := 111) (T := ([some (.ref 943), some (.int u1), some (.int u2), some (.int u3), some (.int u4), some (.int u5), none], [], (v0 L, g))) rfl ?_ ?_
  · refine ev_in 2 (p := u3 = 3) (a := 188) (b := 180) (T := ([some (.ref 943), some (.int u1), some (.int u2), some (.int u3), some (.int u4), some (.int u5), none], [], (v0 L, g))) rfl ?_ ?_
    · refine ev_if 2 (p := u4 < 2048) (a := 200) (b := 188) (T := ([some (.ref 943), some (.int u1), some (.int u2), some (.int u3), some (.int u4), some (.int u5), none], [], (v0 L, g))) rfl ?_ ?_
      · exact dj_20_200 L hk7 g u1 u2 u3 u4 (some (.int u5)) none _
      · exact dj_20_188 L hk7 g u1 u2 u3 u4 (some (.int u5)) none _
    · exact dj_20_188 L hk7 g u1 u2 u3 u4 (some (.int u5)) none _
  · refine ev_gd (c := ai_in (u2 + u5) 6020) (fun hc1 => ?_)
    refine ev_jm 5 (t := (120, [some (.ref 943), some (.int u1), some (.int u2), some (.int u3), some (.int u4), some (.int u5), none], [.int (am_i g 944 ((u2 + u5)).toNatClampNeg)], (v0 L, g))) (ai_gd (c := ai_in (u2 + u5) 6020) rfl hc1) ?_
    refine ev_if 1 (p := (am_i g 944 ((u2 + u5)).toNatClampNeg) < 128) (a := 141) (b := 126) (T := ([some (.ref 943), some (.int u1), some (.int u2), some (.int u3), some (.int u4), some (.int u5), none], [], (v0 L, g))) rfl ?_ ?_
    · exact dj_20_141 L g u2 (some (.int u1)) (some (.int u3)) (some (.int u4)) (some (.int u5)) none _
    · refine ev_jm 5 (t := (135, [some (.ref 943), some (.int u1), some (.int u2), some (.int u3), some (.int u4), some (.int u5), none], [.int (am_i g 944 ((u2 + u5)).toNatClampNeg)], (v0 L, g))) (ai_gd (c := ai_in (u2 + u5) 6020) rfl hc1) ?_
      refine ev_if 1 (p := (am_i g 944 ((u2 + u5)).toNatClampNeg) ≤ 191) (a := 148) (b := 141) (T := ([some (.ref 943), some (.int u1), some (.int u2), some (.int u3), some (.int u4), some (.int u5), none], [], (v0 L, g))) rfl ?_ ?_
      · refine ev_jm 8 (t := (162, [some (.ref 943), some (.int u1), some (.int u2), some (.int u3), some (.int u4), some (.int u5), none], [.int (am_i g 944 ((u2 + u5)).toNatClampNeg), .int (64 * u4)], (v0 L, g))) (ai_gd (c := ai_in (u2 + u5) 6020) rfl hc1) ?_
        refine ev_jm 2 (t := (167, [some (.ref 943), some (.int u1), some (.int u2), some (.int u3), some (.int u4), some (.int u5), none], [.int (((64 * u4) + (am_i g 944 ((u2 + u5)).toNatClampNeg)) - 128)], (v0 L, g))) rfl ?_
        refine lo_e (S := fun (x2 : Int32) => (167, [some (.ref 943), some (.int u1), some (.int u2), some (.int u3), some (.int u4), some (.int u5), none], [.int x2], (v0 L, g))) (fun x2 => ?_)
        refine ev_jm 2 (t := (105, [some (.ref 943), some (.int u1), some (.int u2), some (.int u3), some (.int x2), some (.int (u5 + 1)), none], [], (v0 L, g))) rfl ?_
        exact hk105 (g, u1, u2, u3, x2, (u5 + 1)) none _
      · exact dj_20_141 L g u2 (some (.int u1)) (some (.int u3)) (some (.int u4)) (some (.int u5)) none _
noncomputable def fh_20_105 (k7 : (am_G × Int32 × Int32) → Option (Int32 × am_G)) (x : am_G × Int32 × Int32 × Int32 × Int32 × Int32) : Option (Int32 × am_G) := lo_it (fun k x => fb_20_105 k7 k x.1 x.2.1 x.2.2.1 x.2.2.2.1 x.2.2.2.2.1 x.2.2.2.2.2) nf_F x
theorem dh_20_105 (L : Nat) {k7 : (am_G × Int32 × Int32) → Option (Int32 × am_G)} (hk7 : ∀ (x : am_G × Int32 × Int32) (w3 w4 w5 w6 : Option Value) (R : Int32 × am_G), k7 x = some R → ai_ev ap_P 20 (7, [some (.ref 943), some (.int x.2.1), some (.int x.2.2), w3, w4, w5, w6], [], (v0 L, x.1)) (.inl (ez_i R.1)) (v0 L, R.2)) (x : am_G × Int32 × Int32 × Int32 × Int32 × Int32) (w6 : Option Value) (R : Int32 × am_G) : fh_20_105 k7 x = some R → ai_ev ap_P 20 (105, [some (.ref 943), some (.int x.2.1), some (.int x.2.2.1), some (.int x.2.2.2.1), some (.int x.2.2.2.2.1), some (.int x.2.2.2.2.2), w6], [], (v0 L, x.1)) (.inl (ez_i R.1)) (v0 L, R.2) :=
  fun hr => lo_ev (E := fun x R => ∀ (w6 : Option Value), ai_ev ap_P 20 (105, [some (.ref 943), some (.int x.2.1), some (.int x.2.2.1), some (.int x.2.2.2.1), some (.int x.2.2.2.2.1), some (.int x.2.2.2.2.2), w6], [], (v0 L, x.1)) (.inl (ez_i R.1)) (v0 L, R.2)) (fun k hk x R hr => fun w6 => db_20_105 L hk7 (fun x w6 R hr => hk x R hr w6) x.1 x.2.1 x.2.2.1 x.2.2.2.1 x.2.2.2.2.1 x.2.2.2.2.2 w6 R hr) nf_F x R hr w6
noncomputable def fb_20_7 (k7 : (am_G × Int32 × Int32) → Option (Int32 × am_G)) (g : am_G) (u1 : Int32) (u2 : Int32) : Option (Int32 × am_G) := if u1 ≤ u2 then some (0, g) else lo_g (ai_in u2 6020) (lo_p (fm_19 g (am_i g 944 u2.toNatClampNeg)) fun y2 => if y2 = 0 then fj_20_33 g u2 else if (u2 + y2) ≤ u1 then if y2 = 1 then lo_l (am_i g 944 u2.toNatClampNeg) fun x7 => fh_20_105 k7 (g, u1, u2, y2, x7, 1) else if y2 = 2 then lo_l ((am_i g 944 u2.toNatClampNeg) - 192) fun x6 => fh_20_105 k7 (g, u1, u2, y2, x6, 1) else if y2 = 3 then lo_l ((am_i g 944 u2.toNatClampNeg) - 224) fun x5 => fh_20_105 k7 (g, u1, u2, y2, x5, 1) else lo_l ((am_i g 944 u2.toNatClampNeg) - 240) fun x4 => fh_20_105 k7 (g, u1, u2, y2, x4, 1) else fj_20_33 g u2)
theorem db_20_7 (L : Nat) {k7 : (am_G × Int32 × Int32) → Option (Int32 × am_G)} (hk7 : ∀ (x : am_G × Int32 × Int32) (w3 w4 w5 w6 : Option Value) (R : Int32 × am_G), k7 x = some R → ai_ev ap_P 20 (7, [some (.ref 943), some (.int x.2.1), some (.int x.2.2), w3, w4, w5, w6], [], (v0 L, x.1)) (.inl (ez_i R.1)) (v0 L, R.2)) (g : am_G) (u1 : Int32) (u2 : Int32) (w3 w4 w5 w6 : Option Value) (R : Int32 × am_G) : fb_20_7 k7 g u1 u2 = some R → ai_ev ap_P 20 (7, [some (.ref 943), some (.int u1), some (.int u2), w3, w4, w5, w6], [], (v0 L, g)) (.inl (ez_i R.1)) (v0 L, R.2) := by
  unfold fb_20_7
  refine ev_if 2 (p := u1 ≤ u2) (a := 324) (b := 12) (T := ([some (.ref 943), some (.int u1), some (.int u2), none, none, none, none], [], (v0 L, g))) rfl ?_ ?_
  · exact fun hR => by cases hR; exact ev_rt 1 rfl
  · refine ev_gd (c := ai_in u2 6020) (fun hc1 => ?_)
    refine ev_jm 3 (t := (18, [some (.ref 943), some (.int u1), some (.int u2), none, none, none, none], [.int (am_i g 944 u2.toNatClampNeg)], (v0 L, g))) (ai_gd (c := ai_in u2 6020) rfl hc1) ?_
    refine ev_op 0 (as := [.int (am_i g 944 u2.toNatClampNeg)]) (pc := 21) (Lc := [some (.ref 943), some (.int u1), some (.int u2), none, none, none, none]) (st := []) (h1 := (v0 L, g)) (e := ez_i) rfl (dm_19 L g (am_i g 944 u2.toNatClampNeg)) (fun y2 => ?_)
    refine ev_if 2 (p := y2 = 0) (a := 33) (b := 26) (T := ([some (.ref 943), some (.int u1), some (.int u2), some (.int y2), none, none, none], [], (v0 L, g))) rfl ?_ ?_
    · exact dj_20_33 L g u2 (some (.int u1)) (some (.int y2)) none none none _
    · refine ev_if 4 (p := (u2 + y2) ≤ u1) (a := 40) (b := 33) (T := ([some (.ref 943), some (.int u1), some (.int u2), some (.int y2), none, none, none], [], (v0 L, g))) rfl ?_ ?_
      · refine ev_in 2 (p := y2 = 1) (a := 54) (b := 45) (T := ([some (.ref 943), some (.int u1), some (.int u2), some (.int y2), none, none, none], [], (v0 L, g))) rfl ?_ ?_
        · refine ev_jm 3 (t := (51, [some (.ref 943), some (.int u1), some (.int u2), some (.int y2), none, none, none], [.int (am_i g 944 u2.toNatClampNeg)], (v0 L, g))) (ai_gd (c := ai_in u2 6020) rfl hc1) ?_
          refine ev_jm 0 (t := (100, [some (.ref 943), some (.int u1), some (.int u2), some (.int y2), none, none, none], [.int (am_i g 944 u2.toNatClampNeg)], (v0 L, g))) rfl ?_
          refine lo_e (S := fun (x7 : Int32) => (100, [some (.ref 943), some (.int u1), some (.int u2), some (.int y2), none, none, none], [.int x7], (v0 L, g))) (fun x7 => ?_)
          refine ev_jm 2 (t := (105, [some (.ref 943), some (.int u1), some (.int u2), some (.int y2), some (.int x7), some (.int 1), none], [], (v0 L, g))) rfl ?_
          exact dh_20_105 L hk7 (g, u1, u2, y2, x7, 1) none _
        · refine ev_in 2 (p := y2 = 2) (a := 72) (b := 59) (T := ([some (.ref 943), some (.int u1), some (.int u2), some (.int y2), none, none, none], [], (v0 L, g))) rfl ?_ ?_
          · refine ev_jm 3 (t := (65, [some (.ref 943), some (.int u1), some (.int u2), some (.int y2), none, none, none], [.int (am_i g 944 u2.toNatClampNeg)], (v0 L, g))) (ai_gd (c := ai_in u2 6020) rfl hc1) ?_
            refine ev_jm 2 (t := (100, [some (.ref 943), some (.int u1), some (.int u2), some (.int y2), none, none, none], [.int ((am_i g 944 u2.toNatClampNeg) - 192)], (v0 L, g))) rfl ?_
            refine lo_e (S := fun (x6 : Int32) => (100, [some (.ref 943), some (.int u1), some (.int u2), some (.int y2), none, none, none], [.int x6], (v0 L, g))) (fun x6 => ?_)
            refine ev_jm 2 (t := (105, [some (.ref 943), some (.int u1), some (.int u2), some (.int y2), some (.int x6), some (.int 1), none], [], (v0 L, g))) rfl ?_
            exact dh_20_105 L hk7 (g, u1, u2, y2, x6, 1) none _
          · refine ev_in 2 (p := y2 = 3) (a := 90) (b := 77) (T := ([some (.ref 943), some (.int u1), some (.int u2), some (.int y2), none, none, none], [], (v0 L, g))) rfl ?_ ?_
            · refine ev_jm 3 (t := (83, [some (.ref 943), some (.int u1), some (.int u2), some (.int y2), none, none, none], [.int (am_i g 944 u2.toNatClampNeg)], (v0 L, g))) (ai_gd (c := ai_in u2 6020) rfl hc1) ?_
              refine ev_jm 2 (t := (100, [some (.ref 943), some (.int u1), some (.int u2), some (.int y2), none, none, none], [.int ((am_i g 944 u2.toNatClampNeg) - 224)], (v0 L, g))) rfl ?_
              refine lo_e (S := fun (x5 : Int32) => (100, [some (.ref 943), some (.int u1), some (.int u2), some (.int y2), none, none, none], [.int x5], (v0 L, g))) (fun x5 => ?_)
              refine ev_jm 2 (t := (105, [some (.ref 943), some (.int u1), some (.int u2), some (.int y2), some (.int x5), some (.int 1), none], [], (v0 L, g))) rfl ?_
              exact dh_20_105 L hk7 (g, u1, u2, y2, x5, 1) none _
            · refine ev_jm 3 (t := (96, [some (.ref 943), some (.int u1), some (.int u2), some (.int y2), none, none, none], [.int (am_i g 944 u2.toNatClampNeg)], (v0 L, g))) (ai_gd (c := ai_in u2 6020) rfl hc1) ?_
              refine ev_jm 1 (t := (100, [some (.ref 943), some (.int u1), some (.int u2), some (.int y2), none, none, none], [.int ((am_i g 944 u2.toNatClampNeg) - 240)], (v0 L, g))) rfl ?_
              refine lo_e (S := fun (x4 : Int32) => (100, [some (.ref 943), some (.int u1), some (.int u2), some (.int y2), none, none, none], [.int x4], (v0 L, g))) (fun x4 => ?_)
              refine ev_jm 2 (t := (105, [some (.ref 943), some (.int u1), some (.int u2), some (.int y2), some (.int x4), some (.int 1), none], [], (v0 L, g))) rfl ?_
              exact dh_20_105 L hk7 (g, u1, u2, y2, x4, 1) none _
      · exact dj_20_33 L g u2 (some (.int u1)) (some (.int y2)) none none none _
noncomputable def fh_20_7  (x : am_G × Int32 × Int32) : Option (Int32 × am_G) := lo_it (fun k x => fb_20_7 k x.1 x.2.1 x.2.2) nf_F x
theorem dh_20_7 (L : Nat)   (x : am_G × Int32 × Int32) (w3 w4 w5 w6 : Option Value) (R : Int32 × am_G) : fh_20_7  x = some R → ai_ev ap_P 20 (7, [some (.ref 943), some (.int x.2.1), some (.int x.2.2), w3, w4, w5, w6], [], (v0 L, x.1)) (.inl (ez_i R.1)) (v0 L, R.2) :=
  fun hr => lo_ev (E := fun x R => ∀ (w3 w4 w5 w6 : Option Value), ai_ev ap_P 20 (7, [some (.ref 943), some (.int x.2.1), some (.int x.2.2), w3, w4, w5, w6], [], (v0 L, x.1)) (.inl (ez_i R.1)) (v0 L, R.2)) (fun k hk x R hr => fun w3 w4 w5 w6 => db_20_7 L (fun x w3 w4 w5 w6 R hr => hk x R hr w3 w4 w5 w6) x.1 x.2.1 x.2.2 w3 w4 w5 w6 R hr) nf_F x R hr w3 w4 w5 w6
/-- DeclaredMarkupModel.decode(I)I -/
noncomputable def fm_20 (g : am_G) (u1 : Int32) : Option (Int32 × am_G) := fh_20_7 ((am_si g 943 4 0), u1, 0)
theorem dm_20 (L : Nat) (g : am_G) (u1 : Int32) (R : Int32 × am_G) : fm_20 g u1 = some R → ai_ev ap_P 20 (ai_e0 ap_P 20 [.ref 943, .int u1] (v0 L, g)) (.inl (ez_i R.1)) (v0 L, R.2) := by
  show _ → ai_ev ap_P 20 (0, [some (.ref 943), some (.int u1), none, none, none, none, none], [], (v0 L, g)) _ _
  unfold fm_20
  refine ev_jm 4 (t := (7, [some (.ref 943), some (.int u1), some (.int 0), none, none, none, none], [], (v0 L, (am_si g 943 4 0)))) rfl ?_
  exact dh_20_7 L ((am_si g 943 4 0), u1, 0) none none none none _
/-- DeclaredMarkupModel.isBlank(I)Z -/
noncomputable def fm_16 (g : am_G) (u0 : Int32) : Option (Int32) := if u0 = 32 then some 1 else if u0 = 9 then some 1 else if u0 = 10 then some 1 else if u0 = 13 then some 1 else some 0
theorem dm_16 (L : Nat) (g : am_G) (u0 : Int32) (R : Int32) : fm_16 g u0 = some R → ai_ev ap_P 16 (ai_e0 ap_P 16 [.int u0] (v0 L, g)) (.inl (ez_i R)) (v0 L, g) := by
  show _ → ai_ev ap_P 16 (0, [some (.int u0)], [], (v0 L, g)) _ _
  unfold fm_16
  refine ev_if 2 (p := u0 = 32) (a := 24) (b := 6) (T := ([some (.int u0)], [], (v0 L, g))) rfl ?_ ?_
  · exact fun hR => by cases hR; exact ev_rt 2 rfl
  · refine ev_if 2 (p := u0 = 9) (a := 24) (b := 12) (T := ([some (.int u0)], [], (v0 L, g))) rfl ?_ ?_
    · exact fun hR => by cases hR; exact ev_rt 2 rfl
    · refine ev_if 2 (p := u0 = 10) (a := 24) (b := 18) (T := ([some (.int u0)], [], (v0 L, g))) rfl ?_ ?_
      · exact fun hR => by cases hR; exact ev_rt 2 rfl
      · refine ev_in 2 (p := u0 = 13) (a := 28) (b := 24) (T := ([some (.int u0)], [], (v0 L, g))) rfl ?_ ?_
        · exact fun hR => by cases hR; exact ev_rt 2 rfl
        · exact fun hR => by cases hR; exact ev_rt 1 rfl
noncomputable def fb_28_20 (g : am_G) (k20 : (Int32 × Int32 × Int32 × Int32 × Int32) → Option (Int32)) (u1 : Int32) (u2 : Int32) (u3 : Int32) (u4 : Int32) (u5 : Int32) : Option (Int32) := if u3 ≤ u5 then some (vp_nar .boolean u4) else if u4 = 0 then some (vp_nar .boolean u4) else lo_g (ai_in u1 6000) (lo_g (ai_in ((am_i g 952 u1.toNatClampNeg) + u5) 19000) (lo_g (ai_in (u2 + u5) 19000) (if (am_i g 951 (((am_i g 952 u1.toNatClampNeg) + u5)).toNatClampNeg) = (am_i g 951 ((u2 + u5)).toNatClampNeg) then k20 (u1, u2, u3, 1, (u5 + 1)) else k20 (u1, u2, u3, 0, (u5 + 1)))))
theorem db_28_20 (L : Nat) (g : am_G) {k20 : (Int32 × Int32 × Int32 × Int32 × Int32) → Option (Int32)} (hk20 : ∀ (x : Int32 × Int32 × Int32 × Int32 × Int32) (R : Int32), k20 x = some R → ai_ev ap_P 28 (20, [some (.ref 943), some (.int x.1), some (.int x.2.1), some (.int x.2.2.1), some (.int x.2.2.2.1), some (.int x.2.2.2.2)], [], (v0 L, g)) (.inl (ez_i R)) (v0 L, g)) (u1 : Int32) (u2 : Int32) (u3 : Int32) (u4 : Int32) (u5 : Int32) (R : Int32) : fb_28_20 g k20 u1 u2 u3 u4 u5 = some R → ai_ev ap_P 28 (20, [some (.ref 943), some (.int u1), some (.int u2), some (.int u3), some (.int u4), some (.int u5)], [], (v0 L, g)) (.inl (ez_i R)) (v0 L, g) := by
  unfold fb_28_20
  refine ev_if 2 (p := u3 ≤ u5) (a := 70) (b := 26) (T := ([some (.ref 943), some (.int u1), some (.int u2), some (.int u3), some (.int u4), some (.int u5)], [], (v0 L, g))) rfl ?_ ?_
  · exact fun hR => by cases hR; exact ev_rt 1 rfl
  · refine ev_if 1 (p := u4 = 0) (a := 70) (b := 31) (T := ([some (.ref 943), some (.int u1), some (.int u2), some (.int u3), some (.int u4), some (.int u5)], [], (v0 L, g))) rfl ?_ ?_
    · exact fun hR => by cases hR; exact ev_rt 1 rfl
    · refine ev_gd (c := ai_in u1 6000) (fun hc1 => ?_)
      refine ev_jm 5 (t := (41, [some (.ref 943), some (.int u1), some (.int u2), some (.int u3), some (.int u4), some (.int u5)], [.int (am_i g 952 u1.toNatClampNeg), .ref 951], (v0 L, g))) (ai_gd (c := ai_in u1 6000) rfl hc1) ?_
      refine ev_gd (c := ai_in ((am_i g 952 u1.toNatClampNeg) + u5) 19000) (fun hc2 => ?_)
      refine ev_jm 2 (t := (45, [some (.ref 943), some (.int u1), some (.int u2), some (.int u3), some (.int u4), some (.int u5)], [.int (am_i g 951 (((am_i g 952 u1.toNatClampNeg) + u5)).toNatClampNeg)], (v0 L, g))) (ai_gd (c := ai_in ((am_i g 952 u1.toNatClampNeg) + u5) 19000) rfl hc2) ?_
      refine ev_gd (c := ai_in (u2 + u5) 19000) (fun hc3 => ?_)
      refine ev_jm 5 (t := (54, [some (.ref 943), some (.int u1), some (.int u2), some (.int u3), some (.int u4), some (.int u5)], [.int (am_i g 951 ((u2 + u5)).toNatClampNeg), .int (am_i g 951 (((am_i g 952 u1.toNatClampNeg) + u5)).toNatClampNeg)], (v0 L, g))) (ai_gd (c := ai_in (u2 + u5) 19000) rfl hc3) ?_
      refine ev_in 0 (p := (am_i g 951 (((am_i g 952 u1.toNatClampNeg) + u5)).toNatClampNeg) = (am_i g 951 ((u2 + u5)).toNatClampNeg)) (a := 61) (b := 57) (T := ([some (.ref 943), some (.int u1), some (.int u2), some (.int u3), some (.int u4), some (.int u5)], [], (v0 L, g))) rfl ?_ ?_
      · refine ev_jm 4 (t := (20, [some (.ref 943), some (.int u1), some (.int u2), some (.int u3), some (.int 1), some (.int (u5 + 1))], [], (v0 L, g))) rfl ?_
        exact hk20 (u1, u2, u3, 1, (u5 + 1)) _
      · refine ev_jm 3 (t := (20, [some (.ref 943), some (.int u1), some (.int u2), some (.int u3), some (.int 0), some (.int (u5 + 1))], [], (v0 L, g))) rfl ?_
        exact hk20 (u1, u2, u3, 0, (u5 + 1)) _
noncomputable def fh_28_20 (g : am_G)  (x : Int32 × Int32 × Int32 × Int32 × Int32) : Option (Int32) := lo_it (fun k x => fb_28_20 g k x.1 x.2.1 x.2.2.1 x.2.2.2.1 x.2.2.2.2) nf_F x
theorem dh_28_20 (L : Nat) (g : am_G)   (x : Int32 × Int32 × Int32 × Int32 × Int32) (R : Int32) : fh_28_20 g  x = some R → ai_ev ap_P 28 (20, [some (.ref 943), some (.int x.1), some (.int x.2.1), some (.int x.2.2.1), some (.int x.2.2.2.1), some (.int x.2.2.2.2)], [], (v0 L, g)) (.inl (ez_i R)) (v0 L, g) :=
  fun hr => lo_ev (E := fun x R => ai_ev ap_P 28 (20, [some (.ref 943), some (.int x.1), some (.int x.2.1), some (.int x.2.2.1), some (.int x.2.2.2.1), some (.int x.2.2.2.2)], [], (v0 L, g)) (.inl (ez_i R)) (v0 L, g)) (fun k hk x R hr => db_28_20 L g hk x.1 x.2.1 x.2.2.1 x.2.2.2.1 x.2.2.2.2  R hr) nf_F x R hr
/-- DeclaredMarkupModel.isName(III)Z -/
noncomputable def fm_28 (g : am_G) (u1 : Int32) (u2 : Int32) (u3 : Int32) : Option (Int32) := lo_g (ai_in u1 6000) (if (am_i g 953 u1.toNatClampNeg) = u3 then fh_28_20 g (u1, u2, u3, 1, 0) else fh_28_20 g (u1, u2, u3, 0, 0))
theorem dm_28 (L : Nat) (g : am_G) (u1 : Int32) (u2 : Int32) (u3 : Int32) (R : Int32) : fm_28 g u1 u2 u3 = some R → ai_ev ap_P 28 (ai_e0 ap_P 28 [.ref 943, .int u1, .int u2, .int u3] (v0 L, g)) (.inl (ez_i R)) (v0 L, g) := by
  show _ → ai_ev ap_P 28 (0, [some (.ref 943), some (.int u1), some (.int u2), some (.int u3), none, none], [], (v0 L, g)) _ _
  unfold fm_28
  refine ev_gd (c := ai_in u1 6000) (fun hc1 => ?_)
  refine ev_jm 3 (t := (6, [some (.ref 943), some (.int u1), some (.int u2), some (.int u3), none, none], [.int (am_i g 953 u1.toNatClampNeg)], (v0 L, g))) (ai_gd (c := ai_in u1 6000) rfl hc1) ?_
  refine ev_in 1 (p := (am_i g 953 u1.toNatClampNeg) = u3) (a := 14) (b := 10) (T := ([some (.ref 943), some (.int u1), some (.int u2), some (.int u3), none, none], [], (v0 L, g))) rfl ?_ ?_
  · refine ev_jm 4 (t := (20, [some (.ref 943), some (.int u1), some (.int u2), some (.int u3), some (.int 1), some (.int 0)], [], (v0 L, g))) rfl ?_
    exact dh_28_20 L g (u1, u2, u3, 1, 0) _
  · refine ev_jm 3 (t := (20, [some (.ref 943), some (.int u1), some (.int u2), some (.int u3), some (.int 0), some (.int 0)], [], (v0 L, g))) rfl ?_
    exact dh_28_20 L g (u1, u2, u3, 0, 0) _
noncomputable def fb_29_49 (k49 : (am_G × Int32 × Int32) → Option (Int32 × am_G)) (g : am_G) (u1 : Int32) (u2 : Int32) : Option (Int32 × am_G) := if u2 < 0 then lo_g (ai_in u1 512) (lo_g (ai_in (am_i g 943 21) 6000) (some ((((am_i g 943 21) + 1) - 1), (am_si (am_si (am_si (am_si (am_si (am_si g 954 ((am_i g 943 21)).toNatClampNeg (am_i g 955 u1.toNatClampNeg)) 955 u1.toNatClampNeg (am_i g 943 21)) 952 ((am_i g 943 21)).toNatClampNeg (am_i g 943 17)) 953 ((am_i g 943 21)).toNatClampNeg (am_i g 943 18)) 943 17 ((am_i g 943 17) + (am_i g 943 18))) 943 21 ((am_i g 943 21) + 1))))) else lo_p (fm_28 g u2 (am_i g 943 17) (am_i g 943 18)) fun y3 => if y3 = 0 then lo_g (ai_in u2 6000) (lo_l (am_i g 954 u2.toNatClampNeg) fun x6 => k49 (g, u1, x6)) else some (u2, g)
theorem db_29_49 (L : Nat) {k49 : (am_G × Int32 × Int32) → Option (Int32 × am_G)} (hk49 : ∀ (x : am_G × Int32 × Int32) (R : Int32 × am_G), k49 x = some R → ai_ev ap_P 29 (49, [some (.ref 943), some (.int x.2.1), some (.int x.2.2)], [], (v0 L, x.1)) (.inl (ez_i R.1)) (v0 L, R.2)) (g : am_G) (u1 : Int32) (u2 : Int32) (R : Int32 × am_G) : fb_29_49 k49 g u1 u2 = some R → ai_ev ap_P 29 (49, [some (.ref 943), some (.int u1), some (.int u2)], [], (v0 L, g)) (.inl (ez_i R.1)) (v0 L, R.2) := by
  unfold fb_29_49
  refine ev_if 1 (p := u2 < 0) (a := 81) (b := 53) (T := ([some (.ref 943), some (.int u1), some (.int u2)], [], (v0 L, g))) rfl ?_ ?_
  · refine ev_gd (c := ai_in u1 512) (fun hc1 => ?_)
    refine ev_jm 7 (t := (95, [some (.ref 943), some (.int u1), some (.int u2)], [.int (am_i g 955 u1.toNatClampNeg), .int (am_i g 943 21), .ref 954], (v0 L, g))) (ai_gd (c := ai_in u1 512) rfl hc1) ?_
    refine ev_gd (c := ai_in (am_i g 943 21) 6000) (fun hc2 => ?_)
    refine ev_jm 0 (t := (96, [some (.ref 943), some (.int u1), some (.int u2)], [], (v0 L, (am_si g 954 ((am_i g 943 21)).toNatClampNeg (am_i g 955 u1.toNatClampNeg))))) (ai_gd (c := ai_in (am_i g 943 21) 6000) rfl hc2) ?_
    refine ev_jm 5 (t := (106, [some (.ref 943), some (.int u1), some (.int u2)], [], (v0 L, (am_si (am_si g 954 ((am_i g 943 21)).toNatClampNeg (am_i g 955 u1.toNatClampNeg)) 955 u1.toNatClampNeg (am_i g 943 21))))) (ai_gd (c := ai_in u1 512) rfl hc1) ?_
    refine ev_jm 6 (t := (119, [some (.ref 943), some (.int u1), some (.int u2)], [], (v0 L, (am_si (am_si (am_si g 954 ((am_i g 943 21)).toNatClampNeg (am_i g 955 u1.toNatClampNeg)) 955 u1.toNatClampNeg (am_i g 943 21)) 952 ((am_i g 943 21)).toNatClampNeg (am_i g 943 17))))) (ai_gd (c := ai_in (am_i g 943 21) 6000) rfl hc2) ?_
    refine ev_jm 6 (t := (132, [some (.ref 943), some (.int u1), some (.int u2)], [], (v0 L, (am_si (am_si (am_si (am_si g 954 ((am_i g 943 21)).toNatClampNeg (am_i g 955 u1.toNatClampNeg)) 955 u1.toNatClampNeg (am_i g 943 21)) 952 ((am_i g 943 21)).toNatClampNeg (am_i g 943 17)) 953 ((am_i g 943 21)).toNatClampNeg (am_i g 943 18))))) (ai_gd (c := ai_in (am_i g 943 21) 6000) rfl hc2) ?_
    exact fun hR => by cases hR; exact ev_rt 17 rfl
  · refine ev_op 6 (as := [.ref 943, .int u2, .int (am_i g 943 17), .int (am_i g 943 18)]) (pc := 66) (Lc := [some (.ref 943), some (.int u1), some (.int u2)]) (st := []) (h1 := (v0 L, g)) (e := ez_i) rfl (dm_28 L g u2 (am_i g 943 17) (am_i g 943 18)) (fun y3 => ?_)
    refine ev_if 0 (p := y3 = 0) (a := 71) (b := 69) (T := ([some (.ref 943), some (.int u1), some (.int u2)], [], (v0 L, g))) rfl ?_ ?_
    · refine ev_gd (c := ai_in u2 6000) (fun hc5 => ?_)
      refine ev_jm 3 (t := (77, [some (.ref 943), some (.int u1), some (.int u2)], [.int (am_i g 954 u2.toNatClampNeg)], (v0 L, g))) (ai_gd (c := ai_in u2 6000) rfl hc5) ?_
      refine lo_e (S := fun (x6 : Int32) => (77, [some (.ref 943), some (.int u1), some (.int u2)], [.int x6], (v0 L, g))) (fun x6 => ?_)
      refine ev_jm 1 (t := (49, [some (.ref 943), some (.int u1), some (.int x6)], [], (v0 L, g))) rfl ?_
      exact hk49 (g, u1, x6) _
    · exact fun hR => by cases hR; exact ev_rt 1 rfl
noncomputable def fh_29_49  (x : am_G × Int32 × Int32) : Option (Int32 × am_G) := lo_it (fun k x => fb_29_49 k x.1 x.2.1 x.2.2) nf_F x
theorem dh_29_49 (L : Nat)   (x : am_G × Int32 × Int32) (R : Int32 × am_G) : fh_29_49  x = some R → ai_ev ap_P 29 (49, [some (.ref 943), some (.int x.2.1), some (.int x.2.2)], [], (v0 L, x.1)) (.inl (ez_i R.1)) (v0 L, R.2) :=
  fun hr => lo_ev (E := fun x R => ai_ev ap_P 29 (49, [some (.ref 943), some (.int x.2.1), some (.int x.2.2)], [], (v0 L, x.1)) (.inl (ez_i R.1)) (v0 L, R.2)) (fun k hk x R hr => db_29_49 L hk x.1 x.2.1 x.2.2  R hr) nf_F x R hr
noncomputable def fb_29_7 (k7 : (am_G × Int32 × Int32) → Option (Int32 × am_G)) (g : am_G) (u1 : Int32) (u2 : Int32) : Option (Int32 × am_G) := if (am_i g 943 18) ≤ u2 then lo_g (ai_in u1 512) (lo_l (am_i g 955 u1.toNatClampNeg) fun x2 => fh_29_49 (g, u1, x2)) else lo_g (ai_in ((am_i g 943 17) + u2) 19000) (lo_l (((31 * u1) + (am_i g 951 (((am_i g 943 17) + u2)).toNatClampNeg)) &&& 511) fun x4 => k7 (g, x4, (u2 + 1)))
theorem db_29_7 (L : Nat) {k7 : (am_G × Int32 × Int32) → Option (Int32 × am_G)} (hk7 : ∀ (x : am_G × Int32 × Int32) (R : Int32 × am_G), k7 x = some R → ai_ev ap_P 29 (7, [some (.ref 943), some (.int x.2.1), some (.int x.2.2)], [], (v0 L, x.1)) (.inl (ez_i R.1)) (v0 L, R.2)) (g : am_G) (u1 : Int32) (u2 : Int32) (R : Int32 × am_G) : fb_29_7 k7 g u1 u2 = some R → ai_ev ap_P 29 (7, [some (.ref 943), some (.int u1), some (.int u2)], [], (v0 L, g)) (.inl (ez_i R.1)) (v0 L, R.2) := by
  unfold fb_29_7
  refine ev_if 3 (p := (am_i g 943 18) ≤ u2) (a := 42) (b := 15) (T := ([some (.ref 943), some (.int u1), some (.int u2)], [], (v0 L, g))) rfl ?_ ?_
  · refine ev_gd (c := ai_in u1 512) (fun hc1 => ?_)
    refine ev_jm 3 (t := (48, [some (.ref 943), some (.int u1), some (.int u2)], [.int (am_i g 955 u1.toNatClampNeg)], (v0 L, g))) (ai_gd (c := ai_in u1 512) rfl hc1) ?_
    refine lo_e (S := fun (x2 : Int32) => (48, [some (.ref 943), some (.int u1), some (.int u2)], [.int x2], (v0 L, g))) (fun x2 => ?_)
    refine ev_jm 0 (t := (49, [some (.ref 943), some (.int u1), some (.int x2)], [], (v0 L, g))) rfl ?_
    exact dh_29_49 L (g, u1, x2) _
  · refine ev_gd (c := ai_in ((am_i g 943 17) + u2) 19000) (fun hc3 => ?_)
    refine ev_jm 9 (t := (30, [some (.ref 943), some (.int u1), some (.int u2)], [.int (am_i g 951 (((am_i g 943 17) + u2)).toNatClampNeg), .int (31 * u1)], (v0 L, g))) (ai_gd (c := ai_in ((am_i g 943 17) + u2) 19000) rfl hc3) ?_
    refine ev_jm 2 (t := (35, [some (.ref 943), some (.int u1), some (.int u2)], [.int (((31 * u1) + (am_i g 951 (((am_i g 943 17) + u2)).toNatClampNeg)) &&& 511)], (v0 L, g))) rfl ?_
    refine lo_e (S := fun (x4 : Int32) => (35, [some (.ref 943), some (.int u1), some (.int u2)], [.int x4], (v0 L, g))) (fun x4 => ?_)
    refine ev_jm 2 (t := (7, [some (.ref 943), some (.int x4), some (.int (u2 + 1))], [], (v0 L, g))) rfl ?_
    exact hk7 (g, x4, (u2 + 1)) _
noncomputable def fh_29_7  (x : am_G × Int32 × Int32) : Option (Int32 × am_G) := lo_it (fun k x => fb_29_7 k x.1 x.2.1 x.2.2) nf_F x
theorem dh_29_7 (L : Nat)   (x : am_G × Int32 × Int32) (R : Int32 × am_G) : fh_29_7  x = some R → ai_ev ap_P 29 (7, [some (.ref 943), some (.int x.2.1), some (.int x.2.2)], [], (v0 L, x.1)) (.inl (ez_i R.1)) (v0 L, R.2) :=
  fun hr => lo_ev (E := fun x R => ai_ev ap_P 29 (7, [some (.ref 943), some (.int x.2.1), some (.int x.2.2)], [], (v0 L, x.1)) (.inl (ez_i R.1)) (v0 L, R.2)) (fun k hk x R hr => db_29_7 L hk x.1 x.2.1 x.2.2  R hr) nf_F x R hr
/-- DeclaredMarkupModel.known()I -/
noncomputable def fm_29 (g : am_G)  : Option (Int32 × am_G) := lo_l (am_i g 943 18) fun x1 => fh_29_7 (g, x1, 0)
theorem dm_29 (L : Nat) (g : am_G)  (R : Int32 × am_G) : fm_29 g  = some R → ai_ev ap_P 29 (ai_e0 ap_P 29 [.ref 943] (v0 L, g)) (.inl (ez_i R.1)) (v0 L, R.2) := by
  show _ → ai_ev ap_P 29 (0, [some (.ref 943), none, none], [], (v0 L, g)) _ _
  unfold fm_29
  refine ev_jm 1 (t := (4, [some (.ref 943), none, none], [.int (am_i g 943 18)], (v0 L, g))) rfl ?_
  refine lo_e (S := fun (x1 : Int32) => (4, [some (.ref 943), none, none], [.int x1], (v0 L, g))) (fun x1 => ?_)
  refine ev_jm 2 (t := (7, [some (.ref 943), some (.int x1), some (.int 0)], [], (v0 L, g))) rfl ?_
  exact dh_29_7 L (g, x1, 0) _
/-- DeclaredMarkupModel.letter(II)I -/
noncomputable def fm_32 (g : am_G) (u1 : Int32) (u2 : Int32) : Option (Int32) := lo_g (ai_in u1 6000) (lo_g (ai_in ((am_i g 952 u1.toNatClampNeg) + u2) 19000) (lo_l (am_i g 951 (((am_i g 952 u1.toNatClampNeg) + u2)).toNatClampNeg) fun x3 => if x3 < 65 then some x3 else if (90 : Int32) < x3 then some x3 else some (x3 + 32)))
theorem dm_32 (L : Nat) (g : am_G) (u1 : Int32) (u2 : Int32) (R : Int32) : fm_32 g u1 u2 = some R → ai_ev ap_P 32 (ai_e0 ap_P 32 [.ref 943, .int u1, .int u2] (v0 L, g)) (.inl (ez_i R)) (v0 L, g) := by
  show _ → ai_ev ap_P 32 (0, [some (.ref 943), some (.int u1), some (.int u2), none], [], (v0 L, g)) _ _
  unfold fm_32
  refine ev_gd (c := ai_in u1 6000) (fun hc1 => ?_)
  refine ev_jm 5 (t := (10, [some (.ref 943), some (.int u1), some (.int u2), none], [.int (am_i g 952 u1.toNatClampNeg), .ref 951], (v0 L, g))) (ai_gd (c := ai_in u1 6000) rfl hc1) ?_
  refine ev_gd (c := ai_in ((am_i g 952 u1.toNatClampNeg) + u2) 19000) (fun hc2 => ?_)
  refine ev_jm 2 (t := (13, [some (.ref 943), some (.int u1), some (.int u2), none], [.int (am_i g 951 (((am_i g 952 u1.toNatClampNeg) + u2)).toNatClampNeg)], (v0 L, g))) (ai_gd (c := ai_in ((am_i g 952 u1.toNatClampNeg) + u2) 19000) rfl hc2) ?_
  refine lo_e (S := fun (x3 : Int32) => (13, [some (.ref 943), some (.int u1), some (.int u2), none], [.int x3], (v0 L, g))) (fun x3 => ?_)
  refine ev_if 3 (p := x3 < 65) (a := 33) (b := 20) (T := ([some (.ref 943), some (.int u1), some (.int u2), some (.int x3)], [], (v0 L, g))) rfl ?_ ?_
  · exact fun hR => by cases hR; exact ev_rt 1 rfl
  · refine ev_if 2 (p := (90 : Int32) < x3) (a := 33) (b := 26) (T := ([some (.ref 943), some (.int u1), some (.int u2), some (.int x3)], [], (v0 L, g))) rfl ?_ ?_
    · exact fun hR => by cases hR; exact ev_rt 1 rfl
    · exact fun hR => by cases hR; exact ev_rt 4 rfl
/-- DeclaredMarkupModel.full(II)I -/
noncomputable def fm_22 (g : am_G) (u1 : Int32) (u2 : Int32) : Option (Int32 × am_G) := lo_i (fm_21 (am_si g 943 144 u1) 15 u2) fun y1 g2 => some (y1, g2)
theorem dm_22 (L : Nat) (g : am_G) (u1 : Int32) (u2 : Int32) (R : Int32 × am_G) : fm_22 g u1 u2 = some R → ai_ev ap_P 22 (ai_e0 ap_P 22 [.ref 943, .int u1, .int u2] (v0 L, g)) (.inl (ez_i R.1)) (v0 L, R.2) := by
  show _ → ai_ev ap_P 22 (0, [some (.ref 943), some (.int u1), some (.int u2)], [], (v0 L, g)) _ _
  unfold fm_22
  refine ev_oi 6 (as := [.ref 943, .int 15, .int u2]) (pc := 12) (Lc := [some (.ref 943), some (.int u1), some (.int u2)]) (st := []) (V := v0 L) (g1 := (am_si g 943 144 u1)) (e := ez_i) rfl (dm_21 L (am_si g 943 144 u1) 15 u2) (fun y1 g2 => ?_)
  exact fun hR => by cases hR; exact ev_rt 0 rfl
noncomputable def fj_36_47  (g : am_G) : Option (am_G) := some (am_si g 943 138 ((am_i g 943 138) + 1))
theorem dj_36_47 (L : Nat)   (g : am_G) (w1 : Option Value) (R : am_G) : fj_36_47  g = some R → ai_ev ap_P 36 (47, [some (.ref 943), w1], [], (v0 L, g)) (.inl none) (v0 L, R) := by
  unfold fj_36_47
  exact fun hR => by cases hR; exact ev_rt 6 rfl
/-- DeclaredMarkupModel.out(I)V -/
noncomputable def fm_36 (g : am_G) (u1 : Int32) : Option (am_G) := if (15000 : Int32) ≤ (am_i g 943 138) then if (30000 : Int32) ≤ (am_i g 943 138) then fj_36_47 g else lo_g (ai_in ((am_i g 943 138) - 15000) 15000) (fj_36_47 (am_si g 1007 (((am_i g 943 138) - 15000)).toNatClampNeg u1)) else lo_g (ai_in (am_i g 943 138) 15000) (fj_36_47 (am_si g 1006 ((am_i g 943 138)).toNatClampNeg u1))
theorem dm_36 (L : Nat) (g : am_G) (u1 : Int32) (R : am_G) : fm_36 g u1 = some R → ai_ev ap_P 36 (ai_e0 ap_P 36 [.ref 943, .int u1] (v0 L, g)) (.inl none) (v0 L, R) := by
  show _ → ai_ev ap_P 36 (0, [some (.ref 943), some (.int u1)], [], (v0 L, g)) _ _
  unfold fm_36
  refine ev_if 3 (p := (15000 : Int32) ≤ (am_i g 943 138)) (a := 23) (b := 10) (T := ([some (.ref 943), some (.int u1)], [], (v0 L, g))) rfl ?_ ?_
  · refine ev_if 3 (p := (30000 : Int32) ≤ (am_i g 943 138)) (a := 47) (b := 33) (T := ([some (.ref 943), some (.int u1)], [], (v0 L, g))) rfl ?_ ?_
    · exact dj_36_47 L g (some (.int u1)) _
    · refine ev_gd (c := ai_in ((am_i g 943 138) - 15000) 15000) (fun hc1 => ?_)
      refine ev_jm 7 (t := (47, [some (.ref 943), some (.int u1)], [], (v0 L, (am_si g 1007 (((am_i g 943 138) - 15000)).toNatClampNeg u1)))) (ai_gd (c := ai_in ((am_i g 943 138) - 15000) 15000) rfl hc1) ?_
      exact dj_36_47 L (am_si g 1007 (((am_i g 943 138) - 15000)).toNatClampNeg u1) (some (.int u1)) _
  · refine ev_gd (c := ai_in (am_i g 943 138) 15000) (fun hc2 => ?_)
    refine ev_jm 5 (t := (20, [some (.ref 943), some (.int u1)], [], (v0 L, (am_si g 1006 ((am_i g 943 138)).toNatClampNeg u1)))) (ai_gd (c := ai_in (am_i g 943 138) 15000) rfl hc2) ?_
    refine ev_jm 0 (t := (47, [some (.ref 943), some (.int u1)], [], (v0 L, (am_si g 1006 ((am_i g 943 138)).toNatClampNeg u1)))) rfl ?_
    exact dj_36_47 L (am_si g 1006 ((am_i g 943 138)).toNatClampNeg u1) (some (.int u1)) _
noncomputable def fj_39_13  (g : am_G) : Option (am_G) := some (am_si g 943 140 0)
theorem dj_39_13 (L : Nat)   (g : am_G) (R : am_G) : fj_39_13  g = some R → ai_ev ap_P 39 (13, [some (.ref 943)], [], (v0 L, g)) (.inl none) (v0 L, R) := by
  unfold fj_39_13
  exact fun hR => by cases hR; exact ev_rt 3 rfl
/-- DeclaredMarkupModel.closeText()V -/
noncomputable def fm_39 (g : am_G)  : Option (am_G) := if (am_i g 943 140) = 0 then fj_39_13 g else lo_p (fm_36 g 10) fun g2 => fj_39_13 g2
theorem dm_39 (L : Nat) (g : am_G)  (R : am_G) : fm_39 g  = some R → ai_ev ap_P 39 (ai_e0 ap_P 39 [.ref 943] (v0 L, g)) (.inl none) (v0 L, R) := by
  show _ → ai_ev ap_P 39 (0, [some (.ref 943)], [], (v0 L, g)) _ _
  unfold fm_39
  refine ev_if 2 (p := (am_i g 943 140) = 0) (a := 13) (b := 7) (T := ([some (.ref 943)], [], (v0 L, g))) rfl ?_ ?_
  · exact dj_39_13 L g _
  · refine ev_ov0 2 (as := [.ref 943, .int 10]) (pc := 13) (Lc := [some (.ref 943)]) (st := []) (V := v0 L) (g1 := g) rfl (dm_36 L g 10) (fun g2 => ?_)
    exact dj_39_13 L g2 _
noncomputable def fj_37_66  (g : am_G) (t1 : Int32) : Option (am_G) := lo_p (fm_36 g t1) fun g2 => some g2
theorem dj_37_66 (L : Nat)   (g : am_G) (t1 : Int32) (w0 w1 : Option Value) (R : am_G) : fj_37_66  g t1 = some R → ai_ev ap_P 37 (66, [w0, w1], [.int t1, .ref 943], (v0 L, g)) (.inl none) (v0 L, R) := by
  unfold fj_37_66
  refine ev_ov0 0 (as := [.ref 943, .int t1]) (pc := 69) (Lc := [none, none]) (st := []) (V := v0 L) (g1 := g) rfl (dm_36 L g t1) (fun g2 => ?_)
  exact fun hR => by cases hR; exact ev_rt 1 rfl
noncomputable def fj_37_24  (g : am_G) (u1 : Int32) : Option (am_G) := lo_p (fm_36 g 92) fun g2 => if u1 = 92 then fj_37_66 g2 92 else if u1 = 10 then fj_37_66 g2 110 else if u1 = 9 then fj_37_66 g2 116 else fj_37_66 g2 114
theorem dj_37_24 (L : Nat)   (g : am_G) (u1 : Int32) (R : am_G) : fj_37_24  g u1 = some R → ai_ev ap_P 37 (24, [some (.ref 943), some (.int u1)], [], (v0 L, g)) (.inl none) (v0 L, R) := by
  unfold fj_37_24
  refine ev_ov0 2 (as := [.ref 943, .int 92]) (pc := 30) (Lc := [some (.ref 943), some (.int u1)]) (st := []) (V := v0 L) (g1 := g) rfl (dm_36 L g 92) (fun g2 => ?_)
  refine ev_in 3 (p := u1 = 92) (a := 42) (b := 37) (T := ([some (.ref 943), some (.int u1)], [.ref 943], (v0 L, g2))) rfl ?_ ?_
  · refine ev_jm 1 (t := (66, [some (.ref 943), some (.int u1)], [.int 92, .ref 943], (v0 L, g2))) rfl ?_
    exact dj_37_66 L g2 92 (some (.ref 943)) (some (.int u1)) _
  · refine ev_in 2 (p := u1 = 10) (a := 53) (b := 48) (T := ([some (.ref 943), some (.int u1)], [.ref 943], (v0 L, g2))) rfl ?_ ?_
    · refine ev_jm 1 (t := (66, [some (.ref 943), some (.int u1)], [.int 110, .ref 943], (v0 L, g2))) rfl ?_
      exact dj_37_66 L g2 110 (some (.ref 943)) (some (.int u1)) _
    · refine ev_in 2 (p := u1 = 9) (a := 64) (b := 59) (T := ([some (.ref 943), some (.int u1)], [.ref 943], (v0 L, g2))) rfl ?_ ?_
      · refine ev_jm 1 (t := (66, [some (.ref 943), some (.int u1)], [.int 116, .ref 943], (v0 L, g2))) rfl ?_
        exact dj_37_66 L g2 116 (some (.ref 943)) (some (.int u1)) _
      · refine ev_jm 0 (t := (66, [some (.ref 943), some (.int u1)], [.int 114, .ref 943], (v0 L, g2))) rfl ?_
        exact dj_37_66 L g2 114 (some (.ref 943)) (some (.int u1)) _
/-- DeclaredMarkupModel.sign(I)V -/
noncomputable def fm_37 (g : am_G) (u1 : Int32) : Option (am_G) := if u1 = 92 then fj_37_24 g u1 else if u1 = 10 then fj_37_24 g u1 else if u1 = 9 then fj_37_24 g u1 else if u1 = 13 then fj_37_24 g u1 else if (128 : Int32) ≤ u1 then if (2048 : Int32) ≤ u1 then if (65536 : Int32) ≤ u1 then lo_p (fm_36 g (240 + (u1 / 262144))) fun g2 => lo_p (fm_36 g2 (128 + ((u1 / 4096) - (u1 / 4096) / 64 * 64))) fun g4 => lo_p (fm_36 g4 (128 + ((u1 / 64) - (u1 / 64) / 64 * 64))) fun g6 => lo_p (fm_36 g6 (128 + (u1 - u1 / 64 * 64))) fun g8 => some g8 else lo_p (fm_36 g (224 + (u1 / 4096))) fun g10 => lo_p (fm_36 g10 (128 + ((u1 / 64) - (u1 / 64) / 64 * 64))) fun g12 => lo_p (fm_36 g12 (128 + (u1 - u1 / 64 * 64))) fun g14 => some g14 else lo_p (fm_36 g (192 + (u1 / 64))) fun g16 => lo_p (fm_36 g16 (128 + (u1 - u1 / 64 * 64))) fun g18 => some g18 else lo_p (fm_36 g u1) fun g20 => some g20
theorem dm_37 (L : Nat) (g : am_G) (u1 : Int32) (R : am_G) : fm_37 g u1 = some R → ai_ev ap_P 37 (ai_e0 ap_P 37 [.ref 943, .int u1] (v0 L, g)) (.inl none) (v0 L, R) := by
  show _ → ai_ev ap_P 37 (0, [some (.ref 943), some (.int u1)], [], (v0 L, g)) _ _
  unfold fm_37
  refine ev_if 2 (p := u1 = 92) (a := 24) (b := 6) (T := ([some (.ref 943), some (.int u1)], [], (v0 L, g))) rfl ?_ ?_
  · exact dj_37_24 L g u1 _
  · refine ev_if 2 (p := u1 = 10) (a := 24) (b := 12) (T := ([some (.ref 943), some (.int u1)], [], (v0 L, g))) rfl ?_ ?_
    · exact dj_37_24 L g u1 _
    · refine ev_if 2 (p := u1 = 9) (a := 24) (b := 18) (T := ([some (.ref 943), some (.int u1)], [], (v0 L, g))) rfl ?_ ?_
      · exact dj_37_24 L g u1 _
      · refine ev_in 2 (p := u1 = 13) (a := 72) (b := 24) (T := ([some (.ref 943), some (.int u1)], [], (v0 L, g))) rfl ?_ ?_
        · exact dj_37_24 L g u1 _
        · refine ev_if 2 (p := (128 : Int32) ≤ u1) (a := 87) (b := 79) (T := ([some (.ref 943), some (.int u1)], [], (v0 L, g))) rfl ?_ ?_
          · refine ev_if 2 (p := (2048 : Int32) ≤ u1) (a := 121) (b := 94) (T := ([some (.ref 943), some (.int u1)], [], (v0 L, g))) rfl ?_ ?_
            · refine ev_if 2 (p := (65536 : Int32) ≤ u1) (a := 170) (b := 127) (T := ([some (.ref 943), some (.int u1)], [], (v0 L, g))) rfl ?_ ?_
              · refine ev_ov0 6 (as := [.ref 943, .int (240 + (u1 / 262144))]) (pc := 183) (Lc := [some (.ref 943), some (.int u1)]) (st := []) (V := v0 L) (g1 := g) rfl (dm_36 L g (240 + (u1 / 262144))) (fun g2 => ?_)
                refine ev_ov0 8 (as := [.ref 943, .int (128 + ((u1 / 4096) - (u1 / 4096) / 64 * 64))]) (pc := 199) (Lc := [some (.ref 943), some (.int u1)]) (st := []) (V := v0 L) (g1 := g2) rfl (dm_36 L g2 (128 + ((u1 / 4096) - (u1 / 4096) / 64 * 64))) (fun g4 => ?_)
                refine ev_ov0 8 (as := [.ref 943, .int (128 + ((u1 / 64) - (u1 / 64) / 64 * 64))]) (pc := 214) (Lc := [some (.ref 943), some (.int u1)]) (st := []) (V := v0 L) (g1 := g4) rfl (dm_36 L g4 (128 + ((u1 / 64) - (u1 / 64) / 64 * 64))) (fun g6 => ?_)
                refine ev_ov0 6 (as := [.ref 943, .int (128 + (u1 - u1 / 64 * 64))]) (pc := 226) (Lc := [some (.ref 943), some (.int u1)]) (st := []) (V := v0 L) (g1 := g6) rfl (dm_36 L g6 (128 + (u1 - u1 / 64 * 64))) (fun g8 => ?_)
                exact fun hR => by cases hR; exact ev_rt 0 rfl
              · refine ev_ov0 6 (as := [.ref 943, .int (224 + (u1 / 4096))]) (pc := 140) (Lc := [some (.ref 943), some (.int u1)]) (st := []) (V := v0 L) (g1 := g) rfl (dm_36 L g (224 + (u1 / 4096))) (fun g10 => ?_)
                refine ev_ov0 8 (as := [.ref 943, .int (128 + ((u1 / 64) - (u1 / 64) / 64 * 64))]) (pc := 155) (Lc := [some (.ref 943), some (.int u1)]) (st := []) (V := v0 L) (g1 := g10) rfl (dm_36 L g10 (128 + ((u1 / 64) - (u1 / 64) / 64 * 64))) (fun g12 => ?_)
                refine ev_ov0 6 (as := [.ref 943, .int (128 + (u1 - u1 / 64 * 64))]) (pc := 167) (Lc := [some (.ref 943), some (.int u1)]) (st := []) (V := v0 L) (g1 := g12) rfl (dm_36 L g12 (128 + (u1 - u1 / 64 * 64))) (fun g14 => ?_)
                exact fun hR => by cases hR; exact ev_rt 1 rfl
            · refine ev_ov0 6 (as := [.ref 943, .int (192 + (u1 / 64))]) (pc := 106) (Lc := [some (.ref 943), some (.int u1)]) (st := []) (V := v0 L) (g1 := g) rfl (dm_36 L g (192 + (u1 / 64))) (fun g16 => ?_)
              refine ev_ov0 6 (as := [.ref 943, .int (128 + (u1 - u1 / 64 * 64))]) (pc := 118) (Lc := [some (.ref 943), some (.int u1)]) (st := []) (V := v0 L) (g1 := g16) rfl (dm_36 L g16 (128 + (u1 - u1 / 64 * 64))) (fun g18 => ?_)
              exact fun hR => by cases hR; exact ev_rt 1 rfl
          · refine ev_ov0 2 (as := [.ref 943, .int u1]) (pc := 84) (Lc := [some (.ref 943), some (.int u1)]) (st := []) (V := v0 L) (g1 := g) rfl (dm_36 L g u1) (fun g20 => ?_)
            exact fun hR => by cases hR; exact ev_rt 1 rfl
