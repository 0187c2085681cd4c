/-- DeclaredMarkup$Processor.type(Z)LDeclaredMarkup$AttType; -/
noncomputable def fm_320 (g : am_G) (u1 : Int32) : Option ((Nat ⊕ Nat) × am_G) := lo_p (fm_240 (am_si g 33 34 0) 40) fun y1 => if y1 = 0 then lo_p (fm_240 (am_si g 33 34 0) 67) fun y3 => if y3 = 0 then lo_p (fm_240 (am_si g 33 34 0) 73) fun y5 => if y5 = 0 then lo_p (fm_240 (am_si g 33 34 0) 69) fun y7 => if y7 = 0 then lo_t (fm_244 (am_si g 33 34 0) 78) fun y9 g10 => lo_p (fm_240 g10 79) fun y11 => if y11 = 0 then lo_t (fm_245 g10 85024502924622) fun y13 g14 => lo_p (fm_240 g14 83) fun y15 => if y15 = 0 then some (.inl 7, g14) else lo_p (fm_177 g14 ) fun g18 => some (.inl 8, g18) else lo_t (fm_245 g10 22329162723839822) fun y19 g20 => lo_t (fm_243 g20 ) fun y21 g22 => lo_p (fm_240 g22 40) fun y23 => lo_t (fm_238 g22 y23) fun y25 g26 => lo_t (fm_322 g26 1 u1) fun y27 g28 => some (.inl 9, g28) else lo_t (fm_245 (am_si g 33 34 0) 297666890068) fun y29 g30 => lo_p (fm_240 g30 89) fun y31 => if y31 = 0 then lo_t (fm_245 g30 4801875) fun y33 g34 => some (.inl 6, g34) else lo_p (fm_177 g30 ) fun g36 => some (.inl 5, g36) else lo_t (fm_321 (am_si g 33 34 0) ) fun y37 g38 => some (.inl y37, g38) else lo_t (fm_245 (am_si g 33 34 0) 288907940929) fun y39 g40 => some (.inl 1, g40) else lo_t (fm_322 (am_si g 33 34 0) 0 u1) fun y41 g42 => some (.inl 10, g42)
theorem dm_320 (L : Nat) (g : am_G) (u1 : Int32) (R : (Nat ⊕ Nat) × am_G) : fm_320 g u1 = some R → ai_ev ap_P 320 (ai_e0 ap_P 320 [.ref 33, .int u1] (v0 L, g)) (oz_r ez_a R.1) (v0 L, R.2) := by
  show _ → ai_ev ap_P 320 (0, [some (.ref 33), some (.int u1)], [], (v0 L, g)) _ _
  unfold fm_320
  refine ev_op 5 (as := [.ref 33, .int 40]) (pc := 11) (Lc := [some (.ref 33), some (.int u1)]) (st := []) (h1 := (v0 L, (am_si g 33 34 0))) (e := ez_i) rfl (dm_240 L (am_si g 33 34 0) 40) (fun y1 => ?_)
  refine ev_if 0 (p := y1 = 0) (a := 24) (b := 14) (T := ([some (.ref 33), some (.int u1)], [], (v0 L, (am_si g 33 34 0)))) rfl ?_ ?_
  · refine ev_op 2 (as := [.ref 33, .int 67]) (pc := 30) (Lc := [some (.ref 33), some (.int u1)]) (st := []) (h1 := (v0 L, (am_si g 33 34 0))) (e := ez_i) rfl (dm_240 L (am_si g 33 34 0) 67) (fun y3 => ?_)
    refine ev_if 0 (p := y3 = 0) (a := 44) (b := 33) (T := ([some (.ref 33), some (.int u1)], [], (v0 L, (am_si g 33 34 0)))) rfl ?_ ?_
    · refine ev_op 2 (as := [.ref 33, .int 73]) (pc := 50) (Lc := [some (.ref 33), some (.int u1)]) (st := []) (h1 := (v0 L, (am_si g 33 34 0))) (e := ez_i) rfl (dm_240 L (am_si g 33 34 0) 73) (fun y5 => ?_)
      refine ev_if 0 (p := y5 = 0) (a := 58) (b := 53) (T := ([some (.ref 33), some (.int u1)], [], (v0 L, (am_si g 33 34 0)))) rfl ?_ ?_
      · refine ev_op 2 (as := [.ref 33, .int 69]) (pc := 64) (Lc := [some (.ref 33), some (.int u1)]) (st := []) (h1 := (v0 L, (am_si g 33 34 0))) (e := ez_i) rfl (dm_240 L (am_si g 33 34 0) 69) (fun y7 => ?_)
        refine ev_if 0 (p := y7 = 0) (a := 105) (b := 67) (T := ([some (.ref 33), some (.int u1)], [], (v0 L, (am_si g 33 34 0)))) rfl ?_ ?_
        · refine ev_ot 2 (as := [.ref 33, .int 78]) (pc := 111) (Lc := [some (.ref 33), some (.int u1)]) (st := []) (V := v0 L) (g1 := (am_si g 33 34 0)) (e := ez_v) rfl (dm_244 L (am_si g 33 34 0) 78) (fun _ => rfl) (fun y9 g10 => ?_)
          refine ev_op 2 (as := [.ref 33, .int 79]) (pc := 117) (Lc := [some (.ref 33), some (.int u1)]) (st := []) (h1 := (v0 L, g10)) (e := ez_i) rfl (dm_240 L g10 79) (fun y11 => ?_)
          refine ev_if 0 (p := y11 = 0) (a := 151) (b := 120) (T := ([some (.ref 33), some (.int u1)], [], (v0 L, g10))) rfl ?_ ?_
          · refine ev_ot 2 (as := [.ref 33, .long 85024502924622]) (pc := 158) (Lc := [some (.ref 33), some (.int u1)]) (st := []) (V := v0 L) (g1 := g10) (e := ez_v) rfl (dm_245 L g10 85024502924622) (fun _ => rfl) (fun y13 g14 => ?_)
            refine ev_op 2 (as := [.ref 33, .int 83]) (pc := 164) (Lc := [some (.ref 33), some (.int u1)]) (st := []) (h1 := (v0 L, g14)) (e := ez_i) rfl (dm_240 L g14 83) (fun y15 => ?_)
            refine ev_in 0 (p := y15 = 0) (a := 171) (b := 167) (T := ([some (.ref 33), some (.int u1)], [], (v0 L, g14))) rfl ?_ ?_
            · exact fun hR => by cases hR; exact ev_rt 1 rfl
            · refine ev_ov0 2 (as := [.ref 39]) (pc := 178) (Lc := [some (.ref 33), some (.int u1)]) (st := []) (V := v0 L) (g1 := g14) rfl (dm_177 L g14 ) (fun g18 => ?_)
              exact fun hR => by cases hR; exact ev_rt 1 rfl
          · refine ev_ot 2 (as := [.ref 33, .long 22329162723839822]) (pc := 127) (Lc := [some (.ref 33), some (.int u1)]) (st := []) (V := v0 L) (g1 := g10) (e := ez_v) rfl (dm_245 L g10 22329162723839822) (fun _ => rfl) (fun y19 g20 => ?_)
            refine ev_ot 1 (as := [.ref 33]) (pc := 131) (Lc := [some (.ref 33), some (.int u1)]) (st := []) (V := v0 L) (g1 := g20) (e := ez_v) rfl (dm_243 L g20 ) (fun _ => rfl) (fun y21 g22 => ?_)
            refine ev_op 3 (as := [.ref 33, .int 40]) (pc := 138) (Lc := [some (.ref 33), some (.int u1)]) (st := [.ref 33]) (h1 := (v0 L, g22)) (e := ez_i) rfl (dm_240 L g22 40) (fun y23 => ?_)
            refine ev_ot 0 (as := [.ref 33, .int y23]) (pc := 141) (Lc := [some (.ref 33), some (.int u1)]) (st := []) (V := v0 L) (g1 := g22) (e := ez_v) rfl (dm_238 L g22 y23) (fun _ => rfl) (fun y25 g26 => ?_)
            refine ev_ot 3 (as := [.ref 33, .int 1, .int u1]) (pc := 147) (Lc := [some (.ref 33), some (.int u1)]) (st := []) (V := v0 L) (g1 := g26) (e := ez_v) rfl (dm_322 L g26 1 u1) (fun _ => rfl) (fun y27 g28 => ?_)
            exact fun hR => by cases hR; exact ev_rt 1 rfl
        · refine ev_ot 2 (as := [.ref 33, .long 297666890068]) (pc := 74) (Lc := [some (.ref 33), some (.int u1)]) (st := []) (V := v0 L) (g1 := (am_si g 33 34 0)) (e := ez_v) rfl (dm_245 L (am_si g 33 34 0) 297666890068) (fun _ => rfl) (fun y29 g30 => ?_)
          refine ev_op 2 (as := [.ref 33, .int 89]) (pc := 80) (Lc := [some (.ref 33), some (.int u1)]) (st := []) (h1 := (v0 L, g30)) (e := ez_i) rfl (dm_240 L g30 89) (fun y31 => ?_)
          refine ev_if 0 (p := y31 = 0) (a := 94) (b := 83) (T := ([some (.ref 33), some (.int u1)], [], (v0 L, g30))) rfl ?_ ?_
          · refine ev_ot 2 (as := [.ref 33, .long 4801875]) (pc := 101) (Lc := [some (.ref 33), some (.int u1)]) (st := []) (V := v0 L) (g1 := g30) (e := ez_v) rfl (dm_245 L g30 4801875) (fun _ => rfl) (fun y33 g34 => ?_)
            exact fun hR => by cases hR; exact ev_rt 1 rfl
          · refine ev_ov0 2 (as := [.ref 39]) (pc := 90) (Lc := [some (.ref 33), some (.int u1)]) (st := []) (V := v0 L) (g1 := g30) rfl (dm_177 L g30 ) (fun g36 => ?_)
            exact fun hR => by cases hR; exact ev_rt 1 rfl
      · refine ev_ot 1 (as := [.ref 33]) (pc := 57) (Lc := [some (.ref 33), some (.int u1)]) (st := []) (V := v0 L) (g1 := (am_si g 33 34 0)) (e := ez_a) rfl (dm_321 L (am_si g 33 34 0) ) (fun _ => rfl) (fun y37 g38 => ?_)
        exact fun hR => by cases hR; exact ev_rt 0 rfl
    · refine ev_ot 2 (as := [.ref 33, .long 288907940929]) (pc := 40) (Lc := [some (.ref 33), some (.int u1)]) (st := []) (V := v0 L) (g1 := (am_si g 33 34 0)) (e := ez_v) rfl (dm_245 L (am_si g 33 34 0) 288907940929) (fun _ => rfl) (fun y39 g40 => ?_)
      exact fun hR => by cases hR; exact ev_rt 1 rfl
  · refine ev_ot 3 (as := [.ref 33, .int 0, .int u1]) (pc := 20) (Lc := [some (.ref 33), some (.int u1)]) (st := []) (V := v0 L) (g1 := (am_si g 33 34 0)) (e := ez_v) rfl (dm_322 L (am_si g 33 34 0) 0 u1) (fun _ => rfl) (fun y41 g42 => ?_)
    exact fun hR => by cases hR; exact ev_rt 1 rfl
/-- DeclaredMarkup$Processor.defaultKind()I -/
noncomputable def fm_319 (g : am_G)  : Option ((Int32 ⊕ Nat) × am_G) := lo_p (fm_240 g 35) fun y1 => if y1 = 0 then some (.inl 3, g) else lo_p (fm_177 g ) fun g4 => lo_p (fm_240 g4 82) fun y5 => if y5 = 0 then lo_p (fm_240 g4 73) fun y7 => if y7 = 0 then lo_t (fm_245 g4 301878232388) fun y9 g10 => lo_t (fm_243 g10 ) fun y11 g12 => some (.inl 2, g12) else lo_t (fm_245 g4 20632680572470596) fun y13 g14 => some (.inl 0, g14) else lo_t (fm_245 g4 5928233911247324484) fun y15 g16 => some (.inl 1, g16)
theorem dm_319 (L : Nat) (g : am_G)  (R : (Int32 ⊕ Nat) × am_G) : fm_319 g  = some R → ai_ev ap_P 319 (ai_e0 ap_P 319 [.ref 33] (v0 L, g)) (oz_r ez_i R.1) (v0 L, R.2) := by
  show _ → ai_ev ap_P 319 (0, [some (.ref 33)], [], (v0 L, g)) _ _
  unfold fm_319
  refine ev_op 2 (as := [.ref 33, .int 35]) (pc := 6) (Lc := [some (.ref 33)]) (st := []) (h1 := (v0 L, g)) (e := ez_i) rfl (dm_240 L g 35) (fun y1 => ?_)
  refine ev_in 0 (p := y1 = 0) (a := 11) (b := 9) (T := ([some (.ref 33)], [], (v0 L, g))) rfl ?_ ?_
  · exact fun hR => by cases hR; exact ev_rt 1 rfl
  · refine ev_ov0 2 (as := [.ref 39]) (pc := 18) (Lc := [some (.ref 33)]) (st := []) (V := v0 L) (g1 := g) rfl (dm_177 L g ) (fun g4 => ?_)
    refine ev_op 2 (as := [.ref 33, .int 82]) (pc := 24) (Lc := [some (.ref 33)]) (st := []) (h1 := (v0 L, g4)) (e := ez_i) rfl (dm_240 L g4 82) (fun y5 => ?_)
    refine ev_if 0 (p := y5 = 0) (a := 36) (b := 27) (T := ([some (.ref 33)], [], (v0 L, g4))) rfl ?_ ?_
    · refine ev_op 2 (as := [.ref 33, .int 73]) (pc := 42) (Lc := [some (.ref 33)]) (st := []) (h1 := (v0 L, g4)) (e := ez_i) rfl (dm_240 L g4 73) (fun y7 => ?_)
      refine ev_if 0 (p := y7 = 0) (a := 54) (b := 45) (T := ([some (.ref 33)], [], (v0 L, g4))) rfl ?_ ?_
      · refine ev_ot 2 (as := [.ref 33, .long 301878232388]) (pc := 61) (Lc := [some (.ref 33)]) (st := []) (V := v0 L) (g1 := g4) (e := ez_v) rfl (dm_245 L g4 301878232388) (fun _ => rfl) (fun y9 g10 => ?_)
        refine ev_ot 1 (as := [.ref 33]) (pc := 65) (Lc := [some (.ref 33)]) (st := []) (V := v0 L) (g1 := g10) (e := ez_v) rfl (dm_243 L g10 ) (fun _ => rfl) (fun y11 g12 => ?_)
        exact fun hR => by cases hR; exact ev_rt 1 rfl
      · refine ev_ot 2 (as := [.ref 33, .long 20632680572470596]) (pc := 52) (Lc := [some (.ref 33)]) (st := []) (V := v0 L) (g1 := g4) (e := ez_v) rfl (dm_245 L g4 20632680572470596) (fun _ => rfl) (fun y13 g14 => ?_)
        exact fun hR => by cases hR; exact ev_rt 1 rfl
    · refine ev_ot 2 (as := [.ref 33, .long 5928233911247324484]) (pc := 34) (Lc := [some (.ref 33)]) (st := []) (V := v0 L) (g1 := g4) (e := ez_v) rfl (dm_245 L g4 5928233911247324484) (fun _ => rfl) (fun y15 g16 => ?_)
      exact fun hR => by cases hR; exact ev_rt 1 rfl
noncomputable def fb_317_12 (k2 : (am_G × Nat × Int32) → Option (am_G)) (k12 : (am_G × Nat × Int32 × Int32) → Option (am_G)) (g : am_G) (u1 : Nat) (u2 : Int32) (u3 : Int32) : Option (am_G) := if u2 ≤ u3 then k2 (g, u1, (u2 + 1)) else lo_g (Nat.beq (v0_kd u1) 11) (lo_g (ai_in ((am_i g u1 3) + u2) 300) (lo_g (ai_in ((am_i g u1 3) + u3) 300) (if (am_i g 52 (((am_i g u1 3) + u2)).toNatClampNeg) = (am_i g 52 (((am_i g u1 3) + u3)).toNatClampNeg) then lo_p (fm_239 g 20) fun g5 => k12 (g5, u1, u2, (u3 + 1)) else k12 (g, u1, u2, (u3 + 1)))))
theorem db_317_12 (L : Nat) {k2 : (am_G × Nat × Int32) → Option (am_G)} {k12 : (am_G × Nat × Int32 × Int32) → Option (am_G)} (hk2 : ∀ (x : am_G × Nat × Int32) (w3 : Option Value) (R : am_G), k2 x = some R → ai_ev ap_P 317 (2, [some (.ref 33), some (.ref x.2.1), some (.int x.2.2), w3], [], (v0 L, x.1)) (.inl none) (v0 L, R)) (hk12 : ∀ (x : am_G × Nat × Int32 × Int32) (R : am_G), k12 x = some R → ai_ev ap_P 317 (12, [some (.ref 33), some (.ref x.2.1), some (.int x.2.2.1), some (.int x.2.2.2)], [], (v0 L, x.1)) (.inl none) (v0 L, R)) (g : am_G) (u1 : Nat) (u2 : Int32) (u3 : Int32) (R : am_G) : fb_317_12 k2 k12 g u1 u2 u3 = some R → ai_ev ap_P 317 (12, [some (.ref 33), some (.ref u1), some (.int u2), some (.int u3)], [], (v0 L, g)) (.inl none) (v0 L, R) := by
  unfold fb_317_12
  refine ev_if 2 (p := u2 ≤ u3) (a := 60) (b := 17) (T := ([some (.ref 33), some (.ref u1), some (.int u2), some (.int u3)], [], (v0 L, g))) rfl ?_ ?_
  · refine ev_jm 1 (t := (2, [some (.ref 33), some (.ref u1), some (.int (u2 + 1)), some (.int u3)], [], (v0 L, g))) rfl ?_
    exact hk2 (g, u1, (u2 + 1)) (some (.int u3)) _
  · refine ev_gd (c := Nat.beq (v0_kd u1) 11) (fun hc1 => ?_)
    refine ev_jm 4 (t := (28, [some (.ref 33), some (.ref u1), some (.int u2), some (.int u3)], [.int (am_i g u1 3), .ref 52], (v0 L, g))) (ai_gd (c := Nat.beq (v0_kd u1) 11) rfl hc1) ?_
    refine ev_gd (c := ai_in ((am_i g u1 3) + u2) 300) (fun hc2 => ?_)
    refine ev_jm 2 (t := (31, [some (.ref 33), some (.ref u1), some (.int u2), some (.int u3)], [.int (am_i g 52 (((am_i g u1 3) + u2)).toNatClampNeg)], (v0 L, g))) (ai_gd (c := ai_in ((am_i g u1 3) + u2) 300) rfl hc2) ?_
    refine ev_jm 4 (t := (42, [some (.ref 33), some (.ref u1), some (.int u2), some (.int u3)], [.int (am_i g u1 3), .ref 52, .int (am_i g 52 (((am_i g u1 3) + u2)).toNatClampNeg)], (v0 L, g))) (ai_gd (c := Nat.beq (v0_kd u1) 11) rfl hc1) ?_
    refine ev_gd (c := ai_in ((am_i g u1 3) + u3) 300) (fun hc3 => ?_)
    refine ev_jm 2 (t := (45, [some (.ref 33), some (.ref u1), some (.int u2), some (.int u3)], [.int (am_i g 52 (((am_i g u1 3) + u3)).toNatClampNeg), .int (am_i g 52 (((am_i g u1 3) + u2)).toNatClampNeg)], (v0 L, g))) (ai_gd (c := ai_in ((am_i g u1 3) + u3) 300) rfl hc3) ?_
    refine ev_in 0 (p := (am_i g 52 (((am_i g u1 3) + u2)).toNatClampNeg) = (am_i g 52 (((am_i g u1 3) + u3)).toNatClampNeg)) (a := 54) (b := 48) (T := ([some (.ref 33), some (.ref u1), some (.int u2), some (.int u3)], [], (v0 L, g))) rfl ?_ ?_
    · refine ev_ov0 2 (as := [.ref 33, .int 20]) (pc := 54) (Lc := [some (.ref 33), some (.ref u1), some (.int u2), some (.int u3)]) (st := []) (V := v0 L) (g1 := g) rfl (dm_239 L g 20) (fun g5 => ?_)
      refine ev_jm 1 (t := (12, [some (.ref 33), some (.ref u1), some (.int u2), some (.int (u3 + 1))], [], (v0 L, g5))) rfl ?_
      exact hk12 (g5, u1, u2, (u3 + 1)) _
    · refine ev_jm 1 (t := (12, [some (.ref 33), some (.ref u1), some (.int u2), some (.int (u3 + 1))], [], (v0 L, g))) rfl ?_
      exact hk12 (g, u1, u2, (u3 + 1)) _
noncomputable def fh_317_12 (k2 : (am_G × Nat × Int32) → Option (am_G)) (x : am_G × Nat × Int32 × Int32) : Option (am_G) := lo_it (fun k x => fb_317_12 k2 k x.1 x.2.1 x.2.2.1 x.2.2.2) nf_F x
theorem dh_317_12 (L : Nat) {k2 : (am_G × Nat × Int32) → Option (am_G)} (hk2 : ∀ (x : am_G × Nat × Int32) (w3 : Option Value) (R : am_G), k2 x = some R → ai_ev ap_P 317 (2, [some (.ref 33), some (.ref x.2.1), some (.int x.2.2), w3], [], (v0 L, x.1)) (.inl none) (v0 L, R)) (x : am_G × Nat × Int32 × Int32) (R : am_G) : fh_317_12 k2 x = some R → ai_ev ap_P 317 (12, [some (.ref 33), some (.ref x.2.1), some (.int x.2.2.1), some (.int x.2.2.2)], [], (v0 L, x.1)) (.inl none) (v0 L, R) :=
  fun hr => lo_ev (E := fun x R => ai_ev ap_P 317 (12, [some (.ref 33), some (.ref x.2.1), some (.int x.2.2.1), some (.int x.2.2.2)], [], (v0 L, x.1)) (.inl none) (v0 L, R)) (fun k hk x R hr => db_317_12 L hk2 hk x.1 x.2.1 x.2.2.1 x.2.2.2  R hr) nf_F x R hr
noncomputable def fb_317_2 (k2 : (am_G × Nat × Int32) → Option (am_G)) (g : am_G) (u1 : Nat) (u2 : Int32) : Option (am_G) := lo_g (Nat.beq (v0_kd u1) 11) (if (am_i g u1 4) ≤ u2 then some g else fh_317_12 k2 (g, u1, u2, 0))
theorem db_317_2 (L : Nat) {k2 : (am_G × Nat × Int32) → Option (am_G)} (hk2 : ∀ (x : am_G × Nat × Int32) (w3 : Option Value) (R : am_G), k2 x = some R → ai_ev ap_P 317 (2, [some (.ref 33), some (.ref x.2.1), some (.int x.2.2), w3], [], (v0 L, x.1)) (.inl none) (v0 L, R)) (g : am_G) (u1 : Nat) (u2 : Int32) (w3 : Option Value) (R : am_G) : fb_317_2 k2 g u1 u2 = some R → ai_ev ap_P 317 (2, [some (.ref 33), some (.ref u1), some (.int u2), w3], [], (v0 L, g)) (.inl none) (v0 L, R) := by
  unfold fb_317_2
  refine ev_gd (c := Nat.beq (v0_kd u1) 11) (fun hc1 => ?_)
  refine ev_jm 2 (t := (7, [some (.ref 33), some (.ref u1), some (.int u2), none], [.int (am_i g u1 4), .int u2], (v0 L, g))) (ai_gd (c := Nat.beq (v0_kd u1) 11) rfl hc1) ?_
  refine ev_if 0 (p := (am_i g u1 4) ≤ u2) (a := 66) (b := 10) (T := ([some (.ref 33), some (.ref u1), some (.int u2), none], [], (v0 L, g))) rfl ?_ ?_
  · exact fun hR => by cases hR; exact ev_rt 0 rfl
  · refine ev_jm 1 (t := (12, [some (.ref 33), some (.ref u1), some (.int u2), some (.int 0)], [], (v0 L, g))) rfl ?_
    exact dh_317_12 L hk2 (g, u1, u2, 0) _
noncomputable def fh_317_2  (x : am_G × Nat × Int32) : Option (am_G) := lo_it (fun k x => fb_317_2 k x.1 x.2.1 x.2.2) nf_F x
theorem dh_317_2 (L : Nat)   (x : am_G × Nat × Int32) (w3 : Option Value) (R : am_G) : fh_317_2  x = some R → ai_ev ap_P 317 (2, [some (.ref 33), some (.ref x.2.1), some (.int x.2.2), w3], [], (v0 L, x.1)) (.inl none) (v0 L, R) :=
  fun hr => lo_ev (E := fun x R => ∀ (w3 : Option Value), ai_ev ap_P 317 (2, [some (.ref 33), some (.ref x.2.1), some (.int x.2.2), w3], [], (v0 L, x.1)) (.inl none) (v0 L, R)) (fun k hk x R hr => fun w3 => db_317_2 L (fun x w3 R hr => hk x R hr w3) x.1 x.2.1 x.2.2 w3 R hr) nf_F x R hr w3
/-- DeclaredMarkup$Processor.checkTokens(LDeclaredMarkup$AttDecl;)V -/
noncomputable def fm_317 (g : am_G) (u1 : Nat) : Option (am_G) := fh_317_2 (g, u1, 0)
theorem dm_317 (L : Nat) (g : am_G) (u1 : Nat) (R : am_G) : fm_317 g u1 = some R → ai_ev ap_P 317 (ai_e0 ap_P 317 [.ref 33, .ref u1] (v0 L, g)) (.inl none) (v0 L, R) := by
  show _ → ai_ev ap_P 317 (0, [some (.ref 33), some (.ref u1), none, none], [], (v0 L, g)) _ _
  unfold fm_317
  refine ev_jm 1 (t := (2, [some (.ref 33), some (.ref u1), some (.int 0), none], [], (v0 L, g))) rfl ?_
  exact dh_317_2 L (g, u1, 0) none _
noncomputable def fb_166_5 (g : am_G) (k5 : (Int32 × Nat × Int32 × Int32) → Option (Int32)) (u1 : Int32) (u2 : Nat) (u3 : Int32) (u4 : Int32) : Option (Int32) := if (am_i g 49 6) ≤ u4 then some u3 else lo_g (ai_in u4 80) (lo_g (Nat.beq (v0_kd (775 + u4.toNatClampNeg)) 11) (if (am_i g (775 + u4.toNatClampNeg) 0) = u1 then lo_m (am_r g (775 + u4.toNatClampNeg) 7) (none) fun o4 => lo_g (ai_oc (some o4) && ai_oc (some u2)) (if (some o4) = (some u2) then lo_l (u3 + 1) fun x6 => k5 (u1, u2, x6, (u4 + 1)) else lo_l (u3 + 0) fun x7 => k5 (u1, u2, x7, (u4 + 1))) else lo_l (u3 + 0) fun x3 => k5 (u1, u2, x3, (u4 + 1))))
theorem db_166_5 (L : Nat) (g : am_G) {k5 : (Int32 × Nat × Int32 × Int32) → Option (Int32)} (hk5 : ∀ (x : Int32 × Nat × Int32 × Int32) (R : Int32), k5 x = some R → ai_ev ap_P 166 (5, [some (.ref 49), some (.int x.1), some (.ref x.2.1), some (.int x.2.2.1), some (.int x.2.2.2)], [], (v0 L, g)) (.inl (ez_i R)) (v0 L, g)) (u1 : Int32) (u2 : Nat) (u3 : Int32) (u4 : Int32) (R : Int32) : fb_166_5 g k5 u1 u2 u3 u4 = some R → ai_ev ap_P 166 (5, [some (.ref 49), some (.int u1), some (.ref u2), some (.int u3), some (.int u4)], [], (v0 L, g)) (.inl (ez_i R)) (v0 L, g) := by
  unfold fb_166_5
  refine ev_if 3 (p := (am_i g 49 6) ≤ u4) (a := 56) (b := 14) (T := ([some (.ref 49), some (.int u1), some (.ref u2), some (.int u3), some (.int u4)], [], (v0 L, g))) rfl ?_ ?_
  · exact fun hR => by cases hR; exact ev_rt 1 rfl
  · refine ev_gd (c := ai_in u4 80) (fun hc1 => ?_)
    refine ev_fr (S := fun (o : Option Nat) => (22, [some (.ref 49), some (.int u1), some (.ref u2), some (.int u3), some (.int u4)], [am_v o, .int u3], (v0 L, g))) 4 (e := v0_fr 51 u4.toNatClampNeg) (q := (775 + u4.toNatClampNeg)) (ai_gd (c := ai_in u4 80) rfl hc1) (fr_51 hc1) ?_
    refine ev_gd (c := Nat.beq (v0_kd (775 + u4.toNatClampNeg)) 11) (fun hc2 => ?_)
    refine ev_jm 0 (t := (25, [some (.ref 49), some (.int u1), some (.ref u2), some (.int u3), some (.int u4)], [.int (am_i g (775 + u4.toNatClampNeg) 0), .int u3], (v0 L, g))) (ai_gd (c := Nat.beq (v0_kd (775 + u4.toNatClampNeg)) 11) rfl hc2) ?_
    refine ev_in 1 (p := (am_i g (775 + u4.toNatClampNeg) 0) = u1) (a := 47) (b := 29) (T := ([some (.ref 49), some (.int u1), some (.ref u2), some (.int u3), some (.int u4)], [.int u3], (v0 L, g))) rfl ?_ ?_
    · refine ev_fr (S := fun (o : Option Nat) => (36, [some (.ref 49), some (.int u1), some (.ref u2), some (.int u3), some (.int u4)], [am_v o, .int u3], (v0 L, g))) 3 (e := v0_fr 51 u4.toNatClampNeg) (q := (775 + u4.toNatClampNeg)) (ai_gd (c := ai_in u4 80) rfl hc1) (fr_51 hc1) ?_
      refine ev_jm 0 (t := (39, [some (.ref 49), some (.int u1), some (.ref u2), some (.int u3), some (.int u4)], [am_v (am_r g (775 + u4.toNatClampNeg) 7), .int u3], (v0 L, g))) (ai_gd (c := Nat.beq (v0_kd (775 + u4.toNatClampNeg)) 11) rfl hc2) ?_
      refine ev_om (S := fun (o : Option Nat) => (39, [some (.ref 49), some (.int u1), some (.ref u2), some (.int u3), some (.int u4)], [am_v o, .int u3], (v0 L, g))) ?_ (fun o4 => ?_)
      · exact fun hR => nomatch hR
      · refine ev_gd (c := ai_oc (some o4) && ai_oc (some u2)) (fun hc5 => ?_)
        refine ev_ac 1 (x := (some o4)) (y := (some u2)) (a := 43) (b := 47) (T := ([some (.ref 49), some (.int u1), some (.ref u2), some (.int u3), some (.int u4)], [.int u3], (v0 L, g))) (ai_gd (c := ai_oc (some o4) && ai_oc (some u2)) rfl (by first | exact hc5 | (have hz := hc5; simp only [hz]; rfl))) ?_ ?_
        · refine ev_jm 2 (t := (49, [some (.ref 49), some (.int u1), some (.ref u2), none, some (.int u4)], [.int (u3 + 1)], (v0 L, g))) rfl ?_
          refine lo_e (S := fun (x6 : Int32) => (49, [some (.ref 49), some (.int u1), some (.ref u2), none, some (.int u4)], [.int x6], (v0 L, g))) (fun x6 => ?_)
          refine ev_jm 2 (t := (5, [some (.ref 49), some (.int u1), some (.ref u2), some (.int x6), some (.int (u4 + 1))], [], (v0 L, g))) rfl ?_
          exact hk5 (u1, u2, x6, (u4 + 1)) _
        · refine ev_jm 1 (t := (49, [some (.ref 49), some (.int u1), some (.ref u2), none, some (.int u4)], [.int (u3 + 0)], (v0 L, g))) rfl ?_
          refine lo_e (S := fun (x7 : Int32) => (49, [some (.ref 49), some (.int u1), some (.ref u2), none, some (.int u4)], [.int x7], (v0 L, g))) (fun x7 => ?_)
          refine ev_jm 2 (t := (5, [some (.ref 49), some (.int u1), some (.ref u2), some (.int x7), some (.int (u4 + 1))], [], (v0 L, g))) rfl ?_
          exact hk5 (u1, u2, x7, (u4 + 1)) _
    · refine ev_jm 1 (t := (49, [some (.ref 49), some (.int u1), some (.ref u2), none, some (.int u4)], [.int (u3 + 0)], (v0 L, g))) rfl ?_
      refine lo_e (S := fun (x3 : Int32) => (49, [some (.ref 49), some (.int u1), some (.ref u2), none, some (.int u4)], [.int x3], (v0 L, g))) (fun x3 => ?_)
      refine ev_jm 2 (t := (5, [some (.ref 49), some (.int u1), some (.ref u2), some (.int x3), some (.int (u4 + 1))], [], (v0 L, g))) rfl ?_
      exact hk5 (u1, u2, x3, (u4 + 1)) _
noncomputable def fh_166_5 (g : am_G)  (x : Int32 × Nat × Int32 × Int32) : Option (Int32) := lo_it (fun k x => fb_166_5 g k x.1 x.2.1 x.2.2.1 x.2.2.2) nf_F x
theorem dh_166_5 (L : Nat) (g : am_G)   (x : Int32 × Nat × Int32 × Int32) (R : Int32) : fh_166_5 g  x = some R → ai_ev ap_P 166 (5, [some (.ref 49), some (.int x.1), some (.ref x.2.1), some (.int x.2.2.1), some (.int x.2.2.2)], [], (v0 L, g)) (.inl (ez_i R)) (v0 L, g) :=
  fun hr => lo_ev (E := fun x R => ai_ev ap_P 166 (5, [some (.ref 49), some (.int x.1), some (.ref x.2.1), some (.int x.2.2.1), some (.int x.2.2.2)], [], (v0 L, g)) (.inl (ez_i R)) (v0 L, g)) (fun k hk x R hr => db_166_5 L g hk x.1 x.2.1 x.2.2.1 x.2.2.2  R hr) nf_F x R hr
/-- DeclaredMarkup$Declared.many(ILDeclaredMarkup$AttType;)I -/
noncomputable def fm_166 (g : am_G) (u1 : Int32) (u2 : Nat) : Option (Int32) := fh_166_5 g (u1, u2, 0, 0)
theorem dm_166 (L : Nat) (g : am_G) (u1 : Int32) (u2 : Nat) (R : Int32) : fm_166 g u1 u2 = some R → ai_ev ap_P 166 (ai_e0 ap_P 166 [.ref 49, .int u1, .ref u2] (v0 L, g)) (.inl (ez_i R)) (v0 L, g) := by
  show _ → ai_ev ap_P 166 (0, [some (.ref 49), some (.int u1), some (.ref u2), none, none], [], (v0 L, g)) _ _
  unfold fm_166
  refine ev_jm 3 (t := (5, [some (.ref 49), some (.int u1), some (.ref u2), some (.int 0), some (.int 0)], [], (v0 L, g))) rfl ?_
  exact dh_166_5 L g (u1, u2, 0, 0) _
noncomputable def fb_318_66 (k66 : (am_G × Nat × Int32 × Int32 × Int32) → Option (am_G)) (g : am_G) (u1 : Nat) (u2 : Int32) (u3 : Int32) (u4 : Int32) : Option (am_G) := if u3 ≤ u4 then some (am_si g 49 8 ((am_i g 49 8) + u3)) else lo_g (Nat.beq (v0_kd u1) 11) (lo_g (ai_in (u2 + u4) 5200) (lo_g (ai_in ((am_i g u1 5) + u4) 32000) (k66 ((am_si g 53 (((am_i g u1 5) + u4)).toNatClampNeg (am_i g 883 ((u2 + u4)).toNatClampNeg)), u1, u2, u3, (u4 + 1)))))
theorem db_318_66 (L : Nat) {k66 : (am_G × Nat × Int32 × Int32 × Int32) → Option (am_G)} (hk66 : ∀ (x : am_G × Nat × Int32 × Int32 × Int32) (R : am_G), k66 x = some R → ai_ev ap_P 318 (66, [some (.ref 33), some (.ref x.2.1), some (.int x.2.2.1), some (.int x.2.2.2.1), some (.int x.2.2.2.2)], [], (v0 L, x.1)) (.inl none) (v0 L, R)) (g : am_G) (u1 : Nat) (u2 : Int32) (u3 : Int32) (u4 : Int32) (R : am_G) : fb_318_66 k66 g u1 u2 u3 u4 = some R → ai_ev ap_P 318 (66, [some (.ref 33), some (.ref u1), some (.int u2), some (.int u3), some (.int u4)], [], (v0 L, g)) (.inl none) (v0 L, R) := by
  unfold fb_318_66
  refine ev_if 2 (p := u3 ≤ u4) (a := 102) (b := 72) (T := ([some (.ref 33), some (.ref u1), some (.int u2), some (.int u3), some (.int u4)], [], (v0 L, g))) rfl ?_ ?_
  · exact fun hR => by cases hR; exact ev_rt 7 rfl
  · refine ev_gd (c := Nat.beq (v0_kd u1) 11) (fun hc1 => ?_)
    refine ev_jm 4 (t := (83, [some (.ref 33), some (.ref u1), some (.int u2), some (.int u3), some (.int u4)], [.int (am_i g u1 5), .ref 53], (v0 L, g))) (ai_gd (c := Nat.beq (v0_kd u1) 11) rfl hc1) ?_
    refine ev_gd (c := ai_in (u2 + u4) 5200) (fun hc2 => ?_)
    refine ev_jm 7 (t := (95, [some (.ref 33), some (.ref u1), some (.int u2), some (.int u3), some (.int u4)], [.int (am_i g 883 ((u2 + u4)).toNatClampNeg), .int ((am_i g u1 5) + u4), .ref 53], (v0 L, g))) (ai_gd (c := ai_in (u2 + u4) 5200) rfl hc2) ?_
    refine ev_gd (c := ai_in ((am_i g u1 5) + u4) 32000) (fun hc3 => ?_)
    refine ev_jm 0 (t := (96, [some (.ref 33), some (.ref u1), some (.int u2), some (.int u3), some (.int u4)], [], (v0 L, (am_si g 53 (((am_i g u1 5) + u4)).toNatClampNeg (am_i g 883 ((u2 + u4)).toNatClampNeg))))) (ai_gd (c := ai_in ((am_i g u1 5) + u4) 32000) rfl hc3) ?_
    refine ev_jm 1 (t := (66, [some (.ref 33), some (.ref u1), some (.int u2), some (.int u3), some (.int (u4 + 1))], [], (v0 L, (am_si g 53 (((am_i g u1 5) + u4)).toNatClampNeg (am_i g 883 ((u2 + u4)).toNatClampNeg))))) rfl ?_
    exact hk66 ((am_si g 53 (((am_i g u1 5) + u4)).toNatClampNeg (am_i g 883 ((u2 + u4)).toNatClampNeg)), u1, u2, u3, (u4 + 1)) _
noncomputable def fh_318_66  (x : am_G × Nat × Int32 × Int32 × Int32) : Option (am_G) := lo_it (fun k x => fb_318_66 k x.1 x.2.1 x.2.2.1 x.2.2.2.1 x.2.2.2.2) nf_F x
theorem dh_318_66 (L : Nat)   (x : am_G × Nat × Int32 × Int32 × Int32) (R : am_G) : fh_318_66  x = some R → ai_ev ap_P 318 (66, [some (.ref 33), some (.ref x.2.1), some (.int x.2.2.1), some (.int x.2.2.2.1), some (.int x.2.2.2.2)], [], (v0 L, x.1)) (.inl none) (v0 L, R) :=
  fun hr => lo_ev (E := fun x R => ai_ev ap_P 318 (66, [some (.ref 33), some (.ref x.2.1), some (.int x.2.2.1), some (.int x.2.2.2.1), some (.int x.2.2.2.2)], [], (v0 L, x.1)) (.inl none) (v0 L, R)) (fun k hk x R hr => db_318_66 L hk x.1 x.2.1 x.2.2.1 x.2.2.2.1 x.2.2.2.2  R hr) nf_F x R hr
noncomputable def fj_318_47  (g : am_G) (u1 : Nat) (u2 : Int32) (u3 : Int32) : Option (am_G) := lo_g ((Nat.beq (v0_kd u1) 11 && Nat.ble 32 u1)) (fh_318_66 ((am_si (am_si g u1 5 (am_i g 49 8)) u1 6 u3), u1, u2, u3, 0))
theorem dj_318_47 (L : Nat)   (g : am_G) (u1 : Nat) (u2 : Int32) (u3 : Int32) (w4 : Option Value) (R : am_G) : fj_318_47  g u1 u2 u3 = some R → ai_ev ap_P 318 (47, [some (.ref 33), some (.ref u1), some (.int u2), some (.int u3), w4], [], (v0 L, g)) (.inl none) (v0 L, R) := by
  unfold fj_318_47
  refine ev_gd (c := (Nat.beq (v0_kd u1) 11 && Nat.ble 32 u1)) (fun hc1 => ?_)
  refine ev_jm 4 (t := (58, [some (.ref 33), some (.ref u1), some (.int u2), some (.int u3), none], [], (v0 L, (am_si g u1 5 (am_i g 49 8))))) (ai_gd (c := (Nat.beq (v0_kd u1) 11 && Nat.ble 32 u1)) rfl hc1) ?_
  refine ev_jm 2 (t := (63, [some (.ref 33), some (.ref u1), some (.int u2), some (.int u3), none], [], (v0 L, (am_si (am_si g u1 5 (am_i g 49 8)) u1 6 u3)))) (ai_gd (c := (Nat.beq (v0_kd u1) 11 && Nat.ble 32 u1)) rfl hc1) ?_
  refine ev_jm 1 (t := (66, [some (.ref 33), some (.ref u1), some (.int u2), some (.int u3), some (.int 0)], [], (v0 L, (am_si (am_si g u1 5 (am_i g 49 8)) u1 6 u3)))) rfl ?_
  exact dh_318_66 L ((am_si (am_si g u1 5 (am_i g 49 8)) u1 6 u3), u1, u2, u3, 0) _
noncomputable def fj_318_30  (g : am_G) (u1 : Nat) (u2 : Int32) (t0 : Int32) : Option (am_G) := lo_i (fm_291 g u1 u2 t0) fun y1 g2 => if y1 = 0 then lo_p (fm_239 g2 22) fun g4 => fj_318_47 g4 u1 u2 t0 else fj_318_47 g2 u1 u2 t0
theorem dj_318_30 (L : Nat)   (g : am_G) (u1 : Nat) (u2 : Int32) (t0 : Int32) (w3 w4 : Option Value) (R : am_G) : fj_318_30  g u1 u2 t0 = some R → ai_ev ap_P 318 (30, [some (.ref 33), some (.ref u1), some (.int u2), w3, w4], [.int t0], (v0 L, g)) (.inl none) (v0 L, R) := by
  unfold fj_318_30
  refine ev_oi 5 (as := [.ref 33, .ref u1, .int u2, .int t0]) (pc := 38) (Lc := [some (.ref 33), some (.ref u1), some (.int u2), some (.int t0), none]) (st := []) (V := v0 L) (g1 := g) (e := ez_i) rfl (dm_291 L g u1 u2 t0) (fun y1 g2 => ?_)
  refine ev_in 0 (p := y1 = 0) (a := 47) (b := 41) (T := ([some (.ref 33), some (.ref u1), some (.int u2), some (.int t0), none], [], (v0 L, g2))) rfl ?_ ?_
  · refine ev_ov0 2 (as := [.ref 33, .int 22]) (pc := 47) (Lc := [some (.ref 33), some (.ref u1), some (.int u2), some (.int t0), none]) (st := []) (V := v0 L) (g1 := g2) rfl (dm_239 L g2 22) (fun g4 => ?_)
    exact dj_318_47 L g4 u1 u2 t0 none _
  · exact dj_318_47 L g2 u1 u2 t0 none _
/-- DeclaredMarkup$Processor.keepDefault(LDeclaredMarkup$AttDecl;)V -/
noncomputable def fm_318 (g : am_G) (u1 : Nat) : Option (am_G) := lo_g (Nat.beq (v0_kd u1) 11) (lo_m (am_r g u1 7) (none) fun o2 => lo_g (Nat.beq (v0_kd o2) 17) (lo_p (fm_148 g o2) fun y3 => if y3 = 0 then lo_i (fm_278 g 4800 (am_i g 33 31)) fun y6 g7 => fj_318_30 g7 u1 4800 y6 else fj_318_30 g u1 4800 (am_i g 33 31)))
theorem dm_318 (L : Nat) (g : am_G) (u1 : Nat) (R : am_G) : fm_318 g u1 = some R → ai_ev ap_P 318 (ai_e0 ap_P 318 [.ref 33, .ref u1] (v0 L, g)) (.inl none) (v0 L, R) := by
  show _ → ai_ev ap_P 318 (0, [some (.ref 33), some (.ref u1), none, none, none], [], (v0 L, g)) _ _
  unfold fm_318
  refine ev_gd (c := Nat.beq (v0_kd u1) 11) (fun hc1 => ?_)
  refine ev_jm 3 (t := (8, [some (.ref 33), some (.ref u1), some (.int 4800), none, none], [am_v (am_r g u1 7)], (v0 L, g))) (ai_gd (c := Nat.beq (v0_kd u1) 11) rfl hc1) ?_
  refine ev_om (S := fun (o : Option Nat) => (8, [some (.ref 33), some (.ref u1), some (.int 4800), none, none], [am_v o], (v0 L, g))) ?_ (fun o2 => ?_)
  · exact fun hR => nomatch hR
  · refine ev_gd (c := Nat.beq (v0_kd o2) 17) (fun hc5 => ?_)
    refine ev_op 0 (as := [.ref o2]) (pc := 11) (Lc := [some (.ref 33), some (.ref u1), some (.int 4800), none, none]) (st := []) (h1 := (v0 L, g)) (e := ez_i) (ai_gd (c := Nat.beq (v0_kd o2) 17 && true) rfl (ai_ct hc5)) (dm_148 L g o2) (fun y3 => ?_)
    refine ev_if 0 (p := y3 = 0) (a := 21) (b := 14) (T := ([some (.ref 33), some (.ref u1), some (.int 4800), none, none], [], (v0 L, g))) rfl ?_ ?_
    · refine ev_oi 4 (as := [.ref 33, .int 4800, .int (am_i g 33 31)]) (pc := 30) (Lc := [some (.ref 33), some (.ref u1), some (.int 4800), none, none]) (st := []) (V := v0 L) (g1 := g) (e := ez_i) rfl (dm_278 L g 4800 (am_i g 33 31)) (fun y6 g7 => ?_)
      exact dj_318_30 L g7 u1 4800 y6 none none _
    · refine ev_jm 2 (t := (30, [some (.ref 33), some (.ref u1), some (.int 4800), none, none], [.int (am_i g 33 31)], (v0 L, g))) rfl ?_
      exact dj_318_30 L g u1 4800 (am_i g 33 31) none none _
noncomputable def fj_316_62  (g : am_G) (u2 : Int32) : Option ((Unit ⊕ Nat) × am_G) := lo_i (fm_237 g 4 u2) fun y1 g2 => lo_g (Nat.ble 1008 y1 && Nat.blt y1 (am_sz g2)) (some (.inr y1, g2))
theorem dj_316_62 (L : Nat)   (g : am_G) (u2 : Int32) (w1 w3 w4 w5 w6 w7 w8 w9 : Option Value) (R : (Unit ⊕ Nat) × am_G) : fj_316_62  g u2 = some R → ai_ev ap_P 316 (62, [some (.ref 33), w1, some (.int u2), w3, w4, w5, w6, w7, w8, w9], [], (v0 L, g)) (oz_r ez_v R.1) (v0 L, R.2) := by
  unfold fj_316_62
  refine ev_oi 3 (as := [.ref 33, .int 4, .int u2]) (pc := 68) (Lc := [some (.ref 33), none, some (.int u2), none, none, none, none, none, none, none]) (st := []) (V := v0 L) (g1 := g) (e := ez_a) rfl (dm_237 L g 4 u2) (fun y1 g2 => ?_)
  exact ev_at 0 (a := y1) (g1 := g2) rfl
noncomputable def fj_316_349  (g : am_G) (u6 : Nat) (u8 : Int32) : Option ((Unit ⊕ Nat) × am_G) := if u8 = 0 then some (.inl (), (am_si g 49 6 ((am_i g 49 6) + 1))) else lo_p (fm_318 (am_si g 49 6 ((am_i g 49 6) + 1)) u6) fun g2 => some (.inl (), g2)
theorem dj_316_349 (L : Nat)   (g : am_G) (u6 : Nat) (u8 : Int32) (w1 w2 w3 w4 w5 w7 w9 : Option Value) (R : (Unit ⊕ Nat) × am_G) : fj_316_349  g u6 u8 = some R → ai_ev ap_P 316 (349, [some (.ref 33), w1, w2, w3, w4, w5, some (.ref u6), w7, some (.int u8), w9], [], (v0 L, g)) (oz_r ez_v R.1) (v0 L, R.2) := by
  unfold fj_316_349
  refine ev_if 8 (p := u8 = 0) (a := 373) (b := 367) (T := ([some (.ref 33), none, none, none, none, none, some (.ref u6), none, some (.int u8), none], [], (v0 L, (am_si g 49 6 ((am_i g 49 6) + 1))))) rfl ?_ ?_
  · exact fun hR => by cases hR; exact ev_rt 0 rfl
  · refine ev_ov0 2 (as := [.ref 33, .ref u6]) (pc := 373) (Lc := [some (.ref 33), none, none, none, none, none, some (.ref u6), none, some (.int u8), none]) (st := []) (V := v0 L) (g1 := (am_si g 49 6 ((am_i g 49 6) + 1))) rfl (dm_318 L (am_si g 49 6 ((am_i g 49 6) + 1)) u6) (fun g2 => ?_)
    exact fun hR => by cases hR; exact ev_rt 0 rfl
noncomputable def fj_316_330  (g : am_G) (u5 : Nat) (u6 : Nat) (u8 : Int32) : Option ((Unit ⊕ Nat) × am_G) := lo_g (ai_oc (some u5)) (if (some u5) = (some 2) then if u8 = 0 then fj_316_349 g u6 u8 else lo_p (fm_239 g 13) fun g3 => fj_316_349 g3 u6 u8 else fj_316_349 g u6 u8)
theorem dj_316_330 (L : Nat)   (g : am_G) (u5 : Nat) (u6 : Nat) (u8 : Int32) (w1 w2 w3 w4 w7 w9 : Option Value) (R : (Unit ⊕ Nat) × am_G) : fj_316_330  g u5 u6 u8 = some R → ai_ev ap_P 316 (330, [some (.ref 33), w1, w2, w3, w4, some (.ref u5), some (.ref u6), w7, some (.int u8), w9], [], (v0 L, g)) (oz_r ez_v R.1) (v0 L, R.2) := by
  unfold fj_316_330
  refine ev_gd (c := ai_oc (some u5)) (fun hc1 => ?_)
  refine ev_ac 2 (x := (some u5)) (y := (some 2)) (a := 338) (b := 349) (T := ([some (.ref 33), none, none, none, none, some (.ref u5), some (.ref u6), none, some (.int u8), none], [], (v0 L, g))) (ai_gd (c := ai_oc (some u5) && ai_oc (some 2)) rfl (by first | exact hc1 | (have hz := hc1; simp only [hz]; rfl))) ?_ ?_
  · refine ev_if 1 (p := u8 = 0) (a := 349) (b := 343) (T := ([some (.ref 33), none, none, none, none, some (.ref u5), some (.ref u6), none, some (.int u8), none], [], (v0 L, g))) rfl ?_ ?_
    · exact dj_316_349 L g u6 u8 none none none none (some (.ref u5)) none none _
    · refine ev_ov0 2 (as := [.ref 33, .int 13]) (pc := 349) (Lc := [some (.ref 33), none, none, none, none, some (.ref u5), some (.ref u6), none, some (.int u8), none]) (st := []) (V := v0 L) (g1 := g) rfl (dm_239 L g 13) (fun g3 => ?_)
      exact dj_316_349 L g3 u6 u8 none none none none (some (.ref u5)) none none _
  · exact dj_316_349 L g u6 u8 none none none none (some (.ref u5)) none none _
noncomputable def fj_316_302  (g : am_G) (u1 : Int32) (u5 : Nat) (u6 : Nat) (u8 : Int32) : Option ((Unit ⊕ Nat) × am_G) := lo_g (ai_oc (some u5)) (if (some u5) = (some 9) then lo_p (fm_166 g u1 9) fun y2 => if y2 ≤ 0 then fj_316_330 g u5 u6 u8 else lo_p (fm_239 g 18) fun g5 => fj_316_330 g5 u5 u6 u8 else fj_316_330 g u5 u6 u8)
theorem dj_316_302 (L : Nat)   (g : am_G) (u1 : Int32) (u5 : Nat) (u6 : Nat) (u8 : Int32) (w2 w3 w4 w7 w9 : Option Value) (R : (Unit ⊕ Nat) × am_G) : fj_316_302  g u1 u5 u6 u8 = some R → ai_ev ap_P 316 (302, [some (.ref 33), some (.int u1), w2, w3, w4, some (.ref u5), some (.ref u6), w7, some (.int u8), w9], [], (v0 L, g)) (oz_r ez_v R.1) (v0 L, R.2) := by
  unfold fj_316_302
  refine ev_gd (c := ai_oc (some u5)) (fun hc1 => ?_)
  refine ev_ac 2 (x := (some u5)) (y := (some 9)) (a := 310) (b := 330) (T := ([some (.ref 33), some (.int u1), none, none, none, some (.ref u5), some (.ref u6), none, some (.int u8), none], [], (v0 L, g))) (ai_gd (c := ai_oc (some u5) && ai_oc (some 9)) rfl (by first | exact hc1 | (have hz := hc1; simp only [hz]; rfl))) ?_ ?_
  · refine ev_op 4 (as := [.ref 49, .int u1, .ref 9]) (pc := 321) (Lc := [some (.ref 33), some (.int u1), none, none, none, some (.ref u5), some (.ref u6), none, some (.int u8), none]) (st := []) (h1 := (v0 L, g)) (e := ez_i) rfl (dm_166 L g u1 9) (fun y2 => ?_)
    refine ev_if 0 (p := y2 ≤ 0) (a := 330) (b := 324) (T := ([some (.ref 33), some (.int u1), none, none, none, some (.ref u5), some (.ref u6), none, some (.int u8), none], [], (v0 L, g))) rfl ?_ ?_
    · exact dj_316_330 L g u5 u6 u8 (some (.int u1)) none none none none none _
    · refine ev_ov0 2 (as := [.ref 33, .int 18]) (pc := 330) (Lc := [some (.ref 33), some (.int u1), none, none, none, some (.ref u5), some (.ref u6), none, some (.int u8), none]) (st := []) (V := v0 L) (g1 := g) rfl (dm_239 L g 18) (fun g5 => ?_)
      exact dj_316_330 L g5 u5 u6 u8 (some (.int u1)) none none none none none _
  · exact dj_316_330 L g u5 u6 u8 (some (.int u1)) none none none none none _
noncomputable def fb_316_210 (k210 : (am_G × Int32 × Nat × Nat × Int32 × Int32) → Option ((Unit ⊕ Nat) × am_G)) (g : am_G) (u1 : Int32) (u5 : Nat) (u6 : Nat) (u8 : Int32) (u9 : Int32) : Option ((Unit ⊕ Nat) × am_G) := lo_g (Nat.beq (v0_kd u6) 11) (if (am_i g u6 4) ≤ u9 then lo_p (fm_317 (am_si g 49 7 ((am_i g 49 7) + (am_i g u6 4))) u6) fun g3 => lo_g (ai_oc (some u5)) (if (some u5) = (some 2) then lo_p (fm_166 g3 u1 2) fun y5 => if y5 ≤ 0 then fj_316_302 g3 u1 u5 u6 u8 else lo_p (fm_239 g3 12) fun g8 => fj_316_302 g8 u1 u5 u6 u8 else fj_316_302 g3 u1 u5 u6 u8) else lo_g (ai_in u9 30) (lo_g (ai_in ((am_i g 49 7) + u9) 300) (k210 ((am_si g 52 (((am_i g 49 7) + u9)).toNatClampNeg (am_i g 885 u9.toNatClampNeg)), u1, u5, u6, u8, (u9 + 1)))))
theorem db_316_210 (L : Nat) {k210 : (am_G × Int32 × Nat × Nat × Int32 × Int32) → Option ((Unit ⊕ Nat) × am_G)} (hk210 : ∀ (x : am_G × Int32 × Nat × Nat × Int32 × Int32) (w2 w3 w4 w7 : Option Value) (R : (Unit ⊕ Nat) × am_G), k210 x = some R → ai_ev ap_P 316 (210, [some (.ref 33), some (.int x.2.1), w2, w3, w4, some (.ref x.2.2.1), some (.ref x.2.2.2.1), w7, some (.int x.2.2.2.2.1), some (.int x.2.2.2.2.2)], [], (v0 L, x.1)) (oz_r ez_v R.1) (v0 L, R.2)) (g : am_G) (u1 : Int32) (u5 : Nat) (u6 : Nat) (u8 : Int32) (u9 : Int32) (w2 w3 w4 w7 : Option Value) (R : (Unit ⊕ Nat) × am_G) : fb_316_210 k210 g u1 u5 u6 u8 u9 = some R → ai_ev ap_P 316 (210, [some (.ref 33), some (.int u1), w2, w3, w4, some (.ref u5), some (.ref u6), w7, some (.int u8), some (.int u9)], [], (v0 L, g)) (oz_r ez_v R.1) (v0 L, R.2) := by
  unfold fb_316_210
  refine ev_gd (c := Nat.beq (v0_kd u6) 11) (fun hc1 => ?_)
  refine ev_jm 2 (t := (217, [some (.ref 33), some (.int u1), none, none, none, some (.ref u5), some (.ref u6), none, some (.int u8), some (.int u9)], [.int (am_i g u6 4), .int u9], (v0 L, g))) (ai_gd (c := Nat.beq (v0_kd u6) 11) rfl hc1) ?_
  refine ev_if 0 (p := (am_i g u6 4) ≤ u9) (a := 251) (b := 220) (T := ([some (.ref 33), some (.int u1), none, none, none, some (.ref u5), some (.ref u6), none, some (.int u8), some (.int u9)], [], (v0 L, g))) rfl ?_ ?_
  · refine ev_jm 5 (t := (264, [some (.ref 33), some (.int u1), none, none, none, some (.ref u5), some (.ref u6), none, some (.int u8), some (.int u9)], [.int (am_i g u6 4), .int (am_i g 49 7), .ref 49], (v0 L, g))) (ai_gd (c := Nat.beq (v0_kd u6) 11) rfl hc1) ?_
    refine ev_ov0 4 (as := [.ref 33, .ref u6]) (pc := 274) (Lc := [some (.ref 33), some (.int u1), none, none, none, some (.ref u5), some (.ref u6), none, some (.int u8), some (.int u9)]) (st := []) (V := v0 L) (g1 := (am_si g 49 7 ((am_i g 49 7) + (am_i g u6 4)))) rfl (dm_317 L (am_si g 49 7 ((am_i g 49 7) + (am_i g u6 4))) u6) (fun g3 => ?_)
    refine ev_gd (c := ai_oc (some u5)) (fun hc4 => ?_)
    refine ev_ac 2 (x := (some u5)) (y := (some 2)) (a := 282) (b := 302) (T := ([some (.ref 33), some (.int u1), none, none, none, some (.ref u5), some (.ref u6), none, some (.int u8), some (.int u9)], [], (v0 L, g3))) (ai_gd (c := ai_oc (some u5) && ai_oc (some 2)) rfl (by first | exact hc4 | (have hz := hc4; simp only [hz]; rfl))) ?_ ?_
    · refine ev_op 4 (as := [.ref 49, .int u1, .ref 2]) (pc := 293) (Lc := [some (.ref 33), some (.int u1), none, none, none, some (.ref u5), some (.ref u6), none, some (.int u8), some (.int u9)]) (st := []) (h1 := (v0 L, g3)) (e := ez_i) rfl (dm_166 L g3 u1 2) (fun y5 => ?_)
      refine ev_if 0 (p := y5 ≤ 0) (a := 302) (b := 296) (T := ([some (.ref 33), some (.int u1), none, none, none, some (.ref u5), some (.ref u6), none, some (.int u8), some (.int u9)], [], (v0 L, g3))) rfl ?_ ?_
      · exact dj_316_302 L g3 u1 u5 u6 u8 none none none none (some (.int u9)) _
      · refine ev_ov0 2 (as := [.ref 33, .int 12]) (pc := 302) (Lc := [some (.ref 33), some (.int u1), none, none, none, some (.ref u5), some (.ref u6), none, some (.int u8), some (.int u9)]) (st := []) (V := v0 L) (g1 := g3) rfl (dm_239 L g3 12) (fun g8 => ?_)
        exact dj_316_302 L g8 u1 u5 u6 u8 none none none none (some (.int u9)) _
    · exact dj_316_302 L g3 u1 u5 u6 u8 none none none none (some (.int u9)) _
  · refine ev_gd (c := ai_in u9 30) (fun hc9 => ?_)
    refine ev_jm 11 (t := (244, [some (.ref 33), some (.int u1), none, none, none, some (.ref u5), some (.ref u6), none, some (.int u8), some (.int u9)], [.int (am_i g 885 u9.toNatClampNeg), .int ((am_i g 49 7) + u9), .ref 52], (v0 L, g))) (ai_gd (c := ai_in u9 30) rfl hc9) ?_
    refine ev_gd (c := ai_in ((am_i g 49 7) + u9) 300) (fun hc10 => ?_)
    refine ev_jm 0 (t := (245, [some (.ref 33), some (.int u1), none, none, none, some (.ref u5), some (.ref u6), none, some (.int u8), some (.int u9)], [], (v0 L, (am_si g 52 (((am_i g 49 7) + u9)).toNatClampNeg (am_i g 885 u9.toNatClampNeg))))) (ai_gd (c := ai_in ((am_i g 49 7) + u9) 300) rfl hc10) ?_
    refine ev_jm 1 (t := (210, [some (.ref 33), some (.int u1), none, none, none, some (.ref u5), some (.ref u6), none, some (.int u8), some (.int (u9 + 1))], [], (v0 L, (am_si g 52 (((am_i g 49 7) + u9)).toNatClampNeg (am_i g 885 u9.toNatClampNeg))))) rfl ?_
    exact hk210 ((am_si g 52 (((am_i g 49 7) + u9)).toNatClampNeg (am_i g 885 u9.toNatClampNeg)), u1, u5, u6, u8, (u9 + 1)) none none none none _
noncomputable def fh_316_210  (x : am_G × Int32 × Nat × Nat × Int32 × Int32) : Option ((Unit ⊕ Nat) × am_G) := lo_it (fun k x => fb_316_210 k x.1 x.2.1 x.2.2.1 x.2.2.2.1 x.2.2.2.2.1 x.2.2.2.2.2) nf_F x
theorem dh_316_210 (L : Nat)   (x : am_G × Int32 × Nat × Nat × Int32 × Int32) (w2 w3 w4 w7 : Option Value) (R : (Unit ⊕ Nat) × am_G) : fh_316_210  x = some R → ai_ev ap_P 316 (210, [some (.ref 33), some (.int x.2.1), w2, w3, w4, some (.ref x.2.2.1), some (.ref x.2.2.2.1), w7, some (.int x.2.2.2.2.1), some (.int x.2.2.2.2.2)], [], (v0 L, x.1)) (oz_r ez_v R.1) (v0 L, R.2) :=
  fun hr => lo_ev (E := fun x R => ∀ (w2 w3 w4 w7 : Option Value), ai_ev ap_P 316 (210, [some (.ref 33), some (.int x.2.1), w2, w3, w4, some (.ref x.2.2.1), some (.ref x.2.2.2.1), w7, some (.int x.2.2.2.2.1), some (.int x.2.2.2.2.2)], [], (v0 L, x.1)) (oz_r ez_v R.1) (v0 L, R.2)) (fun k hk x R hr => fun w2 w3 w4 w7 => db_316_210 L (fun x w2 w3 w4 w7 R hr => hk x R hr w2 w3 w4 w7) x.1 x.2.1 x.2.2.1 x.2.2.2.1 x.2.2.2.2.1 x.2.2.2.2.2 w2 w3 w4 w7 R hr) nf_F x R hr w2 w3 w4 w7
noncomputable def fj_316_204  (g : am_G) (u1 : Int32) (u5 : Nat) (u6 : Nat) (u8 : Int32) (t0 : Nat) (t1 : Int32) : Option ((Unit ⊕ Nat) × am_G) := lo_g ((Nat.beq (v0_kd t0) 11 && Nat.ble 32 t0)) (fh_316_210 ((am_si g t0 4 t1), u1, u5, u6, u8, 0))
theorem dj_316_204 (L : Nat)   (g : am_G) (u1 : Int32) (u5 : Nat) (u6 : Nat) (u8 : Int32) (t0 : Nat) (t1 : Int32) (w2 w3 w4 w7 w9 : Option Value) (R : (Unit ⊕ Nat) × am_G) : fj_316_204  g u1 u5 u6 u8 t0 t1 = some R → ai_ev ap_P 316 (204, [some (.ref 33), some (.int u1), w2, w3, w4, some (.ref u5), some (.ref u6), w7, some (.int u8), w9], [.int t1, .ref t0], (v0 L, g)) (oz_r ez_v R.1) (v0 L, R.2) := by
  unfold fj_316_204
  refine ev_gd (c := (Nat.beq (v0_kd t0) 11 && Nat.ble 32 t0)) (fun hc1 => ?_)
  refine ev_jm 0 (t := (207, [some (.ref 33), some (.int u1), none, none, none, some (.ref u5), some (.ref u6), none, some (.int u8), none], [], (v0 L, (am_si g t0 4 t1)))) (ai_gd (c := (Nat.beq (v0_kd t0) 11 && Nat.ble 32 t0)) rfl hc1) ?_
  refine ev_jm 1 (t := (210, [some (.ref 33), some (.int u1), none, none, none, some (.ref u5), some (.ref u6), none, some (.int u8), some (.int 0)], [], (v0 L, (am_si g t0 4 t1)))) rfl ?_
  exact dh_316_210 L ((am_si g t0 4 t1), u1, u5, u6, u8, 0) none none none none _
noncomputable def fj_316_142  (g : am_G) (u1 : Int32) (u3 : Int32) (u4 : Int32) (u5 : Nat) (u6 : Option Nat) (u7 : Int32) (u8 : Int32) : Option ((Unit ⊕ Nat) × am_G) := lo_m u6 (if u4 = 0 then none else some (.inl (), g)) fun o1 => if u4 = 0 then lo_g ((Nat.beq (v0_kd o1) 11 && Nat.ble 32 o1)) (lo_g (Nat.beq (v0_kd u5) 17) (lo_p (fm_151 (am_si (am_si (am_sr (am_si (am_si g o1 0 u1) o1 1 u3) o1 7 (some u5)) o1 2 u7) o1 3 (am_i (am_si (am_sr (am_si (am_si g o1 0 u1) o1 1 u3) o1 7 (some u5)) o1 2 u7) 49 7)) u5) fun y3 => if y3 = 0 then fj_316_204 (am_si (am_si (am_sr (am_si (am_si g o1 0 u1) o1 1 u3) o1 7 (some u5)) o1 2 u7) o1 3 (am_i (am_si (am_sr (am_si (am_si g o1 0 u1) o1 1 u3) o1 7 (some u5)) o1 2 u7) 49 7)) u1 u5 o1 u8 o1 0 else fj_316_204 (am_si (am_si (am_sr (am_si (am_si g o1 0 u1) o1 1 u3) o1 7 (some u5)) o1 2 u7) o1 3 (am_i (am_si (am_sr (am_si (am_si g o1 0 u1) o1 1 u3) o1 7 (some u5)) o1 2 u7) 49 7)) u1 u5 o1 u8 o1 (am_i (am_si (am_si (am_sr (am_si (am_si g o1 0 u1) o1 1 u3) o1 7 (some u5)) o1 2 u7) o1 3 (am_i (am_si (am_sr (am_si (am_si g o1 0 u1) o1 1 u3) o1 7 (some u5)) o1 2 u7) 49 7)) 33 34))) else some (.inl (), g)
theorem dj_316_142 (L : Nat)   (g : am_G) (u1 : Int32) (u3 : Int32) (u4 : Int32) (u5 : Nat) (u6 : Option Nat) (u7 : Int32) (u8 : Int32) (w2 w9 : Option Value) (R : (Unit ⊕ Nat) × am_G) : fj_316_142  g u1 u3 u4 u5 u6 u7 u8 = some R → ai_ev ap_P 316 (142, [some (.ref 33), some (.int u1), w2, some (.int u3), some (.int u4), some (.ref u5), some (am_v u6), some (.int u7), some (.int u8), w9], [], (v0 L, g)) (oz_r ez_v R.1) (v0 L, R.2) := by
  unfold fj_316_142
  refine ev_om (S := fun (o : Option Nat) => (142, [some (.ref 33), some (.int u1), w2, some (.int u3), some (.int u4), some (.ref u5), some (am_v o), some (.int u7), some (.int u8), w9], [], (v0 L, g))) ?_ (fun o1 => ?_)
  · refine ev_if 1 (p := u4 = 0) (a := 148) (b := 147) (T := ([some (.ref 33), some (.int u1), none, some (.int u3), some (.int u4), some (.ref u5), some (.null), some (.int u7), some (.int u8), none], [], (v0 L, g))) rfl ?_ ?_
    · exact fun hR => nomatch hR
    · exact fun hR => by cases hR; exact ev_rt 0 rfl
  · refine ev_if 1 (p := u4 = 0) (a := 148) (b := 147) (T := ([some (.ref 33), some (.int u1), none, some (.int u3), some (.int u4), some (.ref u5), some (.ref o1), some (.int u7), some (.int u8), none], [], (v0 L, g))) rfl ?_ ?_
    · refine ev_gd (c := (Nat.beq (v0_kd o1) 11 && Nat.ble 32 o1)) (fun hc2 => ?_)
      refine ev_jm 2 (t := (154, [some (.ref 33), some (.int u1), none, some (.int u3), some (.int u4), some (.ref u5), some (.ref o1), some (.int u7), some (.int u8), none], [], (v0 L, (am_si g o1 0 u1)))) (ai_gd (c := (Nat.beq (v0_kd o1) 11 && Nat.ble 32 o1)) rfl hc2) ?_
      refine ev_jm 2 (t := (160, [some (.ref 33), some (.int u1), none, some (.int u3), some (.int u4), some (.ref u5), some (.ref o1), some (.int u7), some (.int u8), none], [], (v0 L, (am_si (am_si g o1 0 u1) o1 1 u3)))) (ai_gd (c := (Nat.beq (v0_kd o1) 11 && Nat.ble 32 o1)) rfl hc2) ?_
      refine ev_jm 2 (t := (167, [some (.ref 33), some (.int u1), none, some (.int u3), some (.int u4), some (.ref u5), some (.ref o1), some (.int u7), some (.int u8), none], [], (v0 L, (am_sr (am_si (am_si g o1 0 u1) o1 1 u3) o1 7 (some u5))))) (ai_gd (c := (Nat.beq (v0_kd o1) 11 && Nat.ble 32 o1)) rfl hc2) ?_
      refine ev_jm 2 (t := (174, [some (.ref 33), some (.int u1), none, some (.int u3), some (.int u4), some (.ref u5), some (.ref o1), some (.int u7), some (.int u8), none], [], (v0 L, (am_si (am_sr (am_si (am_si g o1 0 u1) o1 1 u3) o1 7 (some u5)) o1 2 u7)))) (ai_gd (c := (Nat.beq (v0_kd o1) 11 && Nat.ble 32 o1)) rfl hc2) ?_
      refine ev_jm 4 (t := (186, [some (.ref 33), some (.int u1), none, some (.int u3), some (.int u4), some (.ref u5), some (.ref o1), some (.int u7), some (.int u8), none], [], (v0 L, (am_si (am_si (am_sr (am_si (am_si g o1 0 u1) o1 1 u3) o1 7 (some u5)) o1 2 u7) o1 3 (am_i (am_si (am_sr (am_si (am_si g o1 0 u1) o1 1 u3) o1 7 (some u5)) o1 2 u7) 49 7))))) (ai_gd (c := (Nat.beq (v0_kd o1) 11 && Nat.ble 32 o1)) rfl hc2) ?_
      refine ev_gd (c := Nat.beq (v0_kd u5) 17) (fun hc5 => ?_)
      refine ev_op 2 (as := [.ref u5]) (pc := 193) (Lc := [some (.ref 33), some (.int u1), none, some (.int u3), some (.int u4), some (.ref u5), some (.ref o1), some (.int u7), some (.int u8), none]) (st := [.ref o1]) (h1 := (v0 L, (am_si (am_si (am_sr (am_si (am_si g o1 0 u1) o1 1 u3) o1 7 (some u5)) o1 2 u7) o1 3 (am_i (am_si (am_sr (am_si (am_si g o1 0 u1) o1 1 u3) o1 7 (some u5)) o1 2 u7) 49 7)))) (e := ez_i) (ai_gd (c := Nat.beq (v0_kd u5) 17 && true) rfl (ai_ct hc5)) (dm_151 L (am_si (am_si (am_sr (am_si (am_si g o1 0 u1) o1 1 u3) o1 7 (some u5)) o1 2 u7) o1 3 (am_i (am_si (am_sr (am_si (am_si g o1 0 u1) o1 1 u3) o1 7 (some u5)) o1 2 u7) 49 7)) u5) (fun y3 => ?_)
      refine ev_if 0 (p := y3 = 0) (a := 203) (b := 196) (T := ([some (.ref 33), some (.int u1), none, some (.int u3), some (.int u4), some (.ref u5), some (.ref o1), some (.int u7), some (.int u8), none], [.ref o1], (v0 L, (am_si (am_si (am_sr (am_si (am_si g o1 0 u1) o1 1 u3) o1 7 (some u5)) o1 2 u7) o1 3 (am_i (am_si (am_sr (am_si (am_si g o1 0 u1) o1 1 u3) o1 7 (some u5)) o1 2 u7) 49 7))))) rfl ?_ ?_
      · refine ev_jm 0 (t := (204, [some (.ref 33), some (.int u1), none, some (.int u3), some (.int u4), some (.ref u5), some (.ref o1), some (.int u7), some (.int u8), none], [.int 0, .ref o1], (v0 L, (am_si (am_si (am_sr (am_si (am_si g o1 0 u1) o1 1 u3) o1 7 (some u5)) o1 2 u7) o1 3 (am_i (am_si (am_sr (am_si (am_si g o1 0 u1) o1 1 u3) o1 7 (some u5)) o1 2 u7) 49 7))))) rfl ?_
        exact dj_316_204 L (am_si (am_si (am_sr (am_si (am_si g o1 0 u1) o1 1 u3) o1 7 (some u5)) o1 2 u7) o1 3 (am_i (am_si (am_sr (am_si (am_si g o1 0 u1) o1 1 u3) o1 7 (some u5)) o1 2 u7) 49 7)) u1 u5 o1 u8 o1 0 none (some (.int u3)) (some (.int u4)) (some (.int u7)) none _
      · refine ev_jm 2 (t := (204, [some (.ref 33), some (.int u1), none, some (.int u3), some (.int u4), some (.ref u5), some (.ref o1), some (.int u7), some (.int u8), none], [.int (am_i (am_si (am_si (am_sr (am_si (am_si g o1 0 u1) o1 1 u3) o1 7 (some u5)) o1 2 u7) o1 3 (am_i (am_si (am_sr (am_si (am_si g o1 0 u1) o1 1 u3) o1 7 (some u5)) o1 2 u7) 49 7)) 33 34), .ref o1], (v0 L, (am_si (am_si (am_sr (am_si (am_si g o1 0 u1) o1 1 u3) o1 7 (some u5)) o1 2 u7) o1 3 (am_i (am_si (am_sr (am_si (am_si g o1 0 u1) o1 1 u3) o1 7 (some u5)) o1 2 u7) 49 7))))) rfl ?_
        exact dj_316_204 L (am_si (am_si (am_sr (am_si (am_si g o1 0 u1) o1 1 u3) o1 7 (some u5)) o1 2 u7) o1 3 (am_i (am_si (am_sr (am_si (am_si g o1 0 u1) o1 1 u3) o1 7 (some u5)) o1 2 u7) 49 7)) u1 u5 o1 u8 o1 (am_i (am_si (am_si (am_sr (am_si (am_si g o1 0 u1) o1 1 u3) o1 7 (some u5)) o1 2 u7) o1 3 (am_i (am_si (am_sr (am_si (am_si g o1 0 u1) o1 1 u3) o1 7 (some u5)) o1 2 u7) 49 7)) 33 34) none (some (.int u3)) (some (.int u4)) (some (.int u7)) none _
    · exact fun hR => by cases hR; exact ev_rt 0 rfl
noncomputable def fj_316_128  (g : am_G) (u1 : Int32) (u3 : Int32) (u4 : Int32) (u5 : Nat) (u6 : Option Nat) (u7 : Int32) (t0 : Int32) : Option ((Unit ⊕ Nat) × am_G) := lo_m u6 (if t0 = 0 then fj_316_142 g u1 u3 u4 u5 none u7 t0 else lo_t (fm_276 g 4800) fun y2 g3 => fj_316_142 g3 u1 u3 u4 u5 none u7 t0) fun o1 => if t0 = 0 then fj_316_142 g u1 u3 u4 u5 (some o1) u7 t0 else lo_t (fm_276 g 4800) fun y4 g5 => fj_316_142 g5 u1 u3 u4 u5 (some o1) u7 t0
theorem dj_316_128 (L : Nat)   (g : am_G) (u1 : Int32) (u3 : Int32) (u4 : Int32) (u5 : Nat) (u6 : Option Nat) (u7 : Int32) (t0 : Int32) (w2 w8 w9 : Option Value) (R : (Unit ⊕ Nat) × am_G) : fj_316_128  g u1 u3 u4 u5 u6 u7 t0 = some R → ai_ev ap_P 316 (128, [some (.ref 33), some (.int u1), w2, some (.int u3), some (.int u4), some (.ref u5), some (am_v u6), some (.int u7), w8, w9], [.int t0], (v0 L, g)) (oz_r ez_v R.1) (v0 L, R.2) := by
  unfold fj_316_128
  refine ev_om (S := fun (o : Option Nat) => (128, [some (.ref 33), some (.int u1), w2, some (.int u3), some (.int u4), some (.ref u5), some (am_v o), some (.int u7), w8, w9], [.int t0], (v0 L, g))) ?_ (fun o1 => ?_)
  · refine ev_if 2 (p := t0 = 0) (a := 142) (b := 135) (T := ([some (.ref 33), some (.int u1), none, some (.int u3), some (.int u4), some (.ref u5), some (.null), some (.int u7), some (.int t0), none], [], (v0 L, g))) rfl ?_ ?_
    · exact dj_316_142 L g u1 u3 u4 u5 none u7 t0 none none _
    · refine ev_ot 2 (as := [.ref 33, .int 4800]) (pc := 142) (Lc := [some (.ref 33), some (.int u1), none, some (.int u3), some (.int u4), some (.ref u5), some (.null), some (.int u7), some (.int t0), none]) (st := []) (V := v0 L) (g1 := g) (e := ez_v) rfl (dm_276 L g 4800) (fun _ => rfl) (fun y2 g3 => ?_)
      exact dj_316_142 L g3 u1 u3 u4 u5 none u7 t0 none none _
  · refine ev_if 2 (p := t0 = 0) (a := 142) (b := 135) (T := ([some (.ref 33), some (.int u1), none, some (.int u3), some (.int u4), some (.ref u5), some (.ref o1), some (.int u7), some (.int t0), none], [], (v0 L, g))) rfl ?_ ?_
    · exact dj_316_142 L g u1 u3 u4 u5 (some o1) u7 t0 none none _
    · refine ev_ot 2 (as := [.ref 33, .int 4800]) (pc := 142) (Lc := [some (.ref 33), some (.int u1), none, some (.int u3), some (.int u4), some (.ref u5), some (.ref o1), some (.int u7), some (.int t0), none]) (st := []) (V := v0 L) (g1 := g) (e := ez_v) rfl (dm_276 L g 4800) (fun _ => rfl) (fun y4 g5 => ?_)
      exact dj_316_142 L g5 u1 u3 u4 u5 (some o1) u7 t0 none none _
noncomputable def fj_316_109  (g : am_G) (u1 : Int32) (u3 : Int32) (u4 : Int32) (u5 : Nat) (t0 : Option Nat) : Option ((Unit ⊕ Nat) × am_G) := lo_m t0 (lo_t (fm_319 g ) fun y2 g3 => if y2 ≤ 1 then fj_316_128 g3 u1 u3 u4 u5 none y2 0 else fj_316_128 g3 u1 u3 u4 u5 none y2 1) fun o1 => lo_t (fm_319 g ) fun y4 g5 => if y4 ≤ 1 then fj_316_128 g5 u1 u3 u4 u5 (some o1) y4 0 else fj_316_128 g5 u1 u3 u4 u5 (some o1) y4 1
theorem dj_316_109 (L : Nat)   (g : am_G) (u1 : Int32) (u3 : Int32) (u4 : Int32) (u5 : Nat) (t0 : Option Nat) (w2 w6 w7 w8 w9 : Option Value) (R : (Unit ⊕ Nat) × am_G) : fj_316_109  g u1 u3 u4 u5 t0 = some R → ai_ev ap_P 316 (109, [some (.ref 33), some (.int u1), w2, some (.int u3), some (.int u4), some (.ref u5), w6, w7, w8, w9], [am_v t0], (v0 L, g)) (oz_r ez_v R.1) (v0 L, R.2) := by
  unfold fj_316_109
  refine ev_om (S := fun (o : Option Nat) => (109, [some (.ref 33), some (.int u1), w2, some (.int u3), some (.int u4), some (.ref u5), w6, w7, w8, w9], [am_v o], (v0 L, g))) ?_ (fun o1 => ?_)
  · refine ev_ot 2 (as := [.ref 33]) (pc := 115) (Lc := [some (.ref 33), some (.int u1), none, some (.int u3), some (.int u4), some (.ref u5), some (.null), none, none, none]) (st := []) (V := v0 L) (g1 := g) (e := ez_i) rfl (dm_319 L g ) (fun _ => rfl) (fun y2 g3 => ?_)
    refine ev_if 3 (p := y2 ≤ 1) (a := 127) (b := 123) (T := ([some (.ref 33), some (.int u1), none, some (.int u3), some (.int u4), some (.ref u5), some (.null), some (.int y2), none, none], [], (v0 L, g3))) rfl ?_ ?_
    · refine ev_jm 0 (t := (128, [some (.ref 33), some (.int u1), none, some (.int u3), some (.int u4), some (.ref u5), some (.null), some (.int y2), none, none], [.int 0], (v0 L, g3))) rfl ?_
      exact dj_316_128 L g3 u1 u3 u4 u5 none y2 0 none none none _
    · refine ev_jm 1 (t := (128, [some (.ref 33), some (.int u1), none, some (.int u3), some (.int u4), some (.ref u5), some (.null), some (.int y2), none, none], [.int 1], (v0 L, g3))) rfl ?_
      exact dj_316_128 L g3 u1 u3 u4 u5 none y2 1 none none none _
  · refine ev_ot 2 (as := [.ref 33]) (pc := 115) (Lc := [some (.ref 33), some (.int u1), none, some (.int u3), some (.int u4), some (.ref u5), some (.ref o1), none, none, none]) (st := []) (V := v0 L) (g1 := g) (e := ez_i) rfl (dm_319 L g ) (fun _ => rfl) (fun y4 g5 => ?_)
    refine ev_if 3 (p := y4 ≤ 1) (a := 127) (b := 123) (T := ([some (.ref 33), some (.int u1), none, some (.int u3), some (.int u4), some (.ref u5), some (.ref o1), some (.int y4), none, none], [], (v0 L, g5))) rfl ?_ ?_
    · refine ev_jm 0 (t := (128, [some (.ref 33), some (.int u1), none, some (.int u3), some (.int u4), some (.ref u5), some (.ref o1), some (.int y4), none, none], [.int 0], (v0 L, g5))) rfl ?_
      exact dj_316_128 L g5 u1 u3 u4 u5 (some o1) y4 0 none none none _
    · refine ev_jm 1 (t := (128, [some (.ref 33), some (.int u1), none, some (.int u3), some (.int u4), some (.ref u5), some (.ref o1), some (.int y4), none, none], [.int 1], (v0 L, g5))) rfl ?_
      exact dj_316_128 L g5 u1 u3 u4 u5 (some o1) y4 1 none none none _
noncomputable def fj_316_69  (g : am_G) (u1 : Int32) (u3 : Int32) (u4 : Int32) : Option ((Unit ⊕ Nat) × am_G) := lo_t (fm_243 g ) fun y1 g2 => lo_t (fm_320 g2 u4) fun y3 g4 => lo_t (fm_243 g4 ) fun y5 g6 => if u4 = 0 then lo_g (ai_in (am_i g6 49 6) 80) (fj_316_109 g6 u1 u3 u4 y3 (some (775 + ((am_i g6 49 6)).toNatClampNeg))) else fj_316_109 g6 u1 u3 u4 y3 none
theorem dj_316_69 (L : Nat)   (g : am_G) (u1 : Int32) (u3 : Int32) (u4 : Int32) (w2 w5 w6 w7 w8 w9 : Option Value) (R : (Unit ⊕ Nat) × am_G) : fj_316_69  g u1 u3 u4 = some R → ai_ev ap_P 316 (69, [some (.ref 33), some (.int u1), w2, some (.int u3), some (.int u4), w5, w6, w7, w8, w9], [], (v0 L, g)) (oz_r ez_v R.1) (v0 L, R.2) := by
  unfold fj_316_69
  refine ev_ot 1 (as := [.ref 33]) (pc := 73) (Lc := [some (.ref 33), some (.int u1), none, some (.int u3), some (.int u4), none, none, none, none, none]) (st := []) (V := v0 L) (g1 := g) (e := ez_v) rfl (dm_243 L g ) (fun _ => rfl) (fun y1 g2 => ?_)
  refine ev_ot 2 (as := [.ref 33, .int u4]) (pc := 79) (Lc := [some (.ref 33), some (.int u1), none, some (.int u3), some (.int u4), none, none, none, none, none]) (st := []) (V := v0 L) (g1 := g2) (e := ez_a) rfl (dm_320 L g2 u4) (fun _ => rfl) (fun y3 g4 => ?_)
  refine ev_ot 2 (as := [.ref 33]) (pc := 85) (Lc := [some (.ref 33), some (.int u1), none, some (.int u3), some (.int u4), some (.ref y3), none, none, none, none]) (st := []) (V := v0 L) (g1 := g4) (e := ez_v) rfl (dm_243 L g4 ) (fun _ => rfl) (fun y5 g6 => ?_)
  refine ev_if 1 (p := u4 = 0) (a := 94) (b := 90) (T := ([some (.ref 33), some (.int u1), none, some (.int u3), some (.int u4), some (.ref y3), none, none, none, none], [], (v0 L, g6))) rfl ?_ ?_
  · refine ev_gd (c := ai_in (am_i g6 49 6) 80) (fun hc7 => ?_)
    refine ev_fr (S := fun (o : Option Nat) => (109, [some (.ref 33), some (.int u1), none, some (.int u3), some (.int u4), some (.ref y3), none, none, none, none], [am_v o], (v0 L, g6))) 6 (e := v0_fr 51 ((am_i g6 49 6)).toNatClampNeg) (q := (775 + ((am_i g6 49 6)).toNatClampNeg)) (ai_gd (c := ai_in (am_i g6 49 6) 80) rfl hc7) (fr_51 hc7) ?_
    exact dj_316_109 L g6 u1 u3 u4 y3 (some (775 + ((am_i g6 49 6)).toNatClampNeg)) none none none none none _
  · refine ev_jm 1 (t := (109, [some (.ref 33), some (.int u1), none, some (.int u3), some (.int u4), some (.ref y3), none, none, none, none], [.null], (v0 L, g6))) rfl ?_
    exact dj_316_109 L g6 u1 u3 u4 y3 none none none none none none _
noncomputable def fj_316_30  (g : am_G) (u1 : Int32) (u2 : Int32) (u3 : Int32) (t0 : Int32) : Option ((Unit ⊕ Nat) × am_G) := if t0 = 0 then if (am_i g 49 6) = 80 then fj_316_62 g u2 else lo_p (fm_165 g u1) fun y1 => if y1 = 12 then fj_316_62 g u2 else fj_316_69 g u1 u3 t0 else fj_316_69 g u1 u3 t0
theorem dj_316_30 (L : Nat)   (g : am_G) (u1 : Int32) (u2 : Int32) (u3 : Int32) (t0 : Int32) (w4 w5 w6 w7 w8 w9 : Option Value) (R : (Unit ⊕ Nat) × am_G) : fj_316_30  g u1 u2 u3 t0 = some R → ai_ev ap_P 316 (30, [some (.ref 33), some (.int u1), some (.int u2), some (.int u3), w4, w5, w6, w7, w8, w9], [.int t0], (v0 L, g)) (oz_r ez_v R.1) (v0 L, R.2) := by
  unfold fj_316_30
  refine ev_in 2 (p := t0 = 0) (a := 69) (b := 37) (T := ([some (.ref 33), some (.int u1), some (.int u2), some (.int u3), some (.int t0), none, none, none, none, none], [], (v0 L, g))) rfl ?_ ?_
  · refine ev_if 4 (p := (am_i g 49 6) = 80) (a := 62) (b := 49) (T := ([some (.ref 33), some (.int u1), some (.int u2), some (.int u3), some (.int t0), none, none, none, none, none], [], (v0 L, g))) rfl ?_ ?_
    · exact dj_316_62 L g u2 (some (.int u1)) (some (.int u3)) (some (.int t0)) none none none none none _
    · refine ev_op 3 (as := [.ref 49, .int u1]) (pc := 57) (Lc := [some (.ref 33), some (.int u1), some (.int u2), some (.int u3), some (.int t0), none, none, none, none, none]) (st := []) (h1 := (v0 L, g)) (e := ez_i) rfl (dm_165 L g u1) (fun y1 => ?_)
      refine ev_in 1 (p := y1 = 12) (a := 69) (b := 62) (T := ([some (.ref 33), some (.int u1), some (.int u2), some (.int u3), some (.int t0), none, none, none, none, none], [], (v0 L, g))) rfl ?_ ?_
      · exact dj_316_62 L g u2 (some (.int u1)) (some (.int u3)) (some (.int t0)) none none none none none _
      · exact dj_316_69 L g u1 u3 t0 (some (.int u2)) none none none none none _
  · exact dj_316_69 L g u1 u3 t0 (some (.int u2)) none none none none none _
/-- DeclaredMarkup$Processor.attributeDecl(I)V -/
noncomputable def fm_316 (g : am_G) (u1 : Int32) : Option ((Unit ⊕ Nat) × am_G) := lo_p (fm_178 g ) fun y1 => lo_t (fm_247 g ) fun y3 g4 => lo_p (fm_164 g4 u1 y3) fun y5 => lo_m y5 (fj_316_30 g4 u1 y1 y3 0) fun o7 => fj_316_30 g4 u1 y1 y3 1
theorem dm_316 (L : Nat) (g : am_G) (u1 : Int32) (R : (Unit ⊕ Nat) × am_G) : fm_316 g u1 = some R → ai_ev ap_P 316 (ai_e0 ap_P 316 [.ref 33, .int u1] (v0 L, g)) (oz_r ez_v R.1) (v0 L, R.2) := by
  show _ → ai_ev ap_P 316 (0, [some (.ref 33), some (.int u1), none, none, none, none, none, none, none, none], [], (v0 L, g)) _ _
  unfold fm_316
  refine ev_op 2 (as := [.ref 39]) (pc := 7) (Lc := [some (.ref 33), some (.int u1), none, none, none, none, none, none, none, none]) (st := []) (h1 := (v0 L, g)) (e := ez_i) rfl (dm_178 L g ) (fun y1 => ?_)
  refine ev_ot 2 (as := [.ref 33]) (pc := 12) (Lc := [some (.ref 33), some (.int u1), some (.int y1), none, none, none, none, none, none, none]) (st := []) (V := v0 L) (g1 := g) (e := ez_i) rfl (dm_247 L g ) (fun _ => rfl) (fun y3 g4 => ?_)
  refine ev_op 5 (as := [.ref 49, .int u1, .int y3]) (pc := 22) (Lc := [some (.ref 33), some (.int u1), some (.int y1), some (.int y3), none, none, none, none, none, none]) (st := []) (h1 := (v0 L, g4)) (e := ez_o) rfl (dm_164 L g4 u1 y3) (fun y5 => ?_)
  refine ev_om (S := fun (o : Option Nat) => (22, [some (.ref 33), some (.int u1), some (.int y1), some (.int y3), none, none, none, none, none, none], [am_v o], (v0 L, g4))) ?_ (fun o7 => ?_)
  · refine ev_jm 1 (t := (30, [some (.ref 33), some (.int u1), some (.int y1), some (.int y3), none, none, none, none, none, none], [.int 0], (v0 L, g4))) rfl ?_
    exact dj_316_30 L g4 u1 y1 y3 0 none none none none none none _
  · refine ev_jm 2 (t := (30, [some (.ref 33), some (.int u1), some (.int y1), some (.int y3), none, none, none, none, none, none], [.int 1], (v0 L, g4))) rfl ?_
    exact dj_316_30 L g4 u1 y1 y3 1 none none none none none none _
noncomputable def fb_315_23 (k23 : (am_G × Int32) → Option ((Unit ⊕ Nat) × am_G)) (g : am_G) (u1 : Int32) : Option ((Unit ⊕ Nat) × am_G) := lo_i (fm_242 g ) fun y1 g2 => lo_p (fm_240 g2 62) fun y3 => if y3 = 0 then lo_t (fm_238 g2 y1) fun y5 g6 => lo_t (fm_316 g6 u1) fun y7 g8 => k23 (g8, u1) else lo_p (fm_177 g2 ) fun g10 => some (.inl (), g10)
theorem db_315_23 (L : Nat) {k23 : (am_G × Int32) → Option ((Unit ⊕ Nat) × am_G)} (hk23 : ∀ (x : am_G × Int32) (w2 : Option Value) (R : (Unit ⊕ Nat) × am_G), k23 x = some R → ai_ev ap_P 315 (23, [some (.ref 33), some (.int x.2), w2], [], (v0 L, x.1)) (oz_r ez_v R.1) (v0 L, R.2)) (g : am_G) (u1 : Int32) (w2 : Option Value) (R : (Unit ⊕ Nat) × am_G) : fb_315_23 k23 g u1 = some R → ai_ev ap_P 315 (23, [some (.ref 33), some (.int u1), w2], [], (v0 L, g)) (oz_r ez_v R.1) (v0 L, R.2) := by
  unfold fb_315_23
  refine ev_oi 1 (as := [.ref 33]) (pc := 27) (Lc := [some (.ref 33), some (.int u1), none]) (st := []) (V := v0 L) (g1 := g) (e := ez_i) rfl (dm_242 L g ) (fun y1 g2 => ?_)
  refine ev_op 3 (as := [.ref 33, .int 62]) (pc := 34) (Lc := [some (.ref 33), some (.int u1), some (.int y1)]) (st := []) (h1 := (v0 L, g2)) (e := ez_i) rfl (dm_240 L g2 62) (fun y3 => ?_)
  refine ev_if 0 (p := y3 = 0) (a := 40) (b := 37) (T := ([some (.ref 33), some (.int u1), some (.int y1)], [], (v0 L, g2))) rfl ?_ ?_
  · refine ev_ot 2 (as := [.ref 33, .int y1]) (pc := 45) (Lc := [some (.ref 33), some (.int u1), some (.int y1)]) (st := []) (V := v0 L) (g1 := g2) (e := ez_v) rfl (dm_238 L g2 y1) (fun _ => rfl) (fun y5 g6 => ?_)
    refine ev_ot 2 (as := [.ref 33, .int u1]) (pc := 50) (Lc := [some (.ref 33), some (.int u1), some (.int y1)]) (st := []) (V := v0 L) (g1 := g6) (e := ez_v) rfl (dm_316 L g6 u1) (fun _ => rfl) (fun y7 g8 => ?_)
    refine ev_jm 0 (t := (23, [some (.ref 33), some (.int u1), some (.int y1)], [], (v0 L, g8))) rfl ?_
    exact hk23 (g8, u1) (some (.int y1)) _
  · refine ev_ov0 3 (as := [.ref 39]) (pc := 60) (Lc := [some (.ref 33), some (.int u1), some (.int y1)]) (st := []) (V := v0 L) (g1 := g2) rfl (dm_177 L g2 ) (fun g10 => ?_)
    exact fun hR => by cases hR; exact ev_rt 0 rfl
noncomputable def fh_315_23  (x : am_G × Int32) : Option ((Unit ⊕ Nat) × am_G) := lo_it (fun k x => fb_315_23 k x.1 x.2) nf_F x
theorem dh_315_23 (L : Nat)   (x : am_G × Int32) (w2 : Option Value) (R : (Unit ⊕ Nat) × am_G) : fh_315_23  x = some R → ai_ev ap_P 315 (23, [some (.ref 33), some (.int x.2), w2], [], (v0 L, x.1)) (oz_r ez_v R.1) (v0 L, R.2) :=
  fun hr => lo_ev (E := fun x R => ∀ (w2 : Option Value), ai_ev ap_P 315 (23, [some (.ref 33), some (.int x.2), w2], [], (v0 L, x.1)) (oz_r ez_v R.1) (v0 L, R.2)) (fun k hk x R hr => fun w2 => db_315_23 L (fun x w2 R hr => hk x R hr w2) x.1 x.2 w2 R hr) nf_F x R hr w2
/-- DeclaredMarkup$Processor.attributeList()V -/
noncomputable def fm_315 (g : am_G)  : Option ((Unit ⊕ Nat) × am_G) := lo_t (fm_245 g 1096045644) fun y1 g2 => lo_t (fm_245 g2 4805460) fun y3 g4 => lo_t (fm_243 g4 ) fun y5 g6 => lo_t (fm_247 g6 ) fun y7 g8 => fh_315_23 (g8, y7)
theorem dm_315 (L : Nat) (g : am_G)  (R : (Unit ⊕ Nat) × am_G) : fm_315 g  = some R → ai_ev ap_P 315 (ai_e0 ap_P 315 [.ref 33] (v0 L, g)) (oz_r ez_v R.1) (v0 L, R.2) := by
  show _ → ai_ev ap_P 315 (0, [some (.ref 33), none, none], [], (v0 L, g)) _ _
  unfold fm_315
  refine ev_ot 2 (as := [.ref 33, .long 1096045644]) (pc := 7) (Lc := [some (.ref 33), none, none]) (st := []) (V := v0 L) (g1 := g) (e := ez_v) rfl (dm_245 L g 1096045644) (fun _ => rfl) (fun y1 g2 => ?_)
  refine ev_ot 2 (as := [.ref 33, .long 4805460]) (pc := 14) (Lc := [some (.ref 33), none, none]) (st := []) (V := v0 L) (g1 := g2) (e := ez_v) rfl (dm_245 L g2 4805460) (fun _ => rfl) (fun y3 g4 => ?_)
  refine ev_ot 1 (as := [.ref 33]) (pc := 18) (Lc := [some (.ref 33), none, none]) (st := []) (V := v0 L) (g1 := g4) (e := ez_v) rfl (dm_243 L g4 ) (fun _ => rfl) (fun y5 g6 => ?_)
  refine ev_ot 1 (as := [.ref 33]) (pc := 22) (Lc := [some (.ref 33), none, none]) (st := []) (V := v0 L) (g1 := g6) (e := ez_i) rfl (dm_247 L g6 ) (fun _ => rfl) (fun y7 g8 => ?_)
  refine ev_jm 0 (t := (23, [some (.ref 33), some (.int y7), none], [], (v0 L, g8))) rfl ?_
  exact dh_315_23 L (g8, y7) none _
noncomputable def fb_167_4 (g : am_G) (k4 : (Int32 × Int32 × Int32) → Option (Int32)) (u1 : Int32) (u2 : Int32) (u3 : Int32) : Option (Int32) := if (am_i g 49 9) ≤ u3 then some (vp_nar .boolean u2) else if u2 = 0 then lo_g (ai_in u3 20) (if (am_i g 54 u3.toNatClampNeg) = u1 then k4 (u1, 1, (u3 + 1)) else k4 (u1, 0, (u3 + 1))) else k4 (u1, 1, (u3 + 1))
theorem db_167_4 (L : Nat) (g : am_G) {k4 : (Int32 × Int32 × Int32) → Option (Int32)} (hk4 : ∀ (x : Int32 × Int32 × Int32) (R : Int32), k4 x = some R → ai_ev ap_P 167 (4, [some (.ref 49), some (.int x.1), some (.int x.2.1), some (.int x.2.2)], [], (v0 L, g)) (.inl (ez_i R)) (v0 L, g)) (u1 : Int32) (u2 : Int32) (u3 : Int32) (R : Int32) : fb_167_4 g k4 u1 u2 u3 = some R → ai_ev ap_P 167 (4, [some (.ref 49), some (.int u1), some (.int u2), some (.int u3)], [], (v0 L, g)) (.inl (ez_i R)) (v0 L, g) := by
  unfold fb_167_4
  refine ev_if 3 (p := (am_i g 49 9) ≤ u3) (a := 38) (b := 12) (T := ([some (.ref 49), some (.int u1), some (.int u2), some (.int u3)], [], (v0 L, g))) rfl ?_ ?_
  · exact fun hR => by cases hR; exact ev_rt 1 rfl
  · refine ev_in 1 (p := u2 = 0) (a := 26) (b := 16) (T := ([some (.ref 49), some (.int u1), some (.int u2), some (.int u3)], [], (v0 L, g))) rfl ?_ ?_
    · refine ev_gd (c := ai_in u3 20) (fun hc1 => ?_)
      refine ev_jm 3 (t := (22, [some (.ref 49), some (.int u1), some (.int u2), some (.int u3)], [.int (am_i g 54 u3.toNatClampNeg)], (v0 L, g))) (ai_gd (c := ai_in u3 20) rfl hc1) ?_
      refine ev_in 1 (p := (am_i g 54 u3.toNatClampNeg) = u1) (a := 30) (b := 26) (T := ([some (.ref 49), some (.int u1), some (.int u2), some (.int u3)], [], (v0 L, g))) rfl ?_ ?_
      · refine ev_jm 4 (t := (4, [some (.ref 49), some (.int u1), some (.int 1), some (.int (u3 + 1))], [], (v0 L, g))) rfl ?_
        exact hk4 (u1, 1, (u3 + 1)) _
      · refine ev_jm 3 (t := (4, [some (.ref 49), some (.int u1), some (.int 0), some (.int (u3 + 1))], [], (v0 L, g))) rfl ?_
        exact hk4 (u1, 0, (u3 + 1)) _
    · refine ev_jm 4 (t := (4, [some (.ref 49), some (.int u1), some (.int 1), some (.int (u3 + 1))], [], (v0 L, g))) rfl ?_
      exact hk4 (u1, 1, (u3 + 1)) _
noncomputable def fh_167_4 (g : am_G)  (x : Int32 × Int32 × Int32) : Option (Int32) := lo_it (fun k x => fb_167_4 g k x.1 x.2.1 x.2.2) nf_F x
theorem dh_167_4 (L : Nat) (g : am_G)   (x : Int32 × Int32 × Int32) (R : Int32) : fh_167_4 g  x = some R → ai_ev ap_P 167 (4, [some (.ref 49), some (.int x.1), some (.int x.2.1), some (.int x.2.2)], [], (v0 L, g)) (.inl (ez_i R)) (v0 L, g) :=
  fun hr => lo_ev (E := fun x R => ai_ev ap_P 167 (4, [some (.ref 49), some (.int x.1), some (.int x.2.1), some (.int x.2.2)], [], (v0 L, g)) (.inl (ez_i R)) (v0 L, g)) (fun k hk x R hr => db_167_4 L g hk x.1 x.2.1 x.2.2  R hr) nf_F x R hr
/-- DeclaredMarkup$Declared.hasNotation(I)Z -/
noncomputable def fm_167 (g : am_G) (u1 : Int32) : Option (Int32) := fh_167_4 g (u1, 0, 0)
theorem dm_167 (L : Nat) (g : am_G) (u1 : Int32) (R : Int32) : fm_167 g u1 = some R → ai_ev ap_P 167 (ai_e0 ap_P 167 [.ref 49, .int u1] (v0 L, g)) (.inl (ez_i R)) (v0 L, g) := by
  show _ → ai_ev ap_P 167 (0, [some (.ref 49), some (.int u1), none, none], [], (v0 L, g)) _ _
  unfold fm_167
  refine ev_jm 3 (t := (4, [some (.ref 49), some (.int u1), some (.int 0), some (.int 0)], [], (v0 L, g))) rfl ?_
  exact dh_167_4 L g (u1, 0, 0) _
/-- DeclaredMarkup$Processor.isPublic(I)Z -/
noncomputable def fm_329 (g : am_G) (u0 : Int32) : Option (Int32) := if u0 = 32 then some 1 else if u0 = 10 then some 1 else if u0 = 13 then some 1 else lo_p (fm_260 g u0) fun y1 => if y1 = 0 then lo_p (fm_259 g u0) fun y3 => if y3 = 0 then if u0 = 45 then some 1 else if u0 = 39 then some 1 else if u0 = 40 then some 1 else if u0 = 41 then some 1 else if u0 = 43 then some 1 else if u0 = 44 then some 1 else if u0 = 46 then some 1 else if u0 = 47 then some 1 else if u0 = 58 then some 1 else if u0 = 61 then some 1 else if u0 = 63 then some 1 else if u0 = 59 then some 1 else if u0 = 33 then some 1 else if u0 = 42 then some 1 else if u0 = 35 then some 1 else if u0 = 64 then some 1 else if u0 = 36 then some 1 else if u0 = 95 then some 1 else if u0 = 37 then some 1 else some 0 else some 1 else some 1
theorem dm_329 (L : Nat) (g : am_G) (u0 : Int32) (R : Int32) : fm_329 g u0 = some R → ai_ev ap_P 329 (ai_e0 ap_P 329 [.int u0] (v0 L, g)) (.inl (ez_i R)) (v0 L, g) := by
  show _ → ai_ev ap_P 329 (0, [some (.int u0)], [], (v0 L, g)) _ _
  unfold fm_329
  refine ev_if 2 (p := u0 = 32) (a := 146) (b := 6) (T := ([some (.int u0)], [], (v0 L, g))) rfl ?_ ?_
  · exact fun hR => by cases hR; exact ev_rt 2 rfl
  · refine ev_if 2 (p := u0 = 10) (a := 146) (b := 12) (T := ([some (.int u0)], [], (v0 L, g))) rfl ?_ ?_
    · exact fun hR => by cases hR; exact ev_rt 2 rfl
    · refine ev_if 2 (p := u0 = 13) (a := 146) (b := 18) (T := ([some (.int u0)], [], (v0 L, g))) rfl ?_ ?_
      · exact fun hR => by cases hR; exact ev_rt 2 rfl
      · refine ev_op 1 (as := [.int u0]) (pc := 22) (Lc := [some (.int u0)]) (st := []) (h1 := (v0 L, g)) (e := ez_i) rfl (dm_260 L g u0) (fun y1 => ?_)
        refine ev_in 0 (p := y1 = 0) (a := 146) (b := 25) (T := ([some (.int u0)], [], (v0 L, g))) rfl ?_ ?_
        · refine ev_op 1 (as := [.int u0]) (pc := 29) (Lc := [some (.int u0)]) (st := []) (h1 := (v0 L, g)) (e := ez_i) rfl (dm_259 L g u0) (fun y3 => ?_)
          refine ev_in 0 (p := y3 = 0) (a := 146) (b := 32) (T := ([some (.int u0)], [], (v0 L, g))) rfl ?_ ?_
          · refine ev_if 2 (p := u0 = 45) (a := 146) (b := 38) (T := ([some (.int u0)], [], (v0 L, g))) rfl ?_ ?_
            · exact fun hR => by cases hR; exact ev_rt 2 rfl
            · refine ev_if 2 (p := u0 = 39) (a := 146) (b := 44) (T := ([some (.int u0)], [], (v0 L, g))) rfl ?_ ?_
              · exact fun hR => by cases hR; exact ev_rt 2 rfl
              · refine ev_if 2 (p := u0 = 40) (a := 146) (b := 50) (T := ([some (.int u0)], [], (v0 L, g))) rfl ?_ ?_
                · exact fun hR => by cases hR; exact ev_rt 2 rfl
                · refine ev_if 2 (p := u0 = 41) (a := 146) (b := 56) (T := ([some (.int u0)], [], (v0 L, g))) rfl ?_ ?_
                  · exact fun hR => by cases hR; exact ev_rt 2 rfl
                  · refine ev_if 2 (p := u0 = 43) (a := 146) (b := 62) (T := ([some (.int u0)], [], (v0 L, g))) rfl ?_ ?_
                    · exact fun hR => by cases hR; exact ev_rt 2 rfl
                    · refine ev_if 2 (p := u0 = 44) (a := 146) (b := 68) (T := ([some (.int u0)], [], (v0 L, g))) rfl ?_ ?_
                      · exact fun hR => by cases hR; exact ev_rt 2 rfl
                      · refine ev_if 2 (p := u0 = 46) (a := 146) (b := 74) (T := ([some (.int u0)], [], (v0 L, g))) rfl ?_ ?_
                        · exact fun hR => by cases hR; exact ev_rt 2 rfl
                        · refine ev_if 2 (p := u0 = 47) (a := 146) (b := 80) (T := ([some (.int u0)], [], (v0 L, g))) rfl ?_ ?_
                          · exact fun hR => by cases hR; exact ev_rt 2 rfl
                          · refine ev_if 2 (p := u0 = 58) (a := 146) (b := 86) (T := ([some (.int u0)], [], (v0 L, g))) rfl ?_ ?_
                            · exact fun hR => by cases hR; exact ev_rt 2 rfl
                            · refine ev_if 2 (p := u0 = 61) (a := 146) (b := 92) (T := ([some (.int u0)], [], (v0 L, g))) rfl ?_ ?_
                              · exact fun hR => by cases hR; exact ev_rt 2 rfl
                              · refine ev_if 2 (p := u0 = 63) (a := 146) (b := 98) (T := ([some (.int u0)], [], (v0 L, g))) rfl ?_ ?_
                                · exact fun hR => by cases hR; exact ev_rt 2 rfl
                                · refine ev_if 2 (p := u0 = 59) (a := 146) (b := 104) (T := ([some (.int u0)], [], (v0 L, g))) rfl ?_ ?_
                                  · exact fun hR => by cases hR; exact ev_rt 2 rfl
                                  · refine ev_if 2 (p := u0 = 33) (a := 146) (b := 110) (T := ([some (.int u0)], [], (v0 L, g))) rfl ?_ ?_
                                    · exact fun hR => by cases hR; exact ev_rt 2 rfl
                                    · refine ev_if 2 (p := u0 = 42) (a := 146) (b := 116) (T := ([some (.int u0)], [], (v0 L, g))) rfl ?_ ?_
                                      · exact fun hR => by cases hR; exact ev_rt 2 rfl
                                      · refine ev_if 2 (p := u0 = 35) (a := 146) (b := 122) (T := ([some (.int u0)], [], (v0 L, g))) rfl ?_ ?_
                                        · exact fun hR => by cases hR; exact ev_rt 2 rfl
                                        · refine ev_if 2 (p := u0 = 64) (a := 146) (b := 128) (T := ([some (.int u0)], [], (v0 L, g))) rfl ?_ ?_
                                          · exact fun hR => by cases hR; exact ev_rt 2 rfl
                                          · refine ev_if 2 (p := u0 = 36) (a := 146) (b := 134) (T := ([some (.int u0)], [], (v0 L, g))) rfl ?_ ?_
                                            · exact fun hR => by cases hR; exact ev_rt 2 rfl
                                            · refine ev_if 2 (p := u0 = 95) (a := 146) (b := 140) (T := ([some (.int u0)], [], (v0 L, g))) rfl ?_ ?_
                                              · exact fun hR => by cases hR; exact ev_rt 2 rfl
                                              · refine ev_in 2 (p := u0 = 37) (a := 150) (b := 146) (T := ([some (.int u0)], [], (v0 L, g))) rfl ?_ ?_
                                                · exact fun hR => by cases hR; exact ev_rt 2 rfl
                                                · exact fun hR => by cases hR; exact ev_rt 1 rfl
          · exact fun hR => by cases hR; exact ev_rt 2 rfl
        · exact fun hR => by cases hR; exact ev_rt 2 rfl
noncomputable def fb_330_5 (k5 : (am_G × Int32) → Option ((Unit ⊕ Nat) × am_G)) (g : am_G) (u1 : Int32) : Option ((Unit ⊕ Nat) × am_G) := lo_p (fm_240 g u1) fun y1 => if y1 = 0 then lo_p (fm_176 g ) fun y5 => lo_p (fm_329 g y5) fun y7 => lo_t (fm_238 g y7) fun y9 g10 => lo_p (fm_177 g10 ) fun g12 => k5 (g12, u1) else lo_p (fm_177 g ) fun g4 => some (.inl (), g4)
theorem db_330_5 (L : Nat) {k5 : (am_G × Int32) → Option ((Unit ⊕ Nat) × am_G)} (hk5 : ∀ (x : am_G × Int32) (R : (Unit ⊕ Nat) × am_G), k5 x = some R → ai_ev ap_P 330 (5, [some (.ref 33), some (.int x.2)], [], (v0 L, x.1)) (oz_r ez_v R.1) (v0 L, R.2)) (g : am_G) (u1 : Int32) (R : (Unit ⊕ Nat) × am_G) : fb_330_5 k5 g u1 = some R → ai_ev ap_P 330 (5, [some (.ref 33), some (.int u1)], [], (v0 L, g)) (oz_r ez_v R.1) (v0 L, R.2) := by
  unfold fb_330_5
  refine ev_op 2 (as := [.ref 33, .int u1]) (pc := 10) (Lc := [some (.ref 33), some (.int u1)]) (st := []) (h1 := (v0 L, g)) (e := ez_i) rfl (dm_240 L g u1) (fun y1 => ?_)
  refine ev_in 0 (p := y1 = 0) (a := 37) (b := 13) (T := ([some (.ref 33), some (.int u1)], [], (v0 L, g))) rfl ?_ ?_
  · refine ev_op 3 (as := [.ref 39]) (pc := 21) (Lc := [some (.ref 33), some (.int u1)]) (st := [.ref 33]) (h1 := (v0 L, g)) (e := ez_i) rfl (dm_176 L g ) (fun y5 => ?_)
    refine ev_op 0 (as := [.int y5]) (pc := 24) (Lc := [some (.ref 33), some (.int u1)]) (st := [.ref 33]) (h1 := (v0 L, g)) (e := ez_i) rfl (dm_329 L g y5) (fun y7 => ?_)
    refine ev_ot 0 (as := [.ref 33, .int y7]) (pc := 27) (Lc := [some (.ref 33), some (.int u1)]) (st := []) (V := v0 L) (g1 := g) (e := ez_v) rfl (dm_238 L g y7) (fun _ => rfl) (fun y9 g10 => ?_)
    refine ev_ov0 2 (as := [.ref 39]) (pc := 34) (Lc := [some (.ref 33), some (.int u1)]) (st := []) (V := v0 L) (g1 := g10) rfl (dm_177 L g10 ) (fun g12 => ?_)
    refine ev_jm 0 (t := (5, [some (.ref 33), some (.int u1)], [], (v0 L, g12))) rfl ?_
    exact hk5 (g12, u1) _
  · refine ev_ov0 2 (as := [.ref 39]) (pc := 44) (Lc := [some (.ref 33), some (.int u1)]) (st := []) (V := v0 L) (g1 := g) rfl (dm_177 L g ) (fun g4 => ?_)
    exact fun hR => by cases hR; exact ev_rt 0 rfl
noncomputable def fh_330_5  (x : am_G × Int32) : Option ((Unit ⊕ Nat) × am_G) := lo_it (fun k x => fb_330_5 k x.1 x.2) nf_F x
theorem dh_330_5 (L : Nat)   (x : am_G × Int32) (R : (Unit ⊕ Nat) × am_G) : fh_330_5  x = some R → ai_ev ap_P 330 (5, [some (.ref 33), some (.int x.2)], [], (v0 L, x.1)) (oz_r ez_v R.1) (v0 L, R.2) :=
  fun hr => lo_ev (E := fun x R => ai_ev ap_P 330 (5, [some (.ref 33), some (.int x.2)], [], (v0 L, x.1)) (oz_r ez_v R.1) (v0 L, R.2)) (fun k hk x R hr => db_330_5 L hk x.1 x.2  R hr) nf_F x R hr
/-- DeclaredMarkup$Processor.publicId()V -/
noncomputable def fm_330 (g : am_G)  : Option ((Unit ⊕ Nat) × am_G) := lo_t (fm_250 g ) fun y1 g2 => fh_330_5 (g2, y1)
theorem dm_330 (L : Nat) (g : am_G)  (R : (Unit ⊕ Nat) × am_G) : fm_330 g  = some R → ai_ev ap_P 330 (ai_e0 ap_P 330 [.ref 33] (v0 L, g)) (oz_r ez_v R.1) (v0 L, R.2) := by
  show _ → ai_ev ap_P 330 (0, [some (.ref 33), none], [], (v0 L, g)) _ _
  unfold fm_330
  refine ev_ot 1 (as := [.ref 33]) (pc := 4) (Lc := [some (.ref 33), none]) (st := []) (V := v0 L) (g1 := g) (e := ez_i) rfl (dm_250 L g ) (fun _ => rfl) (fun y1 g2 => ?_)
  refine ev_jm 0 (t := (5, [some (.ref 33), some (.int y1)], [], (v0 L, g2))) rfl ?_
  exact dh_330_5 L (g2, y1) _
noncomputable def fj_246_17  (g : am_G) (t1 : Int32) : Option ((Unit ⊕ Nat) × am_G) := lo_t (fm_238 g t1) fun y1 g2 => lo_p (fm_177 g2 ) fun g4 => some (.inl (), g4)
theorem dj_246_17 (L : Nat)   (g : am_G) (t1 : Int32) (R : (Unit ⊕ Nat) × am_G) : fj_246_17  g t1 = some R → ai_ev ap_P 246 (17, [some (.ref 33)], [.int t1, .ref 33], (v0 L, g)) (oz_r ez_v R.1) (v0 L, R.2) := by
  unfold fj_246_17
  refine ev_ot 0 (as := [.ref 33, .int t1]) (pc := 20) (Lc := [some (.ref 33)]) (st := []) (V := v0 L) (g1 := g) (e := ez_v) rfl (dm_238 L g t1) (fun _ => rfl) (fun y1 g2 => ?_)
  refine ev_ov0 2 (as := [.ref 39]) (pc := 27) (Lc := [some (.ref 33)]) (st := []) (V := v0 L) (g1 := g2) rfl (dm_177 L g2 ) (fun g4 => ?_)
  exact fun hR => by cases hR; exact ev_rt 0 rfl
/-- DeclaredMarkup$Processor.any()V -/
noncomputable def fm_246 (g : am_G)  : Option ((Unit ⊕ Nat) × am_G) := lo_p (fm_176 g ) fun y1 => if y1 = (-1) then fj_246_17 g 0 else fj_246_17 g 1
theorem dm_246 (L : Nat) (g : am_G)  (R : (Unit ⊕ Nat) × am_G) : fm_246 g  = some R → ai_ev ap_P 246 (ai_e0 ap_P 246 [.ref 33] (v0 L, g)) (oz_r ez_v R.1) (v0 L, R.2) := by
  show _ → ai_ev ap_P 246 (0, [some (.ref 33)], [], (v0 L, g)) _ _
  unfold fm_246
  refine ev_op 3 (as := [.ref 39]) (pc := 8) (Lc := [some (.ref 33)]) (st := [.ref 33]) (h1 := (v0 L, g)) (e := ez_i) rfl (dm_176 L g ) (fun y1 => ?_)
  refine ev_if 1 (p := y1 = (-1)) (a := 16) (b := 12) (T := ([some (.ref 33)], [.ref 33], (v0 L, g))) rfl ?_ ?_
  · refine ev_jm 0 (t := (17, [some (.ref 33)], [.int 0, .ref 33], (v0 L, g))) rfl ?_
    exact dj_246_17 L g 0 _
  · refine ev_jm 1 (t := (17, [some (.ref 33)], [.int 1, .ref 33], (v0 L, g))) rfl ?_
    exact dj_246_17 L g 1 _
noncomputable def fb_328_5 (k5 : (am_G × Int32) → Option ((Unit ⊕ Nat) × am_G)) (g : am_G) (u1 : Int32) : Option ((Unit ⊕ Nat) × am_G) := lo_p (fm_240 g u1) fun y1 => if y1 = 0 then lo_t (fm_246 g ) fun y5 g6 => k5 (g6, u1) else lo_p (fm_177 g ) fun g4 => some (.inl (), g4)
theorem db_328_5 (L : Nat) {k5 : (am_G × Int32) → Option ((Unit ⊕ Nat) × am_G)} (hk5 : ∀ (x : am_G × Int32) (R : (Unit ⊕ Nat) × am_G), k5 x = some R → ai_ev ap_P 328 (5, [some (.ref 33), some (.int x.2)], [], (v0 L, x.1)) (oz_r ez_v R.1) (v0 L, R.2)) (g : am_G) (u1 : Int32) (R : (Unit ⊕ Nat) × am_G) : fb_328_5 k5 g u1 = some R → ai_ev ap_P 328 (5, [some (.ref 33), some (.int u1)], [], (v0 L, g)) (oz_r ez_v R.1) (v0 L, R.2) := by
  unfold fb_328_5
  refine ev_op 2 (as := [.ref 33, .int u1]) (pc := 10) (Lc := [some (.ref 33), some (.int u1)]) (st := []) (h1 := (v0 L, g)) (e := ez_i) rfl (dm_240 L g u1) (fun y1 => ?_)
  refine ev_in 0 (p := y1 = 0) (a := 20) (b := 13) (T := ([some (.ref 33), some (.int u1)], [], (v0 L, g))) rfl ?_ ?_
  · refine ev_ot 1 (as := [.ref 33]) (pc := 17) (Lc := [some (.ref 33), some (.int u1)]) (st := []) (V := v0 L) (g1 := g) (e := ez_v) rfl (dm_246 L g ) (fun _ => rfl) (fun y5 g6 => ?_)
    refine ev_jm 0 (t := (5, [some (.ref 33), some (.int u1)], [], (v0 L, g6))) rfl ?_
    exact hk5 (g6, u1) _
  · refine ev_ov0 2 (as := [.ref 39]) (pc := 27) (Lc := [some (.ref 33), some (.int u1)]) (st := []) (V := v0 L) (g1 := g) rfl (dm_177 L g ) (fun g4 => ?_)
    exact fun hR => by cases hR; exact ev_rt 0 rfl
noncomputable def fh_328_5  (x : am_G × Int32) : Option ((Unit ⊕ Nat) × am_G) := lo_it (fun k x => fb_328_5 k x.1 x.2) nf_F x
theorem dh_328_5 (L : Nat)   (x : am_G × Int32) (R : (Unit ⊕ Nat) × am_G) : fh_328_5  x = some R → ai_ev ap_P 328 (5, [some (.ref 33), some (.int x.2)], [], (v0 L, x.1)) (oz_r ez_v R.1) (v0 L, R.2) :=
  fun hr => lo_ev (E := fun x R => ai_ev ap_P 328 (5, [some (.ref 33), some (.int x.2)], [], (v0 L, x.1)) (oz_r ez_v R.1) (v0 L, R.2)) (fun k hk x R hr => db_328_5 L hk x.1 x.2  R hr) nf_F x R hr
/-- DeclaredMarkup$Processor.systemId()V -/
noncomputable def fm_328 (g : am_G)  : Option ((Unit ⊕ Nat) × am_G) := lo_t (fm_250 g ) fun y1 g2 => fh_328_5 (g2, y1)
theorem dm_328 (L : Nat) (g : am_G)  (R : (Unit ⊕ Nat) × am_G) : fm_328 g  = some R → ai_ev ap_P 328 (ai_e0 ap_P 328 [.ref 33] (v0 L, g)) (oz_r ez_v R.1) (v0 L, R.2) := by
  show _ → ai_ev ap_P 328 (0, [some (.ref 33), none], [], (v0 L, g)) _ _
  unfold fm_328
  refine ev_ot 1 (as := [.ref 33]) (pc := 4) (Lc := [some (.ref 33), none]) (st := []) (V := v0 L) (g1 := g) (e := ez_i) rfl (dm_250 L g ) (fun _ => rfl) (fun y1 g2 => ?_)
  refine ev_jm 0 (t := (5, [some (.ref 33), some (.int y1)], [], (v0 L, g2))) rfl ?_
  exact dh_328_5 L (g2, y1) _
noncomputable def fj_327_150  (g : am_G) (u2 : Int32) (u3 : Int32) : Option ((Unit ⊕ Nat) × am_G) := lo_i (fm_242 g ) fun y1 g2 => lo_t (fm_244 g2 62) fun y3 g4 => if u3 = 0 then lo_g (ai_in (am_i g4 49 9) 20) (some (.inl (), (am_si (am_si g4 54 ((am_i g4 49 9)).toNatClampNeg u2) 49 9 ((am_i g4 49 9) + 1)))) else some (.inl (), g4)
theorem dj_327_150 (L : Nat)   (g : am_G) (u2 : Int32) (u3 : Int32) (w1 : Option Value) (R : (Unit ⊕ Nat) × am_G) : fj_327_150  g u2 u3 = some R → ai_ev ap_P 327 (150, [some (.ref 33), w1, some (.int u2), some (.int u3)], [], (v0 L, g)) (oz_r ez_v R.1) (v0 L, R.2) := by
  unfold fj_327_150
  refine ev_oi 1 (as := [.ref 33]) (pc := 154) (Lc := [some (.ref 33), none, some (.int u2), some (.int u3)]) (st := []) (V := v0 L) (g1 := g) (e := ez_i) rfl (dm_242 L g ) (fun y1 g2 => ?_)
  refine ev_ot 3 (as := [.ref 33, .int 62]) (pc := 161) (Lc := [some (.ref 33), none, some (.int u2), some (.int u3)]) (st := []) (V := v0 L) (g1 := g2) (e := ez_v) rfl (dm_244 L g2 62) (fun _ => rfl) (fun y3 g4 => ?_)
  refine ev_if 1 (p := u3 = 0) (a := 166) (b := 165) (T := ([some (.ref 33), none, some (.int u2), some (.int u3)], [], (v0 L, g4))) rfl ?_ ?_
  · refine ev_gd (c := ai_in (am_i g4 49 9) 20) (fun hc5 => ?_)
    refine ev_jm 7 (t := (182, [some (.ref 33), none, some (.int u2), some (.int u3)], [], (v0 L, (am_si g4 54 ((am_i g4 49 9)).toNatClampNeg u2)))) (ai_gd (c := ai_in (am_i g4 49 9) 20) rfl hc5) ?_
    exact fun hR => by cases hR; exact ev_rt 7 rfl
  · exact fun hR => by cases hR; exact ev_rt 0 rfl
noncomputable def fj_327_101  (g : am_G) (u2 : Int32) (u3 : Int32) (t1 : Int32) : Option ((Unit ⊕ Nat) × am_G) := lo_t (fm_238 g t1) fun y1 g2 => lo_t (fm_303 g2 ) fun y3 g4 => if y3 = 0 then lo_t (fm_243 g4 ) fun y5 g6 => lo_t (fm_328 g6 ) fun y7 g8 => fj_327_150 g8 u2 u3 else lo_t (fm_243 g4 ) fun y9 g10 => lo_t (fm_330 g10 ) fun y11 g12 => lo_i (fm_242 g12 ) fun y13 g14 => if y13 = 0 then fj_327_150 g14 u2 u3 else lo_p (fm_240 g14 62) fun y15 => if y15 = 0 then lo_t (fm_328 g14 ) fun y17 g18 => fj_327_150 g18 u2 u3 else fj_327_150 g14 u2 u3
theorem dj_327_101 (L : Nat)   (g : am_G) (u2 : Int32) (u3 : Int32) (t1 : Int32) (w1 : Option Value) (R : (Unit ⊕ Nat) × am_G) : fj_327_101  g u2 u3 t1 = some R → ai_ev ap_P 327 (101, [some (.ref 33), w1, some (.int u2), some (.int u3)], [.int t1, .ref 33], (v0 L, g)) (oz_r ez_v R.1) (v0 L, R.2) := by
  unfold fj_327_101
  refine ev_ot 0 (as := [.ref 33, .int t1]) (pc := 104) (Lc := [some (.ref 33), none, some (.int u2), some (.int u3)]) (st := []) (V := v0 L) (g1 := g) (e := ez_v) rfl (dm_238 L g t1) (fun _ => rfl) (fun y1 g2 => ?_)
  refine ev_ot 1 (as := [.ref 33]) (pc := 108) (Lc := [some (.ref 33), none, some (.int u2), some (.int u3)]) (st := []) (V := v0 L) (g1 := g2) (e := ez_i) rfl (dm_303 L g2 ) (fun _ => rfl) (fun y3 g4 => ?_)
  refine ev_if 0 (p := y3 = 0) (a := 142) (b := 111) (T := ([some (.ref 33), none, some (.int u2), some (.int u3)], [], (v0 L, g4))) rfl ?_ ?_
  · refine ev_ot 1 (as := [.ref 33]) (pc := 146) (Lc := [some (.ref 33), none, some (.int u2), some (.int u3)]) (st := []) (V := v0 L) (g1 := g4) (e := ez_v) rfl (dm_243 L g4 ) (fun _ => rfl) (fun y5 g6 => ?_)
    refine ev_ot 1 (as := [.ref 33]) (pc := 150) (Lc := [some (.ref 33), none, some (.int u2), some (.int u3)]) (st := []) (V := v0 L) (g1 := g6) (e := ez_v) rfl (dm_328 L g6 ) (fun _ => rfl) (fun y7 g8 => ?_)
    exact dj_327_150 L g8 u2 u3 none _
  · refine ev_ot 1 (as := [.ref 33]) (pc := 115) (Lc := [some (.ref 33), none, some (.int u2), some (.int u3)]) (st := []) (V := v0 L) (g1 := g4) (e := ez_v) rfl (dm_243 L g4 ) (fun _ => rfl) (fun y9 g10 => ?_)
    refine ev_ot 1 (as := [.ref 33]) (pc := 119) (Lc := [some (.ref 33), none, some (.int u2), some (.int u3)]) (st := []) (V := v0 L) (g1 := g10) (e := ez_v) rfl (dm_330 L g10 ) (fun _ => rfl) (fun y11 g12 => ?_)
    refine ev_oi 1 (as := [.ref 33]) (pc := 123) (Lc := [some (.ref 33), none, some (.int u2), some (.int u3)]) (st := []) (V := v0 L) (g1 := g12) (e := ez_i) rfl (dm_242 L g12 ) (fun y13 g14 => ?_)
    refine ev_if 0 (p := y13 = 0) (a := 150) (b := 126) (T := ([some (.ref 33), none, some (.int u2), some (.int u3)], [], (v0 L, g14))) rfl ?_ ?_
    · exact dj_327_150 L g14 u2 u3 none _
    · refine ev_op 2 (as := [.ref 33, .int 62]) (pc := 132) (Lc := [some (.ref 33), none, some (.int u2), some (.int u3)]) (st := []) (h1 := (v0 L, g14)) (e := ez_i) rfl (dm_240 L g14 62) (fun y15 => ?_)
      refine ev_in 0 (p := y15 = 0) (a := 150) (b := 135) (T := ([some (.ref 33), none, some (.int u2), some (.int u3)], [], (v0 L, g14))) rfl ?_ ?_
      · refine ev_ot 1 (as := [.ref 33]) (pc := 139) (Lc := [some (.ref 33), none, some (.int u2), some (.int u3)]) (st := []) (V := v0 L) (g1 := g14) (e := ez_v) rfl (dm_328 L g14 ) (fun _ => rfl) (fun y17 g18 => ?_)
        refine ev_jm 0 (t := (150, [some (.ref 33), none, some (.int u2), some (.int u3)], [], (v0 L, g18))) rfl ?_
        exact dj_327_150 L g18 u2 u3 none _
      · exact dj_327_150 L g14 u2 u3 none _
noncomputable def fj_327_96  (g : am_G) (u2 : Int32) (u3 : Int32) : Option ((Unit ⊕ Nat) × am_G) := fj_327_101 g u2 u3 1
theorem dj_327_96 (L : Nat)   (g : am_G) (u2 : Int32) (u3 : Int32) (w1 : Option Value) (R : (Unit ⊕ Nat) × am_G) : fj_327_96  g u2 u3 = some R → ai_ev ap_P 327 (96, [some (.ref 33), w1, some (.int u2), some (.int u3)], [.ref 33], (v0 L, g)) (oz_r ez_v R.1) (v0 L, R.2) := by
  unfold fj_327_96
  refine ev_jm 1 (t := (101, [some (.ref 33), none, some (.int u2), some (.int u3)], [.int 1, .ref 33], (v0 L, g))) rfl ?_
  exact dj_327_101 L g u2 u3 1 none _
noncomputable def fj_327_73  (g : am_G) (u2 : Int32) (u3 : Int32) : Option ((Unit ⊕ Nat) × am_G) := lo_t (fm_243 g ) fun y1 g2 => lo_p (fm_240 g2 83) fun y3 => if y3 = 0 then lo_p (fm_240 g2 80) fun y5 => if y5 = 0 then fj_327_101 g2 u2 u3 0 else fj_327_96 g2 u2 u3 else fj_327_96 g2 u2 u3
theorem dj_327_73 (L : Nat)   (g : am_G) (u2 : Int32) (u3 : Int32) (w1 : Option Value) (R : (Unit ⊕ Nat) × am_G) : fj_327_73  g u2 u3 = some R → ai_ev ap_P 327 (73, [some (.ref 33), w1, some (.int u2), some (.int u3)], [], (v0 L, g)) (oz_r ez_v R.1) (v0 L, R.2) := by
  unfold fj_327_73
  refine ev_ot 1 (as := [.ref 33]) (pc := 77) (Lc := [some (.ref 33), none, some (.int u2), some (.int u3)]) (st := []) (V := v0 L) (g1 := g) (e := ez_v) rfl (dm_243 L g ) (fun _ => rfl) (fun y1 g2 => ?_)
  refine ev_op 3 (as := [.ref 33, .int 83]) (pc := 84) (Lc := [some (.ref 33), none, some (.int u2), some (.int u3)]) (st := [.ref 33]) (h1 := (v0 L, g2)) (e := ez_i) rfl (dm_240 L g2 83) (fun y3 => ?_)
  refine ev_in 0 (p := y3 = 0) (a := 96) (b := 87) (T := ([some (.ref 33), none, some (.int u2), some (.int u3)], [.ref 33], (v0 L, g2))) rfl ?_ ?_
  · refine ev_op 2 (as := [.ref 33, .int 80]) (pc := 93) (Lc := [some (.ref 33), none, some (.int u2), some (.int u3)]) (st := [.ref 33]) (h1 := (v0 L, g2)) (e := ez_i) rfl (dm_240 L g2 80) (fun y5 => ?_)
    refine ev_if 0 (p := y5 = 0) (a := 100) (b := 96) (T := ([some (.ref 33), none, some (.int u2), some (.int u3)], [.ref 33], (v0 L, g2))) rfl ?_ ?_
    · refine ev_jm 0 (t := (101, [some (.ref 33), none, some (.int u2), some (.int u3)], [.int 0, .ref 33], (v0 L, g2))) rfl ?_
      exact dj_327_101 L g2 u2 u3 0 none _
    · exact dj_327_96 L g2 u2 u3 none _
  · exact dj_327_96 L g2 u2 u3 none _
/-- DeclaredMarkup$Processor.notation()V -/
noncomputable def fm_327 (g : am_G)  : Option ((Unit ⊕ Nat) × am_G) := lo_t (fm_245 g 1313821761) fun y1 g2 => lo_t (fm_245 g2 1414090574) fun y3 g4 => lo_t (fm_243 g4 ) fun y5 g6 => lo_p (fm_178 g6 ) fun y7 => lo_t (fm_247 g6 ) fun y9 g10 => lo_p (fm_167 g10 y9) fun y11 => if y11 = 0 then if (am_i g10 49 9) = 20 then lo_i (fm_237 g10 7 y7) fun y13 g14 => lo_g (Nat.ble 1008 y13 && Nat.blt y13 (am_sz g14)) (some (.inr y13, g14)) else fj_327_73 g10 y9 y11 else lo_p (fm_239 g10 23) fun g16 => fj_327_73 g16 y9 y11
theorem dm_327 (L : Nat) (g : am_G)  (R : (Unit ⊕ Nat) × am_G) : fm_327 g  = some R → ai_ev ap_P 327 (ai_e0 ap_P 327 [.ref 33] (v0 L, g)) (oz_r ez_v R.1) (v0 L, R.2) := by
  show _ → ai_ev ap_P 327 (0, [some (.ref 33), none, none, none], [], (v0 L, g)) _ _
  unfold fm_327
  refine ev_ot 2 (as := [.ref 33, .long 1313821761]) (pc := 7) (Lc := [some (.ref 33), none, none, none]) (st := []) (V := v0 L) (g1 := g) (e := ez_v) rfl (dm_245 L g 1313821761) (fun _ => rfl) (fun y1 g2 => ?_)
  refine ev_ot 2 (as := [.ref 33, .long 1414090574]) (pc := 14) (Lc := [some (.ref 33), none, none, none]) (st := []) (V := v0 L) (g1 := g2) (e := ez_v) rfl (dm_245 L g2 1414090574) (fun _ => rfl) (fun y3 g4 => ?_)
  refine ev_ot 1 (as := [.ref 33]) (pc := 18) (Lc := [some (.ref 33), none, none, none]) (st := []) (V := v0 L) (g1 := g4) (e := ez_v) rfl (dm_243 L g4 ) (fun _ => rfl) (fun y5 g6 => ?_)
  refine ev_op 2 (as := [.ref 39]) (pc := 25) (Lc := [some (.ref 33), none, none, none]) (st := []) (h1 := (v0 L, g6)) (e := ez_i) rfl (dm_178 L g6 ) (fun y7 => ?_)
  refine ev_ot 2 (as := [.ref 33]) (pc := 30) (Lc := [some (.ref 33), some (.int y7), none, none]) (st := []) (V := v0 L) (g1 := g6) (e := ez_i) rfl (dm_247 L g6 ) (fun _ => rfl) (fun y9 g10 => ?_)
  refine ev_op 4 (as := [.ref 49, .int y9]) (pc := 39) (Lc := [some (.ref 33), some (.int y7), some (.int y9), none]) (st := []) (h1 := (v0 L, g10)) (e := ez_i) rfl (dm_167 L g10 y9) (fun y11 => ?_)
  refine ev_if 2 (p := y11 = 0) (a := 53) (b := 44) (T := ([some (.ref 33), some (.int y7), some (.int y9), some (.int y11)], [], (v0 L, g10))) rfl ?_ ?_
  · refine ev_in 4 (p := (am_i g10 49 9) = 20) (a := 73) (b := 65) (T := ([some (.ref 33), some (.int y7), some (.int y9), some (.int y11)], [], (v0 L, g10))) rfl ?_ ?_
    · refine ev_oi 3 (as := [.ref 33, .int 7, .int y7]) (pc := 72) (Lc := [some (.ref 33), some (.int y7), some (.int y9), some (.int y11)]) (st := []) (V := v0 L) (g1 := g10) (e := ez_a) rfl (dm_237 L g10 7 y7) (fun y13 g14 => ?_)
      exact ev_at 0 (a := y13) (g1 := g14) rfl
    · exact dj_327_73 L g10 y9 y11 (some (.int y7)) _
  · refine ev_ov0 2 (as := [.ref 33, .int 23]) (pc := 50) (Lc := [some (.ref 33), some (.int y7), some (.int y9), some (.int y11)]) (st := []) (V := v0 L) (g1 := g10) rfl (dm_239 L g10 23) (fun g16 => ?_)
    refine ev_jm 0 (t := (73, [some (.ref 33), some (.int y7), some (.int y9), some (.int y11)], [], (v0 L, g16))) rfl ?_
    exact dj_327_73 L g16 y9 y11 (some (.int y7)) _
noncomputable def fj_264_27 (k14 : (am_G × Int32) → Option ((Unit ⊕ Nat) × am_G)) (g : am_G) : Option ((Unit ⊕ Nat) × am_G) := lo_p (fm_240 g 45) fun y1 => lo_t (fm_246 g ) fun y3 g4 => k14 (g4, y1)
theorem dj_264_27 (L : Nat) {k14 : (am_G × Int32) → Option ((Unit ⊕ Nat) × am_G)} (hk14 : ∀ (x : am_G × Int32) (R : (Unit ⊕ Nat) × am_G), k14 x = some R → ai_ev ap_P 264 (14, [some (.ref 33), some (.int x.2)], [], (v0 L, x.1)) (oz_r ez_v R.1) (v0 L, R.2)) (g : am_G) (w1 : Option Value) (R : (Unit ⊕ Nat) × am_G) : fj_264_27 k14 g = some R → ai_ev ap_P 264 (27, [some (.ref 33), w1], [], (v0 L, g)) (oz_r ez_v R.1) (v0 L, R.2) := by
  unfold fj_264_27
  refine ev_op 2 (as := [.ref 33, .int 45]) (pc := 33) (Lc := [some (.ref 33), none]) (st := []) (h1 := (v0 L, g)) (e := ez_i) rfl (dm_240 L g 45) (fun y1 => ?_)
  refine ev_ot 2 (as := [.ref 33]) (pc := 38) (Lc := [some (.ref 33), some (.int y1)]) (st := []) (V := v0 L) (g1 := g) (e := ez_v) rfl (dm_246 L g ) (fun _ => rfl) (fun y3 g4 => ?_)
  refine ev_jm 0 (t := (14, [some (.ref 33), some (.int y1)], [], (v0 L, g4))) rfl ?_
  exact hk14 (g4, y1) _
noncomputable def fb_264_14 (k14 : (am_G × Int32) → Option ((Unit ⊕ Nat) × am_G)) (g : am_G) (u1 : Int32) : Option ((Unit ⊕ Nat) × am_G) := if u1 = 0 then fj_264_27 k14 g else lo_p (fm_240 g 45) fun y1 => if y1 = 0 then fj_264_27 k14 g else lo_p (fm_177 g ) fun g4 => lo_t (fm_244 g4 62) fun y5 g6 => some (.inl (), g6)
theorem db_264_14 (L : Nat) {k14 : (am_G × Int32) → Option ((Unit ⊕ Nat) × am_G)} (hk14 : ∀ (x : am_G × Int32) (R : (Unit ⊕ Nat) × am_G), k14 x = some R → ai_ev ap_P 264 (14, [some (.ref 33), some (.int x.2)], [], (v0 L, x.1)) (oz_r ez_v R.1) (v0 L, R.2)) (g : am_G) (u1 : Int32) (R : (Unit ⊕ Nat) × am_G) : fb_264_14 k14 g u1 = some R → ai_ev ap_P 264 (14, [some (.ref 33), some (.int u1)], [], (v0 L, g)) (oz_r ez_v R.1) (v0 L, R.2) := by
  unfold fb_264_14
  refine ev_if 1 (p := u1 = 0) (a := 27) (b := 18) (T := ([some (.ref 33), some (.int u1)], [], (v0 L, g))) rfl ?_ ?_
  · exact dj_264_27 L hk14 g (some (.int u1)) _
  · refine ev_op 2 (as := [.ref 33, .int 45]) (pc := 24) (Lc := [some (.ref 33), some (.int u1)]) (st := []) (h1 := (v0 L, g)) (e := ez_i) rfl (dm_240 L g 45) (fun y1 => ?_)
    refine ev_in 0 (p := y1 = 0) (a := 41) (b := 27) (T := ([some (.ref 33), some (.int u1)], [], (v0 L, g))) rfl ?_ ?_
    · exact dj_264_27 L hk14 g (some (.int u1)) _
    · refine ev_ov0 2 (as := [.ref 39]) (pc := 48) (Lc := [some (.ref 33), some (.int u1)]) (st := []) (V := v0 L) (g1 := g) rfl (dm_177 L g ) (fun g4 => ?_)
      refine ev_ot 2 (as := [.ref 33, .int 62]) (pc := 54) (Lc := [some (.ref 33), some (.int u1)]) (st := []) (V := v0 L) (g1 := g4) (e := ez_v) rfl (dm_244 L g4 62) (fun _ => rfl) (fun y5 g6 => ?_)
      exact fun hR => by cases hR; exact ev_rt 0 rfl
noncomputable def fh_264_14  (x : am_G × Int32) : Option ((Unit ⊕ Nat) × am_G) := lo_it (fun k x => fb_264_14 k x.1 x.2) nf_F x
theorem dh_264_14 (L : Nat)   (x : am_G × Int32) (R : (Unit ⊕ Nat) × am_G) : fh_264_14  x = some R → ai_ev ap_P 264 (14, [some (.ref 33), some (.int x.2)], [], (v0 L, x.1)) (oz_r ez_v R.1) (v0 L, R.2) :=
  fun hr => lo_ev (E := fun x R => ai_ev ap_P 264 (14, [some (.ref 33), some (.int x.2)], [], (v0 L, x.1)) (oz_r ez_v R.1) (v0 L, R.2)) (fun k hk x R hr => db_264_14 L hk x.1 x.2  R hr) nf_F x R hr
/-- DeclaredMarkup$Processor.comment()V -/
noncomputable def fm_264 (g : am_G)  : Option ((Unit ⊕ Nat) × am_G) := lo_t (fm_244 g 45) fun y1 g2 => lo_t (fm_244 g2 45) fun y3 g4 => fh_264_14 (g4, 0)
theorem dm_264 (L : Nat) (g : am_G)  (R : (Unit ⊕ Nat) × am_G) : fm_264 g  = some R → ai_ev ap_P 264 (ai_e0 ap_P 264 [.ref 33] (v0 L, g)) (oz_r ez_v R.1) (v0 L, R.2) := by
  show _ → ai_ev ap_P 264 (0, [some (.ref 33), none], [], (v0 L, g)) _ _
  unfold fm_264
  refine ev_ot 2 (as := [.ref 33, .int 45]) (pc := 6) (Lc := [some (.ref 33), none]) (st := []) (V := v0 L) (g1 := g) (e := ez_v) rfl (dm_244 L g 45) (fun _ => rfl) (fun y1 g2 => ?_)
  refine ev_ot 2 (as := [.ref 33, .int 45]) (pc := 12) (Lc := [some (.ref 33), none]) (st := []) (V := v0 L) (g1 := g2) (e := ez_v) rfl (dm_244 L g2 45) (fun _ => rfl) (fun y3 g4 => ?_)
  refine ev_jm 1 (t := (14, [some (.ref 33), some (.int 0)], [], (v0 L, g4))) rfl ?_
  exact dh_264_14 L (g4, 0) _
/-- DeclaredMarkup$Processor.keepLiteral(II)I -/
noncomputable def fm_325 (g : am_G) (u1 : Int32) (u2 : Int32) : Option (Int32 × am_G) := if (8000 : Int32) ≤ u2 then some ((u2 + 1), g) else lo_g (ai_in u2 8000) (some ((u2 + 1), (am_si g 884 u2.toNatClampNeg u1)))
theorem dm_325 (L : Nat) (g : am_G) (u1 : Int32) (u2 : Int32) (R : Int32 × am_G) : fm_325 g u1 u2 = some R → ai_ev ap_P 325 (ai_e0 ap_P 325 [.ref 33, .int u1, .int u2] (v0 L, g)) (.inl (ez_i R.1)) (v0 L, R.2) := by
  show _ → ai_ev ap_P 325 (0, [some (.ref 33), some (.int u1), some (.int u2)], [], (v0 L, g)) _ _
  unfold fm_325
  refine ev_if 2 (p := (8000 : Int32) ≤ u2) (a := 14) (b := 7) (T := ([some (.ref 33), some (.int u1), some (.int u2)], [], (v0 L, g))) rfl ?_ ?_
  · exact fun hR => by cases hR; exact ev_rt 3 rfl
  · refine ev_gd (c := ai_in u2 8000) (fun hc1 => ?_)
    refine ev_jm 4 (t := (14, [some (.ref 33), some (.int u1), some (.int u2)], [], (v0 L, (am_si g 884 u2.toNatClampNeg u1)))) (ai_gd (c := ai_in u2 8000) rfl hc1) ?_
    exact fun hR => by cases hR; exact ev_rt 3 rfl
noncomputable def fb_326_16 (k16 : (am_G × Int32) → Option ((Int32 ⊕ Nat) × am_G)) (g : am_G) (u2 : Int32) : Option ((Int32 ⊕ Nat) × am_G) := lo_p (fm_176 g ) fun y1 => lo_p (fm_187 g y1) fun y3 => if y3 = 0 then some (.inl u2, g) else lo_p (fm_176 g ) fun y5 => lo_i (fm_325 g y5 u2) fun y7 g8 => lo_p (fm_177 g8 ) fun g10 => k16 (g10, y7)
theorem db_326_16 (L : Nat) {k16 : (am_G × Int32) → Option ((Int32 ⊕ Nat) × am_G)} (hk16 : ∀ (x : am_G × Int32) (w1 : Option Value) (R : (Int32 ⊕ Nat) × am_G), k16 x = some R → ai_ev ap_P 326 (16, [some (.ref 33), w1, some (.int x.2)], [], (v0 L, x.1)) (oz_r ez_i R.1) (v0 L, R.2)) (g : am_G) (u2 : Int32) (w1 : Option Value) (R : (Int32 ⊕ Nat) × am_G) : fb_326_16 k16 g u2 = some R → ai_ev ap_P 326 (16, [some (.ref 33), w1, some (.int u2)], [], (v0 L, g)) (oz_r ez_i R.1) (v0 L, R.2) := by
  unfold fb_326_16
  refine ev_op 2 (as := [.ref 39]) (pc := 23) (Lc := [some (.ref 33), none, some (.int u2)]) (st := []) (h1 := (v0 L, g)) (e := ez_i) rfl (dm_176 L g ) (fun y1 => ?_)
  refine ev_op 0 (as := [.int y1]) (pc := 26) (Lc := [some (.ref 33), none, some (.int u2)]) (st := []) (h1 := (v0 L, g)) (e := ez_i) rfl (dm_187 L g y1) (fun y3 => ?_)
  refine ev_if 0 (p := y3 = 0) (a := 52) (b := 29) (T := ([some (.ref 33), none, some (.int u2)], [], (v0 L, g))) rfl ?_ ?_
  · exact fun hR => by cases hR; exact ev_rt 1 rfl
  · refine ev_op 3 (as := [.ref 39]) (pc := 37) (Lc := [some (.ref 33), none, some (.int u2)]) (st := [.ref 33]) (h1 := (v0 L, g)) (e := ez_i) rfl (dm_176 L g ) (fun y5 => ?_)
    refine ev_oi 1 (as := [.ref 33, .int y5, .int u2]) (pc := 41) (Lc := [some (.ref 33), none, some (.int u2)]) (st := []) (V := v0 L) (g1 := g) (e := ez_i) rfl (dm_325 L g y5 u2) (fun y7 g8 => ?_)
    refine ev_ov0 3 (as := [.ref 39]) (pc := 49) (Lc := [some (.ref 33), none, some (.int y7)]) (st := []) (V := v0 L) (g1 := g8) rfl (dm_177 L g8 ) (fun g10 => ?_)
    refine ev_jm 0 (t := (16, [some (.ref 33), none, some (.int y7)], [], (v0 L, g10))) rfl ?_
    exact hk16 (g10, y7) none _
noncomputable def fh_326_16  (x : am_G × Int32) : Option ((Int32 ⊕ Nat) × am_G) := lo_it (fun k x => fb_326_16 k x.1 x.2) nf_F x
theorem dh_326_16 (L : Nat)   (x : am_G × Int32) (w1 : Option Value) (R : (Int32 ⊕ Nat) × am_G) : fh_326_16  x = some R → ai_ev ap_P 326 (16, [some (.ref 33), w1, some (.int x.2)], [], (v0 L, x.1)) (oz_r ez_i R.1) (v0 L, R.2) :=
  fun hr => lo_ev (E := fun x R => ∀ (w1 : Option Value), ai_ev ap_P 326 (16, [some (.ref 33), w1, some (.int x.2)], [], (v0 L, x.1)) (oz_r ez_i R.1) (v0 L, R.2)) (fun k hk x R hr => fun w1 => db_326_16 L (fun x w1 R hr => hk x R hr w1) x.1 x.2 w1 R hr) nf_F x R hr w1
/-- DeclaredMarkup$Processor.keepName(I)I -/
noncomputable def fm_326 (g : am_G) (u1 : Int32) : Option ((Int32 ⊕ Nat) × am_G) := lo_p (fm_176 g ) fun y1 => lo_p (fm_186 g y1) fun y3 => lo_t (fm_238 g y3) fun y5 g6 => fh_326_16 (g6, u1)
theorem dm_326 (L : Nat) (g : am_G) (u1 : Int32) (R : (Int32 ⊕ Nat) × am_G) : fm_326 g u1 = some R → ai_ev ap_P 326 (ai_e0 ap_P 326 [.ref 33, .int u1] (v0 L, g)) (oz_r ez_i R.1) (v0 L, R.2) := by
  show _ → ai_ev ap_P 326 (0, [some (.ref 33), some (.int u1), none], [], (v0 L, g)) _ _
  unfold fm_326
  refine ev_op 5 (as := [.ref 39]) (pc := 10) (Lc := [some (.ref 33), some (.int u1), some (.int u1)]) (st := [.ref 33]) (h1 := (v0 L, g)) (e := ez_i) rfl (dm_176 L g ) (fun y1 => ?_)
  refine ev_op 0 (as := [.int y1]) (pc := 13) (Lc := [some (.ref 33), some (.int u1), some (.int u1)]) (st := [.ref 33]) (h1 := (v0 L, g)) (e := ez_i) rfl (dm_186 L g y1) (fun y3 => ?_)
  refine ev_ot 0 (as := [.ref 33, .int y3]) (pc := 16) (Lc := [some (.ref 33), some (.int u1), some (.int u1)]) (st := []) (V := v0 L) (g1 := g) (e := ez_v) rfl (dm_238 L g y3) (fun _ => rfl) (fun y5 g6 => ?_)
  exact dh_326_16 L (g6, u1) (some (.int u1)) _
noncomputable def fj_324_80 (k7 : (am_G × Int32 × Int32) → Option ((Int32 ⊕ Nat) × am_G)) (g : am_G) (u1 : Int32) (u2 : Int32) (t1 : Int32) : Option ((Int32 ⊕ Nat) × am_G) := lo_t (fm_238 g t1) fun y1 g2 => lo_p (fm_176 g2 ) fun y3 => lo_i (fm_325 g2 y3 u2) fun y5 g6 => lo_p (fm_177 g6 ) fun g8 => k7 (g8, u1, y5)
theorem dj_324_80 (L : Nat) {k7 : (am_G × Int32 × Int32) → Option ((Int32 ⊕ Nat) × am_G)} (hk7 : ∀ (x : am_G × Int32 × Int32) (w3 : Option Value) (R : (Int32 ⊕ Nat) × am_G), k7 x = some R → ai_ev ap_P 324 (7, [some (.ref 33), some (.int x.2.1), some (.int x.2.2), w3], [], (v0 L, x.1)) (oz_r ez_i R.1) (v0 L, R.2)) (g : am_G) (u1 : Int32) (u2 : Int32) (t1 : Int32) (w3 : Option Value) (R : (Int32 ⊕ Nat) × am_G) : fj_324_80 k7 g u1 u2 t1 = some R → ai_ev ap_P 324 (80, [some (.ref 33), some (.int u1), some (.int u2), w3], [.int t1, .ref 33], (v0 L, g)) (oz_r ez_i R.1) (v0 L, R.2) := by
  unfold fj_324_80
  refine ev_ot 0 (as := [.ref 33, .int t1]) (pc := 83) (Lc := [some (.ref 33), some (.int u1), some (.int u2), none]) (st := []) (V := v0 L) (g1 := g) (e := ez_v) rfl (dm_238 L g t1) (fun _ => rfl) (fun y1 g2 => ?_)
  refine ev_op 3 (as := [.ref 39]) (pc := 91) (Lc := [some (.ref 33), some (.int u1), some (.int u2), none]) (st := [.ref 33]) (h1 := (v0 L, g2)) (e := ez_i) rfl (dm_176 L g2 ) (fun y3 => ?_)
  refine ev_oi 1 (as := [.ref 33, .int y3, .int u2]) (pc := 95) (Lc := [some (.ref 33), some (.int u1), some (.int u2), none]) (st := []) (V := v0 L) (g1 := g2) (e := ez_i) rfl (dm_325 L g2 y3 u2) (fun y5 g6 => ?_)
  refine ev_ov0 3 (as := [.ref 39]) (pc := 103) (Lc := [some (.ref 33), some (.int u1), some (.int y5), none]) (st := []) (V := v0 L) (g1 := g6) rfl (dm_177 L g6 ) (fun g8 => ?_)
  refine ev_jm 0 (t := (7, [some (.ref 33), some (.int u1), some (.int y5), none], [], (v0 L, g8))) rfl ?_
  exact hk7 (g8, u1, y5) none _
noncomputable def fb_324_7 (k7 : (am_G × Int32 × Int32) → Option ((Int32 ⊕ Nat) × am_G)) (g : am_G) (u1 : Int32) (u2 : Int32) : Option ((Int32 ⊕ Nat) × am_G) := lo_p (fm_240 g u1) fun y1 => if y1 = 0 then lo_p (fm_178 g ) fun y5 => lo_p (fm_240 g 37) fun y7 => if y7 = 0 then lo_p (fm_240 g 38) fun y9 => if y9 = 0 then lo_p (fm_240 g (-1)) fun y29 => if y29 = 0 then fj_324_80 k7 g u1 u2 1 else fj_324_80 k7 g u1 u2 0 else lo_p (fm_177 g ) fun g12 => lo_p (fm_240 g12 35) fun y13 => if y13 = 0 then lo_i (fm_325 g12 38 u2) fun y15 g16 => lo_t (fm_326 g16 y15) fun y17 g18 => lo_t (fm_244 g18 59) fun y19 g20 => lo_i (fm_325 g20 59 y17) fun y21 g22 => k7 (g22, u1, y21) else lo_p (fm_177 g12 ) fun g24 => lo_t (fm_272 g24 y5) fun y25 g26 => lo_i (fm_325 g26 y25 u2) fun y27 g28 => k7 (g28, u1, y27) else lo_p (fm_177 g ) fun g32 => lo_t (fm_248 g32 ) fun y33 g34 => lo_t (fm_244 g34 59) fun y35 g36 => lo_i (fm_236 g36 9 y5) fun y37 g38 => lo_g (Nat.ble 1008 y37 && Nat.blt y37 (am_sz g38)) (some (.inr y37, g38)) else lo_p (fm_177 g ) fun g4 => some (.inl u2, g4)
theorem db_324_7 (L : Nat) {k7 : (am_G × Int32 × Int32) → Option ((Int32 ⊕ Nat) × am_G)} (hk7 : ∀ (x : am_G × Int32 × Int32) (w3 : Option Value) (R : (Int32 ⊕ Nat) × am_G), k7 x = some R → ai_ev ap_P 324 (7, [some (.ref 33), some (.int x.2.1), some (.int x.2.2), w3], [], (v0 L, x.1)) (oz_r ez_i R.1) (v0 L, R.2)) (g : am_G) (u1 : Int32) (u2 : Int32) (w3 : Option Value) (R : (Int32 ⊕ Nat) × am_G) : fb_324_7 k7 g u1 u2 = some R → ai_ev ap_P 324 (7, [some (.ref 33), some (.int u1), some (.int u2), w3], [], (v0 L, g)) (oz_r ez_i R.1) (v0 L, R.2) := by
  unfold fb_324_7
  refine ev_op 2 (as := [.ref 33, .int u1]) (pc := 12) (Lc := [some (.ref 33), some (.int u1), some (.int u2), none]) (st := []) (h1 := (v0 L, g)) (e := ez_i) rfl (dm_240 L g u1) (fun y1 => ?_)
  refine ev_in 0 (p := y1 = 0) (a := 174) (b := 15) (T := ([some (.ref 33), some (.int u1), some (.int u2), none], [], (v0 L, g))) rfl ?_ ?_
  · refine ev_op 2 (as := [.ref 39]) (pc := 22) (Lc := [some (.ref 33), some (.int u1), some (.int u2), none]) (st := []) (h1 := (v0 L, g)) (e := ez_i) rfl (dm_178 L g ) (fun y5 => ?_)
    refine ev_op 3 (as := [.ref 33, .int 37]) (pc := 29) (Lc := [some (.ref 33), some (.int u1), some (.int u2), some (.int y5)]) (st := []) (h1 := (v0 L, g)) (e := ez_i) rfl (dm_240 L g 37) (fun y7 => ?_)
    refine ev_if 0 (p := y7 = 0) (a := 57) (b := 32) (T := ([some (.ref 33), some (.int u1), some (.int u2), some (.int y5)], [], (v0 L, g))) rfl ?_ ?_
    · refine ev_op 2 (as := [.ref 33, .int 38]) (pc := 63) (Lc := [some (.ref 33), some (.int u1), some (.int u2), some (.int y5)]) (st := []) (h1 := (v0 L, g)) (e := ez_i) rfl (dm_240 L g 38) (fun y9 => ?_)
      refine ev_in 0 (p := y9 = 0) (a := 106) (b := 66) (T := ([some (.ref 33), some (.int u1), some (.int u2), some (.int y5)], [], (v0 L, g))) rfl ?_ ?_
      · refine ev_op 3 (as := [.ref 33, .int (-1)]) (pc := 72) (Lc := [some (.ref 33), some (.int u1), some (.int u2), some (.int y5)]) (st := [.ref 33]) (h1 := (v0 L, g)) (e := ez_i) rfl (dm_240 L g (-1)) (fun y29 => ?_)
        refine ev_in 0 (p := y29 = 0) (a := 79) (b := 75) (T := ([some (.ref 33), some (.int u1), some (.int u2), some (.int y5)], [.ref 33], (v0 L, g))) rfl ?_ ?_
        · refine ev_jm 1 (t := (80, [some (.ref 33), some (.int u1), some (.int u2), some (.int y5)], [.int 1, .ref 33], (v0 L, g))) rfl ?_
          exact dj_324_80 L hk7 g u1 u2 1 (some (.int y5)) _
        · refine ev_jm 0 (t := (80, [some (.ref 33), some (.int u1), some (.int u2), some (.int y5)], [.int 0, .ref 33], (v0 L, g))) rfl ?_
          exact dj_324_80 L hk7 g u1 u2 0 (some (.int y5)) _
      · refine ev_ov0 2 (as := [.ref 39]) (pc := 113) (Lc := [some (.ref 33), some (.int u1), some (.int u2), some (.int y5)]) (st := []) (V := v0 L) (g1 := g) rfl (dm_177 L g ) (fun g12 => ?_)
        refine ev_op 2 (as := [.ref 33, .int 35]) (pc := 119) (Lc := [some (.ref 33), some (.int u1), some (.int u2), some (.int y5)]) (st := []) (h1 := (v0 L, g12)) (e := ez_i) rfl (dm_240 L g12 35) (fun y13 => ?_)
        refine ev_if 0 (p := y13 = 0) (a := 143) (b := 122) (T := ([some (.ref 33), some (.int u1), some (.int u2), some (.int y5)], [], (v0 L, g12))) rfl ?_ ?_
        · refine ev_oi 3 (as := [.ref 33, .int 38, .int u2]) (pc := 150) (Lc := [some (.ref 33), some (.int u1), some (.int u2), some (.int y5)]) (st := []) (V := v0 L) (g1 := g12) (e := ez_i) rfl (dm_325 L g12 38 u2) (fun y15 g16 => ?_)
          refine ev_ot 3 (as := [.ref 33, .int y15]) (pc := 156) (Lc := [some (.ref 33), some (.int u1), some (.int y15), some (.int y5)]) (st := []) (V := v0 L) (g1 := g16) (e := ez_i) rfl (dm_326 L g16 y15) (fun _ => rfl) (fun y17 g18 => ?_)
          refine ev_ot 3 (as := [.ref 33, .int 59]) (pc := 163) (Lc := [some (.ref 33), some (.int u1), some (.int y17), some (.int y5)]) (st := []) (V := v0 L) (g1 := g18) (e := ez_v) rfl (dm_244 L g18 59) (fun _ => rfl) (fun y19 g20 => ?_)
          refine ev_oi 3 (as := [.ref 33, .int 59, .int y17]) (pc := 170) (Lc := [some (.ref 33), some (.int u1), some (.int y17), some (.int y5)]) (st := []) (V := v0 L) (g1 := g20) (e := ez_i) rfl (dm_325 L g20 59 y17) (fun y21 g22 => ?_)
          refine ev_jm 1 (t := (7, [some (.ref 33), some (.int u1), some (.int y21), some (.int y5)], [], (v0 L, g22))) rfl ?_
          exact hk7 (g22, u1, y21) (some (.int y5)) _
        · refine ev_ov0 2 (as := [.ref 39]) (pc := 129) (Lc := [some (.ref 33), some (.int u1), some (.int u2), some (.int y5)]) (st := []) (V := v0 L) (g1 := g12) rfl (dm_177 L g12 ) (fun g24 => ?_)
          refine ev_ot 3 (as := [.ref 33, .int y5]) (pc := 135) (Lc := [some (.ref 33), some (.int u1), some (.int u2), some (.int y5)]) (st := [.ref 33]) (V := v0 L) (g1 := g24) (e := ez_i) rfl (dm_272 L g24 y5) (fun _ => rfl) (fun y25 g26 => ?_)
          refine ev_oi 1 (as := [.ref 33, .int y25, .int u2]) (pc := 139) (Lc := [some (.ref 33), some (.int u1), some (.int u2), some (.int y5)]) (st := []) (V := v0 L) (g1 := g26) (e := ez_i) rfl (dm_325 L g26 y25 u2) (fun y27 g28 => ?_)
          refine ev_jm 1 (t := (7, [some (.ref 33), some (.int u1), some (.int y27), some (.int y5)], [], (v0 L, g28))) rfl ?_
          exact hk7 (g28, u1, y27) (some (.int y5)) _
    · refine ev_ov0 2 (as := [.ref 39]) (pc := 39) (Lc := [some (.ref 33), some (.int u1), some (.int u2), some (.int y5)]) (st := []) (V := v0 L) (g1 := g) rfl (dm_177 L g ) (fun g32 => ?_)
      refine ev_ot 1 (as := [.ref 33]) (pc := 43) (Lc := [some (.ref 33), some (.int u1), some (.int u2), some (.int y5)]) (st := []) (V := v0 L) (g1 := g32) (e := ez_v) rfl (dm_248 L g32 ) (fun _ => rfl) (fun y33 g34 => ?_)
      refine ev_ot 2 (as := [.ref 33, .int 59]) (pc := 49) (Lc := [some (.ref 33), some (.int u1), some (.int u2), some (.int y5)]) (st := []) (V := v0 L) (g1 := g34) (e := ez_v) rfl (dm_244 L g34 59) (fun _ => rfl) (fun y35 g36 => ?_)
      refine ev_oi 3 (as := [.ref 33, .int 9, .int y5]) (pc := 56) (Lc := [some (.ref 33), some (.int u1), some (.int u2), some (.int y5)]) (st := []) (V := v0 L) (g1 := g36) (e := ez_a) rfl (dm_236 L g36 9 y5) (fun y37 g38 => ?_)
      exact ev_at 0 (a := y37) (g1 := g38) rfl
  · refine ev_ov0 2 (as := [.ref 39]) (pc := 181) (Lc := [some (.ref 33), some (.int u1), some (.int u2), none]) (st := []) (V := v0 L) (g1 := g) rfl (dm_177 L g ) (fun g4 => ?_)
    exact fun hR => by cases hR; exact ev_rt 1 rfl
noncomputable def fh_324_7  (x : am_G × Int32 × Int32) : Option ((Int32 ⊕ Nat) × am_G) := lo_it (fun k x => fb_324_7 k x.1 x.2.1 x.2.2) nf_F x
theorem dh_324_7 (L : Nat)   (x : am_G × Int32 × Int32) (w3 : Option Value) (R : (Int32 ⊕ Nat) × am_G) : fh_324_7  x = some R → ai_ev ap_P 324 (7, [some (.ref 33), some (.int x.2.1), some (.int x.2.2), w3], [], (v0 L, x.1)) (oz_r ez_i R.1) (v0 L, R.2) :=
  fun hr => lo_ev (E := fun x R => ∀ (w3 : Option Value), ai_ev ap_P 324 (7, [some (.ref 33), some (.int x.2.1), some (.int x.2.2), w3], [], (v0 L, x.1)) (oz_r ez_i R.1) (v0 L, R.2)) (fun k hk x R hr => fun w3 => db_324_7 L (fun x w3 R hr => hk x R hr w3) x.1 x.2.1 x.2.2 w3 R hr) nf_F x R hr w3
/-- DeclaredMarkup$Processor.literal()I -/
noncomputable def fm_324 (g : am_G)  : Option ((Int32 ⊕ Nat) × am_G) := lo_t (fm_250 g ) fun y1 g2 => fh_324_7 (g2, y1, 0)
theorem dm_324 (L : Nat) (g : am_G)  (R : (Int32 ⊕ Nat) × am_G) : fm_324 g  = some R → ai_ev ap_P 324 (ai_e0 ap_P 324 [.ref 33] (v0 L, g)) (oz_r ez_i R.1) (v0 L, R.2) := by
  show _ → ai_ev ap_P 324 (0, [some (.ref 33), none, none, none], [], (v0 L, g)) _ _
  unfold fm_324
  refine ev_ot 1 (as := [.ref 33]) (pc := 4) (Lc := [some (.ref 33), none, none, none]) (st := []) (V := v0 L) (g1 := g) (e := ez_i) rfl (dm_250 L g ) (fun _ => rfl) (fun y1 g2 => ?_)
  refine ev_jm 2 (t := (7, [some (.ref 33), some (.int y1), some (.int 0), none], [], (v0 L, g2))) rfl ?_
  exact dh_324_7 L (g2, y1, 0) none _
noncomputable def fb_173_46 (k46 : (am_G × Nat × Int32 × Int32) → Option (am_G)) (g : am_G) (u0 : Nat) (u3 : Int32) (u4 : Int32) : Option (am_G) := if u3 ≤ u4 then lo_g (Nat.beq (v0_kd u0) 12) (lo_g ((Nat.beq (v0_kd u0) 12 && Nat.ble 32 u0)) (some (am_si (am_si g u0 6 ((am_i g u0 6) + u3)) u0 5 ((am_i (am_si g u0 6 ((am_i g u0 6) + u3)) u0 5) + 1)))) else lo_g (Nat.beq (v0_kd u0) 12) (lo_m (v0_fr u0 4) (none) fun o4 => lo_g (ai_in u4 8000) (lo_g (vk_iw o4 101 ((am_i g u0 6) + u4)) (k46 ((am_si g o4 (((am_i g u0 6) + u4)).toNatClampNeg (am_i g 884 u4.toNatClampNeg)), u0, u3, (u4 + 1)))))
theorem db_173_46 (L : Nat) {k46 : (am_G × Nat × Int32 × Int32) → Option (am_G)} (hk46 : ∀ (x : am_G × Nat × Int32 × Int32) (w1 : Option Value) (R : am_G), k46 x = some R → ai_ev ap_P 173 (46, [some (.ref x.2.1), w1, some (.ref 884), some (.int x.2.2.1), some (.int x.2.2.2)], [], (v0 L, x.1)) (.inl none) (v0 L, R)) (g : am_G) (u0 : Nat) (u3 : Int32) (u4 : Int32) (w1 : Option Value) (R : am_G) : fb_173_46 k46 g u0 u3 u4 = some R → ai_ev ap_P 173 (46, [some (.ref u0), w1, some (.ref 884), some (.int u3), some (.int u4)], [], (v0 L, g)) (.inl none) (v0 L, R) := by
  unfold fb_173_46
  refine ev_if 2 (p := u3 ≤ u4) (a := 74) (b := 52) (T := ([some (.ref u0), none, some (.ref 884), some (.int u3), some (.int u4)], [], (v0 L, g))) rfl ?_ ?_
  · refine ev_gd (c := Nat.beq (v0_kd u0) 12) (fun hc1 => ?_)
    refine ev_jm 2 (t := (79, [some (.ref u0), none, some (.ref 884), some (.int u3), some (.int u4)], [.int (am_i g u0 6), .ref u0], (v0 L, g))) (ai_gd (c := Nat.beq (v0_kd u0) 12) rfl hc1) ?_
    refine ev_gd (c := (Nat.beq (v0_kd u0) 12 && Nat.ble 32 u0)) (fun hc2 => ?_)
    refine ev_jm 2 (t := (84, [some (.ref u0), none, some (.ref 884), some (.int u3), some (.int u4)], [], (v0 L, (am_si g u0 6 ((am_i g u0 6) + u3))))) (ai_gd (c := (Nat.beq (v0_kd u0) 12 && Nat.ble 32 u0)) rfl hc2) ?_
    refine ev_jm 2 (t := (89, [some (.ref u0), none, some (.ref 884), some (.int u3), some (.int u4)], [.int (am_i (am_si g u0 6 ((am_i g u0 6) + u3)) u0 5), .ref u0], (v0 L, (am_si g u0 6 ((am_i g u0 6) + u3))))) (ai_gd (c := Nat.beq (v0_kd u0) 12) rfl hc1) ?_
    refine ev_jm 2 (t := (94, [some (.ref u0), none, some (.ref 884), some (.int u3), some (.int u4)], [], (v0 L, (am_si (am_si g u0 6 ((am_i g u0 6) + u3)) u0 5 ((am_i (am_si g u0 6 ((am_i g u0 6) + u3)) u0 5) + 1))))) (ai_gd (c := (Nat.beq (v0_kd u0) 12 && Nat.ble 32 u0)) rfl hc2) ?_
    exact fun hR => by cases hR; exact ev_rt 0 rfl
  · refine ev_gd (c := Nat.beq (v0_kd u0) 12) (fun hc3 => ?_)
    refine ev_jm 1 (t := (56, [some (.ref u0), none, some (.ref 884), some (.int u3), some (.int u4)], [am_v (v0_fr u0 4)], (v0 L, g))) (ai_gd (c := Nat.beq (v0_kd u0) 12) rfl hc3) ?_
    refine ev_om (S := fun (o : Option Nat) => (56, [some (.ref u0), none, some (.ref 884), some (.int u3), some (.int u4)], [am_v o], (v0 L, g))) ?_ (fun o4 => ?_)
    · exact fun hR => nomatch hR
    · refine ev_jm 1 (t := (60, [some (.ref u0), none, some (.ref 884), some (.int u3), some (.int u4)], [.int (am_i g u0 6), .ref o4], (v0 L, g))) (ai_gd (c := Nat.beq (v0_kd u0) 12) rfl hc3) ?_
      refine ev_gd (c := ai_in u4 8000) (fun hc5 => ?_)
      refine ev_jm 4 (t := (67, [some (.ref u0), none, some (.ref 884), some (.int u3), some (.int u4)], [.int (am_i g 884 u4.toNatClampNeg), .int ((am_i g u0 6) + u4), .ref o4], (v0 L, g))) (ai_gd (c := ai_in u4 8000) rfl hc5) ?_
      refine ev_gd (c := vk_iw o4 101 ((am_i g u0 6) + u4)) (fun hc6 => ?_)
      refine ev_jm 0 (t := (68, [some (.ref u0), none, some (.ref 884), some (.int u3), some (.int u4)], [], (v0 L, (am_si g o4 (((am_i g u0 6) + u4)).toNatClampNeg (am_i g 884 u4.toNatClampNeg))))) (ai_gd (c := (Nat.beq (v0_kd o4) 101 && Nat.ble 32 o4) && ai_in ((am_i g u0 6) + u4) (v0_ln L o4)) rfl (vk_st hc6)) ?_
      refine ev_jm 1 (t := (46, [some (.ref u0), none, some (.ref 884), some (.int u3), some (.int (u4 + 1))], [], (v0 L, (am_si g o4 (((am_i g u0 6) + u4)).toNatClampNeg (am_i g 884 u4.toNatClampNeg))))) rfl ?_
      exact hk46 ((am_si g o4 (((am_i g u0 6) + u4)).toNatClampNeg (am_i g 884 u4.toNatClampNeg)), u0, u3, (u4 + 1)) none _
noncomputable def fh_173_46  (x : am_G × Nat × Int32 × Int32) : Option (am_G) := lo_it (fun k x => fb_173_46 k x.1 x.2.1 x.2.2.1 x.2.2.2) nf_F x
theorem dh_173_46 (L : Nat)   (x : am_G × Nat × Int32 × Int32) (w1 : Option Value) (R : am_G) : fh_173_46  x = some R → ai_ev ap_P 173 (46, [some (.ref x.2.1), w1, some (.ref 884), some (.int x.2.2.1), some (.int x.2.2.2)], [], (v0 L, x.1)) (.inl none) (v0 L, R) :=
  fun hr => lo_ev (E := fun x R => ∀ (w1 : Option Value), ai_ev ap_P 173 (46, [some (.ref x.2.1), w1, some (.ref 884), some (.int x.2.2.1), some (.int x.2.2.2)], [], (v0 L, x.1)) (.inl none) (v0 L, R)) (fun k hk x R hr => fun w1 => db_173_46 L (fun x w1 R hr => hk x R hr w1) x.1 x.2.1 x.2.2.1 x.2.2.2 w1 R hr) nf_F x R hr w1
/-- DeclaredMarkup$EntityTable.add(I[II)V -/
noncomputable def fm_173 (g : am_G) (u0 : Nat) (u1 : Int32) (u3 : Int32) : Option (am_G) := lo_g (Nat.beq (v0_kd u0) 12) (lo_m (v0_fr u0 0) (none) fun o2 => lo_g (vk_iw o2 101 (am_i g u0 5)) (lo_m (v0_fr u0 1) (none) fun o4 => lo_g (vk_iw o4 101 (am_i (am_si g o2 ((am_i g u0 5)).toNatClampNeg u1) u0 5)) (lo_m (v0_fr u0 2) (none) fun o6 => lo_g (vk_iw o6 101 (am_i (am_si (am_si g o2 ((am_i g u0 5)).toNatClampNeg u1) o4 ((am_i (am_si g o2 ((am_i g u0 5)).toNatClampNeg u1) u0 5)).toNatClampNeg (am_i (am_si g o2 ((am_i g u0 5)).toNatClampNeg u1) u0 6)) u0 5)) (lo_m (v0_fr u0 3) (none) fun o8 => lo_g (vk_iw o8 104 (am_i (am_si (am_si (am_si g o2 ((am_i g u0 5)).toNatClampNeg u1) o4 ((am_i (am_si g o2 ((am_i g u0 5)).toNatClampNeg u1) u0 5)).toNatClampNeg (am_i (am_si g o2 ((am_i g u0 5)).toNatClampNeg u1) u0 6)) o6 ((am_i (am_si (am_si g o2 ((am_i g u0 5)).toNatClampNeg u1) o4 ((am_i (am_si g o2 ((am_i g u0 5)).toNatClampNeg u1) u0 5)).toNatClampNeg (am_i (am_si g o2 ((am_i g u0 5)).toNatClampNeg u1) u0 6)) u0 5)).toNatClampNeg u3) u0 5)) (fh_173_46 ((am_si (am_si (am_si (am_si g o2 ((am_i g u0 5)).toNatClampNeg u1) o4 ((am_i (am_si g o2 ((am_i g u0 5)).toNatClampNeg u1) u0 5)).toNatClampNeg (am_i (am_si g o2 ((am_i g u0 5)).toNatClampNeg u1) u0 6)) o6 ((am_i (am_si (am_si g o2 ((am_i g u0 5)).toNatClampNeg u1) o4 ((am_i (am_si g o2 ((am_i g u0 5)).toNatClampNeg u1) u0 5)).toNatClampNeg (am_i (am_si g o2 ((am_i g u0 5)).toNatClampNeg u1) u0 6)) u0 5)).toNatClampNeg u3) o8 ((am_i (am_si (am_si (am_si g o2 ((am_i g u0 5)).toNatClampNeg u1) o4 ((am_i (am_si g o2 ((am_i g u0 5)).toNatClampNeg u1) u0 5)).toNatClampNeg (am_i (am_si g o2 ((am_i g u0 5)).toNatClampNeg u1) u0 6)) o6 ((am_i (am_si (am_si g o2 ((am_i g u0 5)).toNatClampNeg u1) o4 ((am_i (am_si g o2 ((am_i g u0 5)).toNatClampNeg u1) u0 5)).toNatClampNeg (am_i (am_si g o2 ((am_i g u0 5)).toNatClampNeg u1) u0 6)) u0 5)).toNatClampNeg u3) u0 5)).toNatClampNeg 0), u0, u3, 0))))))
theorem dm_173 (L : Nat) (g : am_G) (u0 : Nat) (u1 : Int32) (u3 : Int32) (R : am_G) : fm_173 g u0 u1 u3 = some R → ai_ev ap_P 173 (ai_e0 ap_P 173 [.ref u0, .int u1, .ref 884, .int u3] (v0 L, g)) (.inl none) (v0 L, R) := by
  show _ → ai_ev ap_P 173 (0, [some (.ref u0), some (.int u1), some (.ref 884), some (.int u3), none], [], (v0 L, g)) _ _
  unfold fm_173
  refine ev_gd (c := Nat.beq (v0_kd u0) 12) (fun hc1 => ?_)
  refine ev_jm 1 (t := (4, [some (.ref u0), some (.int u1), some (.ref 884), some (.int u3), none], [am_v (v0_fr u0 0)], (v0 L, g))) (ai_gd (c := Nat.beq (v0_kd u0) 12) rfl hc1) ?_
  refine ev_om (S := fun (o : Option Nat) => (4, [some (.ref u0), some (.int u1), some (.ref 884), some (.int u3), none], [am_v o], (v0 L, g))) ?_ (fun o2 => ?_)
  · exact fun hR => nomatch hR
  · refine ev_jm 1 (t := (8, [some (.ref u0), some (.int u1), some (.ref 884), some (.int u3), none], [.int (am_i g u0 5), .ref o2], (v0 L, g))) (ai_gd (c := Nat.beq (v0_kd u0) 12) rfl hc1) ?_
    refine ev_gd (c := vk_iw o2 101 (am_i g u0 5)) (fun hc3 => ?_)
    refine ev_jm 1 (t := (10, [some (.ref u0), some (.int u1), some (.ref 884), some (.int u3), none], [], (v0 L, (am_si g o2 ((am_i g u0 5)).toNatClampNeg u1)))) (ai_gd (c := (Nat.beq (v0_kd o2) 101 && Nat.ble 32 o2) && ai_in (am_i g u0 5) (v0_ln L o2)) rfl (vk_st hc3)) ?_
    refine ev_jm 1 (t := (14, [some (.ref u0), some (.int u1), some (.ref 884), some (.int u3), none], [am_v (v0_fr u0 1)], (v0 L, (am_si g o2 ((am_i g u0 5)).toNatClampNeg u1)))) (ai_gd (c := Nat.beq (v0_kd u0) 12) rfl hc1) ?_
    refine ev_om (S := fun (o : Option Nat) => (14, [some (.ref u0), some (.int u1), some (.ref 884), some (.int u3), none], [am_v o], (v0 L, (am_si g o2 ((am_i g u0 5)).toNatClampNeg u1)))) ?_ (fun o4 => ?_)
    · exact fun hR => nomatch hR
    · refine ev_jm 1 (t := (18, [some (.ref u0), some (.int u1), some (.ref 884), some (.int u3), none], [.int (am_i (am_si g o2 ((am_i g u0 5)).toNatClampNeg u1) u0 5), .ref o4], (v0 L, (am_si g o2 ((am_i g u0 5)).toNatClampNeg u1)))) (ai_gd (c := Nat.beq (v0_kd u0) 12) rfl hc1) ?_
      refine ev_jm 1 (t := (22, [some (.ref u0), some (.int u1), some (.ref 884), some (.int u3), none], [.int (am_i (am_si g o2 ((am_i g u0 5)).toNatClampNeg u1) u0 6), .int (am_i (am_si g o2 ((am_i g u0 5)).toNatClampNeg u1) u0 5), .ref o4], (v0 L, (am_si g o2 ((am_i g u0 5)).toNatClampNeg u1)))) (ai_gd (c := Nat.beq (v0_kd u0) 12) rfl hc1) ?_
      refine ev_gd (c := vk_iw o4 101 (am_i (am_si g o2 ((am_i g u0 5)).toNatClampNeg u1) u0 5)) (fun hc5 => ?_)
      refine ev_jm 0 (t := (23, [some (.ref u0), some (.int u1), some (.ref 884), some (.int u3), none], [], (v0 L, (am_si (am_si g o2 ((am_i g u0 5)).toNatClampNeg u1) o4 ((am_i (am_si g o2 ((am_i g u0 5)).toNatClampNeg u1) u0 5)).toNatClampNeg (am_i (am_si g o2 ((am_i g u0 5)).toNatClampNeg u1) u0 6))))) (ai_gd (c := (Nat.beq (v0_kd o4) 101 && Nat.ble 32 o4) && ai_in (am_i (am_si g o2 ((am_i g u0 5)).toNatClampNeg u1) u0 5) (v0_ln L o4)) rfl (vk_st hc5)) ?_
      refine ev_jm 1 (t := (27, [some (.ref u0), some (.int u1), some (.ref 884), some (.int u3), none], [am_v (v0_fr u0 2)], (v0 L, (am_si (am_si g o2 ((am_i g u0 5)).toNatClampNeg u1) o4 ((am_i (am_si g o2 ((am_i g u0 5)).toNatClampNeg u1) u0 5)).toNatClampNeg (am_i (am_si g o2 ((am_i g u0 5)).toNatClampNeg u1) u0 6))))) (ai_gd (c := Nat.beq (v0_kd u0) 12) rfl hc1) ?_
      refine ev_om (S := fun (o : Option Nat) => (27, [some (.ref u0), some (.int u1), some (.ref 884), some (.int u3), none], [am_v o], (v0 L, (am_si (am_si g o2 ((am_i g u0 5)).toNatClampNeg u1) o4 ((am_i (am_si g o2 ((am_i g u0 5)).toNatClampNeg u1) u0 5)).toNatClampNeg (am_i (am_si g o2 ((am_i g u0 5)).toNatClampNeg u1) u0 6))))) ?_ (fun o6 => ?_)
      · exact fun hR => nomatch hR
      · refine ev_jm 1 (t := (31, [some (.ref u0), some (.int u1), some (.ref 884), some (.int u3), none], [.int (am_i (am_si (am_si g o2 ((am_i g u0 5)).toNatClampNeg u1) o4 ((am_i (am_si g o2 ((am_i g u0 5)).toNatClampNeg u1) u0 5)).toNatClampNeg (am_i (am_si g o2 ((am_i g u0 5)).toNatClampNeg u1) u0 6)) u0 5), .ref o6], (v0 L, (am_si (am_si g o2 ((am_i g u0 5)).toNatClampNeg u1) o4 ((am_i (am_si g o2 ((am_i g u0 5)).toNatClampNeg u1) u0 5)).toNatClampNeg (am_i (am_si g o2 ((am_i g u0 5)).toNatClampNeg u1) u0 6))))) (ai_gd (c := Nat.beq (v0_kd u0) 12) rfl hc1) ?_
        refine ev_gd (c := vk_iw o6 101 (am_i (am_si (am_si g o2 ((am_i g u0 5)).toNatClampNeg u1) o4 ((am_i (am_si g o2 ((am_i g u0 5)).toNatClampNeg u1) u0 5)).toNatClampNeg (am_i (am_si g o2 ((am_i g u0 5)).toNatClampNeg u1) u0 6)) u0 5)) (fun hc7 => ?_)
        refine ev_jm 1 (t := (33, [some (.ref u0), some (.int u1), some (.ref 884), some (.int u3), none], [], (v0 L, (am_si (am_si (am_si g o2 ((am_i g u0 5)).toNatClampNeg u1) o4 ((am_i (am_si g o2 ((am_i g u0 5)).toNatClampNeg u1) u0 5)).toNatClampNeg (am_i (am_si g o2 ((am_i g u0 5)).toNatClampNeg u1) u0 6)) o6 ((am_i (am_si (am_si g o2 ((am_i g u0 5)).toNatClampNeg u1) o4 ((am_i (am_si g o2 ((am_i g u0 5)).toNatClampNeg u1) u0 5)).toNatClampNeg (am_i (am_si g o2 ((am_i g u0 5)).toNatClampNeg u1) u0 6)) u0 5)).toNatClampNeg u3)))) (ai_gd (c := (Nat.beq (v0_kd o6) 101 && Nat.ble 32 o6) && ai_in (am_i (am_si (am_si g o2 ((am_i g u0 5)).toNatClampNeg u1) o4 ((am_i (am_si g o2 ((am_i g u0 5)).toNatClampNeg u1) u0 5)).toNatClampNeg (am_i (am_si g o2 ((am_i g u0 5)).toNatClampNeg u1) u0 6)) u0 5) (v0_ln L o6)) rfl (vk_st hc7)) ?_
        refine ev_jm 1 (t := (37, [some (.ref u0), some (.int u1), some (.ref 884), some (.int u3), none], [am_v (v0_fr u0 3)], (v0 L, (am_si (am_si (am_si g o2 ((am_i g u0 5)).toNatClampNeg u1) o4 ((am_i (am_si g o2 ((am_i g u0 5)).toNatClampNeg u1) u0 5)).toNatClampNeg (am_i (am_si g o2 ((am_i g u0 5)).toNatClampNeg u1) u0 6)) o6 ((am_i (am_si (am_si g o2 ((am_i g u0 5)).toNatClampNeg u1) o4 ((am_i (am_si g o2 ((am_i g u0 5)).toNatClampNeg u1) u0 5)).toNatClampNeg (am_i (am_si g o2 ((am_i g u0 5)).toNatClampNeg u1) u0 6)) u0 5)).toNatClampNeg u3)))) (ai_gd (c := Nat.beq (v0_kd u0) 12) rfl hc1) ?_
        refine ev_om (S := fun (o : Option Nat) => (37, [some (.ref u0), some (.int u1), some (.ref 884), some (.int u3), none], [am_v o], (v0 L, (am_si (am_si (am_si g o2 ((am_i g u0 5)).toNatClampNeg u1) o4 ((am_i (am_si g o2 ((am_i g u0 5)).toNatClampNeg u1) u0 5)).toNatClampNeg (am_i (am_si g o2 ((am_i g u0 5)).toNatClampNeg u1) u0 6)) o6 ((am_i (am_si (am_si g o2 ((am_i g u0 5)).toNatClampNeg u1) o4 ((am_i (am_si g o2 ((am_i g u0 5)).toNatClampNeg u1) u0 5)).toNatClampNeg (am_i (am_si g o2 ((am_i g u0 5)).toNatClampNeg u1) u0 6)) u0 5)).toNatClampNeg u3)))) ?_ (fun o8 => ?_)
        · exact fun hR => nomatch hR
        · refine ev_jm 1 (t := (41, [some (.ref u0), some (.int u1), some (.ref 884), some (.int u3), none], [.int (am_i (am_si (am_si (am_si g o2 ((am_i g u0 5)).toNatClampNeg u1) o4 ((am_i (am_si g o2 ((am_i g u0 5)).toNatClampNeg u1) u0 5)).toNatClampNeg (am_i (am_si g o2 ((am_i g u0 5)).toNatClampNeg u1) u0 6)) o6 ((am_i (am_si (am_si g o2 ((am_i g u0 5)).toNatClampNeg u1) o4 ((am_i (am_si g o2 ((am_i g u0 5)).toNatClampNeg u1) u0 5)).toNatClampNeg (am_i (am_si g o2 ((am_i g u0 5)).toNatClampNeg u1) u0 6)) u0 5)).toNatClampNeg u3) u0 5), .ref o8], (v0 L, (am_si (am_si (am_si g o2 ((am_i g u0 5)).toNatClampNeg u1) o4 ((am_i (am_si g o2 ((am_i g u0 5)).toNatClampNeg u1) u0 5)).toNatClampNeg (am_i (am_si g o2 ((am_i g u0 5)).toNatClampNeg u1) u0 6)) o6 ((am_i (am_si (am_si g o2 ((am_i g u0 5)).toNatClampNeg u1) o4 ((am_i (am_si g o2 ((am_i g u0 5)).toNatClampNeg u1) u0 5)).toNatClampNeg (am_i (am_si g o2 ((am_i g u0 5)).toNatClampNeg u1) u0 6)) u0 5)).toNatClampNeg u3)))) (ai_gd (c := Nat.beq (v0_kd u0) 12) rfl hc1) ?_
          refine ev_gd (c := vk_iw o8 104 (am_i (am_si (am_si (am_si g o2 ((am_i g u0 5)).toNatClampNeg u1) o4 ((am_i (am_si g o2 ((am_i g u0 5)).toNatClampNeg u1) u0 5)).toNatClampNeg (am_i (am_si g o2 ((am_i g u0 5)).toNatClampNeg u1) u0 6)) o6 ((am_i (am_si (am_si g o2 ((am_i g u0 5)).toNatClampNeg u1) o4 ((am_i (am_si g o2 ((am_i g u0 5)).toNatClampNeg u1) u0 5)).toNatClampNeg (am_i (am_si g o2 ((am_i g u0 5)).toNatClampNeg u1) u0 6)) u0 5)).toNatClampNeg u3) u0 5)) (fun hc9 => ?_)
          refine ev_jm 1 (t := (43, [some (.ref u0), some (.int u1), some (.ref 884), some (.int u3), none], [], (v0 L, (am_si (am_si (am_si (am_si g o2 ((am_i g u0 5)).toNatClampNeg u1) o4 ((am_i (am_si g o2 ((am_i g u0 5)).toNatClampNeg u1) u0 5)).toNatClampNeg (am_i (am_si g o2 ((am_i g u0 5)).toNatClampNeg u1) u0 6)) o6 ((am_i (am_si (am_si g o2 ((am_i g u0 5)).toNatClampNeg u1) o4 ((am_i (am_si g o2 ((am_i g u0 5)).toNatClampNeg u1) u0 5)).toNatClampNeg (am_i (am_si g o2 ((am_i g u0 5)).toNatClampNeg u1) u0 6)) u0 5)).toNatClampNeg u3) o8 ((am_i (am_si (am_si (am_si g o2 ((am_i g u0 5)).toNatClampNeg u1) o4 ((am_i (am_si g o2 ((am_i g u0 5)).toNatClampNeg u1) u0 5)).toNatClampNeg (am_i (am_si g o2 ((am_i g u0 5)).toNatClampNeg u1) u0 6)) o6 ((am_i (am_si (am_si g o2 ((am_i g u0 5)).toNatClampNeg u1) o4 ((am_i (am_si g o2 ((am_i g u0 5)).toNatClampNeg u1) u0 5)).toNatClampNeg (am_i (am_si g o2 ((am_i g u0 5)).toNatClampNeg u1) u0 6)) u0 5)).toNatClampNeg u3) u0 5)).toNatClampNeg 0)))) (ai_gd (c := (Nat.beq (v0_kd o8) 104 && Nat.ble 32 o8) && ai_in (am_i (am_si (am_si (am_si g o2 ((am_i g u0 5)).toNatClampNeg u1) o4 ((am_i (am_si g o2 ((am_i g u0 5)).toNatClampNeg u1) u0 5)).toNatClampNeg (am_i (am_si g o2 ((am_i g u0 5)).toNatClampNeg u1) u0 6)) o6 ((am_i (am_si (am_si g o2 ((am_i g u0 5)).toNatClampNeg u1) o4 ((am_i (am_si g o2 ((am_i g u0 5)).toNatClampNeg u1) u0 5)).toNatClampNeg (am_i (am_si g o2 ((am_i g u0 5)).toNatClampNeg u1) u0 6)) u0 5)).toNatClampNeg u3) u0 5) (v0_ln L o8)) rfl (vk_st hc9)) ?_
          refine ev_jm 1 (t := (46, [some (.ref u0), some (.int u1), some (.ref 884), some (.int u3), some (.int 0)], [], (v0 L, (am_si (am_si (am_si (am_si g o2 ((am_i g u0 5)).toNatClampNeg u1) o4 ((am_i (am_si g o2 ((am_i g u0 5)).toNatClampNeg u1) u0 5)).toNatClampNeg (am_i (am_si g o2 ((am_i g u0 5)).toNatClampNeg u1) u0 6)) o6 ((am_i (am_si (am_si g o2 ((am_i g u0 5)).toNatClampNeg u1) o4 ((am_i (am_si g o2 ((am_i g u0 5)).toNatClampNeg u1) u0 5)).toNatClampNeg (am_i (am_si g o2 ((am_i g u0 5)).toNatClampNeg u1) u0 6)) u0 5)).toNatClampNeg u3) o8 ((am_i (am_si (am_si (am_si g o2 ((am_i g u0 5)).toNatClampNeg u1) o4 ((am_i (am_si g o2 ((am_i g u0 5)).toNatClampNeg u1) u0 5)).toNatClampNeg (am_i (am_si g o2 ((am_i g u0 5)).toNatClampNeg u1) u0 6)) o6 ((am_i (am_si (am_si g o2 ((am_i g u0 5)).toNatClampNeg u1) o4 ((am_i (am_si g o2 ((am_i g u0 5)).toNatClampNeg u1) u0 5)).toNatClampNeg (am_i (am_si g o2 ((am_i g u0 5)).toNatClampNeg u1) u0 6)) u0 5)).toNatClampNeg u3) u0 5)).toNatClampNeg 0)))) rfl ?_
          exact dh_173_46 L ((am_si (am_si (am_si (am_si g o2 ((am_i g u0 5)).toNatClampNeg u1) o4 ((am_i (am_si g o2 ((am_i g u0 5)).toNatClampNeg u1) u0 5)).toNatClampNeg (am_i (am_si g o2 ((am_i g u0 5)).toNatClampNeg u1) u0 6)) o6 ((am_i (am_si (am_si g o2 ((am_i g u0 5)).toNatClampNeg u1) o4 ((am_i (am_si g o2 ((am_i g u0 5)).toNatClampNeg u1) u0 5)).toNatClampNeg (am_i (am_si g o2 ((am_i g u0 5)).toNatClampNeg u1) u0 6)) u0 5)).toNatClampNeg u3) o8 ((am_i (am_si (am_si (am_si g o2 ((am_i g u0 5)).toNatClampNeg u1) o4 ((am_i (am_si g o2 ((am_i g u0 5)).toNatClampNeg u1) u0 5)).toNatClampNeg (am_i (am_si g o2 ((am_i g u0 5)).toNatClampNeg u1) u0 6)) o6 ((am_i (am_si (am_si g o2 ((am_i g u0 5)).toNatClampNeg u1) o4 ((am_i (am_si g o2 ((am_i g u0 5)).toNatClampNeg u1) u0 5)).toNatClampNeg (am_i (am_si g o2 ((am_i g u0 5)).toNatClampNeg u1) u0 6)) u0 5)).toNatClampNeg u3) u0 5)).toNatClampNeg 0), u0, u3, 0) (some (.int u1)) _
noncomputable def fj_323_230  (g : am_G) (u2 : Nat) (u4 : Int32) (u5 : Int32) (u6 : Int32) : Option ((Unit ⊕ Nat) × am_G) := lo_i (fm_242 g ) fun y1 g2 => lo_t (fm_244 g2 62) fun y3 g4 => if u4 = 0 then lo_g (Nat.beq (v0_kd u2) 12) (lo_p (fm_173 g4 u2 u5 u6) fun g6 => some (.inl (), g6)) else some (.inl (), g4)
theorem dj_323_230 (L : Nat)   (g : am_G) (u2 : Nat) (u4 : Int32) (u5 : Int32) (u6 : Int32) (w1 w3 : Option Value) (R : (Unit ⊕ Nat) × am_G) : fj_323_230  g u2 u4 u5 u6 = some R → ai_ev ap_P 323 (230, [some (.ref 33), w1, some (.ref u2), w3, some (.int u4), some (.int u5), some (.int u6)], [], (v0 L, g)) (oz_r ez_v R.1) (v0 L, R.2) := by
  unfold fj_323_230
  refine ev_oi 1 (as := [.ref 33]) (pc := 234) (Lc := [some (.ref 33), none, some (.ref u2), none, some (.int u4), some (.int u5), some (.int u6)]) (st := []) (V := v0 L) (g1 := g) (e := ez_i) rfl (dm_242 L g ) (fun y1 g2 => ?_)
  refine ev_ot 3 (as := [.ref 33, .int 62]) (pc := 241) (Lc := [some (.ref 33), none, some (.ref u2), none, some (.int u4), some (.int u5), some (.int u6)]) (st := []) (V := v0 L) (g1 := g2) (e := ez_v) rfl (dm_244 L g2 62) (fun _ => rfl) (fun y3 g4 => ?_)
  refine ev_in 1 (p := u4 = 0) (a := 258) (b := 246) (T := ([some (.ref 33), none, some (.ref u2), none, some (.int u4), some (.int u5), some (.int u6)], [], (v0 L, g4))) rfl ?_ ?_
  · refine ev_gd (c := Nat.beq (v0_kd u2) 12) (fun hc7 => ?_)
    refine ev_ov0 5 (as := [.ref u2, .int u5, .ref 884, .int u6]) (pc := 258) (Lc := [some (.ref 33), none, some (.ref u2), none, some (.int u4), some (.int u5), some (.int u6)]) (st := []) (V := v0 L) (g1 := g4) (ai_gd (c := Nat.beq (v0_kd u2) 12 && true) rfl (ai_ct hc7)) (dm_173 L g4 u2 u5 u6) (fun g6 => ?_)
    exact fun hR => by cases hR; exact ev_rt 0 rfl
  · exact fun hR => by cases hR; exact ev_rt 0 rfl
noncomputable def fj_323_187  (g : am_G) (u2 : Nat) (u3 : Int32) (u4 : Int32) (u5 : Int32) : Option ((Unit ⊕ Nat) × am_G) := lo_t (fm_324 g ) fun y1 g2 => if u4 = 0 then if (((am_i g2 855 6) + (am_i g2 861 6)) + y1) ≤ 8000 then fj_323_230 g2 u2 u4 u5 y1 else lo_i (fm_237 g2 6 u3) fun y3 g4 => lo_g (Nat.ble 1008 y3 && Nat.blt y3 (am_sz g4)) (some (.inr y3, g4)) else fj_323_230 g2 u2 u4 u5 y1
theorem dj_323_187 (L : Nat)   (g : am_G) (u2 : Nat) (u3 : Int32) (u4 : Int32) (u5 : Int32) (w1 w6 : Option Value) (R : (Unit ⊕ Nat) × am_G) : fj_323_187  g u2 u3 u4 u5 = some R → ai_ev ap_P 323 (187, [some (.ref 33), w1, some (.ref u2), some (.int u3), some (.int u4), some (.int u5), w6], [], (v0 L, g)) (oz_r ez_v R.1) (v0 L, R.2) := by
  unfold fj_323_187
  refine ev_ot 1 (as := [.ref 33]) (pc := 191) (Lc := [some (.ref 33), none, some (.ref u2), some (.int u3), some (.int u4), some (.int u5), none]) (st := []) (V := v0 L) (g1 := g) (e := ez_i) rfl (dm_324 L g ) (fun _ => rfl) (fun y1 g2 => ?_)
  refine ev_in 2 (p := u4 = 0) (a := 230) (b := 198) (T := ([some (.ref 33), none, some (.ref u2), some (.int u3), some (.int u4), some (.int u5), some (.int y1)], [], (v0 L, g2))) rfl ?_ ?_
  · refine ev_if 10 (p := (((am_i g2 855 6) + (am_i g2 861 6)) + y1) ≤ 8000) (a := 230) (b := 222) (T := ([some (.ref 33), none, some (.ref u2), some (.int u3), some (.int u4), some (.int u5), some (.int y1)], [], (v0 L, g2))) rfl ?_ ?_
    · exact dj_323_230 L g2 u2 u4 u5 y1 none (some (.int u3)) _
    · refine ev_oi 3 (as := [.ref 33, .int 6, .int u3]) (pc := 229) (Lc := [some (.ref 33), none, some (.ref u2), some (.int u3), some (.int u4), some (.int u5), some (.int y1)]) (st := []) (V := v0 L) (g1 := g2) (e := ez_a) rfl (dm_237 L g2 6 u3) (fun y3 g4 => ?_)
      exact ev_at 0 (a := y3) (g1 := g4) rfl
  · exact dj_323_230 L g2 u2 u4 u5 y1 none (some (.int u3)) _
noncomputable def fj_323_183  (g : am_G) (u2 : Nat) (u3 : Int32) (u4 : Int32) (u5 : Int32) : Option ((Unit ⊕ Nat) × am_G) := lo_t (fm_302 g ) fun y1 g2 => fj_323_187 g2 u2 u3 u4 u5
theorem dj_323_183 (L : Nat)   (g : am_G) (u2 : Nat) (u3 : Int32) (u4 : Int32) (u5 : Int32) (w1 w6 : Option Value) (R : (Unit ⊕ Nat) × am_G) : fj_323_183  g u2 u3 u4 u5 = some R → ai_ev ap_P 323 (183, [some (.ref 33), w1, some (.ref u2), some (.int u3), some (.int u4), some (.int u5), w6], [], (v0 L, g)) (oz_r ez_v R.1) (v0 L, R.2) := by
  unfold fj_323_183
  refine ev_ot 1 (as := [.ref 33]) (pc := 187) (Lc := [some (.ref 33), none, some (.ref u2), some (.int u3), some (.int u4), some (.int u5), none]) (st := []) (V := v0 L) (g1 := g) (e := ez_v) rfl (dm_302 L g ) (fun _ => rfl) (fun y1 g2 => ?_)
  exact dj_323_187 L g2 u2 u3 u4 u5 none none _
noncomputable def fj_323_161  (g : am_G) (u2 : Nat) (u3 : Int32) (u4 : Int32) (u5 : Int32) : Option ((Unit ⊕ Nat) × am_G) := lo_t (fm_243 g ) fun y1 g2 => lo_p (fm_240 g2 83) fun y3 => if y3 = 0 then lo_p (fm_240 g2 80) fun y5 => if y5 = 0 then fj_323_187 g2 u2 u3 u4 u5 else fj_323_183 g2 u2 u3 u4 u5 else fj_323_183 g2 u2 u3 u4 u5
theorem dj_323_161 (L : Nat)   (g : am_G) (u2 : Nat) (u3 : Int32) (u4 : Int32) (u5 : Int32) (w1 w6 : Option Value) (R : (Unit ⊕ Nat) × am_G) : fj_323_161  g u2 u3 u4 u5 = some R → ai_ev ap_P 323 (161, [some (.ref 33), w1, some (.ref u2), some (.int u3), some (.int u4), some (.int u5), w6], [], (v0 L, g)) (oz_r ez_v R.1) (v0 L, R.2) := by
  unfold fj_323_161
  refine ev_ot 1 (as := [.ref 33]) (pc := 165) (Lc := [some (.ref 33), none, some (.ref u2), some (.int u3), some (.int u4), some (.int u5), none]) (st := []) (V := v0 L) (g1 := g) (e := ez_v) rfl (dm_243 L g ) (fun _ => rfl) (fun y1 g2 => ?_)
  refine ev_op 2 (as := [.ref 33, .int 83]) (pc := 171) (Lc := [some (.ref 33), none, some (.ref u2), some (.int u3), some (.int u4), some (.int u5), none]) (st := []) (h1 := (v0 L, g2)) (e := ez_i) rfl (dm_240 L g2 83) (fun y3 => ?_)
  refine ev_in 0 (p := y3 = 0) (a := 183) (b := 174) (T := ([some (.ref 33), none, some (.ref u2), some (.int u3), some (.int u4), some (.int u5), none], [], (v0 L, g2))) rfl ?_ ?_
  · refine ev_op 2 (as := [.ref 33, .int 80]) (pc := 180) (Lc := [some (.ref 33), none, some (.ref u2), some (.int u3), some (.int u4), some (.int u5), none]) (st := []) (h1 := (v0 L, g2)) (e := ez_i) rfl (dm_240 L g2 80) (fun y5 => ?_)
    refine ev_if 0 (p := y5 = 0) (a := 187) (b := 183) (T := ([some (.ref 33), none, some (.ref u2), some (.int u3), some (.int u4), some (.int u5), none], [], (v0 L, g2))) rfl ?_ ?_
    · exact dj_323_187 L g2 u2 u3 u4 u5 none none _
    · exact dj_323_183 L g2 u2 u3 u4 u5 none none _
  · exact dj_323_183 L g2 u2 u3 u4 u5 none none _
noncomputable def fj_323_126  (g : am_G) (u2 : Nat) (u3 : Int32) (u5 : Int32) (t0 : Int32) : Option ((Unit ⊕ Nat) × am_G) := if t0 = 0 then if ((am_i g 855 5) + (am_i g 861 5)) = 40 then lo_i (fm_237 g 6 u3) fun y1 g2 => lo_g (Nat.ble 1008 y1 && Nat.blt y1 (am_sz g2)) (some (.inr y1, g2)) else fj_323_161 g u2 u3 t0 u5 else fj_323_161 g u2 u3 t0 u5
theorem dj_323_126 (L : Nat)   (g : am_G) (u2 : Nat) (u3 : Int32) (u5 : Int32) (t0 : Int32) (w1 w4 w6 : Option Value) (R : (Unit ⊕ Nat) × am_G) : fj_323_126  g u2 u3 u5 t0 = some R → ai_ev ap_P 323 (126, [some (.ref 33), w1, some (.ref u2), some (.int u3), w4, some (.int u5), w6], [.int t0], (v0 L, g)) (oz_r ez_v R.1) (v0 L, R.2) := by
  unfold fj_323_126
  refine ev_in 2 (p := t0 = 0) (a := 161) (b := 133) (T := ([some (.ref 33), none, some (.ref u2), some (.int u3), some (.int t0), some (.int u5), none], [], (v0 L, g))) rfl ?_ ?_
  · refine ev_in 8 (p := ((am_i g 855 5) + (am_i g 861 5)) = 40) (a := 161) (b := 153) (T := ([some (.ref 33), none, some (.ref u2), some (.int u3), some (.int t0), some (.int u5), none], [], (v0 L, g))) rfl ?_ ?_
    · refine ev_oi 3 (as := [.ref 33, .int 6, .int u3]) (pc := 160) (Lc := [some (.ref 33), none, some (.ref u2), some (.int u3), some (.int t0), some (.int u5), none]) (st := []) (V := v0 L) (g1 := g) (e := ez_a) rfl (dm_237 L g 6 u3) (fun y1 g2 => ?_)
      exact ev_at 0 (a := y1) (g1 := g2) rfl
    · exact dj_323_161 L g u2 u3 t0 u5 none none _
  · exact dj_323_161 L g u2 u3 t0 u5 none none _
noncomputable def fj_323_121  (g : am_G) (u2 : Nat) (u3 : Int32) (u5 : Int32) : Option ((Unit ⊕ Nat) × am_G) := fj_323_126 g u2 u3 u5 1
theorem dj_323_121 (L : Nat)   (g : am_G) (u2 : Nat) (u3 : Int32) (u5 : Int32) (w1 w4 w6 : Option Value) (R : (Unit ⊕ Nat) × am_G) : fj_323_121  g u2 u3 u5 = some R → ai_ev ap_P 323 (121, [some (.ref 33), w1, some (.ref u2), some (.int u3), w4, some (.int u5), w6], [], (v0 L, g)) (oz_r ez_v R.1) (v0 L, R.2) := by
  unfold fj_323_121
  refine ev_jm 1 (t := (126, [some (.ref 33), none, some (.ref u2), some (.int u3), none, some (.int u5), none], [.int 1], (v0 L, g))) rfl ?_
  exact dj_323_126 L g u2 u3 u5 1 none none none _
noncomputable def fj_323_95  (g : am_G) (u2 : Nat) (u3 : Int32) (t0 : Int32) : Option ((Unit ⊕ Nat) × am_G) := lo_i (fm_234 g ) fun y1 g2 => if t0 = 0 then lo_g (Nat.beq (v0_kd u2) 12) (lo_p (fm_172 g2 u2 y1) fun y3 => if y3 = (-1) then fj_323_126 g2 u2 u3 y1 0 else fj_323_121 g2 u2 u3 y1) else fj_323_121 g2 u2 u3 y1
theorem dj_323_95 (L : Nat)   (g : am_G) (u2 : Nat) (u3 : Int32) (t0 : Int32) (w1 w4 w5 w6 : Option Value) (R : (Unit ⊕ Nat) × am_G) : fj_323_95  g u2 u3 t0 = some R → ai_ev ap_P 323 (95, [some (.ref 33), w1, some (.ref u2), some (.int u3), w4, w5, w6], [.int t0], (v0 L, g)) (oz_r ez_v R.1) (v0 L, R.2) := by
  unfold fj_323_95
  refine ev_oi 3 (as := [.ref 43]) (pc := 104) (Lc := [some (.ref 33), none, some (.ref u2), some (.int u3), some (.int t0), none, none]) (st := []) (V := v0 L) (g1 := g) (e := ez_i) rfl (dm_234 L g ) (fun y1 g2 => ?_)
  refine ev_in 2 (p := t0 = 0) (a := 121) (b := 111) (T := ([some (.ref 33), none, some (.ref u2), some (.int u3), some (.int t0), some (.int y1), none], [], (v0 L, g2))) rfl ?_ ?_
  · refine ev_gd (c := Nat.beq (v0_kd u2) 12) (fun hc5 => ?_)
    refine ev_op 2 (as := [.ref u2, .int y1]) (pc := 117) (Lc := [some (.ref 33), none, some (.ref u2), some (.int u3), some (.int t0), some (.int y1), none]) (st := []) (h1 := (v0 L, g2)) (e := ez_i) (ai_gd (c := Nat.beq (v0_kd u2) 12 && true) rfl (ai_ct hc5)) (dm_172 L g2 u2 y1) (fun y3 => ?_)
    refine ev_if 1 (p := y3 = (-1)) (a := 125) (b := 121) (T := ([some (.ref 33), none, some (.ref u2), some (.int u3), some (.int t0), some (.int y1), none], [], (v0 L, g2))) rfl ?_ ?_
    · refine ev_jm 0 (t := (126, [some (.ref 33), none, some (.ref u2), some (.int u3), some (.int t0), some (.int y1), none], [.int 0], (v0 L, g2))) rfl ?_
      exact dj_323_126 L g2 u2 u3 y1 0 none (some (.int t0)) none _
    · exact dj_323_121 L g2 u2 u3 y1 none (some (.int t0)) none _
  · exact dj_323_121 L g2 u2 u3 y1 none (some (.int t0)) none _
noncomputable def fj_323_94  (g : am_G) (u2 : Nat) (u3 : Int32) : Option ((Unit ⊕ Nat) × am_G) := fj_323_95 g u2 u3 0
theorem dj_323_94 (L : Nat)   (g : am_G) (u2 : Nat) (u3 : Int32) (w1 w4 w5 w6 : Option Value) (R : (Unit ⊕ Nat) × am_G) : fj_323_94  g u2 u3 = some R → ai_ev ap_P 323 (94, [some (.ref 33), w1, some (.ref u2), some (.int u3), w4, w5, w6], [], (v0 L, g)) (oz_r ez_v R.1) (v0 L, R.2) := by
  unfold fj_323_94
  refine ev_jm 0 (t := (95, [some (.ref 33), none, some (.ref u2), some (.int u3), none, none, none], [.int 0], (v0 L, g))) rfl ?_
  exact dj_323_95 L g u2 u3 0 none none none none _
noncomputable def fj_323_48  (g : am_G) (u1 : Int32) (t0 : Nat) : Option ((Unit ⊕ Nat) × am_G) := lo_p (fm_178 g ) fun y1 => lo_t (fm_248 g ) fun y3 g4 => lo_p (fm_230 g4 ) fun y5 => if y5 = 0 then if u1 = 0 then lo_p (fm_273 g4 ) fun y7 => if y7 = (-1) then fj_323_94 g4 t0 y1 else fj_323_95 g4 t0 y1 1 else fj_323_94 g4 t0 y1 else lo_i (fm_237 g4 1 y1) fun y9 g10 => lo_g (Nat.ble 1008 y9 && Nat.blt y9 (am_sz g10)) (some (.inr y9, g10))
theorem dj_323_48 (L : Nat)   (g : am_G) (u1 : Int32) (t0 : Nat) (w2 w3 w4 w5 w6 : Option Value) (R : (Unit ⊕ Nat) × am_G) : fj_323_48  g u1 t0 = some R → ai_ev ap_P 323 (48, [some (.ref 33), some (.int u1), w2, w3, w4, w5, w6], [.ref t0], (v0 L, g)) (oz_r ez_v R.1) (v0 L, R.2) := by
  unfold fj_323_48
  refine ev_op 3 (as := [.ref 39]) (pc := 56) (Lc := [some (.ref 33), some (.int u1), some (.ref t0), none, none, none, none]) (st := []) (h1 := (v0 L, g)) (e := ez_i) rfl (dm_178 L g ) (fun y1 => ?_)
  refine ev_ot 2 (as := [.ref 33]) (pc := 61) (Lc := [some (.ref 33), some (.int u1), some (.ref t0), some (.int y1), none, none, none]) (st := []) (V := v0 L) (g1 := g) (e := ez_v) rfl (dm_248 L g ) (fun _ => rfl) (fun y3 g4 => ?_)
  refine ev_op 2 (as := [.ref 43]) (pc := 68) (Lc := [some (.ref 33), some (.int u1), some (.ref t0), some (.int y1), none, none, none]) (st := []) (h1 := (v0 L, g4)) (e := ez_i) rfl (dm_230 L g4 ) (fun y5 => ?_)
  refine ev_if 0 (p := y5 = 0) (a := 78) (b := 71) (T := ([some (.ref 33), some (.int u1), some (.ref t0), some (.int y1), none, none, none], [], (v0 L, g4))) rfl ?_ ?_
  · refine ev_in 1 (p := u1 = 0) (a := 94) (b := 82) (T := ([some (.ref 33), some (.int u1), some (.ref t0), some (.int y1), none, none, none], [], (v0 L, g4))) rfl ?_ ?_
    · refine ev_op 1 (as := [.ref 33]) (pc := 86) (Lc := [some (.ref 33), some (.int u1), some (.ref t0), some (.int y1), none, none, none]) (st := []) (h1 := (v0 L, g4)) (e := ez_i) rfl (dm_273 L g4 ) (fun y7 => ?_)
      refine ev_if 1 (p := y7 = (-1)) (a := 94) (b := 90) (T := ([some (.ref 33), some (.int u1), some (.ref t0), some (.int y1), none, none, none], [], (v0 L, g4))) rfl ?_ ?_
      · exact dj_323_94 L g4 t0 y1 (some (.int u1)) none none none _
      · refine ev_jm 1 (t := (95, [some (.ref 33), some (.int u1), some (.ref t0), some (.int y1), none, none, none], [.int 1], (v0 L, g4))) rfl ?_
        exact dj_323_95 L g4 t0 y1 1 (some (.int u1)) none none none _
    · exact dj_323_94 L g4 t0 y1 (some (.int u1)) none none none _
  · refine ev_oi 3 (as := [.ref 33, .int 1, .int y1]) (pc := 77) (Lc := [some (.ref 33), some (.int u1), some (.ref t0), some (.int y1), none, none, none]) (st := []) (V := v0 L) (g1 := g4) (e := ez_a) rfl (dm_237 L g4 1 y1) (fun y9 g10 => ?_)
    exact ev_at 0 (a := y9) (g1 := g10) rfl
noncomputable def fj_323_33  (g : am_G) (u1 : Int32) : Option ((Unit ⊕ Nat) × am_G) := if u1 = 0 then fj_323_48 g u1 855 else fj_323_48 g u1 861
theorem dj_323_33 (L : Nat)   (g : am_G) (u1 : Int32) (w2 w3 w4 w5 w6 : Option Value) (R : (Unit ⊕ Nat) × am_G) : fj_323_33  g u1 = some R → ai_ev ap_P 323 (33, [some (.ref 33), some (.int u1), w2, w3, w4, w5, w6], [], (v0 L, g)) (oz_r ez_v R.1) (v0 L, R.2) := by
  unfold fj_323_33
  refine ev_if 1 (p := u1 = 0) (a := 44) (b := 37) (T := ([some (.ref 33), some (.int u1), none, none, none, none, none], [], (v0 L, g))) rfl ?_ ?_
  · refine ev_jm 1 (t := (48, [some (.ref 33), some (.int u1), none, none, none, none, none], [.ref 855], (v0 L, g))) rfl ?_
    exact dj_323_48 L g u1 855 none none none none none _
  · refine ev_jm 2 (t := (48, [some (.ref 33), some (.int u1), none, none, none, none, none], [.ref 861], (v0 L, g))) rfl ?_
    exact dj_323_48 L g u1 861 none none none none none _
/-- DeclaredMarkup$Processor.entity()V -/
noncomputable def fm_323 (g : am_G)  : Option ((Unit ⊕ Nat) × am_G) := lo_t (fm_245 g 336421540953) fun y1 g2 => lo_t (fm_243 g2 ) fun y3 g4 => lo_p (fm_240 g4 37) fun y5 => if y5 = 0 then fj_323_33 g4 y5 else lo_p (fm_177 g4 ) fun g8 => lo_t (fm_243 g8 ) fun y9 g10 => fj_323_33 g10 y5
theorem dm_323 (L : Nat) (g : am_G)  (R : (Unit ⊕ Nat) × am_G) : fm_323 g  = some R → ai_ev ap_P 323 (ai_e0 ap_P 323 [.ref 33] (v0 L, g)) (oz_r ez_v R.1) (v0 L, R.2) := by
  show _ → ai_ev ap_P 323 (0, [some (.ref 33), none, none, none, none, none, none], [], (v0 L, g)) _ _
  unfold fm_323
  refine ev_ot 2 (as := [.ref 33, .long 336421540953]) (pc := 7) (Lc := [some (.ref 33), none, none, none, none, none, none]) (st := []) (V := v0 L) (g1 := g) (e := ez_v) rfl (dm_245 L g 336421540953) (fun _ => rfl) (fun y1 g2 => ?_)
  refine ev_ot 1 (as := [.ref 33]) (pc := 11) (Lc := [some (.ref 33), none, none, none, none, none, none]) (st := []) (V := v0 L) (g1 := g2) (e := ez_v) rfl (dm_243 L g2 ) (fun _ => rfl) (fun y3 g4 => ?_)
  refine ev_op 2 (as := [.ref 33, .int 37]) (pc := 17) (Lc := [some (.ref 33), none, none, none, none, none, none]) (st := []) (h1 := (v0 L, g4)) (e := ez_i) rfl (dm_240 L g4 37) (fun y5 => ?_)
  refine ev_if 2 (p := y5 = 0) (a := 33) (b := 22) (T := ([some (.ref 33), some (.int y5), none, none, none, none, none], [], (v0 L, g4))) rfl ?_ ?_
  · exact dj_323_33 L g4 y5 none none none none none _
  · refine ev_ov0 2 (as := [.ref 39]) (pc := 29) (Lc := [some (.ref 33), some (.int y5), none, none, none, none, none]) (st := []) (V := v0 L) (g1 := g4) rfl (dm_177 L g4 ) (fun g8 => ?_)
    refine ev_ot 1 (as := [.ref 33]) (pc := 33) (Lc := [some (.ref 33), some (.int y5), none, none, none, none, none]) (st := []) (V := v0 L) (g1 := g8) (e := ez_v) rfl (dm_243 L g8 ) (fun _ => rfl) (fun y9 g10 => ?_)
    exact dj_323_33 L g10 y5 none none none none none _
