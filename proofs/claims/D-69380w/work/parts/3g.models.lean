noncomputable def fb_38_2 (k2 : (am_G × Int32 × Int32) → Option (am_G)) (g : am_G) (u1 : Int32) (u2 : Int32) : Option (am_G) := lo_g (ai_in u1 6000) (if (am_i g 953 u1.toNatClampNeg) ≤ u2 then some g else lo_g (ai_in ((am_i g 952 u1.toNatClampNeg) + u2) 19000) (lo_p (fm_37 g (am_i g 951 (((am_i g 952 u1.toNatClampNeg) + u2)).toNatClampNeg)) fun g4 => k2 (g4, u1, (u2 + 1))))
theorem db_38_2 (L : Nat) {k2 : (am_G × Int32 × Int32) → Option (am_G)} (hk2 : ∀ (x : am_G × Int32 × Int32) (R : am_G), k2 x = some R → ai_ev ap_P 38 (2, [some (.ref 943), some (.int x.2.1), some (.int x.2.2)], [], (v0 L, x.1)) (.inl none) (v0 L, R)) (g : am_G) (u1 : Int32) (u2 : Int32) (R : am_G) : fb_38_2 k2 g u1 u2 = some R → ai_ev ap_P 38 (2, [some (.ref 943), some (.int u1), some (.int u2)], [], (v0 L, g)) (.inl none) (v0 L, R) := by
  unfold fb_38_2
  refine ev_gd (c := ai_in u1 6000) (fun hc1 => ?_)
  refine ev_jm 4 (t := (9, [some (.ref 943), some (.int u1), some (.int u2)], [.int (am_i g 953 u1.toNatClampNeg), .int u2], (v0 L, g))) (ai_gd (c := ai_in u1 6000) rfl hc1) ?_
  refine ev_if 0 (p := (am_i g 953 u1.toNatClampNeg) ≤ u2) (a := 35) (b := 12) (T := ([some (.ref 943), some (.int u1), some (.int u2)], [], (v0 L, g))) rfl ?_ ?_
  · exact fun hR => by cases hR; exact ev_rt 0 rfl
  · refine ev_jm 6 (t := (23, [some (.ref 943), some (.int u1), some (.int u2)], [.int (am_i g 952 u1.toNatClampNeg), .ref 951, .ref 943], (v0 L, g))) (ai_gd (c := ai_in u1 6000) rfl hc1) ?_
    refine ev_gd (c := ai_in ((am_i g 952 u1.toNatClampNeg) + u2) 19000) (fun hc2 => ?_)
    refine ev_jm 2 (t := (26, [some (.ref 943), some (.int u1), some (.int u2)], [.int (am_i g 951 (((am_i g 952 u1.toNatClampNeg) + u2)).toNatClampNeg), .ref 943], (v0 L, g))) (ai_gd (c := ai_in ((am_i g 952 u1.toNatClampNeg) + u2) 19000) rfl hc2) ?_
    refine ev_ov0 0 (as := [.ref 943, .int (am_i g 951 (((am_i g 952 u1.toNatClampNeg) + u2)).toNatClampNeg)]) (pc := 29) (Lc := [some (.ref 943), some (.int u1), some (.int u2)]) (st := []) (V := v0 L) (g1 := g) rfl (dm_37 L g (am_i g 951 (((am_i g 952 u1.toNatClampNeg) + u2)).toNatClampNeg)) (fun g4 => ?_)
    refine ev_jm 1 (t := (2, [some (.ref 943), some (.int u1), some (.int (u2 + 1))], [], (v0 L, g4))) rfl ?_
    exact hk2 (g4, u1, (u2 + 1)) _
noncomputable def fh_38_2  (x : am_G × Int32 × Int32) : Option (am_G) := lo_it (fun k x => fb_38_2 k x.1 x.2.1 x.2.2) nf_F x
theorem dh_38_2 (L : Nat)   (x : am_G × Int32 × Int32) (R : am_G) : fh_38_2  x = some R → ai_ev ap_P 38 (2, [some (.ref 943), some (.int x.2.1), some (.int x.2.2)], [], (v0 L, x.1)) (.inl none) (v0 L, R) :=
  fun hr => lo_ev (E := fun x R => ai_ev ap_P 38 (2, [some (.ref 943), some (.int x.2.1), some (.int x.2.2)], [], (v0 L, x.1)) (.inl none) (v0 L, R)) (fun k hk x R hr => db_38_2 L hk x.1 x.2.1 x.2.2  R hr) nf_F x R hr
/-- DeclaredMarkupModel.outName(I)V -/
noncomputable def fm_38 (g : am_G) (u1 : Int32) : Option (am_G) := fh_38_2 (g, u1, 0)
theorem dm_38 (L : Nat) (g : am_G) (u1 : Int32) (R : am_G) : fm_38 g u1 = some R → ai_ev ap_P 38 (ai_e0 ap_P 38 [.ref 943, .int u1] (v0 L, g)) (.inl none) (v0 L, R) := by
  show _ → ai_ev ap_P 38 (0, [some (.ref 943), some (.int u1), none], [], (v0 L, g)) _ _
  unfold fm_38
  refine ev_jm 1 (t := (2, [some (.ref 943), some (.int u1), some (.int 0)], [], (v0 L, g))) rfl ?_
  exact dh_38_2 L (g, u1, 0) _
/-- DeclaredMarkupModel.go(I)I -/
noncomputable def fm_25 (g : am_G) (u1 : Int32) : Option (Int32 × am_G) := some (0, (am_si g 943 26 u1))
theorem dm_25 (L : Nat) (g : am_G) (u1 : Int32) (R : Int32 × am_G) : fm_25 g u1 = some R → ai_ev ap_P 25 (ai_e0 ap_P 25 [.ref 943, .int u1] (v0 L, g)) (.inl (ez_i R.1)) (v0 L, R.2) := by
  show _ → ai_ev ap_P 25 (0, [some (.ref 943), some (.int u1)], [], (v0 L, g)) _ _
  unfold fm_25
  exact fun hR => by cases hR; exact ev_rt 4 rfl
noncomputable def fj_41_96  (g : am_G) : Option (Int32 × am_G) := lo_i (fm_25 g 34) fun y1 g2 => some (y1, g2)
theorem dj_41_96 (L : Nat)   (g : am_G) (w1 w2 : Option Value) (R : Int32 × am_G) : fj_41_96  g = some R → ai_ev ap_P 41 (96, [some (.ref 943), w1, w2], [], (v0 L, g)) (.inl (ez_i R.1)) (v0 L, R.2) := by
  unfold fj_41_96
  refine ev_oi 2 (as := [.ref 943, .int 34]) (pc := 102) (Lc := [some (.ref 943), none, none]) (st := []) (V := v0 L) (g1 := g) (e := ez_i) rfl (dm_25 L g 34) (fun y1 g2 => ?_)
  exact fun hR => by cases hR; exact ev_rt 0 rfl
noncomputable def fj_41_54  (g : am_G) (u1 : Int32) (u2 : Int32) : Option (Int32 × am_G) := if u2 = 0 then if (am_i g 943 27) = 2 then fj_41_96 (am_si g 943 141 0) else lo_p (fm_39 (am_si g 943 141 0) ) fun g2 => lo_p (fm_36 g2 63) fun g4 => lo_p (fm_38 g4 u1) fun g6 => fj_41_96 g6 else lo_i (fm_22 g 1 (am_i g 943 25)) fun y7 g8 => some (y7, g8)
theorem dj_41_54 (L : Nat)   (g : am_G) (u1 : Int32) (u2 : Int32) (R : Int32 × am_G) : fj_41_54  g u1 u2 = some R → ai_ev ap_P 41 (54, [some (.ref 943), some (.int u1), some (.int u2)], [], (v0 L, g)) (.inl (ez_i R.1)) (v0 L, R.2) := by
  unfold fj_41_54
  refine ev_if 1 (p := u2 = 0) (a := 68) (b := 58) (T := ([some (.ref 943), some (.int u1), some (.int u2)], [], (v0 L, g))) rfl ?_ ?_
  · refine ev_if 6 (p := (am_i g 943 27) = 2) (a := 96) (b := 81) (T := ([some (.ref 943), some (.int u1), some (.int u2)], [], (v0 L, (am_si g 943 141 0)))) rfl ?_ ?_
    · exact dj_41_96 L (am_si g 943 141 0) (some (.int u1)) (some (.int u2)) _
    · refine ev_ov0 1 (as := [.ref 943]) (pc := 85) (Lc := [some (.ref 943), some (.int u1), some (.int u2)]) (st := []) (V := v0 L) (g1 := (am_si g 943 141 0)) rfl (dm_39 L (am_si g 943 141 0) ) (fun g2 => ?_)
      refine ev_ov0 2 (as := [.ref 943, .int 63]) (pc := 91) (Lc := [some (.ref 943), some (.int u1), some (.int u2)]) (st := []) (V := v0 L) (g1 := g2) rfl (dm_36 L g2 63) (fun g4 => ?_)
      refine ev_ov0 2 (as := [.ref 943, .int u1]) (pc := 96) (Lc := [some (.ref 943), some (.int u1), some (.int u2)]) (st := []) (V := v0 L) (g1 := g4) rfl (dm_38 L g4 u1) (fun g6 => ?_)
      exact dj_41_96 L g6 (some (.int u1)) (some (.int u2)) _
  · refine ev_oi 4 (as := [.ref 943, .int 1, .int (am_i g 943 25)]) (pc := 67) (Lc := [some (.ref 943), some (.int u1), some (.int u2)]) (st := []) (V := v0 L) (g1 := g) (e := ez_i) rfl (dm_22 L g 1 (am_i g 943 25)) (fun y7 g8 => ?_)
    exact fun hR => by cases hR; exact ev_rt 0 rfl
/-- DeclaredMarkupModel.target(IZ)I -/
noncomputable def fm_41 (g : am_G) (u1 : Int32) (u2 : Int32) : Option (Int32 × am_G) := lo_g (ai_in u1 6000) (if (am_i g 953 u1.toNatClampNeg) = 3 then lo_p (fm_32 g u1 0) fun y2 => if y2 = 120 then lo_p (fm_32 g u1 1) fun y4 => if y4 = 109 then lo_p (fm_32 g u1 2) fun y6 => if y6 = 108 then lo_i (fm_21 g 11 (am_i g 943 25)) fun y8 g9 => some (y8, g9) else fj_41_54 g u1 u2 else fj_41_54 g u1 u2 else fj_41_54 g u1 u2 else fj_41_54 g u1 u2)
theorem dm_41 (L : Nat) (g : am_G) (u1 : Int32) (u2 : Int32) (R : Int32 × am_G) : fm_41 g u1 u2 = some R → ai_ev ap_P 41 (ai_e0 ap_P 41 [.ref 943, .int u1, .int u2] (v0 L, g)) (.inl (ez_i R.1)) (v0 L, R.2) := by
  show _ → ai_ev ap_P 41 (0, [some (.ref 943), some (.int u1), some (.int u2)], [], (v0 L, g)) _ _
  unfold fm_41
  refine ev_gd (c := ai_in u1 6000) (fun hc1 => ?_)
  refine ev_jm 3 (t := (6, [some (.ref 943), some (.int u1), some (.int u2)], [.int (am_i g 953 u1.toNatClampNeg)], (v0 L, g))) (ai_gd (c := ai_in u1 6000) rfl hc1) ?_
  refine ev_in 1 (p := (am_i g 953 u1.toNatClampNeg) = 3) (a := 54) (b := 10) (T := ([some (.ref 943), some (.int u1), some (.int u2)], [], (v0 L, g))) rfl ?_ ?_
  · refine ev_op 3 (as := [.ref 943, .int u1, .int 0]) (pc := 16) (Lc := [some (.ref 943), some (.int u1), some (.int u2)]) (st := []) (h1 := (v0 L, g)) (e := ez_i) rfl (dm_32 L g u1 0) (fun y2 => ?_)
    refine ev_in 1 (p := y2 = 120) (a := 54) (b := 21) (T := ([some (.ref 943), some (.int u1), some (.int u2)], [], (v0 L, g))) rfl ?_ ?_
    · refine ev_op 3 (as := [.ref 943, .int u1, .int 1]) (pc := 27) (Lc := [some (.ref 943), some (.int u1), some (.int u2)]) (st := []) (h1 := (v0 L, g)) (e := ez_i) rfl (dm_32 L g u1 1) (fun y4 => ?_)
      refine ev_in 1 (p := y4 = 109) (a := 54) (b := 32) (T := ([some (.ref 943), some (.int u1), some (.int u2)], [], (v0 L, g))) rfl ?_ ?_
      · refine ev_op 3 (as := [.ref 943, .int u1, .int 2]) (pc := 38) (Lc := [some (.ref 943), some (.int u1), some (.int u2)]) (st := []) (h1 := (v0 L, g)) (e := ez_i) rfl (dm_32 L g u1 2) (fun y6 => ?_)
        refine ev_in 1 (p := y6 = 108) (a := 54) (b := 43) (T := ([some (.ref 943), some (.int u1), some (.int u2)], [], (v0 L, g))) rfl ?_ ?_
        · refine ev_oi 4 (as := [.ref 943, .int 11, .int (am_i g 943 25)]) (pc := 53) (Lc := [some (.ref 943), some (.int u1), some (.int u2)]) (st := []) (V := v0 L) (g1 := g) (e := ez_i) rfl (dm_21 L g 11 (am_i g 943 25)) (fun y8 g9 => ?_)
          exact fun hR => by cases hR; exact ev_rt 0 rfl
        · exact dj_41_54 L g u1 u2 _
      · exact dj_41_54 L g u1 u2 _
    · exact dj_41_54 L g u1 u2 _
  · exact dj_41_54 L g u1 u2 _
noncomputable def fb_48_2 (g : am_G) (k2 : (Int32 × Int32) → Option (Int32)) (u1 : Int32) (u2 : Int32) : Option (Int32) := if (am_i g 943 49) ≤ u2 then some (-1) else lo_g (ai_in u2 40) (if (am_i g 957 u2.toNatClampNeg) = u1 then some u2 else k2 (u1, (u2 + 1)))
theorem db_48_2 (L : Nat) (g : am_G) {k2 : (Int32 × Int32) → Option (Int32)} (hk2 : ∀ (x : Int32 × Int32) (R : Int32), k2 x = some R → ai_ev ap_P 48 (2, [some (.ref 943), some (.int x.1), some (.int x.2)], [], (v0 L, g)) (.inl (ez_i R)) (v0 L, g)) (u1 : Int32) (u2 : Int32) (R : Int32) : fb_48_2 g k2 u1 u2 = some R → ai_ev ap_P 48 (2, [some (.ref 943), some (.int u1), some (.int u2)], [], (v0 L, g)) (.inl (ez_i R)) (v0 L, g) := by
  unfold fb_48_2
  refine ev_if 3 (p := (am_i g 943 49) ≤ u2) (a := 28) (b := 10) (T := ([some (.ref 943), some (.int u1), some (.int u2)], [], (v0 L, g))) rfl ?_ ?_
  · exact fun hR => by cases hR; exact ev_rt 1 rfl
  · refine ev_gd (c := ai_in u2 40) (fun hc1 => ?_)
    refine ev_jm 3 (t := (16, [some (.ref 943), some (.int u1), some (.int u2)], [.int (am_i g 957 u2.toNatClampNeg)], (v0 L, g))) (ai_gd (c := ai_in u2 40) rfl hc1) ?_
    refine ev_in 1 (p := (am_i g 957 u2.toNatClampNeg) = u1) (a := 22) (b := 20) (T := ([some (.ref 943), some (.int u1), some (.int u2)], [], (v0 L, g))) rfl ?_ ?_
    · exact fun hR => by cases hR; exact ev_rt 1 rfl
    · refine ev_jm 1 (t := (2, [some (.ref 943), some (.int u1), some (.int (u2 + 1))], [], (v0 L, g))) rfl ?_
      exact hk2 (u1, (u2 + 1)) _
noncomputable def fh_48_2 (g : am_G)  (x : Int32 × Int32) : Option (Int32) := lo_it (fun k x => fb_48_2 g k x.1 x.2) nf_F x
theorem dh_48_2 (L : Nat) (g : am_G)   (x : Int32 × Int32) (R : Int32) : fh_48_2 g  x = some R → ai_ev ap_P 48 (2, [some (.ref 943), some (.int x.1), some (.int x.2)], [], (v0 L, g)) (.inl (ez_i R)) (v0 L, g) :=
  fun hr => lo_ev (E := fun x R => ai_ev ap_P 48 (2, [some (.ref 943), some (.int x.1), some (.int x.2)], [], (v0 L, g)) (.inl (ez_i R)) (v0 L, g)) (fun k hk x R hr => db_48_2 L g hk x.1 x.2  R hr) nf_F x R hr
/-- DeclaredMarkupModel.elementOf(I)I -/
noncomputable def fm_48 (g : am_G) (u1 : Int32) : Option (Int32) := fh_48_2 g (u1, 0)
theorem dm_48 (L : Nat) (g : am_G) (u1 : Int32) (R : Int32) : fm_48 g u1 = some R → ai_ev ap_P 48 (ai_e0 ap_P 48 [.ref 943, .int u1] (v0 L, g)) (.inl (ez_i R)) (v0 L, g) := by
  show _ → ai_ev ap_P 48 (0, [some (.ref 943), some (.int u1), none], [], (v0 L, g)) _ _
  unfold fm_48
  refine ev_jm 1 (t := (2, [some (.ref 943), some (.int u1), some (.int 0)], [], (v0 L, g))) rfl ?_
  exact dh_48_2 L g (u1, 0) _
/-- DeclaredMarkupModel.startName(IZ)I -/
noncomputable def fm_86 (g : am_G) (u1 : Int32) (u2 : Int32) : Option (Int32 × am_G) := if u2 = 0 then if (am_i g 943 106) = 40 then lo_i (fm_22 g 8 (am_i g 943 25)) fun y5 g6 => some (y5, g6) else lo_p (fm_48 (am_si (am_si g 943 113 u1) 943 114 (am_i g 943 25)) u1) fun y1 => lo_i (fm_25 (am_si (am_si (am_si (am_si (am_si g 943 113 u1) 943 114 (am_i g 943 25)) 943 115 y1) 943 116 0) 943 123 0) 53) fun y3 g4 => some (y3, g4) else lo_i (fm_22 g 1 (am_i g 943 25)) fun y7 g8 => some (y7, g8)
theorem dm_86 (L : Nat) (g : am_G) (u1 : Int32) (u2 : Int32) (R : Int32 × am_G) : fm_86 g u1 u2 = some R → ai_ev ap_P 86 (ai_e0 ap_P 86 [.ref 943, .int u1, .int u2] (v0 L, g)) (.inl (ez_i R.1)) (v0 L, R.2) := by
  show _ → ai_ev ap_P 86 (0, [some (.ref 943), some (.int u1), some (.int u2)], [], (v0 L, g)) _ _
  unfold fm_86
  refine ev_if 1 (p := u2 = 0) (a := 14) (b := 4) (T := ([some (.ref 943), some (.int u1), some (.int u2)], [], (v0 L, g))) rfl ?_ ?_
  · refine ev_in 3 (p := (am_i g 943 106) = 40) (a := 34) (b := 23) (T := ([some (.ref 943), some (.int u1), some (.int u2)], [], (v0 L, g))) rfl ?_ ?_
    · refine ev_oi 4 (as := [.ref 943, .int 8, .int (am_i g 943 25)]) (pc := 33) (Lc := [some (.ref 943), some (.int u1), some (.int u2)]) (st := []) (V := v0 L) (g1 := g) (e := ez_i) rfl (dm_22 L g 8 (am_i g 943 25)) (fun y5 g6 => ?_)
      exact fun hR => by cases hR; exact ev_rt 0 rfl
    · refine ev_op 10 (as := [.ref 943, .int u1]) (pc := 53) (Lc := [some (.ref 943), some (.int u1), some (.int u2)]) (st := [.ref 943]) (h1 := (v0 L, (am_si (am_si g 943 113 u1) 943 114 (am_i g 943 25)))) (e := ez_i) rfl (dm_48 L (am_si (am_si g 943 113 u1) 943 114 (am_i g 943 25)) u1) (fun y1 => ?_)
      refine ev_oi 9 (as := [.ref 943, .int 53]) (pc := 72) (Lc := [some (.ref 943), some (.int u1), some (.int u2)]) (st := []) (V := v0 L) (g1 := (am_si (am_si (am_si (am_si (am_si g 943 113 u1) 943 114 (am_i g 943 25)) 943 115 y1) 943 116 0) 943 123 0)) (e := ez_i) rfl (dm_25 L (am_si (am_si (am_si (am_si (am_si g 943 113 u1) 943 114 (am_i g 943 25)) 943 115 y1) 943 116 0) 943 123 0) 53) (fun y3 g4 => ?_)
      exact fun hR => by cases hR; exact ev_rt 0 rfl
  · refine ev_oi 4 (as := [.ref 943, .int 1, .int (am_i g 943 25)]) (pc := 13) (Lc := [some (.ref 943), some (.int u1), some (.int u2)]) (st := []) (V := v0 L) (g1 := g) (e := ez_i) rfl (dm_22 L g 1 (am_i g 943 25)) (fun y7 g8 => ?_)
    exact fun hR => by cases hR; exact ev_rt 0 rfl
/-- DeclaredMarkupModel.endName(I)I -/
noncomputable def fm_87 (g : am_G) (u1 : Int32) : Option (Int32 × am_G) := lo_g (ai_in ((am_i g 943 106) - 1) 40) (if u1 = (am_i g 991 (((am_i g 943 106) - 1)).toNatClampNeg) then lo_i (fm_25 g 52) fun y2 g3 => some (y2, g3) else lo_i (fm_21 g 3 (am_i g 943 25)) fun y4 g5 => some (y4, g5))
theorem dm_87 (L : Nat) (g : am_G) (u1 : Int32) (R : Int32 × am_G) : fm_87 g u1 = some R → ai_ev ap_P 87 (ai_e0 ap_P 87 [.ref 943, .int u1] (v0 L, g)) (.inl (ez_i R.1)) (v0 L, R.2) := by
  show _ → ai_ev ap_P 87 (0, [some (.ref 943), some (.int u1)], [], (v0 L, g)) _ _
  unfold fm_87
  refine ev_gd (c := ai_in ((am_i g 943 106) - 1) 40) (fun hc1 => ?_)
  refine ev_jm 7 (t := (12, [some (.ref 943), some (.int u1)], [.int (am_i g 991 (((am_i g 943 106) - 1)).toNatClampNeg), .int u1], (v0 L, g))) (ai_gd (c := ai_in ((am_i g 943 106) - 1) 40) rfl hc1) ?_
  refine ev_if 0 (p := u1 = (am_i g 991 (((am_i g 943 106) - 1)).toNatClampNeg)) (a := 25) (b := 15) (T := ([some (.ref 943), some (.int u1)], [], (v0 L, g))) rfl ?_ ?_
  · refine ev_oi 2 (as := [.ref 943, .int 52]) (pc := 31) (Lc := [some (.ref 943), some (.int u1)]) (st := []) (V := v0 L) (g1 := g) (e := ez_i) rfl (dm_25 L g 52) (fun y2 g3 => ?_)
    exact fun hR => by cases hR; exact ev_rt 0 rfl
  · refine ev_oi 4 (as := [.ref 943, .int 3, .int (am_i g 943 25)]) (pc := 24) (Lc := [some (.ref 943), some (.int u1)]) (st := []) (V := v0 L) (g1 := g) (e := ez_i) rfl (dm_21 L g 3 (am_i g 943 25)) (fun y4 g5 => ?_)
    exact fun hR => by cases hR; exact ev_rt 0 rfl
noncomputable def fb_88_2 (k2 : (am_G × Int32 × Int32 × Int32) → Option (Int32 × am_G)) (g : am_G) (u1 : Int32) (u2 : Int32) (u3 : Int32) : Option (Int32 × am_G) := if (am_i g 943 116) ≤ u3 then if u2 = 0 then if (am_i g 943 116) = 12 then lo_i (fm_22 g 10 (am_i g 943 25)) fun y4 g5 => some (y4, g5) else lo_g (ai_in (am_i g 943 116) 24) (lo_i (fm_25 (am_si (am_si g 996 ((am_i g 943 116)).toNatClampNeg u1) 943 116 ((am_i g 943 116) + 1)) 55) fun y2 g3 => some (y2, g3)) else lo_i (fm_22 g 1 (am_i g 943 25)) fun y6 g7 => some (y6, g7) else lo_g (ai_in u3 24) (if (am_i g 996 u3.toNatClampNeg) = u1 then lo_i (fm_21 g 4 (am_i g 943 25)) fun y9 g10 => some (y9, g10) else k2 (g, u1, u2, (u3 + 1)))
theorem db_88_2 (L : Nat) {k2 : (am_G × Int32 × Int32 × Int32) → Option (Int32 × am_G)} (hk2 : ∀ (x : am_G × Int32 × Int32 × Int32) (R : Int32 × am_G), k2 x = some R → ai_ev ap_P 88 (2, [some (.ref 943), some (.int x.2.1), some (.int x.2.2.1), some (.int x.2.2.2)], [], (v0 L, x.1)) (.inl (ez_i R.1)) (v0 L, R.2)) (g : am_G) (u1 : Int32) (u2 : Int32) (u3 : Int32) (R : Int32 × am_G) : fb_88_2 k2 g u1 u2 u3 = some R → ai_ev ap_P 88 (2, [some (.ref 943), some (.int u1), some (.int u2), some (.int u3)], [], (v0 L, g)) (.inl (ez_i R.1)) (v0 L, R.2) := by
  unfold fb_88_2
  refine ev_if 3 (p := (am_i g 943 116) ≤ u3) (a := 36) (b := 10) (T := ([some (.ref 943), some (.int u1), some (.int u2), some (.int u3)], [], (v0 L, g))) rfl ?_ ?_
  · refine ev_if 1 (p := u2 = 0) (a := 50) (b := 40) (T := ([some (.ref 943), some (.int u1), some (.int u2), some (.int u3)], [], (v0 L, g))) rfl ?_ ?_
    · refine ev_in 3 (p := (am_i g 943 116) = 12) (a := 70) (b := 59) (T := ([some (.ref 943), some (.int u1), some (.int u2), some (.int u3)], [], (v0 L, g))) rfl ?_ ?_
      · refine ev_oi 4 (as := [.ref 943, .int 10, .int (am_i g 943 25)]) (pc := 69) (Lc := [some (.ref 943), some (.int u1), some (.int u2), some (.int u3)]) (st := []) (V := v0 L) (g1 := g) (e := ez_i) rfl (dm_22 L g 10 (am_i g 943 25)) (fun y4 g5 => ?_)
        exact fun hR => by cases hR; exact ev_rt 0 rfl
      · refine ev_gd (c := ai_in (am_i g 943 116) 24) (fun hc1 => ?_)
        refine ev_jm 5 (t := (80, [some (.ref 943), some (.int u1), some (.int u2), some (.int u3)], [], (v0 L, (am_si g 996 ((am_i g 943 116)).toNatClampNeg u1)))) (ai_gd (c := ai_in (am_i g 943 116) 24) rfl hc1) ?_
        refine ev_oi 8 (as := [.ref 943, .int 55]) (pc := 96) (Lc := [some (.ref 943), some (.int u1), some (.int u2), some (.int u3)]) (st := []) (V := v0 L) (g1 := (am_si (am_si g 996 ((am_i g 943 116)).toNatClampNeg u1) 943 116 ((am_i g 943 116) + 1))) (e := ez_i) rfl (dm_25 L (am_si (am_si g 996 ((am_i g 943 116)).toNatClampNeg u1) 943 116 ((am_i g 943 116) + 1)) 55) (fun y2 g3 => ?_)
        exact fun hR => by cases hR; exact ev_rt 0 rfl
    · refine ev_oi 4 (as := [.ref 943, .int 1, .int (am_i g 943 25)]) (pc := 49) (Lc := [some (.ref 943), some (.int u1), some (.int u2), some (.int u3)]) (st := []) (V := v0 L) (g1 := g) (e := ez_i) rfl (dm_22 L g 1 (am_i g 943 25)) (fun y6 g7 => ?_)
      exact fun hR => by cases hR; exact ev_rt 0 rfl
  · refine ev_gd (c := ai_in u3 24) (fun hc8 => ?_)
    refine ev_jm 3 (t := (16, [some (.ref 943), some (.int u1), some (.int u2), some (.int u3)], [.int (am_i g 996 u3.toNatClampNeg)], (v0 L, g))) (ai_gd (c := ai_in u3 24) rfl hc8) ?_
    refine ev_in 1 (p := (am_i g 996 u3.toNatClampNeg) = u1) (a := 30) (b := 20) (T := ([some (.ref 943), some (.int u1), some (.int u2), some (.int u3)], [], (v0 L, g))) rfl ?_ ?_
    · refine ev_oi 4 (as := [.ref 943, .int 4, .int (am_i g 943 25)]) (pc := 29) (Lc := [some (.ref 943), some (.int u1), some (.int u2), some (.int u3)]) (st := []) (V := v0 L) (g1 := g) (e := ez_i) rfl (dm_21 L g 4 (am_i g 943 25)) (fun y9 g10 => ?_)
      exact fun hR => by cases hR; exact ev_rt 0 rfl
    · refine ev_jm 1 (t := (2, [some (.ref 943), some (.int u1), some (.int u2), some (.int (u3 + 1))], [], (v0 L, g))) rfl ?_
      exact hk2 (g, u1, u2, (u3 + 1)) _
noncomputable def fh_88_2  (x : am_G × Int32 × Int32 × Int32) : Option (Int32 × am_G) := lo_it (fun k x => fb_88_2 k x.1 x.2.1 x.2.2.1 x.2.2.2) nf_F x
theorem dh_88_2 (L : Nat)   (x : am_G × Int32 × Int32 × Int32) (R : Int32 × am_G) : fh_88_2  x = some R → ai_ev ap_P 88 (2, [some (.ref 943), some (.int x.2.1), some (.int x.2.2.1), some (.int x.2.2.2)], [], (v0 L, x.1)) (.inl (ez_i R.1)) (v0 L, R.2) :=
  fun hr => lo_ev (E := fun x R => ai_ev ap_P 88 (2, [some (.ref 943), some (.int x.2.1), some (.int x.2.2.1), some (.int x.2.2.2)], [], (v0 L, x.1)) (.inl (ez_i R.1)) (v0 L, R.2)) (fun k hk x R hr => db_88_2 L hk x.1 x.2.1 x.2.2.1 x.2.2.2  R hr) nf_F x R hr
/-- DeclaredMarkupModel.attributeName(IZ)I -/
noncomputable def fm_88 (g : am_G) (u1 : Int32) (u2 : Int32) : Option (Int32 × am_G) := fh_88_2 (g, u1, u2, 0)
theorem dm_88 (L : Nat) (g : am_G) (u1 : Int32) (u2 : Int32) (R : Int32 × am_G) : fm_88 g u1 u2 = some R → ai_ev ap_P 88 (ai_e0 ap_P 88 [.ref 943, .int u1, .int u2] (v0 L, g)) (.inl (ez_i R.1)) (v0 L, R.2) := by
  show _ → ai_ev ap_P 88 (0, [some (.ref 943), some (.int u1), some (.int u2), none], [], (v0 L, g)) _ _
  unfold fm_88
  refine ev_jm 1 (t := (2, [some (.ref 943), some (.int u1), some (.int u2), some (.int 0)], [], (v0 L, g))) rfl ?_
  exact dh_88_2 L (g, u1, u2, 0) _
/-- DeclaredMarkupModel.reference(I)I -/
noncomputable def fm_100 (g : am_G) (u1 : Int32) : Option (Int32 × am_G) := lo_i (fm_25 (am_si g 943 73 u1) 62) fun y1 g2 => some (y1, g2)
theorem dm_100 (L : Nat) (g : am_G) (u1 : Int32) (R : Int32 × am_G) : fm_100 g u1 = some R → ai_ev ap_P 100 (ai_e0 ap_P 100 [.ref 943, .int u1] (v0 L, g)) (.inl (ez_i R.1)) (v0 L, R.2) := by
  show _ → ai_ev ap_P 100 (0, [some (.ref 943), some (.int u1)], [], (v0 L, g)) _ _
  unfold fm_100
  refine ev_oi 5 (as := [.ref 943, .int 62]) (pc := 11) (Lc := [some (.ref 943), some (.int u1)]) (st := []) (V := v0 L) (g1 := (am_si g 943 73 u1)) (e := ez_i) rfl (dm_25 L (am_si g 943 73 u1) 62) (fun y1 g2 => ?_)
  exact fun hR => by cases hR; exact ev_rt 0 rfl
/-- DeclaredMarkupModel.doctype(IZ)I -/
noncomputable def fm_106 (g : am_G) (u1 : Int32) (u2 : Int32) : Option (Int32 × am_G) := if u2 = 0 then lo_i (fm_25 (am_si (am_si g 943 44 1) 943 45 u1) 42) fun y1 g2 => some (y1, g2) else lo_i (fm_22 g 1 (am_i g 943 25)) fun y3 g4 => some (y3, g4)
theorem dm_106 (L : Nat) (g : am_G) (u1 : Int32) (u2 : Int32) (R : Int32 × am_G) : fm_106 g u1 u2 = some R → ai_ev ap_P 106 (ai_e0 ap_P 106 [.ref 943, .int u1, .int u2] (v0 L, g)) (.inl (ez_i R.1)) (v0 L, R.2) := by
  show _ → ai_ev ap_P 106 (0, [some (.ref 943), some (.int u1), some (.int u2)], [], (v0 L, g)) _ _
  unfold fm_106
  refine ev_if 1 (p := u2 = 0) (a := 14) (b := 4) (T := ([some (.ref 943), some (.int u1), some (.int u2)], [], (v0 L, g))) rfl ?_ ?_
  · refine ev_oi 8 (as := [.ref 943, .int 42]) (pc := 30) (Lc := [some (.ref 943), some (.int u1), some (.int u2)]) (st := []) (V := v0 L) (g1 := (am_si (am_si g 943 44 1) 943 45 u1)) (e := ez_i) rfl (dm_25 L (am_si (am_si g 943 44 1) 943 45 u1) 42) (fun y1 g2 => ?_)
    exact fun hR => by cases hR; exact ev_rt 0 rfl
  · refine ev_oi 4 (as := [.ref 943, .int 1, .int (am_i g 943 25)]) (pc := 13) (Lc := [some (.ref 943), some (.int u1), some (.int u2)]) (st := []) (V := v0 L) (g1 := g) (e := ez_i) rfl (dm_22 L g 1 (am_i g 943 25)) (fun y3 g4 => ?_)
    exact fun hR => by cases hR; exact ev_rt 0 rfl
/-- DeclaredMarkupModel.breaks(I)V -/
noncomputable def fm_24 (g : am_G) (u1 : Int32) : Option (am_G) := some (am_si g 943 145 ((am_i g 943 145) ||| (1 <<< (u1 &&& 31))))
theorem dm_24 (L : Nat) (g : am_G) (u1 : Int32) (R : am_G) : fm_24 g u1 = some R → ai_ev ap_P 24 (ai_e0 ap_P 24 [.ref 943, .int u1] (v0 L, g)) (.inl none) (v0 L, R) := by
  show _ → ai_ev ap_P 24 (0, [some (.ref 943), some (.int u1)], [], (v0 L, g)) _ _
  unfold fm_24
  exact fun hR => by cases hR; exact ev_rt 8 rfl
noncomputable def fj_68_65  (g : am_G) (u1 : Int32) : Option (Int32 × am_G) := lo_i (fm_25 (am_si (am_si (am_si (am_si g 943 72 u1) 943 76 (am_i g 943 57)) 943 67 0) 943 75 3) 82) fun y1 g2 => some (y1, g2)
theorem dj_68_65 (L : Nat)   (g : am_G) (u1 : Int32) (w2 : Option Value) (R : Int32 × am_G) : fj_68_65  g u1 = some R → ai_ev ap_P 68 (65, [some (.ref 943), some (.int u1), w2], [], (v0 L, g)) (.inl (ez_i R.1)) (v0 L, R.2) := by
  unfold fj_68_65
  refine ev_oi 15 (as := [.ref 943, .int 82]) (pc := 94) (Lc := [some (.ref 943), some (.int u1), none]) (st := []) (V := v0 L) (g1 := (am_si (am_si (am_si (am_si g 943 72 u1) 943 76 (am_i g 943 57)) 943 67 0) 943 75 3)) (e := ez_i) rfl (dm_25 L (am_si (am_si (am_si (am_si g 943 72 u1) 943 76 (am_i g 943 57)) 943 67 0) 943 75 3) 82) (fun y1 g2 => ?_)
  exact fun hR => by cases hR; exact ev_rt 0 rfl
noncomputable def fj_68_28  (g : am_G) (u1 : Int32) (t1 : Int32) : Option (Int32 × am_G) := lo_g ((decide (t1 = 0) || decide (t1 = 1))) (if t1 = 0 then if (am_i g 943 49) = 40 then lo_i (fm_22 (am_si g 943 71 t1) 2 (am_i g 943 25)) fun y2 g3 => some (y2, g3) else fj_68_65 (am_si g 943 71 t1) u1 else lo_p (fm_24 (am_si g 943 71 t1) 4) fun g5 => fj_68_65 g5 u1)
theorem dj_68_28 (L : Nat)   (g : am_G) (u1 : Int32) (t1 : Int32) (w2 : Option Value) (R : Int32 × am_G) : fj_68_28  g u1 t1 = some R → ai_ev ap_P 68 (28, [some (.ref 943), some (.int u1), w2], [.int t1, .ref 943], (v0 L, g)) (.inl (ez_i R.1)) (v0 L, R.2) := by
  unfold fj_68_28
  refine ev_gd (c := (decide (t1 = 0) || decide (t1 = 1))) (fun hc1 => ?_)
  refine ev_pb 0 (d := (decide (t1 = 0) || decide (t1 = 1))) (h2 := (v0 L, (am_si g 943 71 t1))) (pc := 31) (Lc := [some (.ref 943), some (.int u1), none]) (st := []) rfl hc1 ?_
  refine ev_if 2 (p := t1 = 0) (a := 46) (b := 38) (T := ([some (.ref 943), some (.int u1), none], [], (v0 L, (am_si g 943 71 t1)))) rfl ?_ ?_
  · refine ev_in 3 (p := (am_i g 943 49) = 40) (a := 65) (b := 55) (T := ([some (.ref 943), some (.int u1), none], [], (v0 L, (am_si g 943 71 t1)))) rfl ?_ ?_
    · refine ev_oi 4 (as := [.ref 943, .int 2, .int (am_i g 943 25)]) (pc := 64) (Lc := [some (.ref 943), some (.int u1), none]) (st := []) (V := v0 L) (g1 := (am_si g 943 71 t1)) (e := ez_i) rfl (dm_22 L (am_si g 943 71 t1) 2 (am_i g 943 25)) (fun y2 g3 => ?_)
      exact fun hR => by cases hR; exact ev_rt 0 rfl
    · exact dj_68_65 L (am_si g 943 71 t1) u1 none _
  · refine ev_ov0 2 (as := [.ref 943, .int 4]) (pc := 43) (Lc := [some (.ref 943), some (.int u1), none]) (st := []) (V := v0 L) (g1 := (am_si g 943 71 t1)) rfl (dm_24 L (am_si g 943 71 t1) 4) (fun g5 => ?_)
    refine ev_jm 0 (t := (65, [some (.ref 943), some (.int u1), none], [], (v0 L, g5))) rfl ?_
    exact dj_68_65 L g5 u1 none _
/-- DeclaredMarkupModel.elementDeclared(IZ)I -/
noncomputable def fm_68 (g : am_G) (u1 : Int32) (u2 : Int32) : Option (Int32 × am_G) := if u2 = 0 then lo_p (fm_48 g u1) fun y1 => if y1 < 0 then fj_68_28 g u1 0 else fj_68_28 g u1 1 else lo_i (fm_22 g 1 (am_i g 943 25)) fun y3 g4 => some (y3, g4)
theorem dm_68 (L : Nat) (g : am_G) (u1 : Int32) (u2 : Int32) (R : Int32 × am_G) : fm_68 g u1 u2 = some R → ai_ev ap_P 68 (ai_e0 ap_P 68 [.ref 943, .int u1, .int u2] (v0 L, g)) (.inl (ez_i R.1)) (v0 L, R.2) := by
  show _ → ai_ev ap_P 68 (0, [some (.ref 943), some (.int u1), some (.int u2)], [], (v0 L, g)) _ _
  unfold fm_68
  refine ev_if 1 (p := u2 = 0) (a := 14) (b := 4) (T := ([some (.ref 943), some (.int u1), some (.int u2)], [], (v0 L, g))) rfl ?_ ?_
  · refine ev_op 3 (as := [.ref 943, .int u1]) (pc := 20) (Lc := [some (.ref 943), some (.int u1), some (.int u2)]) (st := [.ref 943]) (h1 := (v0 L, g)) (e := ez_i) rfl (dm_48 L g u1) (fun y1 => ?_)
    refine ev_if 0 (p := y1 < 0) (a := 27) (b := 23) (T := ([some (.ref 943), some (.int u1), some (.int u2)], [.ref 943], (v0 L, g))) rfl ?_ ?_
    · refine ev_jm 0 (t := (28, [some (.ref 943), some (.int u1), some (.int u2)], [.int 0, .ref 943], (v0 L, g))) rfl ?_
      exact dj_68_28 L g u1 0 (some (.int u2)) _
    · refine ev_jm 1 (t := (28, [some (.ref 943), some (.int u1), some (.int u2)], [.int 1, .ref 943], (v0 L, g))) rfl ?_
      exact dj_68_28 L g u1 1 (some (.int u2)) _
  · refine ev_oi 4 (as := [.ref 943, .int 1, .int (am_i g 943 25)]) (pc := 13) (Lc := [some (.ref 943), some (.int u1), some (.int u2)]) (st := []) (V := v0 L) (g1 := g) (e := ez_i) rfl (dm_22 L g 1 (am_i g 943 25)) (fun y3 g4 => ?_)
    exact fun hR => by cases hR; exact ev_rt 0 rfl
noncomputable def fj_67_79  (g : am_G) (u1 : Int32) : Option (Int32 × am_G) := lo_g (ai_in (am_i g 943 57) 6000) (lo_i (fm_25 (am_si (am_si g 964 ((am_i g 943 57)).toNatClampNeg u1) 943 57 ((am_i g 943 57) + 1)) 85) fun y2 g3 => some (y2, g3))
theorem dj_67_79 (L : Nat)   (g : am_G) (u1 : Int32) (w2 w3 : Option Value) (R : Int32 × am_G) : fj_67_79  g u1 = some R → ai_ev ap_P 67 (79, [some (.ref 943), some (.int u1), w2, w3], [], (v0 L, g)) (.inl (ez_i R.1)) (v0 L, R.2) := by
  unfold fj_67_79
  refine ev_gd (c := ai_in (am_i g 943 57) 6000) (fun hc1 => ?_)
  refine ev_jm 5 (t := (89, [some (.ref 943), some (.int u1), none, none], [], (v0 L, (am_si g 964 ((am_i g 943 57)).toNatClampNeg u1)))) (ai_gd (c := ai_in (am_i g 943 57) 6000) rfl hc1) ?_
  refine ev_oi 8 (as := [.ref 943, .int 85]) (pc := 105) (Lc := [some (.ref 943), some (.int u1), none, none]) (st := []) (V := v0 L) (g1 := (am_si (am_si g 964 ((am_i g 943 57)).toNatClampNeg u1) 943 57 ((am_i g 943 57) + 1))) (e := ez_i) rfl (dm_25 L (am_si (am_si g 964 ((am_i g 943 57)).toNatClampNeg u1) 943 57 ((am_i g 943 57) + 1)) 85) (fun y2 g3 => ?_)
  exact fun hR => by cases hR; exact ev_rt 0 rfl
noncomputable def fb_67_43 (k43 : (am_G × Int32 × Int32) → Option (Int32 × am_G)) (g : am_G) (u1 : Int32) (u3 : Int32) : Option (Int32 × am_G) := if (am_i g 943 57) ≤ u3 then fj_67_79 g u1 else if (am_i g 943 71) = 0 then lo_g (ai_in u3 6000) (if (am_i g 964 u3.toNatClampNeg) = u1 then lo_p (fm_24 g 5) fun g3 => k43 (g3, u1, (u3 + 1)) else k43 (g, u1, (u3 + 1))) else fj_67_79 g u1
theorem db_67_43 (L : Nat) {k43 : (am_G × Int32 × Int32) → Option (Int32 × am_G)} (hk43 : ∀ (x : am_G × Int32 × Int32) (w2 : Option Value) (R : Int32 × am_G), k43 x = some R → ai_ev ap_P 67 (43, [some (.ref 943), some (.int x.2.1), w2, some (.int x.2.2)], [], (v0 L, x.1)) (.inl (ez_i R.1)) (v0 L, R.2)) (g : am_G) (u1 : Int32) (u3 : Int32) (w2 : Option Value) (R : Int32 × am_G) : fb_67_43 k43 g u1 u3 = some R → ai_ev ap_P 67 (43, [some (.ref 943), some (.int u1), w2, some (.int u3)], [], (v0 L, g)) (.inl (ez_i R.1)) (v0 L, R.2) := by
  unfold fb_67_43
  refine ev_if 3 (p := (am_i g 943 57) ≤ u3) (a := 79) (b := 51) (T := ([some (.ref 943), some (.int u1), none, some (.int u3)], [], (v0 L, g))) rfl ?_ ?_
  · exact dj_67_79 L g u1 none (some (.int u3)) _
  · refine ev_in 2 (p := (am_i g 943 71) = 0) (a := 79) (b := 58) (T := ([some (.ref 943), some (.int u1), none, some (.int u3)], [], (v0 L, g))) rfl ?_ ?_
    · refine ev_gd (c := ai_in u3 6000) (fun hc1 => ?_)
      refine ev_jm 3 (t := (64, [some (.ref 943), some (.int u1), none, some (.int u3)], [.int (am_i g 964 u3.toNatClampNeg)], (v0 L, g))) (ai_gd (c := ai_in u3 6000) rfl hc1) ?_
      refine ev_in 1 (p := (am_i g 964 u3.toNatClampNeg) = u1) (a := 73) (b := 68) (T := ([some (.ref 943), some (.int u1), none, some (.int u3)], [], (v0 L, g))) rfl ?_ ?_
      · refine ev_ov0 2 (as := [.ref 943, .int 5]) (pc := 73) (Lc := [some (.ref 943), some (.int u1), none, some (.int u3)]) (st := []) (V := v0 L) (g1 := g) rfl (dm_24 L g 5) (fun g3 => ?_)
        refine ev_jm 1 (t := (43, [some (.ref 943), some (.int u1), none, some (.int (u3 + 1))], [], (v0 L, g3))) rfl ?_
        exact hk43 (g3, u1, (u3 + 1)) none _
      · refine ev_jm 1 (t := (43, [some (.ref 943), some (.int u1), none, some (.int (u3 + 1))], [], (v0 L, g))) rfl ?_
        exact hk43 (g, u1, (u3 + 1)) none _
    · exact dj_67_79 L g u1 none (some (.int u3)) _
noncomputable def fh_67_43  (x : am_G × Int32 × Int32) : Option (Int32 × am_G) := lo_it (fun k x => fb_67_43 k x.1 x.2.1 x.2.2) nf_F x
theorem dh_67_43 (L : Nat)   (x : am_G × Int32 × Int32) (w2 : Option Value) (R : Int32 × am_G) : fh_67_43  x = some R → ai_ev ap_P 67 (43, [some (.ref 943), some (.int x.2.1), w2, some (.int x.2.2)], [], (v0 L, x.1)) (.inl (ez_i R.1)) (v0 L, R.2) :=
  fun hr => lo_ev (E := fun x R => ∀ (w2 : Option Value), ai_ev ap_P 67 (43, [some (.ref 943), some (.int x.2.1), w2, some (.int x.2.2)], [], (v0 L, x.1)) (.inl (ez_i R.1)) (v0 L, R.2)) (fun k hk x R hr => fun w2 => db_67_43 L (fun x w2 R hr => hk x R hr w2) x.1 x.2.1 x.2.2 w2 R hr) nf_F x R hr w2
/-- DeclaredMarkupModel.mixedName(IZ)I -/
noncomputable def fm_67 (g : am_G) (u1 : Int32) (u2 : Int32) : Option (Int32 × am_G) := if u2 = 0 then if ((am_i g 943 57) - (am_i g 943 76)) = 60 then lo_i (fm_22 g 3 (am_i g 943 25)) fun y2 g3 => some (y2, g3) else lo_l (am_i g 943 76) fun x1 => fh_67_43 (g, u1, x1) else lo_i (fm_22 g 1 (am_i g 943 25)) fun y4 g5 => some (y4, g5)
theorem dm_67 (L : Nat) (g : am_G) (u1 : Int32) (u2 : Int32) (R : Int32 × am_G) : fm_67 g u1 u2 = some R → ai_ev ap_P 67 (ai_e0 ap_P 67 [.ref 943, .int u1, .int u2] (v0 L, g)) (.inl (ez_i R.1)) (v0 L, R.2) := by
  show _ → ai_ev ap_P 67 (0, [some (.ref 943), some (.int u1), some (.int u2), none], [], (v0 L, g)) _ _
  unfold fm_67
  refine ev_if 1 (p := u2 = 0) (a := 14) (b := 4) (T := ([some (.ref 943), some (.int u1), some (.int u2), none], [], (v0 L, g))) rfl ?_ ?_
  · refine ev_in 6 (p := ((am_i g 943 57) - (am_i g 943 76)) = 60) (a := 38) (b := 28) (T := ([some (.ref 943), some (.int u1), some (.int u2), none], [], (v0 L, g))) rfl ?_ ?_
    · refine ev_oi 4 (as := [.ref 943, .int 3, .int (am_i g 943 25)]) (pc := 37) (Lc := [some (.ref 943), some (.int u1), some (.int u2), none]) (st := []) (V := v0 L) (g1 := g) (e := ez_i) rfl (dm_22 L g 3 (am_i g 943 25)) (fun y2 g3 => ?_)
      exact fun hR => by cases hR; exact ev_rt 0 rfl
    · refine ev_jm 1 (t := (42, [some (.ref 943), some (.int u1), some (.int u2), none], [.int (am_i g 943 76)], (v0 L, g))) rfl ?_
      refine lo_e (S := fun (x1 : Int32) => (42, [some (.ref 943), some (.int u1), some (.int u2), none], [.int x1], (v0 L, g))) (fun x1 => ?_)
      refine ev_jm 0 (t := (43, [some (.ref 943), some (.int u1), some (.int u2), some (.int x1)], [], (v0 L, g))) rfl ?_
      exact dh_67_43 L (g, u1, x1) (some (.int u2)) _
  · refine ev_oi 4 (as := [.ref 943, .int 1, .int (am_i g 943 25)]) (pc := 13) (Lc := [some (.ref 943), some (.int u1), some (.int u2), none]) (st := []) (V := v0 L) (g1 := g) (e := ez_i) rfl (dm_22 L g 1 (am_i g 943 25)) (fun y4 g5 => ?_)
    exact fun hR => by cases hR; exact ev_rt 0 rfl
noncomputable def fj_60_63  (g : am_G) (t1 : Int32) (t2 : Int32) : Option (Int32 × am_G) := lo_g (ai_in t1 6100) (some ((((am_i g 943 61) + 1) - 1), (am_si (am_si g 971 t1.toNatClampNeg (vp_nar .boolean t2)) 943 61 ((am_i g 943 61) + 1))))
theorem dj_60_63 (L : Nat)   (g : am_G) (t1 : Int32) (t2 : Int32) (w1 : Option Value) (R : Int32 × am_G) : fj_60_63  g t1 t2 = some R → ai_ev ap_P 60 (63, [some (.ref 943), w1], [.int t2, .int t1, .ref 971], (v0 L, g)) (.inl (ez_i R.1)) (v0 L, R.2) := by
  unfold fj_60_63
  refine ev_gd (c := ai_in t1 6100) (fun hc1 => ?_)
  refine ev_jm 0 (t := (64, [some (.ref 943), none], [], (v0 L, (am_si g 971 t1.toNatClampNeg (vp_nar .boolean t2))))) (ai_gd (c := ai_in t1 6100) rfl hc1) ?_
  exact fun hR => by cases hR; exact ev_rt 10 rfl
noncomputable def fj_60_58  (g : am_G) (t1 : Int32) : Option (Int32 × am_G) := fj_60_63 g t1 1
theorem dj_60_58 (L : Nat)   (g : am_G) (t1 : Int32) (w1 : Option Value) (R : Int32 × am_G) : fj_60_58  g t1 = some R → ai_ev ap_P 60 (58, [some (.ref 943), w1], [.int t1, .ref 971], (v0 L, g)) (.inl (ez_i R.1)) (v0 L, R.2) := by
  unfold fj_60_58
  refine ev_jm 1 (t := (63, [some (.ref 943), none], [.int 1, .int t1, .ref 971], (v0 L, g))) rfl ?_
  exact dj_60_63 L g t1 1 none _
/-- DeclaredMarkupModel.node(I)I -/
noncomputable def fm_60 (g : am_G) (u1 : Int32) : Option (Int32 × am_G) := lo_g (ai_in (am_i g 943 61) 6100) (if u1 = 3 then fj_60_58 (am_si (am_si (am_si (am_si g 967 ((am_i g 943 61)).toNatClampNeg u1) 968 ((am_i g 943 61)).toNatClampNeg (-1)) 969 ((am_i g 943 61)).toNatClampNeg (-1)) 970 ((am_i g 943 61)).toNatClampNeg (-1)) (am_i g 943 61) else if u1 = 4 then fj_60_58 (am_si (am_si (am_si (am_si g 967 ((am_i g 943 61)).toNatClampNeg u1) 968 ((am_i g 943 61)).toNatClampNeg (-1)) 969 ((am_i g 943 61)).toNatClampNeg (-1)) 970 ((am_i g 943 61)).toNatClampNeg (-1)) (am_i g 943 61) else fj_60_63 (am_si (am_si (am_si (am_si g 967 ((am_i g 943 61)).toNatClampNeg u1) 968 ((am_i g 943 61)).toNatClampNeg (-1)) 969 ((am_i g 943 61)).toNatClampNeg (-1)) 970 ((am_i g 943 61)).toNatClampNeg (-1)) (am_i g 943 61) 0)
theorem dm_60 (L : Nat) (g : am_G) (u1 : Int32) (R : Int32 × am_G) : fm_60 g u1 = some R → ai_ev ap_P 60 (ai_e0 ap_P 60 [.ref 943, .int u1] (v0 L, g)) (.inl (ez_i R.1)) (v0 L, R.2) := by
  show _ → ai_ev ap_P 60 (0, [some (.ref 943), some (.int u1)], [], (v0 L, g)) _ _
  unfold fm_60
  refine ev_gd (c := ai_in (am_i g 943 61) 6100) (fun hc1 => ?_)
  refine ev_jm 5 (t := (10, [some (.ref 943), some (.int u1)], [], (v0 L, (am_si g 967 ((am_i g 943 61)).toNatClampNeg u1)))) (ai_gd (c := ai_in (am_i g 943 61) 6100) rfl hc1) ?_
  refine ev_jm 5 (t := (20, [some (.ref 943), some (.int u1)], [], (v0 L, (am_si (am_si g 967 ((am_i g 943 61)).toNatClampNeg u1) 968 ((am_i g 943 61)).toNatClampNeg (-1))))) (ai_gd (c := ai_in (am_i g 943 61) 6100) rfl hc1) ?_
  refine ev_jm 5 (t := (30, [some (.ref 943), some (.int u1)], [], (v0 L, (am_si (am_si (am_si g 967 ((am_i g 943 61)).toNatClampNeg u1) 968 ((am_i g 943 61)).toNatClampNeg (-1)) 969 ((am_i g 943 61)).toNatClampNeg (-1))))) (ai_gd (c := ai_in (am_i g 943 61) 6100) rfl hc1) ?_
  refine ev_jm 5 (t := (40, [some (.ref 943), some (.int u1)], [], (v0 L, (am_si (am_si (am_si (am_si g 967 ((am_i g 943 61)).toNatClampNeg u1) 968 ((am_i g 943 61)).toNatClampNeg (-1)) 969 ((am_i g 943 61)).toNatClampNeg (-1)) 970 ((am_i g 943 61)).toNatClampNeg (-1))))) (ai_gd (c := ai_in (am_i g 943 61) 6100) rfl hc1) ?_
  refine ev_if 6 (p := u1 = 3) (a := 58) (b := 53) (T := ([some (.ref 943), some (.int u1)], [.int (am_i g 943 61), .ref 971], (v0 L, (am_si (am_si (am_si (am_si g 967 ((am_i g 943 61)).toNatClampNeg u1) 968 ((am_i g 943 61)).toNatClampNeg (-1)) 969 ((am_i g 943 61)).toNatClampNeg (-1)) 970 ((am_i g 943 61)).toNatClampNeg (-1))))) rfl ?_ ?_
  · exact dj_60_58 L (am_si (am_si (am_si (am_si g 967 ((am_i g 943 61)).toNatClampNeg u1) 968 ((am_i g 943 61)).toNatClampNeg (-1)) 969 ((am_i g 943 61)).toNatClampNeg (-1)) 970 ((am_i g 943 61)).toNatClampNeg (-1)) (am_i g 943 61) (some (.int u1)) _
  · refine ev_in 2 (p := u1 = 4) (a := 62) (b := 58) (T := ([some (.ref 943), some (.int u1)], [.int (am_i g 943 61), .ref 971], (v0 L, (am_si (am_si (am_si (am_si g 967 ((am_i g 943 61)).toNatClampNeg u1) 968 ((am_i g 943 61)).toNatClampNeg (-1)) 969 ((am_i g 943 61)).toNatClampNeg (-1)) 970 ((am_i g 943 61)).toNatClampNeg (-1))))) rfl ?_ ?_
    · exact dj_60_58 L (am_si (am_si (am_si (am_si g 967 ((am_i g 943 61)).toNatClampNeg u1) 968 ((am_i g 943 61)).toNatClampNeg (-1)) 969 ((am_i g 943 61)).toNatClampNeg (-1)) 970 ((am_i g 943 61)).toNatClampNeg (-1)) (am_i g 943 61) (some (.int u1)) _
    · refine ev_jm 0 (t := (63, [some (.ref 943), some (.int u1)], [.int 0, .int (am_i g 943 61), .ref 971], (v0 L, (am_si (am_si (am_si (am_si g 967 ((am_i g 943 61)).toNatClampNeg u1) 968 ((am_i g 943 61)).toNatClampNeg (-1)) 969 ((am_i g 943 61)).toNatClampNeg (-1)) 970 ((am_i g 943 61)).toNatClampNeg (-1))))) rfl ?_
      exact dj_60_63 L (am_si (am_si (am_si (am_si g 967 ((am_i g 943 61)).toNatClampNeg u1) 968 ((am_i g 943 61)).toNatClampNeg (-1)) 969 ((am_i g 943 61)).toNatClampNeg (-1)) 970 ((am_i g 943 61)).toNatClampNeg (-1)) (am_i g 943 61) 0 (some (.int u1)) _
/-- DeclaredMarkupModel.partName(IZ)I -/
noncomputable def fm_66 (g : am_G) (u1 : Int32) (u2 : Int32) : Option (Int32 × am_G) := if u2 = 0 then if ((am_i g 943 57) - (am_i g 943 76)) = 60 then lo_i (fm_22 g 3 (am_i g 943 25)) fun y6 g7 => some (y6, g7) else lo_i (fm_60 g 0) fun y1 g2 => lo_g (ai_in (am_i g2 943 57) 6000) (lo_i (fm_25 (am_si (am_si (am_si (am_si g2 943 70 y1) 964 ((am_i g2 943 57)).toNatClampNeg u1) 965 ((am_i g2 943 57)).toNatClampNeg y1) 943 57 ((am_i g2 943 57) + 1)) 91) fun y4 g5 => some (y4, g5)) else lo_i (fm_22 g 1 (am_i g 943 25)) fun y8 g9 => some (y8, g9)
theorem dm_66 (L : Nat) (g : am_G) (u1 : Int32) (u2 : Int32) (R : Int32 × am_G) : fm_66 g u1 u2 = some R → ai_ev ap_P 66 (ai_e0 ap_P 66 [.ref 943, .int u1, .int u2] (v0 L, g)) (.inl (ez_i R.1)) (v0 L, R.2) := by
  show _ → ai_ev ap_P 66 (0, [some (.ref 943), some (.int u1), some (.int u2)], [], (v0 L, g)) _ _
  unfold fm_66
  refine ev_if 1 (p := u2 = 0) (a := 14) (b := 4) (T := ([some (.ref 943), some (.int u1), some (.int u2)], [], (v0 L, g))) rfl ?_ ?_
  · refine ev_in 6 (p := ((am_i g 943 57) - (am_i g 943 76)) = 60) (a := 38) (b := 28) (T := ([some (.ref 943), some (.int u1), some (.int u2)], [], (v0 L, g))) rfl ?_ ?_
    · refine ev_oi 4 (as := [.ref 943, .int 3, .int (am_i g 943 25)]) (pc := 37) (Lc := [some (.ref 943), some (.int u1), some (.int u2)]) (st := []) (V := v0 L) (g1 := g) (e := ez_i) rfl (dm_22 L g 3 (am_i g 943 25)) (fun y6 g7 => ?_)
      exact fun hR => by cases hR; exact ev_rt 0 rfl
    · refine ev_oi 3 (as := [.ref 943, .int 0]) (pc := 44) (Lc := [some (.ref 943), some (.int u1), some (.int u2)]) (st := [.ref 943]) (V := v0 L) (g1 := g) (e := ez_i) rfl (dm_60 L g 0) (fun y1 g2 => ?_)
      refine ev_gd (c := ai_in (am_i g2 943 57) 6000) (fun hc3 => ?_)
      refine ev_jm 6 (t := (57, [some (.ref 943), some (.int u1), some (.int u2)], [], (v0 L, (am_si (am_si g2 943 70 y1) 964 ((am_i g2 943 57)).toNatClampNeg u1)))) (ai_gd (c := ai_in (am_i g2 943 57) 6000) rfl hc3) ?_
      refine ev_jm 6 (t := (70, [some (.ref 943), some (.int u1), some (.int u2)], [], (v0 L, (am_si (am_si (am_si g2 943 70 y1) 964 ((am_i g2 943 57)).toNatClampNeg u1) 965 ((am_i g2 943 57)).toNatClampNeg y1)))) (ai_gd (c := ai_in (am_i g2 943 57) 6000) rfl hc3) ?_
      refine ev_oi 8 (as := [.ref 943, .int 91]) (pc := 86) (Lc := [some (.ref 943), some (.int u1), some (.int u2)]) (st := []) (V := v0 L) (g1 := (am_si (am_si (am_si (am_si g2 943 70 y1) 964 ((am_i g2 943 57)).toNatClampNeg u1) 965 ((am_i g2 943 57)).toNatClampNeg y1) 943 57 ((am_i g2 943 57) + 1))) (e := ez_i) rfl (dm_25 L (am_si (am_si (am_si (am_si g2 943 70 y1) 964 ((am_i g2 943 57)).toNatClampNeg u1) 965 ((am_i g2 943 57)).toNatClampNeg y1) 943 57 ((am_i g2 943 57) + 1)) 91) (fun y4 g5 => ?_)
      exact fun hR => by cases hR; exact ev_rt 0 rfl
  · refine ev_oi 4 (as := [.ref 943, .int 1, .int (am_i g 943 25)]) (pc := 13) (Lc := [some (.ref 943), some (.int u1), some (.int u2)]) (st := []) (V := v0 L) (g1 := g) (e := ez_i) rfl (dm_22 L g 1 (am_i g 943 25)) (fun y8 g9 => ?_)
    exact fun hR => by cases hR; exact ev_rt 0 rfl
noncomputable def fb_71_2 (g : am_G) (k2 : (Int32 × Int32 × Int32) → Option (Int32)) (u1 : Int32) (u2 : Int32) (u3 : Int32) : Option (Int32) := if (am_i g 943 77) ≤ u3 then some (-1) else lo_g (ai_in u3 80) (if (am_i g 974 u3.toNatClampNeg) = u1 then if (am_i g 975 u3.toNatClampNeg) = u2 then some u3 else k2 (u1, u2, (u3 + 1)) else k2 (u1, u2, (u3 + 1)))
theorem db_71_2 (L : Nat) (g : am_G) {k2 : (Int32 × Int32 × Int32) → Option (Int32)} (hk2 : ∀ (x : Int32 × Int32 × Int32) (R : Int32), k2 x = some R → ai_ev ap_P 71 (2, [some (.ref 943), some (.int x.1), some (.int x.2.1), some (.int x.2.2)], [], (v0 L, g)) (.inl (ez_i R)) (v0 L, g)) (u1 : Int32) (u2 : Int32) (u3 : Int32) (R : Int32) : fb_71_2 g k2 u1 u2 u3 = some R → ai_ev ap_P 71 (2, [some (.ref 943), some (.int u1), some (.int u2), some (.int u3)], [], (v0 L, g)) (.inl (ez_i R)) (v0 L, g) := by
  unfold fb_71_2
  refine ev_if 3 (p := (am_i g 943 77) ≤ u3) (a := 38) (b := 10) (T := ([some (.ref 943), some (.int u1), some (.int u2), some (.int u3)], [], (v0 L, g))) rfl ?_ ?_
  · exact fun hR => by cases hR; exact ev_rt 1 rfl
  · refine ev_gd (c := ai_in u3 80) (fun hc1 => ?_)
    refine ev_jm 3 (t := (16, [some (.ref 943), some (.int u1), some (.int u2), some (.int u3)], [.int (am_i g 974 u3.toNatClampNeg)], (v0 L, g))) (ai_gd (c := ai_in u3 80) rfl hc1) ?_
    refine ev_in 1 (p := (am_i g 974 u3.toNatClampNeg) = u1) (a := 32) (b := 20) (T := ([some (.ref 943), some (.int u1), some (.int u2), some (.int u3)], [], (v0 L, g))) rfl ?_ ?_
    · refine ev_jm 3 (t := (26, [some (.ref 943), some (.int u1), some (.int u2), some (.int u3)], [.int (am_i g 975 u3.toNatClampNeg)], (v0 L, g))) (ai_gd (c := ai_in u3 80) rfl hc1) ?_
      refine ev_in 1 (p := (am_i g 975 u3.toNatClampNeg) = u2) (a := 32) (b := 30) (T := ([some (.ref 943), some (.int u1), some (.int u2), some (.int u3)], [], (v0 L, g))) rfl ?_ ?_
      · exact fun hR => by cases hR; exact ev_rt 1 rfl
      · refine ev_jm 1 (t := (2, [some (.ref 943), some (.int u1), some (.int u2), some (.int (u3 + 1))], [], (v0 L, g))) rfl ?_
        exact hk2 (u1, u2, (u3 + 1)) _
    · refine ev_jm 1 (t := (2, [some (.ref 943), some (.int u1), some (.int u2), some (.int (u3 + 1))], [], (v0 L, g))) rfl ?_
      exact hk2 (u1, u2, (u3 + 1)) _
noncomputable def fh_71_2 (g : am_G)  (x : Int32 × Int32 × Int32) : Option (Int32) := lo_it (fun k x => fb_71_2 g k x.1 x.2.1 x.2.2) nf_F x
theorem dh_71_2 (L : Nat) (g : am_G)   (x : Int32 × Int32 × Int32) (R : Int32) : fh_71_2 g  x = some R → ai_ev ap_P 71 (2, [some (.ref 943), some (.int x.1), some (.int x.2.1), some (.int x.2.2)], [], (v0 L, g)) (.inl (ez_i R)) (v0 L, g) :=
  fun hr => lo_ev (E := fun x R => ai_ev ap_P 71 (2, [some (.ref 943), some (.int x.1), some (.int x.2.1), some (.int x.2.2)], [], (v0 L, g)) (.inl (ez_i R)) (v0 L, g)) (fun k hk x R hr => db_71_2 L g hk x.1 x.2.1 x.2.2  R hr) nf_F x R hr
/-- DeclaredMarkupModel.attributeOf(II)I -/
noncomputable def fm_71 (g : am_G) (u1 : Int32) (u2 : Int32) : Option (Int32) := fh_71_2 g (u1, u2, 0)
theorem dm_71 (L : Nat) (g : am_G) (u1 : Int32) (u2 : Int32) (R : Int32) : fm_71 g u1 u2 = some R → ai_ev ap_P 71 (ai_e0 ap_P 71 [.ref 943, .int u1, .int u2] (v0 L, g)) (.inl (ez_i R)) (v0 L, g) := by
  show _ → ai_ev ap_P 71 (0, [some (.ref 943), some (.int u1), some (.int u2), none], [], (v0 L, g)) _ _
  unfold fm_71
  refine ev_jm 1 (t := (2, [some (.ref 943), some (.int u1), some (.int u2), some (.int 0)], [], (v0 L, g))) rfl ?_
  exact dh_71_2 L g (u1, u2, 0) _
noncomputable def fj_72_99  (g : am_G) : Option (Int32 × am_G) := lo_i (fm_22 g 4 (am_i g 943 25)) fun y1 g2 => some (y1, g2)
theorem dj_72_99 (L : Nat)   (g : am_G) (w1 w2 w3 w4 : Option Value) (R : Int32 × am_G) : fj_72_99  g = some R → ai_ev ap_P 72 (99, [some (.ref 943), w1, w2, w3, w4], [], (v0 L, g)) (.inl (ez_i R.1)) (v0 L, R.2) := by
  unfold fj_72_99
  refine ev_oi 4 (as := [.ref 943, .int 4, .int (am_i g 943 25)]) (pc := 108) (Lc := [some (.ref 943), none, none, none, none]) (st := []) (V := v0 L) (g1 := g) (e := ez_i) rfl (dm_22 L g 4 (am_i g 943 25)) (fun y1 g2 => ?_)
  exact fun hR => by cases hR; exact ev_rt 0 rfl
noncomputable def fj_72_109  (g : am_G) (u1 : Int32) : Option (Int32 × am_G) := lo_i (fm_25 (am_si (am_si (am_si g 943 91 u1) 943 88 (am_i g 943 86)) 943 90 0) 104) fun y1 g2 => some (y1, g2)
theorem dj_72_109 (L : Nat)   (g : am_G) (u1 : Int32) (w2 w3 w4 : Option Value) (R : Int32 × am_G) : fj_72_109  g u1 = some R → ai_ev ap_P 72 (109, [some (.ref 943), some (.int u1), w2, w3, w4], [], (v0 L, g)) (.inl (ez_i R.1)) (v0 L, R.2) := by
  unfold fj_72_109
  refine ev_oi 12 (as := [.ref 943, .int 104]) (pc := 133) (Lc := [some (.ref 943), some (.int u1), none, none, none]) (st := []) (V := v0 L) (g1 := (am_si (am_si (am_si g 943 91 u1) 943 88 (am_i g 943 86)) 943 90 0)) (e := ez_i) rfl (dm_25 L (am_si (am_si (am_si g 943 91 u1) 943 88 (am_i g 943 86)) 943 90 0) 104) (fun y1 g2 => ?_)
  exact fun hR => by cases hR; exact ev_rt 0 rfl
noncomputable def fb_72_40 (k40 : (am_G × Int32 × Int32 × Int32) → Option (Int32 × am_G)) (g : am_G) (u1 : Int32) (u3 : Int32) (u4 : Int32) : Option (Int32 × am_G) := if (am_i g 943 77) ≤ u4 then if (am_i g 943 71) = 0 then if (am_i g 943 77) = 80 then fj_72_99 g else if u3 = 12 then fj_72_99 g else fj_72_109 g u1 else fj_72_109 g u1 else lo_g (ai_in u4 80) (if (am_i g 974 u4.toNatClampNeg) = (am_i g 943 72) then lo_l (u3 + 1) fun x3 => k40 (g, u1, x3, (u4 + 1)) else lo_l (u3 + 0) fun x2 => k40 (g, u1, x2, (u4 + 1)))
theorem db_72_40 (L : Nat) {k40 : (am_G × Int32 × Int32 × Int32) → Option (Int32 × am_G)} (hk40 : ∀ (x : am_G × Int32 × Int32 × Int32) (w2 : Option Value) (R : Int32 × am_G), k40 x = some R → ai_ev ap_P 72 (40, [some (.ref 943), some (.int x.2.1), w2, some (.int x.2.2.1), some (.int x.2.2.2)], [], (v0 L, x.1)) (.inl (ez_i R.1)) (v0 L, R.2)) (g : am_G) (u1 : Int32) (u3 : Int32) (u4 : Int32) (w2 : Option Value) (R : Int32 × am_G) : fb_72_40 k40 g u1 u3 u4 = some R → ai_ev ap_P 72 (40, [some (.ref 943), some (.int u1), w2, some (.int u3), some (.int u4)], [], (v0 L, g)) (.inl (ez_i R.1)) (v0 L, R.2) := by
  unfold fb_72_40
  refine ev_if 3 (p := (am_i g 943 77) ≤ u4) (a := 77) (b := 49) (T := ([some (.ref 943), some (.int u1), none, some (.int u3), some (.int u4)], [], (v0 L, g))) rfl ?_ ?_
  · refine ev_in 2 (p := (am_i g 943 71) = 0) (a := 109) (b := 84) (T := ([some (.ref 943), some (.int u1), none, some (.int u3), some (.int u4)], [], (v0 L, g))) rfl ?_ ?_
    · refine ev_if 3 (p := (am_i g 943 77) = 80) (a := 99) (b := 93) (T := ([some (.ref 943), some (.int u1), none, some (.int u3), some (.int u4)], [], (v0 L, g))) rfl ?_ ?_
      · exact dj_72_99 L g (some (.int u1)) none (some (.int u3)) (some (.int u4)) _
      · refine ev_in 2 (p := u3 = 12) (a := 109) (b := 99) (T := ([some (.ref 943), some (.int u1), none, some (.int u3), some (.int u4)], [], (v0 L, g))) rfl ?_ ?_
        · exact dj_72_99 L g (some (.int u1)) none (some (.int u3)) (some (.int u4)) _
        · exact dj_72_109 L g u1 none (some (.int u3)) (some (.int u4)) _
    · exact dj_72_109 L g u1 none (some (.int u3)) (some (.int u4)) _
  · refine ev_gd (c := ai_in u4 80) (fun hc1 => ?_)
    refine ev_jm 4 (t := (57, [some (.ref 943), some (.int u1), none, some (.int u3), some (.int u4)], [.int (am_i g 974 u4.toNatClampNeg), .int u3], (v0 L, g))) (ai_gd (c := ai_in u4 80) rfl hc1) ?_
    refine ev_in 2 (p := (am_i g 974 u4.toNatClampNeg) = (am_i g 943 72)) (a := 68) (b := 64) (T := ([some (.ref 943), some (.int u1), none, some (.int u3), some (.int u4)], [.int u3], (v0 L, g))) rfl ?_ ?_
    · refine ev_jm 2 (t := (70, [some (.ref 943), some (.int u1), none, none, some (.int u4)], [.int (u3 + 1)], (v0 L, g))) rfl ?_
      refine lo_e (S := fun (x3 : Int32) => (70, [some (.ref 943), some (.int u1), none, none, some (.int u4)], [.int x3], (v0 L, g))) (fun x3 => ?_)
      refine ev_jm 2 (t := (40, [some (.ref 943), some (.int u1), none, some (.int x3), some (.int (u4 + 1))], [], (v0 L, g))) rfl ?_
      exact hk40 (g, u1, x3, (u4 + 1)) none _
    · refine ev_jm 1 (t := (70, [some (.ref 943), some (.int u1), none, none, some (.int u4)], [.int (u3 + 0)], (v0 L, g))) rfl ?_
      refine lo_e (S := fun (x2 : Int32) => (70, [some (.ref 943), some (.int u1), none, none, some (.int u4)], [.int x2], (v0 L, g))) (fun x2 => ?_)
      refine ev_jm 2 (t := (40, [some (.ref 943), some (.int u1), none, some (.int x2), some (.int (u4 + 1))], [], (v0 L, g))) rfl ?_
      exact hk40 (g, u1, x2, (u4 + 1)) none _
noncomputable def fh_72_40  (x : am_G × Int32 × Int32 × Int32) : Option (Int32 × am_G) := lo_it (fun k x => fb_72_40 k x.1 x.2.1 x.2.2.1 x.2.2.2) nf_F x
theorem dh_72_40 (L : Nat)   (x : am_G × Int32 × Int32 × Int32) (w2 : Option Value) (R : Int32 × am_G) : fh_72_40  x = some R → ai_ev ap_P 72 (40, [some (.ref 943), some (.int x.2.1), w2, some (.int x.2.2.1), some (.int x.2.2.2)], [], (v0 L, x.1)) (.inl (ez_i R.1)) (v0 L, R.2) :=
  fun hr => lo_ev (E := fun x R => ∀ (w2 : Option Value), ai_ev ap_P 72 (40, [some (.ref 943), some (.int x.2.1), w2, some (.int x.2.2.1), some (.int x.2.2.2)], [], (v0 L, x.1)) (.inl (ez_i R.1)) (v0 L, R.2)) (fun k hk x R hr => fun w2 => db_72_40 L (fun x w2 R hr => hk x R hr w2) x.1 x.2.1 x.2.2.1 x.2.2.2 w2 R hr) nf_F x R hr w2
noncomputable def fj_72_32  (g : am_G) (u1 : Int32) (t1 : Int32) : Option (Int32 × am_G) := lo_g ((decide (t1 = 0) || decide (t1 = 1))) (fh_72_40 ((am_si g 943 71 t1), u1, 0, 0))
theorem dj_72_32 (L : Nat)   (g : am_G) (u1 : Int32) (t1 : Int32) (w2 w3 w4 : Option Value) (R : Int32 × am_G) : fj_72_32  g u1 t1 = some R → ai_ev ap_P 72 (32, [some (.ref 943), some (.int u1), w2, w3, w4], [.int t1, .ref 943], (v0 L, g)) (.inl (ez_i R.1)) (v0 L, R.2) := by
  unfold fj_72_32
  refine ev_gd (c := (decide (t1 = 0) || decide (t1 = 1))) (fun hc1 => ?_)
  refine ev_pb 0 (d := (decide (t1 = 0) || decide (t1 = 1))) (h2 := (v0 L, (am_si g 943 71 t1))) (pc := 35) (Lc := [some (.ref 943), some (.int u1), none, none, none]) (st := []) rfl hc1 ?_
  refine ev_jm 3 (t := (40, [some (.ref 943), some (.int u1), none, some (.int 0), some (.int 0)], [], (v0 L, (am_si g 943 71 t1)))) rfl ?_
  exact dh_72_40 L ((am_si g 943 71 t1), u1, 0, 0) none _
/-- DeclaredMarkupModel.attributeDeclared(IZ)I -/
noncomputable def fm_72 (g : am_G) (u1 : Int32) (u2 : Int32) : Option (Int32 × am_G) := if u2 = 0 then lo_p (fm_71 g (am_i g 943 72) u1) fun y1 => if y1 < 0 then fj_72_32 g u1 0 else fj_72_32 g u1 1 else lo_i (fm_22 g 1 (am_i g 943 25)) fun y3 g4 => some (y3, g4)
theorem dm_72 (L : Nat) (g : am_G) (u1 : Int32) (u2 : Int32) (R : Int32 × am_G) : fm_72 g u1 u2 = some R → ai_ev ap_P 72 (ai_e0 ap_P 72 [.ref 943, .int u1, .int u2] (v0 L, g)) (.inl (ez_i R.1)) (v0 L, R.2) := by
  show _ → ai_ev ap_P 72 (0, [some (.ref 943), some (.int u1), some (.int u2), none, none], [], (v0 L, g)) _ _
  unfold fm_72
  refine ev_if 1 (p := u2 = 0) (a := 14) (b := 4) (T := ([some (.ref 943), some (.int u1), some (.int u2), none, none], [], (v0 L, g))) rfl ?_ ?_
  · refine ev_op 5 (as := [.ref 943, .int (am_i g 943 72), .int u1]) (pc := 24) (Lc := [some (.ref 943), some (.int u1), some (.int u2), none, none]) (st := [.ref 943]) (h1 := (v0 L, g)) (e := ez_i) rfl (dm_71 L g (am_i g 943 72) u1) (fun y1 => ?_)
    refine ev_if 0 (p := y1 < 0) (a := 31) (b := 27) (T := ([some (.ref 943), some (.int u1), some (.int u2), none, none], [.ref 943], (v0 L, g))) rfl ?_ ?_
    · refine ev_jm 0 (t := (32, [some (.ref 943), some (.int u1), some (.int u2), none, none], [.int 0, .ref 943], (v0 L, g))) rfl ?_
      exact dj_72_32 L g u1 0 (some (.int u2)) none none _
    · refine ev_jm 1 (t := (32, [some (.ref 943), some (.int u1), some (.int u2), none, none], [.int 1, .ref 943], (v0 L, g))) rfl ?_
      exact dj_72_32 L g u1 1 (some (.int u2)) none none _
  · refine ev_oi 4 (as := [.ref 943, .int 1, .int (am_i g 943 25)]) (pc := 13) (Lc := [some (.ref 943), some (.int u1), some (.int u2), none, none]) (st := []) (V := v0 L) (g1 := g) (e := ez_i) rfl (dm_22 L g 1 (am_i g 943 25)) (fun y3 g4 => ?_)
    exact fun hR => by cases hR; exact ev_rt 0 rfl
noncomputable def fj_73_45  (g : am_G) : Option (Int32 × am_G) := lo_i (fm_22 g 5 (am_i g 943 25)) fun y1 g2 => some (y1, g2)
theorem dj_73_45 (L : Nat)   (g : am_G) (w1 w2 w3 : Option Value) (R : Int32 × am_G) : fj_73_45  g = some R → ai_ev ap_P 73 (45, [some (.ref 943), w1, w2, w3], [], (v0 L, g)) (.inl (ez_i R.1)) (v0 L, R.2) := by
  unfold fj_73_45
  refine ev_oi 4 (as := [.ref 943, .int 5, .int (am_i g 943 25)]) (pc := 54) (Lc := [some (.ref 943), none, none, none]) (st := []) (V := v0 L) (g1 := g) (e := ez_i) rfl (dm_22 L g 5 (am_i g 943 25)) (fun y1 g2 => ?_)
  exact fun hR => by cases hR; exact ev_rt 0 rfl
noncomputable def fj_73_97  (g : am_G) (u1 : Int32) : Option (Int32 × am_G) := lo_g (ai_in (am_i g 943 86) 330) (lo_i (fm_25 (am_si (am_si g 982 ((am_i g 943 86)).toNatClampNeg u1) 943 86 ((am_i g 943 86) + 1)) 116) fun y2 g3 => some (y2, g3))
theorem dj_73_97 (L : Nat)   (g : am_G) (u1 : Int32) (w2 w3 : Option Value) (R : Int32 × am_G) : fj_73_97  g u1 = some R → ai_ev ap_P 73 (97, [some (.ref 943), some (.int u1), w2, w3], [], (v0 L, g)) (.inl (ez_i R.1)) (v0 L, R.2) := by
  unfold fj_73_97
  refine ev_gd (c := ai_in (am_i g 943 86) 330) (fun hc1 => ?_)
  refine ev_jm 5 (t := (107, [some (.ref 943), some (.int u1), none, none], [], (v0 L, (am_si g 982 ((am_i g 943 86)).toNatClampNeg u1)))) (ai_gd (c := ai_in (am_i g 943 86) 330) rfl hc1) ?_
  refine ev_oi 8 (as := [.ref 943, .int 116]) (pc := 123) (Lc := [some (.ref 943), some (.int u1), none, none]) (st := []) (V := v0 L) (g1 := (am_si (am_si g 982 ((am_i g 943 86)).toNatClampNeg u1) 943 86 ((am_i g 943 86) + 1))) (e := ez_i) rfl (dm_25 L (am_si (am_si g 982 ((am_i g 943 86)).toNatClampNeg u1) 943 86 ((am_i g 943 86) + 1)) 116) (fun y2 g3 => ?_)
  exact fun hR => by cases hR; exact ev_rt 0 rfl
noncomputable def fb_73_60 (k60 : (am_G × Int32 × Int32) → Option (Int32 × am_G)) (g : am_G) (u1 : Int32) (u3 : Int32) : Option (Int32 × am_G) := if (am_i g 943 86) ≤ u3 then fj_73_97 g u1 else if (am_i g 943 71) = 0 then lo_g (ai_in u3 330) (if (am_i g 982 u3.toNatClampNeg) = u1 then lo_p (fm_24 g 20) fun g3 => k60 (g3, u1, (u3 + 1)) else k60 (g, u1, (u3 + 1))) else fj_73_97 g u1
theorem db_73_60 (L : Nat) {k60 : (am_G × Int32 × Int32) → Option (Int32 × am_G)} (hk60 : ∀ (x : am_G × Int32 × Int32) (w2 : Option Value) (R : Int32 × am_G), k60 x = some R → ai_ev ap_P 73 (60, [some (.ref 943), some (.int x.2.1), w2, some (.int x.2.2)], [], (v0 L, x.1)) (.inl (ez_i R.1)) (v0 L, R.2)) (g : am_G) (u1 : Int32) (u3 : Int32) (w2 : Option Value) (R : Int32 × am_G) : fb_73_60 k60 g u1 u3 = some R → ai_ev ap_P 73 (60, [some (.ref 943), some (.int u1), w2, some (.int u3)], [], (v0 L, g)) (.inl (ez_i R.1)) (v0 L, R.2) := by
  unfold fb_73_60
  refine ev_if 3 (p := (am_i g 943 86) ≤ u3) (a := 97) (b := 68) (T := ([some (.ref 943), some (.int u1), none, some (.int u3)], [], (v0 L, g))) rfl ?_ ?_
  · exact dj_73_97 L g u1 none (some (.int u3)) _
  · refine ev_in 2 (p := (am_i g 943 71) = 0) (a := 97) (b := 75) (T := ([some (.ref 943), some (.int u1), none, some (.int u3)], [], (v0 L, g))) rfl ?_ ?_
    · refine ev_gd (c := ai_in u3 330) (fun hc1 => ?_)
      refine ev_jm 3 (t := (81, [some (.ref 943), some (.int u1), none, some (.int u3)], [.int (am_i g 982 u3.toNatClampNeg)], (v0 L, g))) (ai_gd (c := ai_in u3 330) rfl hc1) ?_
      refine ev_in 1 (p := (am_i g 982 u3.toNatClampNeg) = u1) (a := 91) (b := 85) (T := ([some (.ref 943), some (.int u1), none, some (.int u3)], [], (v0 L, g))) rfl ?_ ?_
      · refine ev_ov0 2 (as := [.ref 943, .int 20]) (pc := 91) (Lc := [some (.ref 943), some (.int u1), none, some (.int u3)]) (st := []) (V := v0 L) (g1 := g) rfl (dm_24 L g 20) (fun g3 => ?_)
        refine ev_jm 1 (t := (60, [some (.ref 943), some (.int u1), none, some (.int (u3 + 1))], [], (v0 L, g3))) rfl ?_
        exact hk60 (g3, u1, (u3 + 1)) none _
      · refine ev_jm 1 (t := (60, [some (.ref 943), some (.int u1), none, some (.int (u3 + 1))], [], (v0 L, g))) rfl ?_
        exact hk60 (g, u1, (u3 + 1)) none _
    · exact dj_73_97 L g u1 none (some (.int u3)) _
noncomputable def fh_73_60  (x : am_G × Int32 × Int32) : Option (Int32 × am_G) := lo_it (fun k x => fb_73_60 k x.1 x.2.1 x.2.2) nf_F x
theorem dh_73_60 (L : Nat)   (x : am_G × Int32 × Int32) (w2 : Option Value) (R : Int32 × am_G) : fh_73_60  x = some R → ai_ev ap_P 73 (60, [some (.ref 943), some (.int x.2.1), w2, some (.int x.2.2)], [], (v0 L, x.1)) (.inl (ez_i R.1)) (v0 L, R.2) :=
  fun hr => lo_ev (E := fun x R => ∀ (w2 : Option Value), ai_ev ap_P 73 (60, [some (.ref 943), some (.int x.2.1), w2, some (.int x.2.2)], [], (v0 L, x.1)) (.inl (ez_i R.1)) (v0 L, R.2)) (fun k hk x R hr => fun w2 => db_73_60 L (fun x w2 R hr => hk x R hr w2) x.1 x.2.1 x.2.2 w2 R hr) nf_F x R hr w2
/-- DeclaredMarkupModel.listed(IZ)I -/
noncomputable def fm_73 (g : am_G) (u1 : Int32) (u2 : Int32) : Option (Int32 × am_G) := if u2 = 0 then if ((am_i g 943 86) - (am_i g 943 88)) = 30 then fj_73_45 g else if (am_i g 943 71) = 0 then if (am_i g 943 86) = 300 then fj_73_45 g else lo_l (am_i g 943 88) fun x2 => fh_73_60 (g, u1, x2) else lo_l (am_i g 943 88) fun x1 => fh_73_60 (g, u1, x1) else lo_i (fm_22 g 1 (am_i g 943 25)) fun y3 g4 => some (y3, g4)
theorem dm_73 (L : Nat) (g : am_G) (u1 : Int32) (u2 : Int32) (R : Int32 × am_G) : fm_73 g u1 u2 = some R → ai_ev ap_P 73 (ai_e0 ap_P 73 [.ref 943, .int u1, .int u2] (v0 L, g)) (.inl (ez_i R.1)) (v0 L, R.2) := by
  show _ → ai_ev ap_P 73 (0, [some (.ref 943), some (.int u1), some (.int u2), none], [], (v0 L, g)) _ _
  unfold fm_73
  refine ev_if 1 (p := u2 = 0) (a := 14) (b := 4) (T := ([some (.ref 943), some (.int u1), some (.int u2), none], [], (v0 L, g))) rfl ?_ ?_
  · refine ev_if 6 (p := ((am_i g 943 86) - (am_i g 943 88)) = 30) (a := 45) (b := 28) (T := ([some (.ref 943), some (.int u1), some (.int u2), none], [], (v0 L, g))) rfl ?_ ?_
    · exact dj_73_45 L g (some (.int u1)) (some (.int u2)) none _
    · refine ev_in 2 (p := (am_i g 943 71) = 0) (a := 55) (b := 35) (T := ([some (.ref 943), some (.int u1), some (.int u2), none], [], (v0 L, g))) rfl ?_ ?_
      · refine ev_in 3 (p := (am_i g 943 86) = 300) (a := 55) (b := 45) (T := ([some (.ref 943), some (.int u1), some (.int u2), none], [], (v0 L, g))) rfl ?_ ?_
        · exact dj_73_45 L g (some (.int u1)) (some (.int u2)) none _
        · refine ev_jm 1 (t := (59, [some (.ref 943), some (.int u1), none, none], [.int (am_i g 943 88)], (v0 L, g))) rfl ?_
          refine lo_e (S := fun (x2 : Int32) => (59, [some (.ref 943), some (.int u1), none, none], [.int x2], (v0 L, g))) (fun x2 => ?_)
          refine ev_jm 0 (t := (60, [some (.ref 943), some (.int u1), none, some (.int x2)], [], (v0 L, g))) rfl ?_
          exact dh_73_60 L (g, u1, x2) none _
      · refine ev_jm 1 (t := (59, [some (.ref 943), some (.int u1), none, none], [.int (am_i g 943 88)], (v0 L, g))) rfl ?_
        refine lo_e (S := fun (x1 : Int32) => (59, [some (.ref 943), some (.int u1), none, none], [.int x1], (v0 L, g))) (fun x1 => ?_)
        refine ev_jm 0 (t := (60, [some (.ref 943), some (.int u1), none, some (.int x1)], [], (v0 L, g))) rfl ?_
        exact dh_73_60 L (g, u1, x1) none _
  · refine ev_oi 4 (as := [.ref 943, .int 1, .int (am_i g 943 25)]) (pc := 13) (Lc := [some (.ref 943), some (.int u1), some (.int u2), none]) (st := []) (V := v0 L) (g1 := g) (e := ez_i) rfl (dm_22 L g 1 (am_i g 943 25)) (fun y3 g4 => ?_)
    exact fun hR => by cases hR; exact ev_rt 0 rfl
noncomputable def fb_30_21 (g : am_G) (k21 : (Int32 × Int64 × Int32 × Int32 × Int32) → Option (Int32)) (u1 : Int32) (u2 : Int64) (u4 : Int32) (u5 : Int32) (u6 : Int32) : Option (Int32) := if u4 ≤ u6 then some (vp_nar .boolean u5) else if u5 = 0 then some (vp_nar .boolean u5) else lo_g (ai_in u1 6000) (lo_g (ai_in ((am_i g 952 u1.toNatClampNeg) + u6) 19000) (if (am_i g 951 (((am_i g 952 u1.toNatClampNeg) + u6)).toNatClampNeg) = (96 + ((u2 >>> ((5 * ((u4 - 1) - u6)).toInt64 &&& 63)) &&& 31).toInt32) then k21 (u1, u2, u4, 1, (u6 + 1)) else k21 (u1, u2, u4, 0, (u6 + 1))))
theorem db_30_21 (L : Nat) (g : am_G) {k21 : (Int32 × Int64 × Int32 × Int32 × Int32) → Option (Int32)} (hk21 : ∀ (x : Int32 × Int64 × Int32 × Int32 × Int32) (w3 : Option Value) (R : Int32), k21 x = some R → ai_ev ap_P 30 (21, [some (.ref 943), some (.int x.1), some (.long x.2.1), w3, some (.int x.2.2.1), some (.int x.2.2.2.1), some (.int x.2.2.2.2)], [], (v0 L, g)) (.inl (ez_i R)) (v0 L, g)) (u1 : Int32) (u2 : Int64) (u4 : Int32) (u5 : Int32) (u6 : Int32) (w3 : Option Value) (R : Int32) : fb_30_21 g k21 u1 u2 u4 u5 u6 = some R → ai_ev ap_P 30 (21, [some (.ref 943), some (.int u1), some (.long u2), w3, some (.int u4), some (.int u5), some (.int u6)], [], (v0 L, g)) (.inl (ez_i R)) (v0 L, g) := by
  unfold fb_30_21
  refine ev_if 2 (p := u4 ≤ u6) (a := 82) (b := 28) (T := ([some (.ref 943), some (.int u1), some (.long u2), none, some (.int u4), some (.int u5), some (.int u6)], [], (v0 L, g))) rfl ?_ ?_
  · exact fun hR => by cases hR; exact ev_rt 1 rfl
  · refine ev_if 1 (p := u5 = 0) (a := 82) (b := 33) (T := ([some (.ref 943), some (.int u1), some (.long u2), none, some (.int u4), some (.int u5), some (.int u6)], [], (v0 L, g))) rfl ?_ ?_
    · exact fun hR => by cases hR; exact ev_rt 1 rfl
    · refine ev_gd (c := ai_in u1 6000) (fun hc1 => ?_)
      refine ev_jm 5 (t := (43, [some (.ref 943), some (.int u1), some (.long u2), none, some (.int u4), some (.int u5), some (.int u6)], [.int (am_i g 952 u1.toNatClampNeg), .ref 951], (v0 L, g))) (ai_gd (c := ai_in u1 6000) rfl hc1) ?_
      refine ev_gd (c := ai_in ((am_i g 952 u1.toNatClampNeg) + u6) 19000) (fun hc2 => ?_)
      refine ev_jm 2 (t := (47, [some (.ref 943), some (.int u1), some (.long u2), none, some (.int u4), some (.int u5), some (.int u6)], [.int (am_i g 951 (((am_i g 952 u1.toNatClampNeg) + u6)).toNatClampNeg)], (v0 L, g))) (ai_gd (c := ai_in ((am_i g 952 u1.toNatClampNeg) + u6) 19000) rfl hc2) ?_
      refine ev_in 14 (p := (am_i g 951 (((am_i g 952 u1.toNatClampNeg) + u6)).toNatClampNeg) = (96 + ((u2 >>> ((5 * ((u4 - 1) - u6)).toInt64 &&& 63)) &&& 31).toInt32)) (a := 73) (b := 69) (T := ([some (.ref 943), some (.int u1), some (.long u2), none, some (.int u4), some (.int u5), some (.int u6)], [], (v0 L, g))) rfl ?_ ?_
      · refine ev_jm 4 (t := (21, [some (.ref 943), some (.int u1), some (.long u2), none, some (.int u4), some (.int 1), some (.int (u6 + 1))], [], (v0 L, g))) rfl ?_
        exact hk21 (u1, u2, u4, 1, (u6 + 1)) none _
      · refine ev_jm 3 (t := (21, [some (.ref 943), some (.int u1), some (.long u2), none, some (.int u4), some (.int 0), some (.int (u6 + 1))], [], (v0 L, g))) rfl ?_
        exact hk21 (u1, u2, u4, 0, (u6 + 1)) none _
noncomputable def fh_30_21 (g : am_G)  (x : Int32 × Int64 × Int32 × Int32 × Int32) : Option (Int32) := lo_it (fun k x => fb_30_21 g k x.1 x.2.1 x.2.2.1 x.2.2.2.1 x.2.2.2.2) nf_F x
theorem dh_30_21 (L : Nat) (g : am_G)   (x : Int32 × Int64 × Int32 × Int32 × Int32) (w3 : Option Value) (R : Int32) : fh_30_21 g  x = some R → ai_ev ap_P 30 (21, [some (.ref 943), some (.int x.1), some (.long x.2.1), w3, some (.int x.2.2.1), some (.int x.2.2.2.1), some (.int x.2.2.2.2)], [], (v0 L, g)) (.inl (ez_i R)) (v0 L, g) :=
  fun hr => lo_ev (E := fun x R => ∀ (w3 : Option Value), ai_ev ap_P 30 (21, [some (.ref 943), some (.int x.1), some (.long x.2.1), w3, some (.int x.2.2.1), some (.int x.2.2.2.1), some (.int x.2.2.2.2)], [], (v0 L, g)) (.inl (ez_i R)) (v0 L, g)) (fun k hk x R hr => fun w3 => db_30_21 L g (fun x w3 R hr => hk x R hr w3) x.1 x.2.1 x.2.2.1 x.2.2.2.1 x.2.2.2.2 w3 R hr) nf_F x R hr w3
/-- DeclaredMarkupModel.isWord(IJI)Z -/
noncomputable def fm_30 (g : am_G) (u1 : Int32) (u2 : Int64) (u4 : Int32) : Option (Int32) := lo_g (ai_in u1 6000) (if (am_i g 953 u1.toNatClampNeg) = u4 then fh_30_21 g (u1, u2, u4, 1, 0) else fh_30_21 g (u1, u2, u4, 0, 0))
theorem dm_30 (L : Nat) (g : am_G) (u1 : Int32) (u2 : Int64) (u4 : Int32) (R : Int32) : fm_30 g u1 u2 u4 = some R → ai_ev ap_P 30 (ai_e0 ap_P 30 [.ref 943, .int u1, .long u2, .int u4] (v0 L, g)) (.inl (ez_i R)) (v0 L, g) := by
  show _ → ai_ev ap_P 30 (0, [some (.ref 943), some (.int u1), some (.long u2), none, some (.int u4), none, none], [], (v0 L, g)) _ _
  unfold fm_30
  refine ev_gd (c := ai_in u1 6000) (fun hc1 => ?_)
  refine ev_jm 3 (t := (6, [some (.ref 943), some (.int u1), some (.long u2), none, some (.int u4), none, none], [.int (am_i g 953 u1.toNatClampNeg)], (v0 L, g))) (ai_gd (c := ai_in u1 6000) rfl hc1) ?_
  refine ev_in 1 (p := (am_i g 953 u1.toNatClampNeg) = u4) (a := 15) (b := 11) (T := ([some (.ref 943), some (.int u1), some (.long u2), none, some (.int u4), none, none], [], (v0 L, g))) rfl ?_ ?_
  · refine ev_jm 4 (t := (21, [some (.ref 943), some (.int u1), some (.long u2), none, some (.int u4), some (.int 1), some (.int 0)], [], (v0 L, g))) rfl ?_
    exact dh_30_21 L g (u1, u2, u4, 1, 0) none _
  · refine ev_jm 3 (t := (21, [some (.ref 943), some (.int u1), some (.long u2), none, some (.int u4), some (.int 0), some (.int 0)], [], (v0 L, g))) rfl ?_
    exact dh_30_21 L g (u1, u2, u4, 0, 0) none _
/-- DeclaredMarkupModel.builtIn(I)I -/
noncomputable def fm_31 (g : am_G) (u1 : Int32) : Option (Int32) := lo_p (fm_30 g u1 404 2) fun y1 => if y1 = 0 then lo_p (fm_30 g u1 244 2) fun y3 => if y3 = 0 then lo_p (fm_30 g u1 1456 3) fun y5 => if y5 = 0 then lo_p (fm_30 g u1 49651 4) fun y7 => if y7 = 0 then lo_p (fm_30 g u1 579060 4) fun y9 => if y9 = 0 then some 0 else some 34 else some 39 else some 38 else some 62 else some 60
theorem dm_31 (L : Nat) (g : am_G) (u1 : Int32) (R : Int32) : fm_31 g u1 = some R → ai_ev ap_P 31 (ai_e0 ap_P 31 [.ref 943, .int u1] (v0 L, g)) (.inl (ez_i R)) (v0 L, g) := by
  show _ → ai_ev ap_P 31 (0, [some (.ref 943), some (.int u1)], [], (v0 L, g)) _ _
  unfold fm_31
  refine ev_op 4 (as := [.ref 943, .int u1, .long 404, .int 2]) (pc := 9) (Lc := [some (.ref 943), some (.int u1)]) (st := []) (h1 := (v0 L, g)) (e := ez_i) rfl (dm_30 L g u1 404 2) (fun y1 => ?_)
  refine ev_if 0 (p := y1 = 0) (a := 15) (b := 12) (T := ([some (.ref 943), some (.int u1)], [], (v0 L, g))) rfl ?_ ?_
  · refine ev_op 4 (as := [.ref 943, .int u1, .long 244, .int 2]) (pc := 24) (Lc := [some (.ref 943), some (.int u1)]) (st := []) (h1 := (v0 L, g)) (e := ez_i) rfl (dm_30 L g u1 244 2) (fun y3 => ?_)
    refine ev_if 0 (p := y3 = 0) (a := 30) (b := 27) (T := ([some (.ref 943), some (.int u1)], [], (v0 L, g))) rfl ?_ ?_
    · refine ev_op 4 (as := [.ref 943, .int u1, .long 1456, .int 3]) (pc := 39) (Lc := [some (.ref 943), some (.int u1)]) (st := []) (h1 := (v0 L, g)) (e := ez_i) rfl (dm_30 L g u1 1456 3) (fun y5 => ?_)
      refine ev_if 0 (p := y5 = 0) (a := 45) (b := 42) (T := ([some (.ref 943), some (.int u1)], [], (v0 L, g))) rfl ?_ ?_
      · refine ev_op 4 (as := [.ref 943, .int u1, .long 49651, .int 4]) (pc := 54) (Lc := [some (.ref 943), some (.int u1)]) (st := []) (h1 := (v0 L, g)) (e := ez_i) rfl (dm_30 L g u1 49651 4) (fun y7 => ?_)
        refine ev_if 0 (p := y7 = 0) (a := 60) (b := 57) (T := ([some (.ref 943), some (.int u1)], [], (v0 L, g))) rfl ?_ ?_
        · refine ev_op 4 (as := [.ref 943, .int u1, .long 579060, .int 4]) (pc := 69) (Lc := [some (.ref 943), some (.int u1)]) (st := []) (h1 := (v0 L, g)) (e := ez_i) rfl (dm_30 L g u1 579060 4) (fun y9 => ?_)
          refine ev_if 0 (p := y9 = 0) (a := 77) (b := 72) (T := ([some (.ref 943), some (.int u1)], [], (v0 L, g))) rfl ?_ ?_
          · exact fun hR => by cases hR; exact ev_rt 1 rfl
          · exact fun hR => by cases hR; exact ev_rt 2 rfl
        · exact fun hR => by cases hR; exact ev_rt 1 rfl
      · exact fun hR => by cases hR; exact ev_rt 1 rfl
    · exact fun hR => by cases hR; exact ev_rt 1 rfl
  · exact fun hR => by cases hR; exact ev_rt 1 rfl
noncomputable def fb_99_2 (g : am_G) (k2 : (Int32 × Int32 × Int32) → Option (Int32)) (u1 : Int32) (u2 : Int32) (u3 : Int32) : Option (Int32) := if (am_i g 943 95) ≤ u3 then some (-1) else lo_g (ai_in u3 40) (if (am_i g 985 u3.toNatClampNeg) = u1 then if (am_i g 986 u3.toNatClampNeg) = u2 then some u3 else k2 (u1, u2, (u3 + 1)) else k2 (u1, u2, (u3 + 1)))
theorem db_99_2 (L : Nat) (g : am_G) {k2 : (Int32 × Int32 × Int32) → Option (Int32)} (hk2 : ∀ (x : Int32 × Int32 × Int32) (R : Int32), k2 x = some R → ai_ev ap_P 99 (2, [some (.ref 943), some (.int x.1), some (.int x.2.1), some (.int x.2.2)], [], (v0 L, g)) (.inl (ez_i R)) (v0 L, g)) (u1 : Int32) (u2 : Int32) (u3 : Int32) (R : Int32) : fb_99_2 g k2 u1 u2 u3 = some R → ai_ev ap_P 99 (2, [some (.ref 943), some (.int u1), some (.int u2), some (.int u3)], [], (v0 L, g)) (.inl (ez_i R)) (v0 L, g) := by
  unfold fb_99_2
  refine ev_if 3 (p := (am_i g 943 95) ≤ u3) (a := 38) (b := 10) (T := ([some (.ref 943), some (.int u1), some (.int u2), some (.int u3)], [], (v0 L, g))) rfl ?_ ?_
  · exact fun hR => by cases hR; exact ev_rt 1 rfl
  · refine ev_gd (c := ai_in u3 40) (fun hc1 => ?_)
    refine ev_jm 3 (t := (16, [some (.ref 943), some (.int u1), some (.int u2), some (.int u3)], [.int (am_i g 985 u3.toNatClampNeg)], (v0 L, g))) (ai_gd (c := ai_in u3 40) rfl hc1) ?_
    refine ev_in 1 (p := (am_i g 985 u3.toNatClampNeg) = u1) (a := 32) (b := 20) (T := ([some (.ref 943), some (.int u1), some (.int u2), some (.int u3)], [], (v0 L, g))) rfl ?_ ?_
    · refine ev_jm 3 (t := (26, [some (.ref 943), some (.int u1), some (.int u2), some (.int u3)], [.int (am_i g 986 u3.toNatClampNeg)], (v0 L, g))) (ai_gd (c := ai_in u3 40) rfl hc1) ?_
      refine ev_in 1 (p := (am_i g 986 u3.toNatClampNeg) = u2) (a := 32) (b := 30) (T := ([some (.ref 943), some (.int u1), some (.int u2), some (.int u3)], [], (v0 L, g))) rfl ?_ ?_
      · exact fun hR => by cases hR; exact ev_rt 1 rfl
      · refine ev_jm 1 (t := (2, [some (.ref 943), some (.int u1), some (.int u2), some (.int (u3 + 1))], [], (v0 L, g))) rfl ?_
        exact hk2 (u1, u2, (u3 + 1)) _
    · refine ev_jm 1 (t := (2, [some (.ref 943), some (.int u1), some (.int u2), some (.int (u3 + 1))], [], (v0 L, g))) rfl ?_
      exact hk2 (u1, u2, (u3 + 1)) _
noncomputable def fh_99_2 (g : am_G)  (x : Int32 × Int32 × Int32) : Option (Int32) := lo_it (fun k x => fb_99_2 g k x.1 x.2.1 x.2.2) nf_F x
theorem dh_99_2 (L : Nat) (g : am_G)   (x : Int32 × Int32 × Int32) (R : Int32) : fh_99_2 g  x = some R → ai_ev ap_P 99 (2, [some (.ref 943), some (.int x.1), some (.int x.2.1), some (.int x.2.2)], [], (v0 L, g)) (.inl (ez_i R)) (v0 L, g) :=
  fun hr => lo_ev (E := fun x R => ai_ev ap_P 99 (2, [some (.ref 943), some (.int x.1), some (.int x.2.1), some (.int x.2.2)], [], (v0 L, g)) (.inl (ez_i R)) (v0 L, g)) (fun k hk x R hr => db_99_2 L g hk x.1 x.2.1 x.2.2  R hr) nf_F x R hr
/-- DeclaredMarkupModel.entityOf(IZ)I -/
noncomputable def fm_99 (g : am_G) (u1 : Int32) (u2 : Int32) : Option (Int32) := fh_99_2 g (u1, u2, 0)
theorem dm_99 (L : Nat) (g : am_G) (u1 : Int32) (u2 : Int32) (R : Int32) : fm_99 g u1 u2 = some R → ai_ev ap_P 99 (ai_e0 ap_P 99 [.ref 943, .int u1, .int u2] (v0 L, g)) (.inl (ez_i R)) (v0 L, g) := by
  show _ → ai_ev ap_P 99 (0, [some (.ref 943), some (.int u1), some (.int u2), none], [], (v0 L, g)) _ _
  unfold fm_99
  refine ev_jm 1 (t := (2, [some (.ref 943), some (.int u1), some (.int u2), some (.int 0)], [], (v0 L, g))) rfl ?_
  exact dh_99_2 L g (u1, u2, 0) _
noncomputable def fj_107_77  (g : am_G) (u1 : Int32) : Option (Int32 × am_G) := lo_i (fm_25 (am_si (am_si g 943 72 u1) 943 74 (am_i g 943 25)) 124) fun y1 g2 => some (y1, g2)
theorem dj_107_77 (L : Nat)   (g : am_G) (u1 : Int32) (w2 : Option Value) (R : Int32 × am_G) : fj_107_77  g u1 = some R → ai_ev ap_P 107 (77, [some (.ref 943), some (.int u1), w2], [], (v0 L, g)) (.inl (ez_i R.1)) (v0 L, R.2) := by
  unfold fj_107_77
  refine ev_oi 9 (as := [.ref 943, .int 124]) (pc := 96) (Lc := [some (.ref 943), some (.int u1), none]) (st := []) (V := v0 L) (g1 := (am_si (am_si g 943 72 u1) 943 74 (am_i g 943 25))) (e := ez_i) rfl (dm_25 L (am_si (am_si g 943 72 u1) 943 74 (am_i g 943 25)) 124) (fun y1 g2 => ?_)
  exact fun hR => by cases hR; exact ev_rt 0 rfl
noncomputable def fj_107_47  (g : am_G) (u1 : Int32) (t1 : Int32) : Option (Int32 × am_G) := lo_g ((decide (t1 = 0) || decide (t1 = 1))) (if t1 = 0 then if (am_i g 943 95) = 40 then lo_i (fm_22 (am_si g 943 71 t1) 6 (am_i g 943 25)) fun y2 g3 => some (y2, g3) else fj_107_77 (am_si g 943 71 t1) u1 else fj_107_77 (am_si g 943 71 t1) u1)
theorem dj_107_47 (L : Nat)   (g : am_G) (u1 : Int32) (t1 : Int32) (w2 : Option Value) (R : Int32 × am_G) : fj_107_47  g u1 t1 = some R → ai_ev ap_P 107 (47, [some (.ref 943), some (.int u1), w2], [.int t1, .ref 943], (v0 L, g)) (.inl (ez_i R.1)) (v0 L, R.2) := by
  unfold fj_107_47
  refine ev_gd (c := (decide (t1 = 0) || decide (t1 = 1))) (fun hc1 => ?_)
  refine ev_pb 0 (d := (decide (t1 = 0) || decide (t1 = 1))) (h2 := (v0 L, (am_si g 943 71 t1))) (pc := 50) (Lc := [some (.ref 943), some (.int u1), none]) (st := []) rfl hc1 ?_
  refine ev_in 2 (p := t1 = 0) (a := 77) (b := 57) (T := ([some (.ref 943), some (.int u1), none], [], (v0 L, (am_si g 943 71 t1)))) rfl ?_ ?_
  · refine ev_in 3 (p := (am_i g 943 95) = 40) (a := 77) (b := 66) (T := ([some (.ref 943), some (.int u1), none], [], (v0 L, (am_si g 943 71 t1)))) rfl ?_ ?_
    · refine ev_oi 4 (as := [.ref 943, .int 6, .int (am_i g 943 25)]) (pc := 76) (Lc := [some (.ref 943), some (.int u1), none]) (st := []) (V := v0 L) (g1 := (am_si g 943 71 t1)) (e := ez_i) rfl (dm_22 L (am_si g 943 71 t1) 6 (am_i g 943 25)) (fun y2 g3 => ?_)
      exact fun hR => by cases hR; exact ev_rt 0 rfl
    · exact dj_107_77 L (am_si g 943 71 t1) u1 none _
  · exact dj_107_77 L (am_si g 943 71 t1) u1 none _
noncomputable def fj_107_42  (g : am_G) (u1 : Int32) : Option (Int32 × am_G) := fj_107_47 g u1 1
theorem dj_107_42 (L : Nat)   (g : am_G) (u1 : Int32) (w2 : Option Value) (R : Int32 × am_G) : fj_107_42  g u1 = some R → ai_ev ap_P 107 (42, [some (.ref 943), some (.int u1), w2], [.ref 943], (v0 L, g)) (.inl (ez_i R.1)) (v0 L, R.2) := by
  unfold fj_107_42
  refine ev_jm 1 (t := (47, [some (.ref 943), some (.int u1), none], [.int 1, .ref 943], (v0 L, g))) rfl ?_
  exact dj_107_47 L g u1 1 none _
noncomputable def fj_107_30  (g : am_G) (u1 : Int32) : Option (Int32 × am_G) := lo_p (fm_99 g u1 (am_i g 943 103)) fun y1 => if y1 < 0 then fj_107_47 g u1 0 else fj_107_42 g u1
theorem dj_107_30 (L : Nat)   (g : am_G) (u1 : Int32) (w2 : Option Value) (R : Int32 × am_G) : fj_107_30  g u1 = some R → ai_ev ap_P 107 (30, [some (.ref 943), some (.int u1), w2], [.ref 943], (v0 L, g)) (.inl (ez_i R.1)) (v0 L, R.2) := by
  unfold fj_107_30
  refine ev_op 4 (as := [.ref 943, .int u1, .int (am_i g 943 103)]) (pc := 39) (Lc := [some (.ref 943), some (.int u1), none]) (st := [.ref 943]) (h1 := (v0 L, g)) (e := ez_i) rfl (dm_99 L g u1 (am_i g 943 103)) (fun y1 => ?_)
  refine ev_if 0 (p := y1 < 0) (a := 46) (b := 42) (T := ([some (.ref 943), some (.int u1), none], [.ref 943], (v0 L, g))) rfl ?_ ?_
  · refine ev_jm 0 (t := (47, [some (.ref 943), some (.int u1), none], [.int 0, .ref 943], (v0 L, g))) rfl ?_
    exact dj_107_47 L g u1 0 none _
  · exact dj_107_42 L g u1 none _
/-- DeclaredMarkupModel.entityDeclared(IZ)I -/
noncomputable def fm_107 (g : am_G) (u1 : Int32) (u2 : Int32) : Option (Int32 × am_G) := if u2 = 0 then if (am_i g 943 103) = 0 then lo_p (fm_31 g u1) fun y1 => if (0 : Int32) < y1 then fj_107_42 g u1 else fj_107_30 g u1 else fj_107_30 g u1 else lo_i (fm_22 g 1 (am_i g 943 25)) fun y3 g4 => some (y3, g4)
theorem dm_107 (L : Nat) (g : am_G) (u1 : Int32) (u2 : Int32) (R : Int32 × am_G) : fm_107 g u1 u2 = some R → ai_ev ap_P 107 (ai_e0 ap_P 107 [.ref 943, .int u1, .int u2] (v0 L, g)) (.inl (ez_i R.1)) (v0 L, R.2) := by
  show _ → ai_ev ap_P 107 (0, [some (.ref 943), some (.int u1), some (.int u2)], [], (v0 L, g)) _ _
  unfold fm_107
  refine ev_if 1 (p := u2 = 0) (a := 14) (b := 4) (T := ([some (.ref 943), some (.int u1), some (.int u2)], [], (v0 L, g))) rfl ?_ ?_
  · refine ev_in 3 (p := (am_i g 943 103) = 0) (a := 30) (b := 22) (T := ([some (.ref 943), some (.int u1), some (.int u2)], [.ref 943], (v0 L, g))) rfl ?_ ?_
    · refine ev_op 2 (as := [.ref 943, .int u1]) (pc := 27) (Lc := [some (.ref 943), some (.int u1), some (.int u2)]) (st := [.ref 943]) (h1 := (v0 L, g)) (e := ez_i) rfl (dm_31 L g u1) (fun y1 => ?_)
      refine ev_if 0 (p := (0 : Int32) < y1) (a := 42) (b := 30) (T := ([some (.ref 943), some (.int u1), some (.int u2)], [.ref 943], (v0 L, g))) rfl ?_ ?_
      · exact dj_107_42 L g u1 (some (.int u2)) _
      · exact dj_107_30 L g u1 (some (.int u2)) _
    · exact dj_107_30 L g u1 (some (.int u2)) _
  · refine ev_oi 4 (as := [.ref 943, .int 1, .int (am_i g 943 25)]) (pc := 13) (Lc := [some (.ref 943), some (.int u1), some (.int u2)]) (st := []) (V := v0 L) (g1 := g) (e := ez_i) rfl (dm_22 L g 1 (am_i g 943 25)) (fun y3 g4 => ?_)
    exact fun hR => by cases hR; exact ev_rt 0 rfl
noncomputable def fj_109_108  (g : am_G) : Option (Int32 × am_G) := lo_i (fm_25 g 132) fun y1 g2 => some (y1, g2)
theorem dj_109_108 (L : Nat)   (g : am_G) (w1 w2 w3 w4 : Option Value) (R : Int32 × am_G) : fj_109_108  g = some R → ai_ev ap_P 109 (108, [some (.ref 943), w1, w2, w3, w4], [], (v0 L, g)) (.inl (ez_i R.1)) (v0 L, R.2) := by
  unfold fj_109_108
  refine ev_oi 2 (as := [.ref 943, .int 132]) (pc := 115) (Lc := [some (.ref 943), none, none, none, none]) (st := []) (V := v0 L) (g1 := g) (e := ez_i) rfl (dm_25 L g 132) (fun y1 g2 => ?_)
  exact fun hR => by cases hR; exact ev_rt 0 rfl
noncomputable def fb_109_19 (k19 : (am_G × Int32 × Int32 × Int32) → Option (Int32 × am_G)) (g : am_G) (u1 : Int32) (u3 : Int32) (u4 : Int32) : Option (Int32 × am_G) := if (am_i g 943 104) ≤ u4 then if u3 = 0 then if (am_i g 943 104) = 20 then lo_i (fm_22 g 7 (am_i g 943 25)) fun y2 g3 => some (y2, g3) else lo_g (ai_in (am_i g 943 104) 20) (fj_109_108 (am_si (am_si g 990 ((am_i g 943 104)).toNatClampNeg u1) 943 104 ((am_i g 943 104) + 1))) else lo_p (fm_24 g 23) fun g5 => fj_109_108 g5 else if u3 = 0 then lo_g (ai_in u4 20) (if (am_i g 990 u4.toNatClampNeg) = u1 then k19 (g, u1, 1, (u4 + 1)) else k19 (g, u1, 0, (u4 + 1))) else k19 (g, u1, 1, (u4 + 1))
theorem db_109_19 (L : Nat) {k19 : (am_G × Int32 × Int32 × Int32) → Option (Int32 × am_G)} (hk19 : ∀ (x : am_G × Int32 × Int32 × Int32) (w2 : Option Value) (R : Int32 × am_G), k19 x = some R → ai_ev ap_P 109 (19, [some (.ref 943), some (.int x.2.1), w2, some (.int x.2.2.1), some (.int x.2.2.2)], [], (v0 L, x.1)) (.inl (ez_i R.1)) (v0 L, R.2)) (g : am_G) (u1 : Int32) (u3 : Int32) (u4 : Int32) (w2 : Option Value) (R : Int32 × am_G) : fb_109_19 k19 g u1 u3 u4 = some R → ai_ev ap_P 109 (19, [some (.ref 943), some (.int u1), w2, some (.int u3), some (.int u4)], [], (v0 L, g)) (.inl (ez_i R.1)) (v0 L, R.2) := by
  unfold fb_109_19
  refine ev_if 3 (p := (am_i g 943 104) ≤ u4) (a := 55) (b := 28) (T := ([some (.ref 943), some (.int u1), none, some (.int u3), some (.int u4)], [], (v0 L, g))) rfl ?_ ?_
  · refine ev_if 1 (p := u3 = 0) (a := 68) (b := 59) (T := ([some (.ref 943), some (.int u1), none, some (.int u3), some (.int u4)], [], (v0 L, g))) rfl ?_ ?_
    · refine ev_in 3 (p := (am_i g 943 104) = 20) (a := 88) (b := 77) (T := ([some (.ref 943), some (.int u1), none, some (.int u3), some (.int u4)], [], (v0 L, g))) rfl ?_ ?_
      · refine ev_oi 4 (as := [.ref 943, .int 7, .int (am_i g 943 25)]) (pc := 87) (Lc := [some (.ref 943), some (.int u1), none, some (.int u3), some (.int u4)]) (st := []) (V := v0 L) (g1 := g) (e := ez_i) rfl (dm_22 L g 7 (am_i g 943 25)) (fun y2 g3 => ?_)
        exact fun hR => by cases hR; exact ev_rt 0 rfl
      · refine ev_gd (c := ai_in (am_i g 943 104) 20) (fun hc1 => ?_)
        refine ev_jm 5 (t := (98, [some (.ref 943), some (.int u1), none, some (.int u3), some (.int u4)], [], (v0 L, (am_si g 990 ((am_i g 943 104)).toNatClampNeg u1)))) (ai_gd (c := ai_in (am_i g 943 104) 20) rfl hc1) ?_
        refine ev_jm 5 (t := (108, [some (.ref 943), some (.int u1), none, some (.int u3), some (.int u4)], [], (v0 L, (am_si (am_si g 990 ((am_i g 943 104)).toNatClampNeg u1) 943 104 ((am_i g 943 104) + 1))))) rfl ?_
        exact dj_109_108 L (am_si (am_si g 990 ((am_i g 943 104)).toNatClampNeg u1) 943 104 ((am_i g 943 104) + 1)) (some (.int u1)) none (some (.int u3)) (some (.int u4)) _
    · refine ev_ov0 2 (as := [.ref 943, .int 23]) (pc := 65) (Lc := [some (.ref 943), some (.int u1), none, some (.int u3), some (.int u4)]) (st := []) (V := v0 L) (g1 := g) rfl (dm_24 L g 23) (fun g5 => ?_)
      refine ev_jm 0 (t := (108, [some (.ref 943), some (.int u1), none, some (.int u3), some (.int u4)], [], (v0 L, g5))) rfl ?_
      exact dj_109_108 L g5 (some (.int u1)) none (some (.int u3)) (some (.int u4)) _
  · refine ev_in 1 (p := u3 = 0) (a := 43) (b := 32) (T := ([some (.ref 943), some (.int u1), none, some (.int u3), some (.int u4)], [], (v0 L, g))) rfl ?_ ?_
    · refine ev_gd (c := ai_in u4 20) (fun hc6 => ?_)
      refine ev_jm 3 (t := (39, [some (.ref 943), some (.int u1), none, some (.int u3), some (.int u4)], [.int (am_i g 990 u4.toNatClampNeg)], (v0 L, g))) (ai_gd (c := ai_in u4 20) rfl hc6) ?_
      refine ev_in 1 (p := (am_i g 990 u4.toNatClampNeg) = u1) (a := 47) (b := 43) (T := ([some (.ref 943), some (.int u1), none, some (.int u3), some (.int u4)], [], (v0 L, g))) rfl ?_ ?_
      · refine ev_jm 4 (t := (19, [some (.ref 943), some (.int u1), none, some (.int 1), some (.int (u4 + 1))], [], (v0 L, g))) rfl ?_
        exact hk19 (g, u1, 1, (u4 + 1)) none _
      · refine ev_jm 3 (t := (19, [some (.ref 943), some (.int u1), none, some (.int 0), some (.int (u4 + 1))], [], (v0 L, g))) rfl ?_
        exact hk19 (g, u1, 0, (u4 + 1)) none _
    · refine ev_jm 4 (t := (19, [some (.ref 943), some (.int u1), none, some (.int 1), some (.int (u4 + 1))], [], (v0 L, g))) rfl ?_
      exact hk19 (g, u1, 1, (u4 + 1)) none _
noncomputable def fh_109_19  (x : am_G × Int32 × Int32 × Int32) : Option (Int32 × am_G) := lo_it (fun k x => fb_109_19 k x.1 x.2.1 x.2.2.1 x.2.2.2) nf_F x
theorem dh_109_19 (L : Nat)   (x : am_G × Int32 × Int32 × Int32) (w2 : Option Value) (R : Int32 × am_G) : fh_109_19  x = some R → ai_ev ap_P 109 (19, [some (.ref 943), some (.int x.2.1), w2, some (.int x.2.2.1), some (.int x.2.2.2)], [], (v0 L, x.1)) (.inl (ez_i R.1)) (v0 L, R.2) :=
  fun hr => lo_ev (E := fun x R => ∀ (w2 : Option Value), ai_ev ap_P 109 (19, [some (.ref 943), some (.int x.2.1), w2, some (.int x.2.2.1), some (.int x.2.2.2)], [], (v0 L, x.1)) (.inl (ez_i R.1)) (v0 L, R.2)) (fun k hk x R hr => fun w2 => db_109_19 L (fun x w2 R hr => hk x R hr w2) x.1 x.2.1 x.2.2.1 x.2.2.2 w2 R hr) nf_F x R hr w2
/-- DeclaredMarkupModel.notationDeclared(IZ)I -/
noncomputable def fm_109 (g : am_G) (u1 : Int32) (u2 : Int32) : Option (Int32 × am_G) := if u2 = 0 then fh_109_19 (g, u1, 0, 0) else lo_i (fm_22 g 1 (am_i g 943 25)) fun y1 g2 => some (y1, g2)
theorem dm_109 (L : Nat) (g : am_G) (u1 : Int32) (u2 : Int32) (R : Int32 × am_G) : fm_109 g u1 u2 = some R → ai_ev ap_P 109 (ai_e0 ap_P 109 [.ref 943, .int u1, .int u2] (v0 L, g)) (.inl (ez_i R.1)) (v0 L, R.2) := by
  show _ → ai_ev ap_P 109 (0, [some (.ref 943), some (.int u1), some (.int u2), none, none], [], (v0 L, g)) _ _
  unfold fm_109
  refine ev_if 1 (p := u2 = 0) (a := 14) (b := 4) (T := ([some (.ref 943), some (.int u1), some (.int u2), none, none], [], (v0 L, g))) rfl ?_ ?_
  · refine ev_jm 3 (t := (19, [some (.ref 943), some (.int u1), some (.int u2), some (.int 0), some (.int 0)], [], (v0 L, g))) rfl ?_
    exact dh_109_19 L (g, u1, 0, 0) (some (.int u2)) _
  · refine ev_oi 4 (as := [.ref 943, .int 1, .int (am_i g 943 25)]) (pc := 13) (Lc := [some (.ref 943), some (.int u1), some (.int u2), none, none]) (st := []) (V := v0 L) (g1 := g) (e := ez_i) rfl (dm_22 L g 1 (am_i g 943 25)) (fun y1 g2 => ?_)
    exact fun hR => by cases hR; exact ev_rt 0 rfl
noncomputable def fj_33_21  (g : am_G) (u1 : Int32) (t0 : Int32) : Option (Int32 × am_G) := if (am_i g 943 24) = 0 then lo_i (fm_41 g u1 t0) fun y1 g2 => some (y1, g2) else if (am_i g 943 24) = 1 then lo_i (fm_86 g u1 t0) fun y3 g4 => some (y3, g4) else if (am_i g 943 24) = 2 then lo_i (fm_87 g u1) fun y5 g6 => some (y5, g6) else if (am_i g 943 24) = 3 then lo_i (fm_88 g u1 t0) fun y7 g8 => some (y7, g8) else if (am_i g 943 24) = 4 then lo_i (fm_100 g u1) fun y9 g10 => some (y9, g10) else if (am_i g 943 24) = 5 then lo_i (fm_106 g u1 t0) fun y11 g12 => some (y11, g12) else if (am_i g 943 24) = 6 then lo_i (fm_25 (am_si g 943 72 u1) 47) fun y13 g14 => some (y13, g14) else if (am_i g 943 24) = 7 then lo_i (fm_25 g 72) fun y15 g16 => some (y15, g16) else if (am_i g 943 24) = 8 then lo_i (fm_68 g u1 t0) fun y17 g18 => some (y17, g18) else if (am_i g 943 24) = 9 then lo_i (fm_67 g u1 t0) fun y19 g20 => some (y19, g20) else if (am_i g 943 24) = 10 then lo_i (fm_66 g u1 t0) fun y21 g22 => some (y21, g22) else if (am_i g 943 24) = 11 then if t0 = 0 then lo_i (fm_25 (am_si g 943 72 u1) 102) fun y23 g24 => some (y23, g24) else lo_i (fm_22 (am_si g 943 72 u1) 1 (am_i g 943 25)) fun y25 g26 => some (y25, g26) else if (am_i g 943 24) = 12 then lo_i (fm_72 g u1 t0) fun y27 g28 => some (y27, g28) else if (am_i g 943 24) = 13 then lo_i (fm_73 g u1 t0) fun y29 g30 => some (y29, g30) else if (am_i g 943 24) = 14 then lo_i (fm_107 g u1 t0) fun y31 g32 => some (y31, g32) else lo_i (fm_109 g u1 t0) fun y33 g34 => some (y33, g34)
theorem dj_33_21 (L : Nat)   (g : am_G) (u1 : Int32) (t0 : Int32) (w2 : Option Value) (R : Int32 × am_G) : fj_33_21  g u1 t0 = some R → ai_ev ap_P 33 (21, [some (.ref 943), some (.int u1), w2], [.int t0], (v0 L, g)) (.inl (ez_i R.1)) (v0 L, R.2) := by
  unfold fj_33_21
  refine ev_sw 3 (ps := [(0, 100), (1, 107), (2, 114), (3, 120), (4, 127), (5, 133), (6, 140), (7, 152), (8, 159), (9, 166), (10, 173), (11, 180), (12, 208), (13, 215), (14, 222)]) (d := 229) (x := (am_i g 943 24)) (T := ([some (.ref 943), some (.int u1), some (.int t0)], [], (v0 L, g))) rfl ?_
  refine sw_c ?_ ?_
  · refine ev_oi 3 (as := [.ref 943, .int u1, .int t0]) (pc := 106) (Lc := [some (.ref 943), some (.int u1), some (.int t0)]) (st := []) (V := v0 L) (g1 := g) (e := ez_i) rfl (dm_41 L g u1 t0) (fun y1 g2 => ?_)
    exact fun hR => by cases hR; exact ev_rt 0 rfl
  refine sw_c ?_ ?_
  · refine ev_oi 3 (as := [.ref 943, .int u1, .int t0]) (pc := 113) (Lc := [some (.ref 943), some (.int u1), some (.int t0)]) (st := []) (V := v0 L) (g1 := g) (e := ez_i) rfl (dm_86 L g u1 t0) (fun y3 g4 => ?_)
    exact fun hR => by cases hR; exact ev_rt 0 rfl
  refine sw_c ?_ ?_
  · refine ev_oi 2 (as := [.ref 943, .int u1]) (pc := 119) (Lc := [some (.ref 943), some (.int u1), some (.int t0)]) (st := []) (V := v0 L) (g1 := g) (e := ez_i) rfl (dm_87 L g u1) (fun y5 g6 => ?_)
    exact fun hR => by cases hR; exact ev_rt 0 rfl
  refine sw_c ?_ ?_
  · refine ev_oi 3 (as := [.ref 943, .int u1, .int t0]) (pc := 126) (Lc := [some (.ref 943), some (.int u1), some (.int t0)]) (st := []) (V := v0 L) (g1 := g) (e := ez_i) rfl (dm_88 L g u1 t0) (fun y7 g8 => ?_)
    exact fun hR => by cases hR; exact ev_rt 0 rfl
  refine sw_c ?_ ?_
  · refine ev_oi 2 (as := [.ref 943, .int u1]) (pc := 132) (Lc := [some (.ref 943), some (.int u1), some (.int t0)]) (st := []) (V := v0 L) (g1 := g) (e := ez_i) rfl (dm_100 L g u1) (fun y9 g10 => ?_)
    exact fun hR => by cases hR; exact ev_rt 0 rfl
  refine sw_c ?_ ?_
  · refine ev_oi 3 (as := [.ref 943, .int u1, .int t0]) (pc := 139) (Lc := [some (.ref 943), some (.int u1), some (.int t0)]) (st := []) (V := v0 L) (g1 := g) (e := ez_i) rfl (dm_106 L g u1 t0) (fun y11 g12 => ?_)
    exact fun hR => by cases hR; exact ev_rt 0 rfl
  refine sw_c ?_ ?_
  · refine ev_oi 5 (as := [.ref 943, .int 47]) (pc := 151) (Lc := [some (.ref 943), some (.int u1), some (.int t0)]) (st := []) (V := v0 L) (g1 := (am_si g 943 72 u1)) (e := ez_i) rfl (dm_25 L (am_si g 943 72 u1) 47) (fun y13 g14 => ?_)
    exact fun hR => by cases hR; exact ev_rt 0 rfl
  refine sw_c ?_ ?_
  · refine ev_oi 2 (as := [.ref 943, .int 72]) (pc := 158) (Lc := [some (.ref 943), some (.int u1), some (.int t0)]) (st := []) (V := v0 L) (g1 := g) (e := ez_i) rfl (dm_25 L g 72) (fun y15 g16 => ?_)
    exact fun hR => by cases hR; exact ev_rt 0 rfl
  refine sw_c ?_ ?_
  · refine ev_oi 3 (as := [.ref 943, .int u1, .int t0]) (pc := 165) (Lc := [some (.ref 943), some (.int u1), some (.int t0)]) (st := []) (V := v0 L) (g1 := g) (e := ez_i) rfl (dm_68 L g u1 t0) (fun y17 g18 => ?_)
    exact fun hR => by cases hR; exact ev_rt 0 rfl
  refine sw_c ?_ ?_
  · refine ev_oi 3 (as := [.ref 943, .int u1, .int t0]) (pc := 172) (Lc := [some (.ref 943), some (.int u1), some (.int t0)]) (st := []) (V := v0 L) (g1 := g) (e := ez_i) rfl (dm_67 L g u1 t0) (fun y19 g20 => ?_)
    exact fun hR => by cases hR; exact ev_rt 0 rfl
  refine sw_c ?_ ?_
  · refine ev_oi 3 (as := [.ref 943, .int u1, .int t0]) (pc := 179) (Lc := [some (.ref 943), some (.int u1), some (.int t0)]) (st := []) (V := v0 L) (g1 := g) (e := ez_i) rfl (dm_66 L g u1 t0) (fun y21 g22 => ?_)
    exact fun hR => by cases hR; exact ev_rt 0 rfl
  refine sw_c ?_ ?_
  · refine ev_if 4 (p := t0 = 0) (a := 201) (b := 189) (T := ([some (.ref 943), some (.int u1), some (.int t0)], [], (v0 L, (am_si g 943 72 u1)))) rfl ?_ ?_
    · refine ev_oi 2 (as := [.ref 943, .int 102]) (pc := 207) (Lc := [some (.ref 943), some (.int u1), some (.int t0)]) (st := []) (V := v0 L) (g1 := (am_si g 943 72 u1)) (e := ez_i) rfl (dm_25 L (am_si g 943 72 u1) 102) (fun y23 g24 => ?_)
      exact fun hR => by cases hR; exact ev_rt 0 rfl
    · refine ev_oi 4 (as := [.ref 943, .int 1, .int (am_i g 943 25)]) (pc := 198) (Lc := [some (.ref 943), some (.int u1), some (.int t0)]) (st := []) (V := v0 L) (g1 := (am_si g 943 72 u1)) (e := ez_i) rfl (dm_22 L (am_si g 943 72 u1) 1 (am_i g 943 25)) (fun y25 g26 => ?_)
      exact fun hR => by cases hR; exact ev_rt 1 rfl
  refine sw_c ?_ ?_
  · refine ev_oi 3 (as := [.ref 943, .int u1, .int t0]) (pc := 214) (Lc := [some (.ref 943), some (.int u1), some (.int t0)]) (st := []) (V := v0 L) (g1 := g) (e := ez_i) rfl (dm_72 L g u1 t0) (fun y27 g28 => ?_)
    exact fun hR => by cases hR; exact ev_rt 0 rfl
  refine sw_c ?_ ?_
  · refine ev_oi 3 (as := [.ref 943, .int u1, .int t0]) (pc := 221) (Lc := [some (.ref 943), some (.int u1), some (.int t0)]) (st := []) (V := v0 L) (g1 := g) (e := ez_i) rfl (dm_73 L g u1 t0) (fun y29 g30 => ?_)
    exact fun hR => by cases hR; exact ev_rt 0 rfl
  refine sw_c ?_ ?_
  · refine ev_oi 3 (as := [.ref 943, .int u1, .int t0]) (pc := 228) (Lc := [some (.ref 943), some (.int u1), some (.int t0)]) (st := []) (V := v0 L) (g1 := g) (e := ez_i) rfl (dm_107 L g u1 t0) (fun y31 g32 => ?_)
    exact fun hR => by cases hR; exact ev_rt 0 rfl
  refine sw_n ?_
  refine ev_oi 3 (as := [.ref 943, .int u1, .int t0]) (pc := 235) (Lc := [some (.ref 943), some (.int u1), some (.int t0)]) (st := []) (V := v0 L) (g1 := g) (e := ez_i) rfl (dm_109 L g u1 t0) (fun y33 g34 => ?_)
  exact fun hR => by cases hR; exact ev_rt 0 rfl
/-- DeclaredMarkupModel.named()I -/
noncomputable def fm_33 (g : am_G)  : Option (Int32 × am_G) := lo_i (fm_29 g ) fun y1 g2 => lo_g (ai_in y1 6000) (if (am_i g2 953 y1.toNatClampNeg) ≤ 60 then fj_33_21 g2 y1 0 else fj_33_21 g2 y1 1)
theorem dm_33 (L : Nat) (g : am_G)  (R : Int32 × am_G) : fm_33 g  = some R → ai_ev ap_P 33 (ai_e0 ap_P 33 [.ref 943] (v0 L, g)) (.inl (ez_i R.1)) (v0 L, R.2) := by
  show _ → ai_ev ap_P 33 (0, [some (.ref 943), none, none], [], (v0 L, g)) _ _
  unfold fm_33
  refine ev_oi 1 (as := [.ref 943]) (pc := 4) (Lc := [some (.ref 943), none, none]) (st := []) (V := v0 L) (g1 := g) (e := ez_i) rfl (dm_29 L g ) (fun y1 g2 => ?_)
  refine ev_gd (c := ai_in y1 6000) (fun hc3 => ?_)
  refine ev_jm 4 (t := (11, [some (.ref 943), some (.int y1), none], [.int (am_i g2 953 y1.toNatClampNeg)], (v0 L, g2))) (ai_gd (c := ai_in y1 6000) rfl hc3) ?_
  refine ev_if 1 (p := (am_i g2 953 y1.toNatClampNeg) ≤ 60) (a := 20) (b := 16) (T := ([some (.ref 943), some (.int y1), none], [], (v0 L, g2))) rfl ?_ ?_
  · refine ev_jm 0 (t := (21, [some (.ref 943), some (.int y1), none], [.int 0], (v0 L, g2))) rfl ?_
    exact dj_33_21 L g2 y1 0 none _
  · refine ev_jm 1 (t := (21, [some (.ref 943), some (.int y1), none], [.int 1], (v0 L, g2))) rfl ?_
    exact dj_33_21 L g2 y1 1 none _
noncomputable def fj_103_104  (g : am_G) (t0 : Int32) : Option (Int32 × am_G) := if t0 = 0 then lo_i (fm_21 g 13 0) fun y1 g2 => some (y1, g2) else some (0, (am_si (am_si (am_si g 943 9 ((am_i g 943 9) - 1)) 943 8 ((am_i g 943 8) - 1)) 943 43 0))
theorem dj_103_104 (L : Nat)   (g : am_G) (t0 : Int32) (w1 w2 : Option Value) (R : Int32 × am_G) : fj_103_104  g t0 = some R → ai_ev ap_P 103 (104, [some (.ref 943), w1, w2], [.int t0], (v0 L, g)) (.inl (ez_i R.1)) (v0 L, R.2) := by
  unfold fj_103_104
  refine ev_in 2 (p := t0 = 0) (a := 117) (b := 109) (T := ([some (.ref 943), none, some (.int t0)], [], (v0 L, g))) rfl ?_ ?_
  · refine ev_oi 3 (as := [.ref 943, .int 13, .int 0]) (pc := 116) (Lc := [some (.ref 943), none, some (.int t0)]) (st := []) (V := v0 L) (g1 := g) (e := ez_i) rfl (dm_21 L g 13 0) (fun y1 g2 => ?_)
    exact fun hR => by cases hR; exact ev_rt 0 rfl
  · exact fun hR => by cases hR; exact ev_rt 16 rfl
noncomputable def fj_103_59  (g : am_G) : Option (Int32 × am_G) := fj_103_104 g 0
theorem dj_103_59 (L : Nat)   (g : am_G) (w1 w2 : Option Value) (R : Int32 × am_G) : fj_103_59  g = some R → ai_ev ap_P 103 (59, [some (.ref 943), w1, w2], [], (v0 L, g)) (.inl (ez_i R.1)) (v0 L, R.2) := by
  unfold fj_103_59
  refine ev_jm 1 (t := (104, [some (.ref 943), none, none], [.int 0], (v0 L, g))) rfl ?_
  exact dj_103_104 L g 0 none none _
noncomputable def fj_103_17  (g : am_G) : Option (Int32 × am_G) := lo_l ((am_i g 943 9) - 1) fun x1 => lo_g (ai_in x1 16) (if (am_i g 948 x1.toNatClampNeg) = 0 then if (am_i g 943 26) = 50 then if (am_i g 943 106) = (am_i g 949 x1.toNatClampNeg) then fj_103_104 g 1 else fj_103_59 g else fj_103_59 g else if (am_i g 948 x1.toNatClampNeg) = 1 then if (am_i g 943 26) = 58 then fj_103_104 g 1 else fj_103_104 g 0 else if (am_i g 943 26) = 45 then fj_103_104 g 1 else fj_103_104 g 0)
theorem dj_103_17 (L : Nat)   (g : am_G) (w1 w2 : Option Value) (R : Int32 × am_G) : fj_103_17  g = some R → ai_ev ap_P 103 (17, [some (.ref 943), w1, w2], [], (v0 L, g)) (.inl (ez_i R.1)) (v0 L, R.2) := by
  unfold fj_103_17
  refine ev_jm 3 (t := (23, [some (.ref 943), none, none], [.int ((am_i g 943 9) - 1)], (v0 L, g))) rfl ?_
  refine lo_e (S := fun (x1 : Int32) => (23, [some (.ref 943), none, none], [.int x1], (v0 L, g))) (fun x1 => ?_)
  refine ev_gd (c := ai_in x1 16) (fun hc2 => ?_)
  refine ev_jm 4 (t := (30, [some (.ref 943), some (.int x1), none], [.int (am_i g 948 x1.toNatClampNeg)], (v0 L, g))) (ai_gd (c := ai_in x1 16) rfl hc2) ?_
  refine ev_in 0 (p := (am_i g 948 x1.toNatClampNeg) = 0) (a := 63) (b := 33) (T := ([some (.ref 943), some (.int x1), none], [], (v0 L, g))) rfl ?_ ?_
  · refine ev_in 3 (p := (am_i g 943 26) = 50) (a := 59) (b := 42) (T := ([some (.ref 943), some (.int x1), none], [], (v0 L, g))) rfl ?_ ?_
    · refine ev_jm 5 (t := (52, [some (.ref 943), some (.int x1), none], [.int (am_i g 949 x1.toNatClampNeg), .int (am_i g 943 106)], (v0 L, g))) (ai_gd (c := ai_in x1 16) rfl hc2) ?_
      refine ev_in 0 (p := (am_i g 943 106) = (am_i g 949 x1.toNatClampNeg)) (a := 59) (b := 55) (T := ([some (.ref 943), some (.int x1), none], [], (v0 L, g))) rfl ?_ ?_
      · refine ev_jm 1 (t := (104, [some (.ref 943), some (.int x1), none], [.int 1], (v0 L, g))) rfl ?_
        exact dj_103_104 L g 1 (some (.int x1)) none _
      · exact dj_103_59 L g (some (.int x1)) none _
    · exact dj_103_59 L g (some (.int x1)) none _
  · refine ev_jm 3 (t := (69, [some (.ref 943), some (.int x1), none], [.int (am_i g 948 x1.toNatClampNeg)], (v0 L, g))) (ai_gd (c := ai_in x1 16) rfl hc2) ?_
    refine ev_in 1 (p := (am_i g 948 x1.toNatClampNeg) = 1) (a := 90) (b := 73) (T := ([some (.ref 943), some (.int x1), none], [], (v0 L, g))) rfl ?_ ?_
    · refine ev_in 3 (p := (am_i g 943 26) = 58) (a := 86) (b := 82) (T := ([some (.ref 943), some (.int x1), none], [], (v0 L, g))) rfl ?_ ?_
      · refine ev_jm 1 (t := (104, [some (.ref 943), some (.int x1), none], [.int 1], (v0 L, g))) rfl ?_
        exact dj_103_104 L g 1 (some (.int x1)) none _
      · refine ev_jm 1 (t := (104, [some (.ref 943), some (.int x1), none], [.int 0], (v0 L, g))) rfl ?_
        exact dj_103_104 L g 0 (some (.int x1)) none _
    · refine ev_in 3 (p := (am_i g 943 26) = 45) (a := 103) (b := 99) (T := ([some (.ref 943), some (.int x1), none], [], (v0 L, g))) rfl ?_ ?_
      · refine ev_jm 1 (t := (104, [some (.ref 943), some (.int x1), none], [.int 1], (v0 L, g))) rfl ?_
        exact dj_103_104 L g 1 (some (.int x1)) none _
      · refine ev_jm 0 (t := (104, [some (.ref 943), some (.int x1), none], [.int 0], (v0 L, g))) rfl ?_
        exact dj_103_104 L g 0 (some (.int x1)) none _
/-- DeclaredMarkupModel.left()I -/
noncomputable def fm_103 (g : am_G)  : Option (Int32 × am_G) := if (am_i g 943 26) = 5 then lo_i (fm_33 g ) fun y1 g2 => if (0 : Int32) ≤ y1 then fj_103_17 g2 else some ((-1), g2) else fj_103_17 g
theorem dm_103 (L : Nat) (g : am_G)  (R : Int32 × am_G) : fm_103 g  = some R → ai_ev ap_P 103 (ai_e0 ap_P 103 [.ref 943] (v0 L, g)) (.inl (ez_i R.1)) (v0 L, R.2) := by
  show _ → ai_ev ap_P 103 (0, [some (.ref 943), none, none], [], (v0 L, g)) _ _
  unfold fm_103
  refine ev_in 3 (p := (am_i g 943 26) = 5) (a := 17) (b := 8) (T := ([some (.ref 943), none, none], [], (v0 L, g))) rfl ?_ ?_
  · refine ev_oi 1 (as := [.ref 943]) (pc := 12) (Lc := [some (.ref 943), none, none]) (st := []) (V := v0 L) (g1 := g) (e := ez_i) rfl (dm_33 L g ) (fun y1 g2 => ?_)
    refine ev_if 0 (p := (0 : Int32) ≤ y1) (a := 17) (b := 15) (T := ([some (.ref 943), none, none], [], (v0 L, g2))) rfl ?_ ?_
    · exact dj_103_17 L g2 none none _
    · exact fun hR => by cases hR; exact ev_rt 1 rfl
  · exact dj_103_17 L g none none _
noncomputable def fj_17_31 (g : am_G)  (u0 : Int32) : Option (Int32) := if u0 < 97 then some 0 else if (122 : Int32) < u0 then some 0 else some 1
theorem dj_17_31 (L : Nat) (g : am_G)   (u0 : Int32) (R : Int32) : fj_17_31 g  u0 = some R → ai_ev ap_P 17 (31, [some (.int u0)], [], (v0 L, g)) (.inl (ez_i R)) (v0 L, g) := by
  unfold fj_17_31
  refine ev_if 2 (p := u0 < 97) (a := 47) (b := 37) (T := ([some (.int u0)], [], (v0 L, g))) rfl ?_ ?_
  · exact fun hR => by cases hR; exact ev_rt 1 rfl
  · refine ev_if 2 (p := (122 : Int32) < u0) (a := 47) (b := 43) (T := ([some (.int u0)], [], (v0 L, g))) rfl ?_ ?_
    · exact fun hR => by cases hR; exact ev_rt 1 rfl
    · exact fun hR => by cases hR; exact ev_rt 2 rfl
noncomputable def fj_17_145 (g : am_G)  (u0 : Int32) : Option (Int32) := if u0 < 11264 then some 0 else if (12272 : Int32) ≤ u0 then some 0 else some 1
theorem dj_17_145 (L : Nat) (g : am_G)   (u0 : Int32) (R : Int32) : fj_17_145 g  u0 = some R → ai_ev ap_P 17 (145, [some (.int u0)], [], (v0 L, g)) (.inl (ez_i R)) (v0 L, g) := by
  unfold fj_17_145
  refine ev_if 2 (p := u0 < 11264) (a := 163) (b := 152) (T := ([some (.int u0)], [], (v0 L, g))) rfl ?_ ?_
  · exact fun hR => by cases hR; exact ev_rt 1 rfl
  · refine ev_if 2 (p := (12272 : Int32) ≤ u0) (a := 163) (b := 159) (T := ([some (.int u0)], [], (v0 L, g))) rfl ?_ ?_
    · exact fun hR => by cases hR; exact ev_rt 1 rfl
    · exact fun hR => by cases hR; exact ev_rt 2 rfl
noncomputable def fj_17_195 (g : am_G)  (u0 : Int32) : Option (Int32) := if u0 < 65536 then some 0 else if (983040 : Int32) ≤ u0 then some 0 else some 1
theorem dj_17_195 (L : Nat) (g : am_G)   (u0 : Int32) (R : Int32) : fj_17_195 g  u0 = some R → ai_ev ap_P 17 (195, [some (.int u0)], [], (v0 L, g)) (.inl (ez_i R)) (v0 L, g) := by
  unfold fj_17_195
  refine ev_if 2 (p := u0 < 65536) (a := 211) (b := 201) (T := ([some (.int u0)], [], (v0 L, g))) rfl ?_ ?_
  · exact fun hR => by cases hR; exact ev_rt 1 rfl
  · refine ev_if 2 (p := (983040 : Int32) ≤ u0) (a := 211) (b := 207) (T := ([some (.int u0)], [], (v0 L, g))) rfl ?_ ?_
    · exact fun hR => by cases hR; exact ev_rt 1 rfl
    · exact fun hR => by cases hR; exact ev_rt 2 rfl
noncomputable def fj_17_183 (g : am_G)  (u0 : Int32) : Option (Int32) := if u0 < 65008 then fj_17_195 g u0 else if u0 < 65534 then some 1 else fj_17_195 g u0
theorem dj_17_183 (L : Nat) (g : am_G)   (u0 : Int32) (R : Int32) : fj_17_183 g  u0 = some R → ai_ev ap_P 17 (183, [some (.int u0)], [], (v0 L, g)) (.inl (ez_i R)) (v0 L, g) := by
  unfold fj_17_183
  refine ev_if 2 (p := u0 < 65008) (a := 195) (b := 189) (T := ([some (.int u0)], [], (v0 L, g))) rfl ?_ ?_
  · exact dj_17_195 L g u0 _
  · refine ev_if 2 (p := u0 < 65534) (a := 207) (b := 195) (T := ([some (.int u0)], [], (v0 L, g))) rfl ?_ ?_
    · exact fun hR => by cases hR; exact ev_rt 2 rfl
    · exact dj_17_195 L g u0 _
/-- DeclaredMarkupModel.isBegin(I)Z -/
noncomputable def fm_17 (g : am_G) (u0 : Int32) : Option (Int32) := if (128 : Int32) ≤ u0 then if (768 : Int32) ≤ u0 then if (8192 : Int32) ≤ u0 then if (12289 : Int32) ≤ u0 then if u0 < 55296 then some 1 else if u0 < 63744 then fj_17_183 g u0 else if u0 < 64976 then some 1 else fj_17_183 g u0 else if u0 = 8204 then some 1 else if u0 = 8205 then some 1 else if u0 < 8304 then fj_17_145 g u0 else if u0 < 8592 then some 1 else fj_17_145 g u0 else if u0 < 880 then some 0 else if u0 = 894 then some 0 else some 1 else if u0 < 192 then some 0 else if u0 = 215 then some 0 else if u0 = 247 then some 0 else some 1 else if u0 = 58 then some 1 else if u0 = 95 then some 1 else if u0 < 65 then fj_17_31 g u0 else if u0 ≤ 90 then some 1 else fj_17_31 g u0
theorem dm_17 (L : Nat) (g : am_G) (u0 : Int32) (R : Int32) : fm_17 g u0 = some R → ai_ev ap_P 17 (ai_e0 ap_P 17 [.int u0] (v0 L, g)) (.inl (ez_i R)) (v0 L, g) := by
  show _ → ai_ev ap_P 17 (0, [some (.int u0)], [], (v0 L, g)) _ _
  unfold fm_17
  refine ev_if 2 (p := (128 : Int32) ≤ u0) (a := 49) (b := 7) (T := ([some (.int u0)], [], (v0 L, g))) rfl ?_ ?_
  · refine ev_if 2 (p := (768 : Int32) ≤ u0) (a := 83) (b := 56) (T := ([some (.int u0)], [], (v0 L, g))) rfl ?_ ?_
    · refine ev_if 2 (p := (8192 : Int32) ≤ u0) (a := 110) (b := 90) (T := ([some (.int u0)], [], (v0 L, g))) rfl ?_ ?_
      · refine ev_if 2 (p := (12289 : Int32) ≤ u0) (a := 165) (b := 117) (T := ([some (.int u0)], [], (v0 L, g))) rfl ?_ ?_
        · refine ev_if 2 (p := u0 < 55296) (a := 207) (b := 171) (T := ([some (.int u0)], [], (v0 L, g))) rfl ?_ ?_
          · exact fun hR => by cases hR; exact ev_rt 2 rfl
          · refine ev_if 2 (p := u0 < 63744) (a := 183) (b := 177) (T := ([some (.int u0)], [], (v0 L, g))) rfl ?_ ?_
            · exact dj_17_183 L g u0 _
            · refine ev_if 2 (p := u0 < 64976) (a := 207) (b := 183) (T := ([some (.int u0)], [], (v0 L, g))) rfl ?_ ?_
              · exact fun hR => by cases hR; exact ev_rt 2 rfl
              · exact dj_17_183 L g u0 _
        · refine ev_if 2 (p := u0 = 8204) (a := 159) (b := 124) (T := ([some (.int u0)], [], (v0 L, g))) rfl ?_ ?_
          · exact fun hR => by cases hR; exact ev_rt 2 rfl
          · refine ev_if 2 (p := u0 = 8205) (a := 159) (b := 131) (T := ([some (.int u0)], [], (v0 L, g))) rfl ?_ ?_
            · exact fun hR => by cases hR; exact ev_rt 2 rfl
            · refine ev_if 2 (p := u0 < 8304) (a := 145) (b := 138) (T := ([some (.int u0)], [], (v0 L, g))) rfl ?_ ?_
              · exact dj_17_145 L g u0 _
              · refine ev_if 2 (p := u0 < 8592) (a := 159) (b := 145) (T := ([some (.int u0)], [], (v0 L, g))) rfl ?_ ?_
                · exact fun hR => by cases hR; exact ev_rt 2 rfl
                · exact dj_17_145 L g u0 _
      · refine ev_if 2 (p := u0 < 880) (a := 108) (b := 97) (T := ([some (.int u0)], [], (v0 L, g))) rfl ?_ ?_
        · exact fun hR => by cases hR; exact ev_rt 1 rfl
        · refine ev_if 2 (p := u0 = 894) (a := 108) (b := 104) (T := ([some (.int u0)], [], (v0 L, g))) rfl ?_ ?_
          · exact fun hR => by cases hR; exact ev_rt 1 rfl
          · exact fun hR => by cases hR; exact ev_rt 2 rfl
    · refine ev_if 2 (p := u0 < 192) (a := 81) (b := 63) (T := ([some (.int u0)], [], (v0 L, g))) rfl ?_ ?_
      · exact fun hR => by cases hR; exact ev_rt 1 rfl
      · refine ev_if 2 (p := u0 = 215) (a := 81) (b := 70) (T := ([some (.int u0)], [], (v0 L, g))) rfl ?_ ?_
        · exact fun hR => by cases hR; exact ev_rt 1 rfl
        · refine ev_if 2 (p := u0 = 247) (a := 81) (b := 77) (T := ([some (.int u0)], [], (v0 L, g))) rfl ?_ ?_
          · exact fun hR => by cases hR; exact ev_rt 1 rfl
          · exact fun hR => by cases hR; exact ev_rt 2 rfl
  · refine ev_if 2 (p := u0 = 58) (a := 43) (b := 13) (T := ([some (.int u0)], [], (v0 L, g))) rfl ?_ ?_
    · exact fun hR => by cases hR; exact ev_rt 2 rfl
    · refine ev_if 2 (p := u0 = 95) (a := 43) (b := 19) (T := ([some (.int u0)], [], (v0 L, g))) rfl ?_ ?_
      · exact fun hR => by cases hR; exact ev_rt 2 rfl
      · refine ev_if 2 (p := u0 < 65) (a := 31) (b := 25) (T := ([some (.int u0)], [], (v0 L, g))) rfl ?_ ?_
        · exact dj_17_31 L g u0 _
        · refine ev_if 2 (p := u0 ≤ 90) (a := 43) (b := 31) (T := ([some (.int u0)], [], (v0 L, g))) rfl ?_ ?_
          · exact fun hR => by cases hR; exact ev_rt 2 rfl
          · exact dj_17_31 L g u0 _
noncomputable def fj_18_52 (g : am_G)  (u0 : Int32) : Option (Int32) := if u0 = 8255 then some 1 else if u0 = 8256 then some 1 else some 0
theorem dj_18_52 (L : Nat) (g : am_G)   (u0 : Int32) (R : Int32) : fj_18_52 g  u0 = some R → ai_ev ap_P 18 (52, [some (.int u0)], [], (v0 L, g)) (.inl (ez_i R)) (v0 L, g) := by
  unfold fj_18_52
  refine ev_if 2 (p := u0 = 8255) (a := 66) (b := 59) (T := ([some (.int u0)], [], (v0 L, g))) rfl ?_ ?_
  · exact fun hR => by cases hR; exact ev_rt 2 rfl
  · refine ev_in 2 (p := u0 = 8256) (a := 70) (b := 66) (T := ([some (.int u0)], [], (v0 L, g))) rfl ?_ ?_
    · exact fun hR => by cases hR; exact ev_rt 2 rfl
    · exact fun hR => by cases hR; exact ev_rt 1 rfl
noncomputable def fj_18_31 (g : am_G)  (u0 : Int32) : Option (Int32) := if u0 = 183 then some 1 else if u0 < 768 then fj_18_52 g u0 else if u0 < 880 then some 1 else fj_18_52 g u0
theorem dj_18_31 (L : Nat) (g : am_G)   (u0 : Int32) (R : Int32) : fj_18_31 g  u0 = some R → ai_ev ap_P 18 (31, [some (.int u0)], [], (v0 L, g)) (.inl (ez_i R)) (v0 L, g) := by
  unfold fj_18_31
  refine ev_if 2 (p := u0 = 183) (a := 66) (b := 38) (T := ([some (.int u0)], [], (v0 L, g))) rfl ?_ ?_
  · exact fun hR => by cases hR; exact ev_rt 2 rfl
  · refine ev_if 2 (p := u0 < 768) (a := 52) (b := 45) (T := ([some (.int u0)], [], (v0 L, g))) rfl ?_ ?_
    · exact dj_18_52 L g u0 _
    · refine ev_if 2 (p := u0 < 880) (a := 66) (b := 52) (T := ([some (.int u0)], [], (v0 L, g))) rfl ?_ ?_
      · exact fun hR => by cases hR; exact ev_rt 2 rfl
      · exact dj_18_52 L g u0 _
/-- DeclaredMarkupModel.isPart(I)Z -/
noncomputable def fm_18 (g : am_G) (u0 : Int32) : Option (Int32) := lo_p (fm_17 g u0) fun y1 => if y1 = 0 then if u0 = 45 then some 1 else if u0 = 46 then some 1 else if u0 < 48 then fj_18_31 g u0 else if u0 ≤ 57 then some 1 else fj_18_31 g u0 else some 1
theorem dm_18 (L : Nat) (g : am_G) (u0 : Int32) (R : Int32) : fm_18 g u0 = some R → ai_ev ap_P 18 (ai_e0 ap_P 18 [.int u0] (v0 L, g)) (.inl (ez_i R)) (v0 L, g) := by
  show _ → ai_ev ap_P 18 (0, [some (.int u0)], [], (v0 L, g)) _ _
  unfold fm_18
  refine ev_op 1 (as := [.int u0]) (pc := 4) (Lc := [some (.int u0)]) (st := []) (h1 := (v0 L, g)) (e := ez_i) rfl (dm_17 L g u0) (fun y1 => ?_)
  refine ev_in 0 (p := y1 = 0) (a := 66) (b := 7) (T := ([some (.int u0)], [], (v0 L, g))) rfl ?_ ?_
  · refine ev_if 2 (p := u0 = 45) (a := 66) (b := 13) (T := ([some (.int u0)], [], (v0 L, g))) rfl ?_ ?_
    · exact fun hR => by cases hR; exact ev_rt 2 rfl
    · refine ev_if 2 (p := u0 = 46) (a := 66) (b := 19) (T := ([some (.int u0)], [], (v0 L, g))) rfl ?_ ?_
      · exact fun hR => by cases hR; exact ev_rt 2 rfl
      · refine ev_if 2 (p := u0 < 48) (a := 31) (b := 25) (T := ([some (.int u0)], [], (v0 L, g))) rfl ?_ ?_
        · exact dj_18_31 L g u0 _
        · refine ev_if 2 (p := u0 ≤ 57) (a := 66) (b := 31) (T := ([some (.int u0)], [], (v0 L, g))) rfl ?_ ?_
          · exact fun hR => by cases hR; exact ev_rt 2 rfl
          · exact dj_18_31 L g u0 _
  · exact fun hR => by cases hR; exact ev_rt 2 rfl
/-- DeclaredMarkupModel.wrong()I -/
noncomputable def fm_23 (g : am_G)  : Option (Int32 × am_G) := lo_i (fm_21 g 2 (am_i g 943 30)) fun y1 g2 => some (y1, g2)
theorem dm_23 (L : Nat) (g : am_G)  (R : Int32 × am_G) : fm_23 g  = some R → ai_ev ap_P 23 (ai_e0 ap_P 23 [.ref 943] (v0 L, g)) (.inl (ez_i R.1)) (v0 L, R.2) := by
  show _ → ai_ev ap_P 23 (0, [some (.ref 943)], [], (v0 L, g)) _ _
  unfold fm_23
  refine ev_oi 4 (as := [.ref 943, .int 2, .int (am_i g 943 30)]) (pc := 9) (Lc := [some (.ref 943)]) (st := []) (V := v0 L) (g1 := g) (e := ez_i) rfl (dm_21 L g 2 (am_i g 943 30)) (fun y1 g2 => ?_)
  exact fun hR => by cases hR; exact ev_rt 0 rfl
noncomputable def fj_35_14  (g : am_G) (u1 : Int32) (t0 : Int32) : Option (Int32 × am_G) := lo_l (t0 + (((am_j g 943 31) >>> ((5 * (((am_i g 943 32) - 1) - (am_i g 943 33))).toInt64 &&& 63)) &&& 31).toInt32) fun x1 => if u1 = x1 then if (am_i g 943 32) ≤ ((am_i g 943 33) + 1) then if (am_i g 943 35) = 7 then lo_i (fm_21 (am_si g 943 33 ((am_i g 943 33) + 1)) 10 (am_i g 943 36)) fun y4 g5 => some (y4, g5) else lo_i (fm_25 (am_si g 943 33 ((am_i g 943 33) + 1)) (am_i g 943 35)) fun y2 g3 => some (y2, g3) else some (0, (am_si g 943 33 ((am_i g 943 33) + 1))) else lo_i (fm_23 g ) fun y6 g7 => some (y6, g7)
theorem dj_35_14 (L : Nat)   (g : am_G) (u1 : Int32) (t0 : Int32) (w2 : Option Value) (R : Int32 × am_G) : fj_35_14  g u1 t0 = some R → ai_ev ap_P 35 (14, [some (.ref 943), some (.int u1), w2], [.int t0], (v0 L, g)) (.inl (ez_i R.1)) (v0 L, R.2) := by
  unfold fj_35_14
  refine ev_jm 15 (t := (38, [some (.ref 943), some (.int u1), none], [.int (t0 + (((am_j g 943 31) >>> ((5 * (((am_i g 943 32) - 1) - (am_i g 943 33))).toInt64 &&& 63)) &&& 31).toInt32)], (v0 L, g))) rfl ?_
  refine lo_e (S := fun (x1 : Int32) => (38, [some (.ref 943), some (.int u1), none], [.int x1], (v0 L, g))) (fun x1 => ?_)
  refine ev_if 3 (p := u1 = x1) (a := 49) (b := 44) (T := ([some (.ref 943), some (.int u1), some (.int x1)], [], (v0 L, g))) rfl ?_ ?_
  · refine ev_if 10 (p := (am_i g 943 32) ≤ ((am_i g 943 33) + 1)) (a := 72) (b := 70) (T := ([some (.ref 943), some (.int u1), some (.int x1)], [], (v0 L, (am_si g 943 33 ((am_i g 943 33) + 1))))) rfl ?_ ?_
    · refine ev_in 3 (p := (am_i g 943 35) = 7) (a := 94) (b := 81) (T := ([some (.ref 943), some (.int u1), some (.int x1)], [], (v0 L, (am_si g 943 33 ((am_i g 943 33) + 1))))) rfl ?_ ?_
      · refine ev_oi 4 (as := [.ref 943, .int 10, .int (am_i g 943 36)]) (pc := 91) (Lc := [some (.ref 943), some (.int u1), some (.int x1)]) (st := []) (V := v0 L) (g1 := (am_si g 943 33 ((am_i g 943 33) + 1))) (e := ez_i) rfl (dm_21 L (am_si g 943 33 ((am_i g 943 33) + 1)) 10 (am_i g 943 36)) (fun y4 g5 => ?_)
        exact fun hR => by cases hR; exact ev_rt 1 rfl
      · refine ev_oi 3 (as := [.ref 943, .int (am_i g 943 35)]) (pc := 102) (Lc := [some (.ref 943), some (.int u1), some (.int x1)]) (st := []) (V := v0 L) (g1 := (am_si g 943 33 ((am_i g 943 33) + 1))) (e := ez_i) rfl (dm_25 L (am_si g 943 33 ((am_i g 943 33) + 1)) (am_i g 943 35)) (fun y2 g3 => ?_)
        exact fun hR => by cases hR; exact ev_rt 0 rfl
    · exact fun hR => by cases hR; exact ev_rt 1 rfl
  · refine ev_oi 1 (as := [.ref 943]) (pc := 48) (Lc := [some (.ref 943), some (.int u1), some (.int x1)]) (st := []) (V := v0 L) (g1 := g) (e := ez_i) rfl (dm_23 L g ) (fun y6 g7 => ?_)
    exact fun hR => by cases hR; exact ev_rt 0 rfl
/-- DeclaredMarkupModel.wordStep(I)I -/
noncomputable def fm_35 (g : am_G) (u1 : Int32) : Option (Int32 × am_G) := if (am_i g 943 34) = 0 then fj_35_14 g u1 96 else fj_35_14 g u1 64
theorem dm_35 (L : Nat) (g : am_G) (u1 : Int32) (R : Int32 × am_G) : fm_35 g u1 = some R → ai_ev ap_P 35 (ai_e0 ap_P 35 [.ref 943, .int u1] (v0 L, g)) (.inl (ez_i R.1)) (v0 L, R.2) := by
  show _ → ai_ev ap_P 35 (0, [some (.ref 943), some (.int u1), none], [], (v0 L, g)) _ _
  unfold fm_35
  refine ev_if 2 (p := (am_i g 943 34) = 0) (a := 12) (b := 7) (T := ([some (.ref 943), some (.int u1), none], [], (v0 L, g))) rfl ?_ ?_
  · refine ev_jm 0 (t := (14, [some (.ref 943), some (.int u1), none], [.int 96], (v0 L, g))) rfl ?_
    exact dj_35_14 L g u1 96 none _
  · refine ev_jm 1 (t := (14, [some (.ref 943), some (.int u1), none], [.int 64], (v0 L, g))) rfl ?_
    exact dj_35_14 L g u1 64 none _
/-- DeclaredMarkupModel.miscStep(I)I -/
noncomputable def fm_115 (g : am_G) (u1 : Int32) : Option (Int32 × am_G) := lo_p (fm_16 g u1) fun y1 => if y1 = 0 then if u1 = 60 then lo_i (fm_25 g 1) fun y5 g6 => some (y5, g6) else lo_i (fm_23 g ) fun y3 g4 => some (y3, g4) else some (0, g)
theorem dm_115 (L : Nat) (g : am_G) (u1 : Int32) (R : Int32 × am_G) : fm_115 g u1 = some R → ai_ev ap_P 115 (ai_e0 ap_P 115 [.ref 943, .int u1] (v0 L, g)) (.inl (ez_i R.1)) (v0 L, R.2) := by
  show _ → ai_ev ap_P 115 (0, [some (.ref 943), some (.int u1)], [], (v0 L, g)) _ _
  unfold fm_115
  refine ev_op 1 (as := [.int u1]) (pc := 4) (Lc := [some (.ref 943), some (.int u1)]) (st := []) (h1 := (v0 L, g)) (e := ez_i) rfl (dm_16 L g u1) (fun y1 => ?_)
  refine ev_if 0 (p := y1 = 0) (a := 9) (b := 7) (T := ([some (.ref 943), some (.int u1)], [], (v0 L, g))) rfl ?_ ?_
  · refine ev_in 2 (p := u1 = 60) (a := 23) (b := 15) (T := ([some (.ref 943), some (.int u1)], [], (v0 L, g))) rfl ?_ ?_
    · refine ev_oi 2 (as := [.ref 943, .int 1]) (pc := 20) (Lc := [some (.ref 943), some (.int u1)]) (st := []) (V := v0 L) (g1 := g) (e := ez_i) rfl (dm_25 L g 1) (fun y5 g6 => ?_)
      exact fun hR => by cases hR; exact ev_rt 1 rfl
    · refine ev_oi 1 (as := [.ref 943]) (pc := 27) (Lc := [some (.ref 943), some (.int u1)]) (st := []) (V := v0 L) (g1 := g) (e := ez_i) rfl (dm_23 L g ) (fun y3 g4 => ?_)
      exact fun hR => by cases hR; exact ev_rt 0 rfl
  · exact fun hR => by cases hR; exact ev_rt 1 rfl
/-- DeclaredMarkupModel.noteOther()V -/
noncomputable def fm_45 (g : am_G)  : Option (am_G) := lo_g (ai_in ((am_i g 943 106) - 1) 40) (if (am_i g 992 (((am_i g 943 106) - 1)).toNatClampNeg) < 0 then some g else lo_g (ai_in (am_i g 992 (((am_i g 943 106) - 1)).toNatClampNeg) 40) (if (am_i g 958 ((am_i g 992 (((am_i g 943 106) - 1)).toNatClampNeg)).toNatClampNeg) = 0 then lo_p (fm_24 g 2) fun g4 => some g4 else some g))
theorem dm_45 (L : Nat) (g : am_G)  (R : am_G) : fm_45 g  = some R → ai_ev ap_P 45 (ai_e0 ap_P 45 [.ref 943] (v0 L, g)) (.inl none) (v0 L, R) := by
  show _ → ai_ev ap_P 45 (0, [some (.ref 943)], [], (v0 L, g)) _ _
  unfold fm_45
  refine ev_gd (c := ai_in ((am_i g 943 106) - 1) 40) (fun hc1 => ?_)
  refine ev_jm 6 (t := (11, [some (.ref 943)], [.int (am_i g 992 (((am_i g 943 106) - 1)).toNatClampNeg)], (v0 L, g))) (ai_gd (c := ai_in ((am_i g 943 106) - 1) 40) rfl hc1) ?_
  refine ev_if 0 (p := (am_i g 992 (((am_i g 943 106) - 1)).toNatClampNeg) < 0) (a := 38) (b := 14) (T := ([some (.ref 943)], [], (v0 L, g))) rfl ?_ ?_
  · exact fun hR => by cases hR; exact ev_rt 0 rfl
  · refine ev_jm 8 (t := (29, [some (.ref 943)], [.int (am_i g 992 (((am_i g 943 106) - 1)).toNatClampNeg), .ref 958], (v0 L, g))) (ai_gd (c := ai_in ((am_i g 943 106) - 1) 40) rfl hc1) ?_
    refine ev_gd (c := ai_in (am_i g 992 (((am_i g 943 106) - 1)).toNatClampNeg) 40) (fun hc2 => ?_)
    refine ev_jm 0 (t := (30, [some (.ref 943)], [.int (am_i g 958 ((am_i g 992 (((am_i g 943 106) - 1)).toNatClampNeg)).toNatClampNeg)], (v0 L, g))) (ai_gd (c := ai_in (am_i g 992 (((am_i g 943 106) - 1)).toNatClampNeg) 40) rfl hc2) ?_
    refine ev_in 0 (p := (am_i g 958 ((am_i g 992 (((am_i g 943 106) - 1)).toNatClampNeg)).toNatClampNeg) = 0) (a := 38) (b := 33) (T := ([some (.ref 943)], [], (v0 L, g))) rfl ?_ ?_
    · refine ev_ov0 2 (as := [.ref 943, .int 2]) (pc := 38) (Lc := [some (.ref 943)]) (st := []) (V := v0 L) (g1 := g) rfl (dm_24 L g 2) (fun g4 => ?_)
      exact fun hR => by cases hR; exact ev_rt 0 rfl
    · exact fun hR => by cases hR; exact ev_rt 0 rfl
noncomputable def fj_46_35  (g : am_G) : Option (am_G) := lo_p (fm_24 g 2) fun g2 => some g2
theorem dj_46_35 (L : Nat)   (g : am_G) (w1 : Option Value) (R : am_G) : fj_46_35  g = some R → ai_ev ap_P 46 (35, [some (.ref 943), w1], [], (v0 L, g)) (.inl none) (v0 L, R) := by
  unfold fj_46_35
  refine ev_ov0 2 (as := [.ref 943, .int 2]) (pc := 40) (Lc := [some (.ref 943), none]) (st := []) (V := v0 L) (g1 := g) rfl (dm_24 L g 2) (fun g2 => ?_)
  exact fun hR => by cases hR; exact ev_rt 0 rfl
/-- DeclaredMarkupModel.noteStrange()V -/
noncomputable def fm_46 (g : am_G)  : Option (am_G) := lo_g (ai_in ((am_i g 943 106) - 1) 40) (lo_l (am_i g 992 (((am_i g 943 106) - 1)).toNatClampNeg) fun x2 => if x2 < 0 then some g else lo_g (ai_in x2 40) (if (am_i g 958 x2.toNatClampNeg) = 0 then fj_46_35 g else if (am_i g 958 x2.toNatClampNeg) = 3 then fj_46_35 g else some g))
theorem dm_46 (L : Nat) (g : am_G)  (R : am_G) : fm_46 g  = some R → ai_ev ap_P 46 (ai_e0 ap_P 46 [.ref 943] (v0 L, g)) (.inl none) (v0 L, R) := by
  show _ → ai_ev ap_P 46 (0, [some (.ref 943), none], [], (v0 L, g)) _ _
  unfold fm_46
  refine ev_gd (c := ai_in ((am_i g 943 106) - 1) 40) (fun hc1 => ?_)
  refine ev_jm 6 (t := (11, [some (.ref 943), none], [.int (am_i g 992 (((am_i g 943 106) - 1)).toNatClampNeg)], (v0 L, g))) (ai_gd (c := ai_in ((am_i g 943 106) - 1) 40) rfl hc1) ?_
  refine lo_e (S := fun (x2 : Int32) => (11, [some (.ref 943), none], [.int x2], (v0 L, g))) (fun x2 => ?_)
  refine ev_if 2 (p := x2 < 0) (a := 40) (b := 16) (T := ([some (.ref 943), some (.int x2)], [], (v0 L, g))) rfl ?_ ?_
  · exact fun hR => by cases hR; exact ev_rt 0 rfl
  · refine ev_gd (c := ai_in x2 40) (fun hc3 => ?_)
    refine ev_jm 3 (t := (22, [some (.ref 943), some (.int x2)], [.int (am_i g 958 x2.toNatClampNeg)], (v0 L, g))) (ai_gd (c := ai_in x2 40) rfl hc3) ?_
    refine ev_if 0 (p := (am_i g 958 x2.toNatClampNeg) = 0) (a := 35) (b := 25) (T := ([some (.ref 943), some (.int x2)], [], (v0 L, g))) rfl ?_ ?_
    · exact dj_46_35 L g (some (.int x2)) _
    · refine ev_jm 3 (t := (31, [some (.ref 943), some (.int x2)], [.int (am_i g 958 x2.toNatClampNeg)], (v0 L, g))) (ai_gd (c := ai_in x2 40) rfl hc3) ?_
      refine ev_in 1 (p := (am_i g 958 x2.toNatClampNeg) = 3) (a := 40) (b := 35) (T := ([some (.ref 943), some (.int x2)], [], (v0 L, g))) rfl ?_ ?_
      · exact dj_46_35 L g (some (.int x2)) _
      · exact fun hR => by cases hR; exact ev_rt 0 rfl
/-- DeclaredMarkupModel.noteCharacter(I)V -/
noncomputable def fm_47 (g : am_G) (u1 : Int32) : Option (am_G) := lo_p (fm_16 g u1) fun y1 => if y1 = 0 then lo_p (fm_46 g ) fun g4 => some g4 else lo_p (fm_45 g ) fun g6 => some g6
theorem dm_47 (L : Nat) (g : am_G) (u1 : Int32) (R : am_G) : fm_47 g u1 = some R → ai_ev ap_P 47 (ai_e0 ap_P 47 [.ref 943, .int u1] (v0 L, g)) (.inl none) (v0 L, R) := by
  show _ → ai_ev ap_P 47 (0, [some (.ref 943), some (.int u1)], [], (v0 L, g)) _ _
  unfold fm_47
  refine ev_op 1 (as := [.int u1]) (pc := 4) (Lc := [some (.ref 943), some (.int u1)]) (st := []) (h1 := (v0 L, g)) (e := ez_i) rfl (dm_16 L g u1) (fun y1 => ?_)
  refine ev_if 0 (p := y1 = 0) (a := 14) (b := 7) (T := ([some (.ref 943), some (.int u1)], [], (v0 L, g))) rfl ?_ ?_
  · refine ev_ov0 1 (as := [.ref 943]) (pc := 18) (Lc := [some (.ref 943), some (.int u1)]) (st := []) (V := v0 L) (g1 := g) rfl (dm_46 L g ) (fun g4 => ?_)
    exact fun hR => by cases hR; exact ev_rt 0 rfl
  · refine ev_ov0 1 (as := [.ref 943]) (pc := 11) (Lc := [some (.ref 943), some (.int u1)]) (st := []) (V := v0 L) (g1 := g) rfl (dm_45 L g ) (fun g6 => ?_)
    exact fun hR => by cases hR; exact ev_rt 1 rfl
noncomputable def fj_40_13  (g : am_G) (u1 : Int32) : Option (am_G) := lo_p (fm_37 (am_si g 943 140 1) u1) fun g2 => some g2
theorem dj_40_13 (L : Nat)   (g : am_G) (u1 : Int32) (R : am_G) : fj_40_13  g u1 = some R → ai_ev ap_P 40 (13, [some (.ref 943), some (.int u1)], [], (v0 L, g)) (.inl none) (v0 L, R) := by
  unfold fj_40_13
  refine ev_ov0 5 (as := [.ref 943, .int u1]) (pc := 23) (Lc := [some (.ref 943), some (.int u1)]) (st := []) (V := v0 L) (g1 := (am_si g 943 140 1)) rfl (dm_37 L (am_si g 943 140 1) u1) (fun g2 => ?_)
  exact fun hR => by cases hR; exact ev_rt 0 rfl
/-- DeclaredMarkupModel.data(I)V -/
noncomputable def fm_40 (g : am_G) (u1 : Int32) : Option (am_G) := if (am_i g 943 140) = 0 then lo_p (fm_36 g 45) fun g2 => fj_40_13 g2 u1 else fj_40_13 g u1
theorem dm_40 (L : Nat) (g : am_G) (u1 : Int32) (R : am_G) : fm_40 g u1 = some R → ai_ev ap_P 40 (ai_e0 ap_P 40 [.ref 943, .int u1] (v0 L, g)) (.inl none) (v0 L, R) := by
  show _ → ai_ev ap_P 40 (0, [some (.ref 943), some (.int u1)], [], (v0 L, g)) _ _
  unfold fm_40
  refine ev_in 2 (p := (am_i g 943 140) = 0) (a := 13) (b := 7) (T := ([some (.ref 943), some (.int u1)], [], (v0 L, g))) rfl ?_ ?_
  · refine ev_ov0 2 (as := [.ref 943, .int 45]) (pc := 13) (Lc := [some (.ref 943), some (.int u1)]) (st := []) (V := v0 L) (g1 := g) rfl (dm_36 L g 45) (fun g2 => ?_)
    exact dj_40_13 L g2 u1 _
  · exact dj_40_13 L g u1 _
noncomputable def fj_113_85  (g : am_G) (u1 : Int32) (t1 : Int32) : Option (Int32 × am_G) := lo_p (fm_47 (am_si g 943 43 t1) u1) fun g2 => lo_p (fm_40 g2 u1) fun g4 => some (0, g4)
theorem dj_113_85 (L : Nat)   (g : am_G) (u1 : Int32) (t1 : Int32) (R : Int32 × am_G) : fj_113_85  g u1 t1 = some R → ai_ev ap_P 113 (85, [some (.ref 943), some (.int u1)], [.int t1, .ref 943], (v0 L, g)) (.inl (ez_i R.1)) (v0 L, R.2) := by
  unfold fj_113_85
  refine ev_ov0 3 (as := [.ref 943, .int u1]) (pc := 93) (Lc := [some (.ref 943), some (.int u1)]) (st := []) (V := v0 L) (g1 := (am_si g 943 43 t1)) rfl (dm_47 L (am_si g 943 43 t1) u1) (fun g2 => ?_)
  refine ev_ov0 2 (as := [.ref 943, .int u1]) (pc := 98) (Lc := [some (.ref 943), some (.int u1)]) (st := []) (V := v0 L) (g1 := g2) rfl (dm_40 L g2 u1) (fun g4 => ?_)
  exact fun hR => by cases hR; exact ev_rt 1 rfl
noncomputable def fj_113_68  (g : am_G) (u1 : Int32) : Option (Int32 × am_G) := if u1 = 93 then fj_113_85 g u1 ((am_i g 943 43) + 1) else fj_113_85 g u1 0
theorem dj_113_68 (L : Nat)   (g : am_G) (u1 : Int32) (R : Int32 × am_G) : fj_113_68  g u1 = some R → ai_ev ap_P 113 (68, [some (.ref 943), some (.int u1)], [], (v0 L, g)) (.inl (ez_i R.1)) (v0 L, R.2) := by
  unfold fj_113_68
  refine ev_in 3 (p := u1 = 93) (a := 84) (b := 75) (T := ([some (.ref 943), some (.int u1)], [.ref 943], (v0 L, g))) rfl ?_ ?_
  · refine ev_jm 4 (t := (85, [some (.ref 943), some (.int u1)], [.int ((am_i g 943 43) + 1), .ref 943], (v0 L, g))) rfl ?_
    exact dj_113_85 L g u1 ((am_i g 943 43) + 1) _
  · refine ev_jm 0 (t := (85, [some (.ref 943), some (.int u1)], [.int 0, .ref 943], (v0 L, g))) rfl ?_
    exact dj_113_85 L g u1 0 _
/-- DeclaredMarkupModel.contentStep(I)I -/
noncomputable def fm_113 (g : am_G) (u1 : Int32) : Option (Int32 × am_G) := if u1 = 60 then lo_i (fm_25 (am_si g 943 43 0) 1) fun y5 g6 => some (y5, g6) else if u1 = 38 then lo_i (fm_25 (am_si (am_si (am_si g 943 43 0) 943 39 (am_i g 943 30)) 943 40 50) 60) fun y3 g4 => some (y3, g4) else if u1 = 62 then if (am_i g 943 43) ≤ 1 then fj_113_68 g u1 else lo_i (fm_23 g ) fun y1 g2 => some (y1, g2) else fj_113_68 g u1
theorem dm_113 (L : Nat) (g : am_G) (u1 : Int32) (R : Int32 × am_G) : fm_113 g u1 = some R → ai_ev ap_P 113 (ai_e0 ap_P 113 [.ref 943, .int u1] (v0 L, g)) (.inl (ez_i R.1)) (v0 L, R.2) := by
  show _ → ai_ev ap_P 113 (0, [some (.ref 943), some (.int u1)], [], (v0 L, g)) _ _
  unfold fm_113
  refine ev_in 2 (p := u1 = 60) (a := 17) (b := 6) (T := ([some (.ref 943), some (.int u1)], [], (v0 L, g))) rfl ?_ ?_
  · refine ev_oi 5 (as := [.ref 943, .int 1]) (pc := 16) (Lc := [some (.ref 943), some (.int u1)]) (st := []) (V := v0 L) (g1 := (am_si g 943 43 0)) (e := ez_i) rfl (dm_25 L (am_si g 943 43 0) 1) (fun y5 g6 => ?_)
    exact fun hR => by cases hR; exact ev_rt 0 rfl
  · refine ev_in 2 (p := u1 = 38) (a := 49) (b := 23) (T := ([some (.ref 943), some (.int u1)], [], (v0 L, g))) rfl ?_ ?_
    · refine ev_oi 12 (as := [.ref 943, .int 60]) (pc := 48) (Lc := [some (.ref 943), some (.int u1)]) (st := []) (V := v0 L) (g1 := (am_si (am_si (am_si g 943 43 0) 943 39 (am_i g 943 30)) 943 40 50)) (e := ez_i) rfl (dm_25 L (am_si (am_si (am_si g 943 43 0) 943 39 (am_i g 943 30)) 943 40 50) 60) (fun y3 g4 => ?_)
      exact fun hR => by cases hR; exact ev_rt 0 rfl
    · refine ev_in 2 (p := u1 = 62) (a := 68) (b := 55) (T := ([some (.ref 943), some (.int u1)], [], (v0 L, g))) rfl ?_ ?_
      · refine ev_if 3 (p := (am_i g 943 43) ≤ 1) (a := 68) (b := 63) (T := ([some (.ref 943), some (.int u1)], [], (v0 L, g))) rfl ?_ ?_
        · exact dj_113_68 L g u1 _
        · refine ev_oi 1 (as := [.ref 943]) (pc := 67) (Lc := [some (.ref 943), some (.int u1)]) (st := []) (V := v0 L) (g1 := g) (e := ez_i) rfl (dm_23 L g ) (fun y1 g2 => ?_)
          exact fun hR => by cases hR; exact ev_rt 0 rfl
      · exact dj_113_68 L g u1 _
noncomputable def fj_27_21  (g : am_G) : Option (Int32 × am_G) := lo_i (fm_23 g ) fun y1 g2 => some (y1, g2)
theorem dj_27_21 (L : Nat)   (g : am_G) (w1 w2 w3 : Option Value) (R : Int32 × am_G) : fj_27_21  g = some R → ai_ev ap_P 27 (21, [some (.ref 943), w1, w2, w3], [], (v0 L, g)) (.inl (ez_i R.1)) (v0 L, R.2) := by
  unfold fj_27_21
  refine ev_oi 1 (as := [.ref 943]) (pc := 25) (Lc := [some (.ref 943), none, none, none]) (st := []) (V := v0 L) (g1 := g) (e := ez_i) rfl (dm_23 L g ) (fun y1 g2 => ?_)
  exact fun hR => by cases hR; exact ev_rt 0 rfl
noncomputable def fj_27_26  (g : am_G) (u1 : Int32) (u2 : Int32) : Option (Int32 × am_G) := lo_g (ai_in (am_i g 943 17) 19000) (lo_i (fm_25 (am_si (am_si (am_si (am_si (am_si g 943 24 u2) 943 25 (am_i g 943 30)) 943 18 0) 951 ((am_i g 943 17)).toNatClampNeg u1) 943 18 1) 5) fun y2 g3 => some (y2, g3))
theorem dj_27_26 (L : Nat)   (g : am_G) (u1 : Int32) (u2 : Int32) (w3 : Option Value) (R : Int32 × am_G) : fj_27_26  g u1 u2 = some R → ai_ev ap_P 27 (26, [some (.ref 943), some (.int u1), some (.int u2), w3], [], (v0 L, g)) (.inl (ez_i R.1)) (v0 L, R.2) := by
  unfold fj_27_26
  refine ev_gd (c := ai_in (am_i g 943 17) 19000) (fun hc1 => ?_)
  refine ev_jm 15 (t := (54, [some (.ref 943), some (.int u1), some (.int u2), none], [], (v0 L, (am_si (am_si (am_si (am_si g 943 24 u2) 943 25 (am_i g 943 30)) 943 18 0) 951 ((am_i g 943 17)).toNatClampNeg u1)))) (ai_gd (c := ai_in (am_i g 943 17) 19000) rfl hc1) ?_
  refine ev_oi 5 (as := [.ref 943, .int 5]) (pc := 64) (Lc := [some (.ref 943), some (.int u1), some (.int u2), none]) (st := []) (V := v0 L) (g1 := (am_si (am_si (am_si (am_si (am_si g 943 24 u2) 943 25 (am_i g 943 30)) 943 18 0) 951 ((am_i g 943 17)).toNatClampNeg u1) 943 18 1)) (e := ez_i) rfl (dm_25 L (am_si (am_si (am_si (am_si (am_si g 943 24 u2) 943 25 (am_i g 943 30)) 943 18 0) 951 ((am_i g 943 17)).toNatClampNeg u1) 943 18 1) 5) (fun y2 g3 => ?_)
  exact fun hR => by cases hR; exact ev_rt 0 rfl
/-- DeclaredMarkupModel.begin(IIZ)I -/
noncomputable def fm_27 (g : am_G) (u1 : Int32) (u2 : Int32) (u3 : Int32) : Option (Int32 × am_G) := if u3 = 0 then lo_p (fm_17 g u1) fun y1 => if y1 = 0 then fj_27_21 g else fj_27_26 g u1 u2 else lo_p (fm_18 g u1) fun y3 => if y3 = 0 then fj_27_21 g else fj_27_26 g u1 u2
theorem dm_27 (L : Nat) (g : am_G) (u1 : Int32) (u2 : Int32) (u3 : Int32) (R : Int32 × am_G) : fm_27 g u1 u2 u3 = some R → ai_ev ap_P 27 (ai_e0 ap_P 27 [.ref 943, .int u1, .int u2, .int u3] (v0 L, g)) (.inl (ez_i R.1)) (v0 L, R.2) := by
  show _ → ai_ev ap_P 27 (0, [some (.ref 943), some (.int u1), some (.int u2), some (.int u3)], [], (v0 L, g)) _ _
  unfold fm_27
  refine ev_if 1 (p := u3 = 0) (a := 14) (b := 4) (T := ([some (.ref 943), some (.int u1), some (.int u2), some (.int u3)], [], (v0 L, g))) rfl ?_ ?_
  · refine ev_op 1 (as := [.int u1]) (pc := 18) (Lc := [some (.ref 943), some (.int u1), some (.int u2), some (.int u3)]) (st := []) (h1 := (v0 L, g)) (e := ez_i) rfl (dm_17 L g u1) (fun y1 => ?_)
    refine ev_in 0 (p := y1 = 0) (a := 26) (b := 21) (T := ([some (.ref 943), some (.int u1), some (.int u2), some (.int u3)], [], (v0 L, g))) rfl ?_ ?_
    · exact dj_27_21 L g (some (.int u1)) (some (.int u2)) (some (.int u3)) _
    · exact dj_27_26 L g u1 u2 (some (.int u3)) _
  · refine ev_op 1 (as := [.int u1]) (pc := 8) (Lc := [some (.ref 943), some (.int u1), some (.int u2), some (.int u3)]) (st := []) (h1 := (v0 L, g)) (e := ez_i) rfl (dm_18 L g u1) (fun y3 => ?_)
    refine ev_in 0 (p := y3 = 0) (a := 26) (b := 11) (T := ([some (.ref 943), some (.int u1), some (.int u2), some (.int u3)], [], (v0 L, g))) rfl ?_ ?_
    · refine ev_jm 0 (t := (21, [some (.ref 943), some (.int u1), some (.int u2), some (.int u3)], [], (v0 L, g))) rfl ?_
      exact dj_27_21 L g (some (.int u1)) (some (.int u2)) (some (.int u3)) _
    · exact dj_27_26 L g u1 u2 (some (.int u3)) _
noncomputable def fj_111_69  (g : am_G) (t0 : Int32) : Option (Int32 × am_G) := if t0 = 0 then lo_i (fm_25 g 51) fun y1 g2 => some (y1, g2) else lo_i (fm_21 g 13 0) fun y3 g4 => some (y3, g4)
theorem dj_111_69 (L : Nat)   (g : am_G) (t0 : Int32) (w1 w2 : Option Value) (R : Int32 × am_G) : fj_111_69  g t0 = some R → ai_ev ap_P 111 (69, [some (.ref 943), w1, w2], [.int t0], (v0 L, g)) (.inl (ez_i R.1)) (v0 L, R.2) := by
  unfold fj_111_69
  refine ev_if 2 (p := t0 = 0) (a := 84) (b := 74) (T := ([some (.ref 943), none, some (.int t0)], [], (v0 L, g))) rfl ?_ ?_
  · refine ev_oi 2 (as := [.ref 943, .int 51]) (pc := 90) (Lc := [some (.ref 943), none, some (.int t0)]) (st := []) (V := v0 L) (g1 := g) (e := ez_i) rfl (dm_25 L g 51) (fun y1 g2 => ?_)
    exact fun hR => by cases hR; exact ev_rt 0 rfl
  · refine ev_oi 3 (as := [.ref 943, .int 13, .int 0]) (pc := 81) (Lc := [some (.ref 943), none, some (.int t0)]) (st := []) (V := v0 L) (g1 := g) (e := ez_i) rfl (dm_21 L g 13 0) (fun y3 g4 => ?_)
    exact fun hR => by cases hR; exact ev_rt 1 rfl
noncomputable def fj_111_68  (g : am_G) : Option (Int32 × am_G) := fj_111_69 g 0
theorem dj_111_68 (L : Nat)   (g : am_G) (w1 w2 : Option Value) (R : Int32 × am_G) : fj_111_68  g = some R → ai_ev ap_P 111 (68, [some (.ref 943), w1, w2], [], (v0 L, g)) (.inl (ez_i R.1)) (v0 L, R.2) := by
  unfold fj_111_68
  refine ev_jm 0 (t := (69, [some (.ref 943), none, none], [.int 0], (v0 L, g))) rfl ?_
  exact dj_111_69 L g 0 none none _
noncomputable def fj_111_114  (g : am_G) : Option (Int32 × am_G) := lo_i (fm_23 g ) fun y1 g2 => some (y1, g2)
theorem dj_111_114 (L : Nat)   (g : am_G) (w1 w2 : Option Value) (R : Int32 × am_G) : fj_111_114  g = some R → ai_ev ap_P 111 (114, [some (.ref 943), w1, w2], [], (v0 L, g)) (.inl (ez_i R.1)) (v0 L, R.2) := by
  unfold fj_111_114
  refine ev_oi 1 (as := [.ref 943]) (pc := 118) (Lc := [some (.ref 943), none, none]) (st := []) (V := v0 L) (g1 := g) (e := ez_i) rfl (dm_23 L g ) (fun y1 g2 => ?_)
  exact fun hR => by cases hR; exact ev_rt 0 rfl
noncomputable def fj_111_119  (g : am_G) (u1 : Int32) : Option (Int32 × am_G) := lo_i (fm_27 g u1 1 0) fun y1 g2 => some (y1, g2)
theorem dj_111_119 (L : Nat)   (g : am_G) (u1 : Int32) (w2 : Option Value) (R : Int32 × am_G) : fj_111_119  g u1 = some R → ai_ev ap_P 111 (119, [some (.ref 943), some (.int u1), w2], [], (v0 L, g)) (.inl (ez_i R.1)) (v0 L, R.2) := by
  unfold fj_111_119
  refine ev_oi 4 (as := [.ref 943, .int u1, .int 1, .int 0]) (pc := 126) (Lc := [some (.ref 943), some (.int u1), none]) (st := []) (V := v0 L) (g1 := g) (e := ez_i) rfl (dm_27 L g u1 1 0) (fun y1 g2 => ?_)
  exact fun hR => by cases hR; exact ev_rt 0 rfl
noncomputable def fj_111_91  (g : am_G) (u1 : Int32) : Option (Int32 × am_G) := if (am_i g 943 27) = 2 then fj_111_114 g else if (am_i g 943 27) = 0 then if (am_i g 943 28) = 2 then fj_111_114 g else fj_111_119 g u1 else fj_111_119 g u1
theorem dj_111_91 (L : Nat)   (g : am_G) (u1 : Int32) (w2 : Option Value) (R : Int32 × am_G) : fj_111_91  g u1 = some R → ai_ev ap_P 111 (91, [some (.ref 943), some (.int u1), w2], [], (v0 L, g)) (.inl (ez_i R.1)) (v0 L, R.2) := by
  unfold fj_111_91
  refine ev_if 3 (p := (am_i g 943 27) = 2) (a := 114) (b := 99) (T := ([some (.ref 943), some (.int u1), none], [], (v0 L, g))) rfl ?_ ?_
  · exact dj_111_114 L g (some (.int u1)) none _
  · refine ev_in 2 (p := (am_i g 943 27) = 0) (a := 119) (b := 106) (T := ([some (.ref 943), some (.int u1), none], [], (v0 L, g))) rfl ?_ ?_
    · refine ev_in 3 (p := (am_i g 943 28) = 2) (a := 119) (b := 114) (T := ([some (.ref 943), some (.int u1), none], [], (v0 L, g))) rfl ?_ ?_
      · exact dj_111_114 L g (some (.int u1)) none _
      · exact dj_111_119 L g u1 none _
    · exact dj_111_119 L g u1 none _
/-- DeclaredMarkupModel.less(I)I -/
noncomputable def fm_111 (g : am_G) (u1 : Int32) : Option (Int32 × am_G) := if u1 = 33 then lo_i (fm_25 g 2) fun y4 g5 => some (y4, g5) else if u1 = 63 then lo_i (fm_25 g 33) fun y2 g3 => some (y2, g3) else if u1 = 47 then if (am_i g 943 27) = 1 then if (am_i g 943 9) ≤ 0 then fj_111_68 g else lo_g (ai_in ((am_i g 943 9) - 1) 16) (if (am_i g 943 106) = (am_i g 949 (((am_i g 943 9) - 1)).toNatClampNeg) then fj_111_69 g 1 else fj_111_68 g) else fj_111_91 g u1 else fj_111_91 g u1
theorem dm_111 (L : Nat) (g : am_G) (u1 : Int32) (R : Int32 × am_G) : fm_111 g u1 = some R → ai_ev ap_P 111 (ai_e0 ap_P 111 [.ref 943, .int u1] (v0 L, g)) (.inl (ez_i R.1)) (v0 L, R.2) := by
  show _ → ai_ev ap_P 111 (0, [some (.ref 943), some (.int u1), none], [], (v0 L, g)) _ _
  unfold fm_111
  refine ev_in 2 (p := u1 = 33) (a := 12) (b := 6) (T := ([some (.ref 943), some (.int u1), none], [], (v0 L, g))) rfl ?_ ?_
  · refine ev_oi 2 (as := [.ref 943, .int 2]) (pc := 11) (Lc := [some (.ref 943), some (.int u1), none]) (st := []) (V := v0 L) (g1 := g) (e := ez_i) rfl (dm_25 L g 2) (fun y4 g5 => ?_)
    exact fun hR => by cases hR; exact ev_rt 0 rfl
  · refine ev_in 2 (p := u1 = 63) (a := 25) (b := 18) (T := ([some (.ref 943), some (.int u1), none], [], (v0 L, g))) rfl ?_ ?_
    · refine ev_oi 2 (as := [.ref 943, .int 33]) (pc := 24) (Lc := [some (.ref 943), some (.int u1), none]) (st := []) (V := v0 L) (g1 := g) (e := ez_i) rfl (dm_25 L g 33) (fun y2 g3 => ?_)
      exact fun hR => by cases hR; exact ev_rt 0 rfl
    · refine ev_in 2 (p := u1 = 47) (a := 91) (b := 31) (T := ([some (.ref 943), some (.int u1), none], [], (v0 L, g))) rfl ?_ ?_
      · refine ev_in 3 (p := (am_i g 943 27) = 1) (a := 91) (b := 39) (T := ([some (.ref 943), some (.int u1), none], [], (v0 L, g))) rfl ?_ ?_
        · refine ev_if 2 (p := (am_i g 943 9) ≤ 0) (a := 68) (b := 46) (T := ([some (.ref 943), some (.int u1), none], [], (v0 L, g))) rfl ?_ ?_
          · exact dj_111_68 L g (some (.int u1)) none _
          · refine ev_gd (c := ai_in ((am_i g 943 9) - 1) 16) (fun hc1 => ?_)
            refine ev_jm 8 (t := (61, [some (.ref 943), some (.int u1), none], [.int (am_i g 949 (((am_i g 943 9) - 1)).toNatClampNeg), .int (am_i g 943 106)], (v0 L, g))) (ai_gd (c := ai_in ((am_i g 943 9) - 1) 16) rfl hc1) ?_
            refine ev_in 0 (p := (am_i g 943 106) = (am_i g 949 (((am_i g 943 9) - 1)).toNatClampNeg)) (a := 68) (b := 64) (T := ([some (.ref 943), some (.int u1), none], [], (v0 L, g))) rfl ?_ ?_
            · refine ev_jm 1 (t := (69, [some (.ref 943), some (.int u1), none], [.int 1], (v0 L, g))) rfl ?_
              exact dj_111_69 L g 1 (some (.int u1)) none _
            · exact dj_111_68 L g (some (.int u1)) none _
        · exact dj_111_91 L g u1 none _
      · exact dj_111_91 L g u1 none _
/-- DeclaredMarkupModel.back(I)I -/
noncomputable def fm_26 (g : am_G) (u1 : Int32) : Option (Int32 × am_G) := lo_i (fm_25 (am_si g 943 29 1) u1) fun y1 g2 => some (y1, g2)
theorem dm_26 (L : Nat) (g : am_G) (u1 : Int32) (R : Int32 × am_G) : fm_26 g u1 = some R → ai_ev ap_P 26 (ai_e0 ap_P 26 [.ref 943, .int u1] (v0 L, g)) (.inl (ez_i R.1)) (v0 L, R.2) := by
  show _ → ai_ev ap_P 26 (0, [some (.ref 943), some (.int u1)], [], (v0 L, g)) _ _
  unfold fm_26
  refine ev_oi 5 (as := [.ref 943, .int u1]) (pc := 10) (Lc := [some (.ref 943), some (.int u1)]) (st := []) (V := v0 L) (g1 := (am_si g 943 29 1)) (e := ez_i) rfl (dm_25 L (am_si g 943 29 1) u1) (fun y1 g2 => ?_)
  exact fun hR => by cases hR; exact ev_rt 0 rfl
/-- DeclaredMarkupModel.word(JIZI)I -/
noncomputable def fm_34 (g : am_G) (u1 : Int64) (u3 : Int32) (u4 : Int32) (u5 : Int32) : Option (Int32 × am_G) := lo_g ((decide (u4 = 0) || decide (u4 = 1))) (lo_i (fm_26 (am_si (am_si (am_si (am_si (am_si (am_sj g 943 31 u1) 943 32 u3) 943 33 0) 943 34 u4) 943 35 u5) 943 36 (am_i g 943 30)) 6) fun y2 g3 => some (y2, g3))
theorem dm_34 (L : Nat) (g : am_G) (u1 : Int64) (u3 : Int32) (u4 : Int32) (u5 : Int32) (R : Int32 × am_G) : fm_34 g u1 u3 u4 u5 = some R → ai_ev ap_P 34 (ai_e0 ap_P 34 [.ref 943, .long u1, .int u3, .int u4, .int u5] (v0 L, g)) (.inl (ez_i R.1)) (v0 L, R.2) := by
  show _ → ai_ev ap_P 34 (0, [some (.ref 943), some (.long u1), none, some (.int u3), some (.int u4), some (.int u5)], [], (v0 L, g)) _ _
  unfold fm_34
  refine ev_gd (c := (decide (u4 = 0) || decide (u4 = 1))) (fun hc1 => ?_)
  refine ev_pb 11 (d := (decide (u4 = 0) || decide (u4 = 1))) (h2 := (v0 L, (am_si (am_si (am_si (am_sj g 943 31 u1) 943 32 u3) 943 33 0) 943 34 u4))) (pc := 21) (Lc := [some (.ref 943), some (.long u1), none, some (.int u3), some (.int u4), some (.int u5)]) (st := []) rfl hc1 ?_
  refine ev_oi 9 (as := [.ref 943, .int 6]) (pc := 41) (Lc := [some (.ref 943), some (.long u1), none, some (.int u3), some (.int u4), some (.int u5)]) (st := []) (V := v0 L) (g1 := (am_si (am_si (am_si (am_si (am_si (am_sj g 943 31 u1) 943 32 u3) 943 33 0) 943 34 u4) 943 35 u5) 943 36 (am_i g 943 30))) (e := ez_i) rfl (dm_26 L (am_si (am_si (am_si (am_si (am_si (am_sj g 943 31 u1) 943 32 u3) 943 33 0) 943 34 u4) 943 35 u5) 943 36 (am_i g 943 30)) 6) (fun y2 g3 => ?_)
  exact fun hR => by cases hR; exact ev_rt 0 rfl
noncomputable def fj_112_47  (g : am_G) : Option (Int32 × am_G) := lo_i (fm_23 g ) fun y1 g2 => some (y1, g2)
theorem dj_112_47 (L : Nat)   (g : am_G) (w1 : Option Value) (R : Int32 × am_G) : fj_112_47  g = some R → ai_ev ap_P 112 (47, [some (.ref 943), w1], [], (v0 L, g)) (.inl (ez_i R.1)) (v0 L, R.2) := by
  unfold fj_112_47
  refine ev_oi 1 (as := [.ref 943]) (pc := 51) (Lc := [some (.ref 943), none]) (st := []) (V := v0 L) (g1 := g) (e := ez_i) rfl (dm_23 L g ) (fun y1 g2 => ?_)
  exact fun hR => by cases hR; exact ev_rt 0 rfl
/-- DeclaredMarkupModel.bang(I)I -/
noncomputable def fm_112 (g : am_G) (u1 : Int32) : Option (Int32 × am_G) := if u1 = 45 then lo_i (fm_25 g 3) fun y15 g16 => some (y15, g16) else if (am_i g 943 27) = 0 then if u1 = 68 then if (am_i g 943 28) = 0 then lo_i (fm_34 g 4802110981 7 1 40) fun y13 g14 => some (y13, g14) else fj_112_47 g else fj_112_47 g else if (am_i g 943 27) = 1 then if u1 = 91 then lo_i (fm_25 g 150) fun y11 g12 => some (y11, g12) else lo_i (fm_23 g ) fun y9 g10 => some (y9, g10) else if u1 = 69 then lo_i (fm_25 g 4) fun y7 g8 => some (y7, g8) else if u1 = 65 then lo_i (fm_34 g 1766205044 7 1 100) fun y5 g6 => some (y5, g6) else if u1 = 78 then lo_i (fm_34 g 497815266798 8 1 130) fun y3 g4 => some (y3, g4) else lo_i (fm_23 g ) fun y1 g2 => some (y1, g2)
theorem dm_112 (L : Nat) (g : am_G) (u1 : Int32) (R : Int32 × am_G) : fm_112 g u1 = some R → ai_ev ap_P 112 (ai_e0 ap_P 112 [.ref 943, .int u1] (v0 L, g)) (.inl (ez_i R.1)) (v0 L, R.2) := by
  show _ → ai_ev ap_P 112 (0, [some (.ref 943), some (.int u1)], [], (v0 L, g)) _ _
  unfold fm_112
  refine ev_in 2 (p := u1 = 45) (a := 12) (b := 6) (T := ([some (.ref 943), some (.int u1)], [], (v0 L, g))) rfl ?_ ?_
  · refine ev_oi 2 (as := [.ref 943, .int 3]) (pc := 11) (Lc := [some (.ref 943), some (.int u1)]) (st := []) (V := v0 L) (g1 := g) (e := ez_i) rfl (dm_25 L g 3) (fun y15 g16 => ?_)
    exact fun hR => by cases hR; exact ev_rt 0 rfl
  · refine ev_in 2 (p := (am_i g 943 27) = 0) (a := 52) (b := 19) (T := ([some (.ref 943), some (.int u1)], [], (v0 L, g))) rfl ?_ ?_
    · refine ev_in 2 (p := u1 = 68) (a := 47) (b := 25) (T := ([some (.ref 943), some (.int u1)], [], (v0 L, g))) rfl ?_ ?_
      · refine ev_in 2 (p := (am_i g 943 28) = 0) (a := 47) (b := 32) (T := ([some (.ref 943), some (.int u1)], [], (v0 L, g))) rfl ?_ ?_
        · refine ev_oi 5 (as := [.ref 943, .long 4802110981, .int 7, .int 1, .int 40]) (pc := 44) (Lc := [some (.ref 943), some (.int u1)]) (st := []) (V := v0 L) (g1 := g) (e := ez_i) rfl (dm_34 L g 4802110981 7 1 40) (fun y13 g14 => ?_)
          exact fun hR => by cases hR; exact ev_rt 1 rfl
        · exact dj_112_47 L g (some (.int u1)) _
      · exact dj_112_47 L g (some (.int u1)) _
    · refine ev_in 3 (p := (am_i g 943 27) = 1) (a := 81) (b := 60) (T := ([some (.ref 943), some (.int u1)], [], (v0 L, g))) rfl ?_ ?_
      · refine ev_in 2 (p := u1 = 91) (a := 76) (b := 66) (T := ([some (.ref 943), some (.int u1)], [], (v0 L, g))) rfl ?_ ?_
        · refine ev_oi 2 (as := [.ref 943, .int 150]) (pc := 73) (Lc := [some (.ref 943), some (.int u1)]) (st := []) (V := v0 L) (g1 := g) (e := ez_i) rfl (dm_25 L g 150) (fun y11 g12 => ?_)
          exact fun hR => by cases hR; exact ev_rt 1 rfl
        · refine ev_oi 1 (as := [.ref 943]) (pc := 80) (Lc := [some (.ref 943), some (.int u1)]) (st := []) (V := v0 L) (g1 := g) (e := ez_i) rfl (dm_23 L g ) (fun y9 g10 => ?_)
          exact fun hR => by cases hR; exact ev_rt 0 rfl
      · refine ev_in 2 (p := u1 = 69) (a := 95) (b := 87) (T := ([some (.ref 943), some (.int u1)], [], (v0 L, g))) rfl ?_ ?_
        · refine ev_oi 2 (as := [.ref 943, .int 4]) (pc := 92) (Lc := [some (.ref 943), some (.int u1)]) (st := []) (V := v0 L) (g1 := g) (e := ez_i) rfl (dm_25 L g 4) (fun y7 g8 => ?_)
          exact fun hR => by cases hR; exact ev_rt 1 rfl
        · refine ev_in 2 (p := u1 = 65) (a := 116) (b := 101) (T := ([some (.ref 943), some (.int u1)], [], (v0 L, g))) rfl ?_ ?_
          · refine ev_oi 5 (as := [.ref 943, .long 1766205044, .int 7, .int 1, .int 100]) (pc := 113) (Lc := [some (.ref 943), some (.int u1)]) (st := []) (V := v0 L) (g1 := g) (e := ez_i) rfl (dm_34 L g 1766205044 7 1 100) (fun y5 g6 => ?_)
            exact fun hR => by cases hR; exact ev_rt 1 rfl
          · refine ev_in 2 (p := u1 = 78) (a := 138) (b := 122) (T := ([some (.ref 943), some (.int u1)], [], (v0 L, g))) rfl ?_ ?_
            · refine ev_oi 5 (as := [.ref 943, .long 497815266798, .int 8, .int 1, .int 130]) (pc := 135) (Lc := [some (.ref 943), some (.int u1)]) (st := []) (V := v0 L) (g1 := g) (e := ez_i) rfl (dm_34 L g 497815266798 8 1 130) (fun y3 g4 => ?_)
              exact fun hR => by cases hR; exact ev_rt 1 rfl
            · refine ev_oi 1 (as := [.ref 943]) (pc := 142) (Lc := [some (.ref 943), some (.int u1)]) (st := []) (V := v0 L) (g1 := g) (e := ez_i) rfl (dm_23 L g ) (fun y1 g2 => ?_)
              exact fun hR => by cases hR; exact ev_rt 0 rfl
noncomputable def fj_44_32  (g : am_G) (t1 : Int32) : Option (Int32 × am_G) := lo_i (fm_25 g t1) fun y1 g2 => some (y1, g2)
theorem dj_44_32 (L : Nat)   (g : am_G) (t1 : Int32) (w0 : Option Value) (R : Int32 × am_G) : fj_44_32  g t1 = some R → ai_ev ap_P 44 (32, [w0], [.int t1, .ref 943], (v0 L, g)) (.inl (ez_i R.1)) (v0 L, R.2) := by
  unfold fj_44_32
  refine ev_oi 0 (as := [.ref 943, .int t1]) (pc := 35) (Lc := [none]) (st := []) (V := v0 L) (g1 := g) (e := ez_i) rfl (dm_25 L g t1) (fun y1 g2 => ?_)
  exact fun hR => by cases hR; exact ev_rt 0 rfl
/-- DeclaredMarkupModel.home()I -/
noncomputable def fm_44 (g : am_G)  : Option (Int32 × am_G) := if (am_i g 943 27) = 0 then fj_44_32 (am_si g 943 43 0) 0 else if (am_i g 943 27) = 1 then fj_44_32 (am_si g 943 43 0) 50 else fj_44_32 (am_si g 943 43 0) 45
theorem dm_44 (L : Nat) (g : am_G)  (R : Int32 × am_G) : fm_44 g  = some R → ai_ev ap_P 44 (ai_e0 ap_P 44 [.ref 943] (v0 L, g)) (.inl (ez_i R.1)) (v0 L, R.2) := by
  show _ → ai_ev ap_P 44 (0, [some (.ref 943)], [], (v0 L, g)) _ _
  unfold fm_44
  refine ev_in 6 (p := (am_i g 943 27) = 0) (a := 17) (b := 13) (T := ([some (.ref 943)], [.ref 943], (v0 L, (am_si g 943 43 0)))) rfl ?_ ?_
  · refine ev_jm 1 (t := (32, [some (.ref 943)], [.int 0, .ref 943], (v0 L, (am_si g 943 43 0)))) rfl ?_
    exact dj_44_32 L (am_si g 943 43 0) 0 (some (.ref 943)) _
  · refine ev_in 3 (p := (am_i g 943 27) = 1) (a := 30) (b := 25) (T := ([some (.ref 943)], [.ref 943], (v0 L, (am_si g 943 43 0)))) rfl ?_ ?_
    · refine ev_jm 1 (t := (32, [some (.ref 943)], [.int 50, .ref 943], (v0 L, (am_si g 943 43 0)))) rfl ?_
      exact dj_44_32 L (am_si g 943 43 0) 50 (some (.ref 943)) _
    · refine ev_jm 0 (t := (32, [some (.ref 943)], [.int 45, .ref 943], (v0 L, (am_si g 943 43 0)))) rfl ?_
      exact dj_44_32 L (am_si g 943 43 0) 45 (some (.ref 943)) _
noncomputable def fj_43_26  (g : am_G) : Option (Int32 × am_G) := lo_i (fm_44 g ) fun y1 g2 => some (y1, g2)
theorem dj_43_26 (L : Nat)   (g : am_G) (R : Int32 × am_G) : fj_43_26  g = some R → ai_ev ap_P 43 (26, [some (.ref 943)], [], (v0 L, g)) (.inl (ez_i R.1)) (v0 L, R.2) := by
  unfold fj_43_26
  refine ev_oi 1 (as := [.ref 943]) (pc := 30) (Lc := [some (.ref 943)]) (st := []) (V := v0 L) (g1 := g) (e := ez_i) rfl (dm_44 L g ) (fun y1 g2 => ?_)
  exact fun hR => by cases hR; exact ev_rt 0 rfl
noncomputable def fj_43_14  (g : am_G) : Option (Int32 × am_G) := if (am_i g 943 27) = 1 then lo_p (fm_45 g ) fun g2 => fj_43_26 g2 else fj_43_26 g
theorem dj_43_14 (L : Nat)   (g : am_G) (R : Int32 × am_G) : fj_43_14  g = some R → ai_ev ap_P 43 (14, [some (.ref 943)], [], (v0 L, g)) (.inl (ez_i R.1)) (v0 L, R.2) := by
  unfold fj_43_14
  refine ev_in 3 (p := (am_i g 943 27) = 1) (a := 26) (b := 22) (T := ([some (.ref 943)], [], (v0 L, g))) rfl ?_ ?_
  · refine ev_ov0 1 (as := [.ref 943]) (pc := 26) (Lc := [some (.ref 943)]) (st := []) (V := v0 L) (g1 := g) rfl (dm_45 L g ) (fun g2 => ?_)
    exact dj_43_26 L g2 _
  · exact dj_43_26 L g _
/-- DeclaredMarkupModel.instructed()I -/
noncomputable def fm_43 (g : am_G)  : Option (Int32 × am_G) := if (am_i g 943 27) = 2 then fj_43_14 g else lo_p (fm_36 g 10) fun g2 => fj_43_14 g2
theorem dm_43 (L : Nat) (g : am_G)  (R : Int32 × am_G) : fm_43 g  = some R → ai_ev ap_P 43 (ai_e0 ap_P 43 [.ref 943] (v0 L, g)) (.inl (ez_i R.1)) (v0 L, R.2) := by
  show _ → ai_ev ap_P 43 (0, [some (.ref 943)], [], (v0 L, g)) _ _
  unfold fm_43
  refine ev_if 3 (p := (am_i g 943 27) = 2) (a := 14) (b := 8) (T := ([some (.ref 943)], [], (v0 L, g))) rfl ?_ ?_
  · exact dj_43_14 L g _
  · refine ev_ov0 2 (as := [.ref 943, .int 10]) (pc := 14) (Lc := [some (.ref 943)]) (st := []) (V := v0 L) (g1 := g) rfl (dm_36 L g 10) (fun g2 => ?_)
    exact dj_43_14 L g2 _
noncomputable def fj_42_22  (g : am_G) (u1 : Int32) : Option (am_G) := lo_p (fm_37 (am_si g 943 141 1) u1) fun g2 => some g2
theorem dj_42_22 (L : Nat)   (g : am_G) (u1 : Int32) (R : am_G) : fj_42_22  g u1 = some R → ai_ev ap_P 42 (22, [some (.ref 943), some (.int u1)], [], (v0 L, g)) (.inl none) (v0 L, R) := by
  unfold fj_42_22
  refine ev_ov0 5 (as := [.ref 943, .int u1]) (pc := 32) (Lc := [some (.ref 943), some (.int u1)]) (st := []) (V := v0 L) (g1 := (am_si g 943 141 1)) rfl (dm_37 L (am_si g 943 141 1) u1) (fun g2 => ?_)
  exact fun hR => by cases hR; exact ev_rt 0 rfl
/-- DeclaredMarkupModel.rest(I)V -/
noncomputable def fm_42 (g : am_G) (u1 : Int32) : Option (am_G) := if (am_i g 943 27) = 2 then some g else if (am_i g 943 141) = 0 then lo_p (fm_36 g 32) fun g2 => fj_42_22 g2 u1 else fj_42_22 g u1
theorem dm_42 (L : Nat) (g : am_G) (u1 : Int32) (R : am_G) : fm_42 g u1 = some R → ai_ev ap_P 42 (ai_e0 ap_P 42 [.ref 943, .int u1] (v0 L, g)) (.inl none) (v0 L, R) := by
  show _ → ai_ev ap_P 42 (0, [some (.ref 943), some (.int u1)], [], (v0 L, g)) _ _
  unfold fm_42
  refine ev_in 3 (p := (am_i g 943 27) = 2) (a := 9) (b := 8) (T := ([some (.ref 943), some (.int u1)], [], (v0 L, g))) rfl ?_ ?_
  · exact fun hR => by cases hR; exact ev_rt 0 rfl
  · refine ev_in 2 (p := (am_i g 943 141) = 0) (a := 22) (b := 16) (T := ([some (.ref 943), some (.int u1)], [], (v0 L, g))) rfl ?_ ?_
    · refine ev_ov0 2 (as := [.ref 943, .int 32]) (pc := 22) (Lc := [some (.ref 943), some (.int u1)]) (st := []) (V := v0 L) (g1 := g) rfl (dm_36 L g 32) (fun g2 => ?_)
      exact dj_42_22 L g2 u1 _
    · exact dj_42_22 L g u1 _
