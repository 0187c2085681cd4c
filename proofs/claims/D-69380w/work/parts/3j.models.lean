noncomputable def fj_105_128  (g : am_G) (t1 : Int32) : Option (Int32 × am_G) := lo_i (fm_25 g t1) fun y1 g2 => some (y1, g2)
theorem dj_105_128 (L : Nat)   (g : am_G) (t1 : Int32) (w0 w1 w2 w3 : Option Value) (R : Int32 × am_G) : fj_105_128  g t1 = some R → ai_ev ap_P 105 (128, [w0, w1, w2, w3], [.int t1, .ref 943], (v0 L, g)) (.inl (ez_i R.1)) (v0 L, R.2) := by
  unfold fj_105_128
  refine ev_oi 0 (as := [.ref 943, .int t1]) (pc := 131) (Lc := [none, none, none, none]) (st := []) (V := v0 L) (g1 := g) (e := ez_i) rfl (dm_25 L g t1) (fun y1 g2 => ?_)
  exact fun hR => by cases hR; exact ev_rt 0 rfl
noncomputable def fj_105_111  (g : am_G) (u2 : Int32) (t1 : Int32) : Option (Int32 × am_G) := if u2 = 10 then fj_105_128 (am_si g 943 41 t1) 63 else fj_105_128 (am_si g 943 41 t1) 65
theorem dj_105_111 (L : Nat)   (g : am_G) (u2 : Int32) (t1 : Int32) (w1 w3 : Option Value) (R : Int32 × am_G) : fj_105_111  g u2 t1 = some R → ai_ev ap_P 105 (111, [some (.ref 943), w1, some (.int u2), w3], [.int t1, .ref 943], (v0 L, g)) (.inl (ez_i R.1)) (v0 L, R.2) := by
  unfold fj_105_111
  refine ev_in 4 (p := u2 = 10) (a := 126) (b := 121) (T := ([some (.ref 943), none, some (.int u2), none], [.ref 943], (v0 L, (am_si g 943 41 t1)))) rfl ?_ ?_
  · refine ev_jm 1 (t := (128, [some (.ref 943), none, some (.int u2), none], [.int 63, .ref 943], (v0 L, (am_si g 943 41 t1)))) rfl ?_
    exact dj_105_128 L (am_si g 943 41 t1) 63 (some (.ref 943)) none (some (.int u2)) none _
  · refine ev_jm 0 (t := (128, [some (.ref 943), none, some (.int u2), none], [.int 65, .ref 943], (v0 L, (am_si g 943 41 t1)))) rfl ?_
    exact dj_105_128 L (am_si g 943 41 t1) 65 (some (.ref 943)) none (some (.int u2)) none _
noncomputable def fj_105_70  (g : am_G) (u2 : Int32) (t0 : Int32) : Option (Int32 × am_G) := if (0 : Int32) ≤ t0 then if (((am_i g 943 41) * u2) + t0) ≤ 1114112 then fj_105_111 (am_si g 943 41 (((am_i g 943 41) * u2) + t0)) u2 (((am_i g 943 41) * u2) + t0) else fj_105_111 (am_si g 943 41 (((am_i g 943 41) * u2) + t0)) u2 1114112 else lo_i (fm_23 g ) fun y1 g2 => some (y1, g2)
theorem dj_105_70 (L : Nat)   (g : am_G) (u2 : Int32) (t0 : Int32) (w1 w3 : Option Value) (R : Int32 × am_G) : fj_105_70  g u2 t0 = some R → ai_ev ap_P 105 (70, [some (.ref 943), w1, some (.int u2), w3], [.int t0], (v0 L, g)) (.inl (ez_i R.1)) (v0 L, R.2) := by
  unfold fj_105_70
  refine ev_if 2 (p := (0 : Int32) ≤ t0) (a := 80) (b := 75) (T := ([some (.ref 943), none, some (.int u2), some (.int t0)], [], (v0 L, g))) rfl ?_ ?_
  · refine ev_if 12 (p := (((am_i g 943 41) * u2) + t0) ≤ 1114112) (a := 107) (b := 102) (T := ([some (.ref 943), none, some (.int u2), some (.int t0)], [.ref 943], (v0 L, (am_si g 943 41 (((am_i g 943 41) * u2) + t0))))) rfl ?_ ?_
    · refine ev_jm 1 (t := (111, [some (.ref 943), none, some (.int u2), some (.int t0)], [.int (((am_i g 943 41) * u2) + t0), .ref 943], (v0 L, (am_si g 943 41 (((am_i g 943 41) * u2) + t0))))) rfl ?_
      exact dj_105_111 L (am_si g 943 41 (((am_i g 943 41) * u2) + t0)) u2 (((am_i g 943 41) * u2) + t0) none (some (.int t0)) _
    · refine ev_jm 1 (t := (111, [some (.ref 943), none, some (.int u2), some (.int t0)], [.int 1114112, .ref 943], (v0 L, (am_si g 943 41 (((am_i g 943 41) * u2) + t0))))) rfl ?_
      exact dj_105_111 L (am_si g 943 41 (((am_i g 943 41) * u2) + t0)) u2 1114112 none (some (.int t0)) _
  · refine ev_oi 1 (as := [.ref 943]) (pc := 79) (Lc := [some (.ref 943), none, some (.int u2), some (.int t0)]) (st := []) (V := v0 L) (g1 := g) (e := ez_i) rfl (dm_23 L g ) (fun y1 g2 => ?_)
    exact fun hR => by cases hR; exact ev_rt 0 rfl
noncomputable def fj_105_69  (g : am_G) (u2 : Int32) : Option (Int32 × am_G) := fj_105_70 g u2 (-1)
theorem dj_105_69 (L : Nat)   (g : am_G) (u2 : Int32) (w1 w3 : Option Value) (R : Int32 × am_G) : fj_105_69  g u2 = some R → ai_ev ap_P 105 (69, [some (.ref 943), w1, some (.int u2), w3], [], (v0 L, g)) (.inl (ez_i R.1)) (v0 L, R.2) := by
  unfold fj_105_69
  refine ev_jm 0 (t := (70, [some (.ref 943), none, some (.int u2), none], [.int (-1)], (v0 L, g))) rfl ?_
  exact dj_105_70 L g u2 (-1) none none _
noncomputable def fj_105_44  (g : am_G) (u1 : Int32) (u2 : Int32) : Option (Int32 × am_G) := if u2 = 16 then if u1 < 65 then fj_105_69 g u2 else if (70 : Int32) < u1 then fj_105_69 g u2 else fj_105_70 g u2 (u1 - 55) else fj_105_69 g u2
theorem dj_105_44 (L : Nat)   (g : am_G) (u1 : Int32) (u2 : Int32) (w3 : Option Value) (R : Int32 × am_G) : fj_105_44  g u1 u2 = some R → ai_ev ap_P 105 (44, [some (.ref 943), some (.int u1), some (.int u2), w3], [], (v0 L, g)) (.inl (ez_i R.1)) (v0 L, R.2) := by
  unfold fj_105_44
  refine ev_in 2 (p := u2 = 16) (a := 69) (b := 50) (T := ([some (.ref 943), some (.int u1), some (.int u2), none], [], (v0 L, g))) rfl ?_ ?_
  · refine ev_if 2 (p := u1 < 65) (a := 69) (b := 56) (T := ([some (.ref 943), some (.int u1), some (.int u2), none], [], (v0 L, g))) rfl ?_ ?_
    · exact dj_105_69 L g u2 (some (.int u1)) none _
    · refine ev_if 2 (p := (70 : Int32) < u1) (a := 69) (b := 62) (T := ([some (.ref 943), some (.int u1), some (.int u2), none], [], (v0 L, g))) rfl ?_ ?_
      · exact dj_105_69 L g u2 (some (.int u1)) none _
      · refine ev_jm 3 (t := (70, [some (.ref 943), some (.int u1), some (.int u2), none], [.int (u1 - 55)], (v0 L, g))) rfl ?_
        exact dj_105_70 L g u2 (u1 - 55) (some (.int u1)) none _
  · exact dj_105_69 L g u2 (some (.int u1)) none _
noncomputable def fj_105_19  (g : am_G) (u1 : Int32) (u2 : Int32) : Option (Int32 × am_G) := if u2 = 16 then if u1 < 97 then fj_105_44 g u1 u2 else if (102 : Int32) < u1 then fj_105_44 g u1 u2 else fj_105_70 g u2 (u1 - 87) else fj_105_44 g u1 u2
theorem dj_105_19 (L : Nat)   (g : am_G) (u1 : Int32) (u2 : Int32) (w3 : Option Value) (R : Int32 × am_G) : fj_105_19  g u1 u2 = some R → ai_ev ap_P 105 (19, [some (.ref 943), some (.int u1), some (.int u2), w3], [], (v0 L, g)) (.inl (ez_i R.1)) (v0 L, R.2) := by
  unfold fj_105_19
  refine ev_in 2 (p := u2 = 16) (a := 44) (b := 25) (T := ([some (.ref 943), some (.int u1), some (.int u2), none], [], (v0 L, g))) rfl ?_ ?_
  · refine ev_if 2 (p := u1 < 97) (a := 44) (b := 31) (T := ([some (.ref 943), some (.int u1), some (.int u2), none], [], (v0 L, g))) rfl ?_ ?_
    · exact dj_105_44 L g u1 u2 none _
    · refine ev_if 2 (p := (102 : Int32) < u1) (a := 44) (b := 37) (T := ([some (.ref 943), some (.int u1), some (.int u2), none], [], (v0 L, g))) rfl ?_ ?_
      · exact dj_105_44 L g u1 u2 none _
      · refine ev_jm 3 (t := (70, [some (.ref 943), some (.int u1), some (.int u2), none], [.int (u1 - 87)], (v0 L, g))) rfl ?_
        exact dj_105_70 L g u2 (u1 - 87) (some (.int u1)) none _
  · exact dj_105_44 L g u1 u2 none _
/-- DeclaredMarkupModel.digit(II)I -/
noncomputable def fm_105 (g : am_G) (u1 : Int32) (u2 : Int32) : Option (Int32 × am_G) := if u1 < 48 then fj_105_19 g u1 u2 else if (57 : Int32) < u1 then fj_105_19 g u1 u2 else fj_105_70 g u2 (u1 - 48)
theorem dm_105 (L : Nat) (g : am_G) (u1 : Int32) (u2 : Int32) (R : Int32 × am_G) : fm_105 g u1 u2 = some R → ai_ev ap_P 105 (ai_e0 ap_P 105 [.ref 943, .int u1, .int u2] (v0 L, g)) (.inl (ez_i R.1)) (v0 L, R.2) := by
  show _ → ai_ev ap_P 105 (0, [some (.ref 943), some (.int u1), some (.int u2), none], [], (v0 L, g)) _ _
  unfold fm_105
  refine ev_if 2 (p := u1 < 48) (a := 19) (b := 6) (T := ([some (.ref 943), some (.int u1), some (.int u2), none], [], (v0 L, g))) rfl ?_ ?_
  · exact dj_105_19 L g u1 u2 none _
  · refine ev_if 2 (p := (57 : Int32) < u1) (a := 19) (b := 12) (T := ([some (.ref 943), some (.int u1), some (.int u2), none], [], (v0 L, g))) rfl ?_ ?_
    · exact dj_105_19 L g u1 u2 none _
    · refine ev_jm 3 (t := (70, [some (.ref 943), some (.int u1), some (.int u2), none], [.int (u1 - 48)], (v0 L, g))) rfl ?_
      exact dj_105_70 L g u2 (u1 - 48) (some (.int u1)) none _
noncomputable def fb_101_32 (k32 : (am_G × Int32 × Int32) → Option (Int32 × am_G)) (g : am_G) (u1 : Int32) (u2 : Int32) : Option (Int32 × am_G) := lo_g (ai_in u1 6000) (if (am_i g 953 u1.toNatClampNeg) ≤ u2 then lo_g (ai_in ((am_i g 943 102) + (am_i g 953 u1.toNatClampNeg)) 15000) (lo_i (fm_25 (am_si (am_si (am_si g 943 102 ((am_i g 943 102) + (am_i g 953 u1.toNatClampNeg))) 989 (((am_i g 943 102) + (am_i g 953 u1.toNatClampNeg))).toNatClampNeg 59) 943 102 (((am_i g 943 102) + (am_i g 953 u1.toNatClampNeg)) + 1)) 70) fun y3 g4 => some (y3, g4)) else lo_g (ai_in ((am_i g 952 u1.toNatClampNeg) + u2) 19000) (lo_g (ai_in ((am_i g 943 102) + u2) 15000) (k32 ((am_si g 989 (((am_i g 943 102) + u2)).toNatClampNeg (am_i g 951 (((am_i g 952 u1.toNatClampNeg) + u2)).toNatClampNeg)), u1, (u2 + 1)))))
theorem db_101_32 (L : Nat) {k32 : (am_G × Int32 × Int32) → Option (Int32 × am_G)} (hk32 : ∀ (x : am_G × Int32 × Int32) (w3 : Option Value) (R : Int32 × am_G), k32 x = some R → ai_ev ap_P 101 (32, [some (.ref 943), some (.int x.2.1), some (.int x.2.2), w3], [], (v0 L, x.1)) (.inl (ez_i R.1)) (v0 L, R.2)) (g : am_G) (u1 : Int32) (u2 : Int32) (w3 : Option Value) (R : Int32 × am_G) : fb_101_32 k32 g u1 u2 = some R → ai_ev ap_P 101 (32, [some (.ref 943), some (.int u1), some (.int u2), w3], [], (v0 L, g)) (.inl (ez_i R.1)) (v0 L, R.2) := by
  unfold fb_101_32
  refine ev_gd (c := ai_in u1 6000) (fun hc1 => ?_)
  refine ev_jm 4 (t := (39, [some (.ref 943), some (.int u1), some (.int u2), none], [.int (am_i g 953 u1.toNatClampNeg), .int u2], (v0 L, g))) (ai_gd (c := ai_in u1 6000) rfl hc1) ?_
  refine ev_if 0 (p := (am_i g 953 u1.toNatClampNeg) ≤ u2) (a := 72) (b := 42) (T := ([some (.ref 943), some (.int u1), some (.int u2), none], [], (v0 L, g))) rfl ?_ ?_
  · refine ev_jm 6 (t := (83, [some (.ref 943), some (.int u1), some (.int u2), none], [.int (am_i g 953 u1.toNatClampNeg), .int (am_i g 943 102), .ref 943], (v0 L, g))) (ai_gd (c := ai_in u1 6000) rfl hc1) ?_
    refine ev_gd (c := ai_in ((am_i g 943 102) + (am_i g 953 u1.toNatClampNeg)) 15000) (fun hc2 => ?_)
    refine ev_jm 7 (t := (98, [some (.ref 943), some (.int u1), some (.int u2), none], [], (v0 L, (am_si (am_si g 943 102 ((am_i g 943 102) + (am_i g 953 u1.toNatClampNeg))) 989 (((am_i g 943 102) + (am_i g 953 u1.toNatClampNeg))).toNatClampNeg 59)))) (ai_gd (c := ai_in ((am_i g 943 102) + (am_i g 953 u1.toNatClampNeg)) 15000) rfl hc2) ?_
    refine ev_oi 8 (as := [.ref 943, .int 70]) (pc := 114) (Lc := [some (.ref 943), some (.int u1), some (.int u2), none]) (st := []) (V := v0 L) (g1 := (am_si (am_si (am_si g 943 102 ((am_i g 943 102) + (am_i g 953 u1.toNatClampNeg))) 989 (((am_i g 943 102) + (am_i g 953 u1.toNatClampNeg))).toNatClampNeg 59) 943 102 (((am_i g 943 102) + (am_i g 953 u1.toNatClampNeg)) + 1))) (e := ez_i) rfl (dm_25 L (am_si (am_si (am_si g 943 102 ((am_i g 943 102) + (am_i g 953 u1.toNatClampNeg))) 989 (((am_i g 943 102) + (am_i g 953 u1.toNatClampNeg))).toNatClampNeg 59) 943 102 (((am_i g 943 102) + (am_i g 953 u1.toNatClampNeg)) + 1)) 70) (fun y3 g4 => ?_)
    exact fun hR => by cases hR; exact ev_rt 0 rfl
  · refine ev_jm 11 (t := (62, [some (.ref 943), some (.int u1), some (.int u2), none], [.int (am_i g 952 u1.toNatClampNeg), .ref 951, .int ((am_i g 943 102) + u2), .ref 989], (v0 L, g))) (ai_gd (c := ai_in u1 6000) rfl hc1) ?_
    refine ev_gd (c := ai_in ((am_i g 952 u1.toNatClampNeg) + u2) 19000) (fun hc5 => ?_)
    refine ev_jm 2 (t := (65, [some (.ref 943), some (.int u1), some (.int u2), none], [.int (am_i g 951 (((am_i g 952 u1.toNatClampNeg) + u2)).toNatClampNeg), .int ((am_i g 943 102) + u2), .ref 989], (v0 L, g))) (ai_gd (c := ai_in ((am_i g 952 u1.toNatClampNeg) + u2) 19000) rfl hc5) ?_
    refine ev_gd (c := ai_in ((am_i g 943 102) + u2) 15000) (fun hc6 => ?_)
    refine ev_jm 0 (t := (66, [some (.ref 943), some (.int u1), some (.int u2), none], [], (v0 L, (am_si g 989 (((am_i g 943 102) + u2)).toNatClampNeg (am_i g 951 (((am_i g 952 u1.toNatClampNeg) + u2)).toNatClampNeg))))) (ai_gd (c := ai_in ((am_i g 943 102) + u2) 15000) rfl hc6) ?_
    refine ev_jm 1 (t := (32, [some (.ref 943), some (.int u1), some (.int (u2 + 1)), none], [], (v0 L, (am_si g 989 (((am_i g 943 102) + u2)).toNatClampNeg (am_i g 951 (((am_i g 952 u1.toNatClampNeg) + u2)).toNatClampNeg))))) rfl ?_
    exact hk32 ((am_si g 989 (((am_i g 943 102) + u2)).toNatClampNeg (am_i g 951 (((am_i g 952 u1.toNatClampNeg) + u2)).toNatClampNeg)), u1, (u2 + 1)) none _
noncomputable def fh_101_32  (x : am_G × Int32 × Int32) : Option (Int32 × am_G) := lo_it (fun k x => fb_101_32 k x.1 x.2.1 x.2.2) nf_F x
theorem dh_101_32 (L : Nat)   (x : am_G × Int32 × Int32) (w3 : Option Value) (R : Int32 × am_G) : fh_101_32  x = some R → ai_ev ap_P 101 (32, [some (.ref 943), some (.int x.2.1), some (.int x.2.2), w3], [], (v0 L, x.1)) (.inl (ez_i R.1)) (v0 L, R.2) :=
  fun hr => lo_ev (E := fun x R => ∀ (w3 : Option Value), ai_ev ap_P 101 (32, [some (.ref 943), some (.int x.2.1), some (.int x.2.2), w3], [], (v0 L, x.1)) (.inl (ez_i R.1)) (v0 L, R.2)) (fun k hk x R hr => fun w3 => db_101_32 L (fun x w3 R hr => hk x R hr w3) x.1 x.2.1 x.2.2 w3 R hr) nf_F x R hr w3
noncomputable def fj_101_221  (g : am_G) (t1 : Int32) (t2 : Int32) : Option (Int32 × am_G) := lo_i (fm_102 g t1 t2 (am_i g 943 39)) fun y1 g2 => some (y1, g2)
theorem dj_101_221 (L : Nat)   (g : am_G) (t1 : Int32) (t2 : Int32) (w1 w2 w3 : Option Value) (R : Int32 × am_G) : fj_101_221  g t1 t2 = some R → ai_ev ap_P 101 (221, [some (.ref 943), w1, w2, w3], [.int t2, .int t1, .ref 943], (v0 L, g)) (.inl (ez_i R.1)) (v0 L, R.2) := by
  unfold fj_101_221
  refine ev_oi 2 (as := [.ref 943, .int t1, .int t2, .int (am_i g 943 39)]) (pc := 228) (Lc := [some (.ref 943), none, none, none]) (st := []) (V := v0 L) (g1 := g) (e := ez_i) rfl (dm_102 L g t1 t2 (am_i g 943 39)) (fun y1 g2 => ?_)
  exact fun hR => by cases hR; exact ev_rt 0 rfl
noncomputable def fj_101_205  (g : am_G) (u3 : Int32) : Option (Int32 × am_G) := if (am_i g 943 40) = 50 then fj_101_221 g u3 0 else fj_101_221 g u3 1
theorem dj_101_205 (L : Nat)   (g : am_G) (u3 : Int32) (w1 w2 : Option Value) (R : Int32 × am_G) : fj_101_205  g u3 = some R → ai_ev ap_P 101 (205, [some (.ref 943), w1, w2, some (.int u3)], [], (v0 L, g)) (.inl (ez_i R.1)) (v0 L, R.2) := by
  unfold fj_101_205
  refine ev_in 5 (p := (am_i g 943 40) = 50) (a := 220) (b := 216) (T := ([some (.ref 943), none, none, some (.int u3)], [.int u3, .ref 943], (v0 L, g))) rfl ?_ ?_
  · refine ev_jm 1 (t := (221, [some (.ref 943), none, none, some (.int u3)], [.int 0, .int u3, .ref 943], (v0 L, g))) rfl ?_
    exact dj_101_221 L g u3 0 none none (some (.int u3)) _
  · refine ev_jm 0 (t := (221, [some (.ref 943), none, none, some (.int u3)], [.int 1, .int u3, .ref 943], (v0 L, g))) rfl ?_
    exact dj_101_221 L g u3 1 none none (some (.int u3)) _
/-- DeclaredMarkupModel.referred(I)I -/
noncomputable def fm_101 (g : am_G) (u1 : Int32) : Option (Int32 × am_G) := if (am_i g 943 40) = 70 then lo_g (ai_in (am_i g 943 102) 15000) (fh_101_32 ((am_si (am_si g 989 ((am_i g 943 102)).toNatClampNeg 38) 943 102 ((am_i g 943 102) + 1)), u1, 0)) else lo_p (fm_31 g u1) fun y1 => if y1 ≤ 0 then lo_p (fm_99 g u1 0) fun y3 => if (0 : Int32) ≤ y3 then if (am_i g 943 40) = 50 then lo_p (fm_45 g ) fun g6 => fj_101_205 g6 y3 else fj_101_205 g y3 else lo_i (fm_21 g 5 (am_i g 943 39)) fun y7 g8 => some (y7, g8) else if (am_i g 943 40) = 50 then lo_p (fm_46 g ) fun g14 => lo_p (fm_40 g14 y1) fun g16 => lo_i (fm_44 g16 ) fun y17 g18 => some (y17, g18) else lo_i (fm_82 g y1 (am_i g 943 39)) fun y9 g10 => if (0 : Int32) ≤ y9 then lo_i (fm_25 g10 58) fun y11 g12 => some (y11, g12) else some ((-1), g10)
theorem dm_101 (L : Nat) (g : am_G) (u1 : Int32) (R : Int32 × am_G) : fm_101 g u1 = some R → ai_ev ap_P 101 (ai_e0 ap_P 101 [.ref 943, .int u1] (v0 L, g)) (.inl (ez_i R.1)) (v0 L, R.2) := by
  show _ → ai_ev ap_P 101 (0, [some (.ref 943), some (.int u1), none, none], [], (v0 L, g)) _ _
  unfold fm_101
  refine ev_in 3 (p := (am_i g 943 40) = 70) (a := 115) (b := 9) (T := ([some (.ref 943), some (.int u1), none, none], [], (v0 L, g))) rfl ?_ ?_
  · refine ev_gd (c := ai_in (am_i g 943 102) 15000) (fun hc19 => ?_)
    refine ev_jm 5 (t := (20, [some (.ref 943), some (.int u1), none, none], [], (v0 L, (am_si g 989 ((am_i g 943 102)).toNatClampNeg 38)))) (ai_gd (c := ai_in (am_i g 943 102) 15000) rfl hc19) ?_
    refine ev_jm 7 (t := (32, [some (.ref 943), some (.int u1), some (.int 0), none], [], (v0 L, (am_si (am_si g 989 ((am_i g 943 102)).toNatClampNeg 38) 943 102 ((am_i g 943 102) + 1))))) rfl ?_
    exact dh_101_32 L ((am_si (am_si g 989 ((am_i g 943 102)).toNatClampNeg 38) 943 102 ((am_i g 943 102) + 1)), u1, 0) none _
  · refine ev_op 2 (as := [.ref 943, .int u1]) (pc := 120) (Lc := [some (.ref 943), some (.int u1), none, none]) (st := []) (h1 := (v0 L, g)) (e := ez_i) rfl (dm_31 L g u1) (fun y1 => ?_)
    refine ev_if 2 (p := y1 ≤ 0) (a := 171) (b := 125) (T := ([some (.ref 943), some (.int u1), some (.int y1), none], [], (v0 L, g))) rfl ?_ ?_
    · refine ev_op 3 (as := [.ref 943, .int u1, .int 0]) (pc := 177) (Lc := [some (.ref 943), some (.int u1), some (.int y1), none]) (st := []) (h1 := (v0 L, g)) (e := ez_i) rfl (dm_99 L g u1 0) (fun y3 => ?_)
      refine ev_if 2 (p := (0 : Int32) ≤ y3) (a := 192) (b := 182) (T := ([some (.ref 943), some (.int u1), some (.int y1), some (.int y3)], [], (v0 L, g))) rfl ?_ ?_
      · refine ev_in 3 (p := (am_i g 943 40) = 50) (a := 205) (b := 201) (T := ([some (.ref 943), some (.int u1), some (.int y1), some (.int y3)], [], (v0 L, g))) rfl ?_ ?_
        · refine ev_ov0 1 (as := [.ref 943]) (pc := 205) (Lc := [some (.ref 943), some (.int u1), some (.int y1), some (.int y3)]) (st := []) (V := v0 L) (g1 := g) rfl (dm_45 L g ) (fun g6 => ?_)
          exact dj_101_205 L g6 y3 (some (.int u1)) (some (.int y1)) _
        · exact dj_101_205 L g y3 (some (.int u1)) (some (.int y1)) _
      · refine ev_oi 4 (as := [.ref 943, .int 5, .int (am_i g 943 39)]) (pc := 191) (Lc := [some (.ref 943), some (.int u1), some (.int y1), some (.int y3)]) (st := []) (V := v0 L) (g1 := g) (e := ez_i) rfl (dm_21 L g 5 (am_i g 943 39)) (fun y7 g8 => ?_)
        exact fun hR => by cases hR; exact ev_rt 0 rfl
    · refine ev_in 3 (p := (am_i g 943 40) = 50) (a := 148) (b := 134) (T := ([some (.ref 943), some (.int u1), some (.int y1), none], [], (v0 L, g))) rfl ?_ ?_
      · refine ev_ov0 1 (as := [.ref 943]) (pc := 138) (Lc := [some (.ref 943), some (.int u1), some (.int y1), none]) (st := []) (V := v0 L) (g1 := g) rfl (dm_46 L g ) (fun g14 => ?_)
        refine ev_ov0 2 (as := [.ref 943, .int y1]) (pc := 143) (Lc := [some (.ref 943), some (.int u1), some (.int y1), none]) (st := []) (V := v0 L) (g1 := g14) rfl (dm_40 L g14 y1) (fun g16 => ?_)
        refine ev_oi 1 (as := [.ref 943]) (pc := 147) (Lc := [some (.ref 943), some (.int u1), some (.int y1), none]) (st := []) (V := v0 L) (g1 := g16) (e := ez_i) rfl (dm_44 L g16 ) (fun y17 g18 => ?_)
        exact fun hR => by cases hR; exact ev_rt 0 rfl
      · refine ev_oi 4 (as := [.ref 943, .int y1, .int (am_i g 943 39)]) (pc := 157) (Lc := [some (.ref 943), some (.int u1), some (.int y1), none]) (st := []) (V := v0 L) (g1 := g) (e := ez_i) rfl (dm_82 L g y1 (am_i g 943 39)) (fun y9 g10 => ?_)
        refine ev_if 0 (p := (0 : Int32) ≤ y9) (a := 164) (b := 160) (T := ([some (.ref 943), some (.int u1), some (.int y1), none], [], (v0 L, g10))) rfl ?_ ?_
        · refine ev_oi 2 (as := [.ref 943, .int 58]) (pc := 170) (Lc := [some (.ref 943), some (.int u1), some (.int y1), none]) (st := []) (V := v0 L) (g1 := g10) (e := ez_i) rfl (dm_25 L g10 58) (fun y11 g12 => ?_)
          exact fun hR => by cases hR; exact ev_rt 0 rfl
        · exact fun hR => by cases hR; exact ev_rt 2 rfl
/-- DeclaredMarkupModel.numbered()I -/
noncomputable def fm_104 (g : am_G)  : Option (Int32 × am_G) := lo_p (fm_15 g (am_i g 943 41)) fun y1 => if y1 = 0 then lo_i (fm_21 g 8 (am_i g 943 39)) fun y16 g17 => some (y16, g17) else if (am_i g 943 40) = 70 then lo_g (ai_in (am_i g 943 102) 15000) (lo_i (fm_25 (am_si (am_si g 989 ((am_i g 943 102)).toNatClampNeg (am_i g 943 41)) 943 102 ((am_i g 943 102) + 1)) 70) fun y14 g15 => some (y14, g15)) else if (am_i g 943 40) = 58 then lo_i (fm_82 g (am_i g 943 41) (am_i g 943 39)) fun y9 g10 => if (0 : Int32) ≤ y9 then lo_i (fm_25 g10 58) fun y11 g12 => some (y11, g12) else some ((-1), g10) else lo_p (fm_46 g ) fun g4 => lo_p (fm_40 g4 (am_i g4 943 41)) fun g6 => lo_i (fm_44 g6 ) fun y7 g8 => some (y7, g8)
theorem dm_104 (L : Nat) (g : am_G)  (R : Int32 × am_G) : fm_104 g  = some R → ai_ev ap_P 104 (ai_e0 ap_P 104 [.ref 943] (v0 L, g)) (.inl (ez_i R.1)) (v0 L, R.2) := by
  show _ → ai_ev ap_P 104 (0, [some (.ref 943)], [], (v0 L, g)) _ _
  unfold fm_104
  refine ev_op 2 (as := [.int (am_i g 943 41)]) (pc := 7) (Lc := [some (.ref 943)]) (st := []) (h1 := (v0 L, g)) (e := ez_i) rfl (dm_15 L g (am_i g 943 41)) (fun y1 => ?_)
  refine ev_in 0 (p := y1 = 0) (a := 21) (b := 10) (T := ([some (.ref 943)], [], (v0 L, g))) rfl ?_ ?_
  · refine ev_oi 4 (as := [.ref 943, .int 8, .int (am_i g 943 39)]) (pc := 20) (Lc := [some (.ref 943)]) (st := []) (V := v0 L) (g1 := g) (e := ez_i) rfl (dm_21 L g 8 (am_i g 943 39)) (fun y16 g17 => ?_)
    exact fun hR => by cases hR; exact ev_rt 0 rfl
  · refine ev_in 3 (p := (am_i g 943 40) = 70) (a := 60) (b := 30) (T := ([some (.ref 943)], [], (v0 L, g))) rfl ?_ ?_
    · refine ev_gd (c := ai_in (am_i g 943 102) 15000) (fun hc13 => ?_)
      refine ev_jm 6 (t := (43, [some (.ref 943)], [], (v0 L, (am_si g 989 ((am_i g 943 102)).toNatClampNeg (am_i g 943 41))))) (ai_gd (c := ai_in (am_i g 943 102) 15000) rfl hc13) ?_
      refine ev_oi 8 (as := [.ref 943, .int 70]) (pc := 59) (Lc := [some (.ref 943)]) (st := []) (V := v0 L) (g1 := (am_si (am_si g 989 ((am_i g 943 102)).toNatClampNeg (am_i g 943 41)) 943 102 ((am_i g 943 102) + 1))) (e := ez_i) rfl (dm_25 L (am_si (am_si g 989 ((am_i g 943 102)).toNatClampNeg (am_i g 943 41)) 943 102 ((am_i g 943 102) + 1)) 70) (fun y14 g15 => ?_)
      exact fun hR => by cases hR; exact ev_rt 0 rfl
    · refine ev_in 3 (p := (am_i g 943 40) = 58) (a := 95) (b := 69) (T := ([some (.ref 943)], [], (v0 L, g))) rfl ?_ ?_
      · refine ev_oi 5 (as := [.ref 943, .int (am_i g 943 41), .int (am_i g 943 39)]) (pc := 81) (Lc := [some (.ref 943)]) (st := []) (V := v0 L) (g1 := g) (e := ez_i) rfl (dm_82 L g (am_i g 943 41) (am_i g 943 39)) (fun y9 g10 => ?_)
        refine ev_if 0 (p := (0 : Int32) ≤ y9) (a := 88) (b := 84) (T := ([some (.ref 943)], [], (v0 L, g10))) rfl ?_ ?_
        · refine ev_oi 2 (as := [.ref 943, .int 58]) (pc := 94) (Lc := [some (.ref 943)]) (st := []) (V := v0 L) (g1 := g10) (e := ez_i) rfl (dm_25 L g10 58) (fun y11 g12 => ?_)
          exact fun hR => by cases hR; exact ev_rt 0 rfl
        · exact fun hR => by cases hR; exact ev_rt 2 rfl
      · refine ev_ov0 1 (as := [.ref 943]) (pc := 99) (Lc := [some (.ref 943)]) (st := []) (V := v0 L) (g1 := g) rfl (dm_46 L g ) (fun g4 => ?_)
        refine ev_ov0 3 (as := [.ref 943, .int (am_i g4 943 41)]) (pc := 107) (Lc := [some (.ref 943)]) (st := []) (V := v0 L) (g1 := g4) rfl (dm_40 L g4 (am_i g4 943 41)) (fun g6 => ?_)
        refine ev_oi 1 (as := [.ref 943]) (pc := 111) (Lc := [some (.ref 943)]) (st := []) (V := v0 L) (g1 := g6) (e := ez_i) rfl (dm_44 L g6 ) (fun y7 g8 => ?_)
        exact fun hR => by cases hR; exact ev_rt 0 rfl
/-- DeclaredMarkupModel.referenceStep(I)I -/
noncomputable def fm_123 (g : am_G) (u1 : Int32) : Option (Int32 × am_G) := if (am_i g 943 26) = 60 then if u1 = 35 then lo_i (fm_25 (am_si g 943 41 0) 61) fun y3 g4 => some (y3, g4) else lo_i (fm_27 (am_si g 943 41 0) u1 4 0) fun y1 g2 => some (y1, g2) else if (am_i g 943 26) = 61 then if u1 = 120 then lo_i (fm_25 g 64) fun y7 g8 => some (y7, g8) else lo_i (fm_105 g u1 10) fun y5 g6 => some (y5, g6) else if (am_i g 943 26) = 62 then if u1 = 59 then lo_i (fm_101 g (am_i g 943 73)) fun y11 g12 => some (y11, g12) else lo_i (fm_23 g ) fun y9 g10 => some (y9, g10) else if (am_i g 943 26) = 63 then if u1 = 59 then lo_i (fm_104 g ) fun y15 g16 => some (y15, g16) else lo_i (fm_105 g u1 10) fun y13 g14 => some (y13, g14) else if (am_i g 943 26) = 64 then lo_i (fm_105 g u1 16) fun y17 g18 => some (y17, g18) else if u1 = 59 then lo_i (fm_104 g ) fun y21 g22 => some (y21, g22) else lo_i (fm_105 g u1 16) fun y19 g20 => some (y19, g20)
theorem dm_123 (L : Nat) (g : am_G) (u1 : Int32) (R : Int32 × am_G) : fm_123 g u1 = some R → ai_ev ap_P 123 (ai_e0 ap_P 123 [.ref 943, .int u1] (v0 L, g)) (.inl (ez_i R.1)) (v0 L, R.2) := by
  show _ → ai_ev ap_P 123 (0, [some (.ref 943), some (.int u1)], [], (v0 L, g)) _ _
  unfold fm_123
  refine ev_sw 2 (ps := [(60, 40), (61, 68), (62, 91), (63, 113), (64, 134)]) (d := 142) (x := (am_i g 943 26)) (T := ([some (.ref 943), some (.int u1)], [], (v0 L, g))) rfl ?_
  refine sw_c ?_ ?_
  · refine ev_in 5 (p := u1 = 35) (a := 60) (b := 51) (T := ([some (.ref 943), some (.int u1)], [], (v0 L, (am_si g 943 41 0)))) rfl ?_ ?_
    · refine ev_oi 2 (as := [.ref 943, .int 61]) (pc := 57) (Lc := [some (.ref 943), some (.int u1)]) (st := []) (V := v0 L) (g1 := (am_si g 943 41 0)) (e := ez_i) rfl (dm_25 L (am_si g 943 41 0) 61) (fun y3 g4 => ?_)
      exact fun hR => by cases hR; exact ev_rt 1 rfl
    · refine ev_oi 4 (as := [.ref 943, .int u1, .int 4, .int 0]) (pc := 67) (Lc := [some (.ref 943), some (.int u1)]) (st := []) (V := v0 L) (g1 := (am_si g 943 41 0)) (e := ez_i) rfl (dm_27 L (am_si g 943 41 0) u1 4 0) (fun y1 g2 => ?_)
      exact fun hR => by cases hR; exact ev_rt 0 rfl
  refine sw_c ?_ ?_
  · refine ev_in 2 (p := u1 = 120) (a := 83) (b := 74) (T := ([some (.ref 943), some (.int u1)], [], (v0 L, g))) rfl ?_ ?_
    · refine ev_oi 2 (as := [.ref 943, .int 64]) (pc := 80) (Lc := [some (.ref 943), some (.int u1)]) (st := []) (V := v0 L) (g1 := g) (e := ez_i) rfl (dm_25 L g 64) (fun y7 g8 => ?_)
      exact fun hR => by cases hR; exact ev_rt 1 rfl
    · refine ev_oi 3 (as := [.ref 943, .int u1, .int 10]) (pc := 90) (Lc := [some (.ref 943), some (.int u1)]) (st := []) (V := v0 L) (g1 := g) (e := ez_i) rfl (dm_105 L g u1 10) (fun y5 g6 => ?_)
      exact fun hR => by cases hR; exact ev_rt 0 rfl
  refine sw_c ?_ ?_
  · refine ev_in 2 (p := u1 = 59) (a := 108) (b := 97) (T := ([some (.ref 943), some (.int u1)], [], (v0 L, g))) rfl ?_ ?_
    · refine ev_oi 3 (as := [.ref 943, .int (am_i g 943 73)]) (pc := 105) (Lc := [some (.ref 943), some (.int u1)]) (st := []) (V := v0 L) (g1 := g) (e := ez_i) rfl (dm_101 L g (am_i g 943 73)) (fun y11 g12 => ?_)
      exact fun hR => by cases hR; exact ev_rt 1 rfl
    · refine ev_oi 1 (as := [.ref 943]) (pc := 112) (Lc := [some (.ref 943), some (.int u1)]) (st := []) (V := v0 L) (g1 := g) (e := ez_i) rfl (dm_23 L g ) (fun y9 g10 => ?_)
      exact fun hR => by cases hR; exact ev_rt 0 rfl
  refine sw_c ?_ ?_
  · refine ev_in 2 (p := u1 = 59) (a := 126) (b := 119) (T := ([some (.ref 943), some (.int u1)], [], (v0 L, g))) rfl ?_ ?_
    · refine ev_oi 1 (as := [.ref 943]) (pc := 123) (Lc := [some (.ref 943), some (.int u1)]) (st := []) (V := v0 L) (g1 := g) (e := ez_i) rfl (dm_104 L g ) (fun y15 g16 => ?_)
      exact fun hR => by cases hR; exact ev_rt 1 rfl
    · refine ev_oi 3 (as := [.ref 943, .int u1, .int 10]) (pc := 133) (Lc := [some (.ref 943), some (.int u1)]) (st := []) (V := v0 L) (g1 := g) (e := ez_i) rfl (dm_105 L g u1 10) (fun y13 g14 => ?_)
      exact fun hR => by cases hR; exact ev_rt 0 rfl
  refine sw_c ?_ ?_
  · refine ev_oi 3 (as := [.ref 943, .int u1, .int 16]) (pc := 141) (Lc := [some (.ref 943), some (.int u1)]) (st := []) (V := v0 L) (g1 := g) (e := ez_i) rfl (dm_105 L g u1 16) (fun y17 g18 => ?_)
    exact fun hR => by cases hR; exact ev_rt 0 rfl
  refine sw_n ?_
  refine ev_in 2 (p := u1 = 59) (a := 155) (b := 148) (T := ([some (.ref 943), some (.int u1)], [], (v0 L, g))) rfl ?_ ?_
  · refine ev_oi 1 (as := [.ref 943]) (pc := 152) (Lc := [some (.ref 943), some (.int u1)]) (st := []) (V := v0 L) (g1 := g) (e := ez_i) rfl (dm_104 L g ) (fun y21 g22 => ?_)
    exact fun hR => by cases hR; exact ev_rt 1 rfl
  · refine ev_oi 3 (as := [.ref 943, .int u1, .int 16]) (pc := 162) (Lc := [some (.ref 943), some (.int u1)]) (st := []) (V := v0 L) (g1 := g) (e := ez_i) rfl (dm_105 L g u1 16) (fun y19 g20 => ?_)
    exact fun hR => by cases hR; exact ev_rt 0 rfl
/-- DeclaredMarkupModel.quoted()I -/
noncomputable def fm_108 (g : am_G)  : Option (Int32 × am_G) := lo_l ((am_i g 943 102) - (am_i g 943 101)) fun x1 => if (am_i g 943 71) = 0 then if ((am_i g 943 101) + x1) ≤ 8000 then lo_g (ai_in (am_i g 943 95) 40) (lo_i (fm_25 (am_si (am_si (am_si (am_si (am_si (am_si g 985 ((am_i g 943 95)).toNatClampNeg (am_i g 943 72)) 986 ((am_i g 943 95)).toNatClampNeg (vp_nar .boolean (am_i g 943 103))) 987 ((am_i g 943 95)).toNatClampNeg (am_i g 943 101)) 988 ((am_i g 943 95)).toNatClampNeg x1) 943 95 ((am_i g 943 95) + 1)) 943 101 (am_i g 943 102)) 126) fun y3 g4 => some (y3, g4)) else lo_i (fm_22 g 6 (am_i g 943 74)) fun y5 g6 => some (y5, g6) else lo_i (fm_25 g 126) fun y7 g8 => some (y7, g8)
theorem dm_108 (L : Nat) (g : am_G)  (R : Int32 × am_G) : fm_108 g  = some R → ai_ev ap_P 108 (ai_e0 ap_P 108 [.ref 943] (v0 L, g)) (.inl (ez_i R.1)) (v0 L, R.2) := by
  show _ → ai_ev ap_P 108 (0, [some (.ref 943), none], [], (v0 L, g)) _ _
  unfold fm_108
  refine ev_jm 4 (t := (9, [some (.ref 943), none], [.int ((am_i g 943 102) - (am_i g 943 101))], (v0 L, g))) rfl ?_
  refine lo_e (S := fun (x1 : Int32) => (9, [some (.ref 943), none], [.int x1], (v0 L, g))) (fun x1 => ?_)
  refine ev_if 3 (p := (am_i g 943 71) = 0) (a := 24) (b := 17) (T := ([some (.ref 943), some (.int x1)], [], (v0 L, g))) rfl ?_ ?_
  · refine ev_if 5 (p := ((am_i g 943 101) + x1) ≤ 8000) (a := 47) (b := 36) (T := ([some (.ref 943), some (.int x1)], [], (v0 L, g))) rfl ?_ ?_
    · refine ev_gd (c := ai_in (am_i g 943 95) 40) (fun hc2 => ?_)
      refine ev_jm 6 (t := (60, [some (.ref 943), some (.int x1)], [], (v0 L, (am_si g 985 ((am_i g 943 95)).toNatClampNeg (am_i g 943 72))))) (ai_gd (c := ai_in (am_i g 943 95) 40) rfl hc2) ?_
      refine ev_jm 6 (t := (73, [some (.ref 943), some (.int x1)], [], (v0 L, (am_si (am_si g 985 ((am_i g 943 95)).toNatClampNeg (am_i g 943 72)) 986 ((am_i g 943 95)).toNatClampNeg (vp_nar .boolean (am_i g 943 103)))))) (ai_gd (c := ai_in (am_i g 943 95) 40) rfl hc2) ?_
      refine ev_jm 6 (t := (86, [some (.ref 943), some (.int x1)], [], (v0 L, (am_si (am_si (am_si g 985 ((am_i g 943 95)).toNatClampNeg (am_i g 943 72)) 986 ((am_i g 943 95)).toNatClampNeg (vp_nar .boolean (am_i g 943 103))) 987 ((am_i g 943 95)).toNatClampNeg (am_i g 943 101))))) (ai_gd (c := ai_in (am_i g 943 95) 40) rfl hc2) ?_
      refine ev_jm 5 (t := (96, [some (.ref 943), some (.int x1)], [], (v0 L, (am_si (am_si (am_si (am_si g 985 ((am_i g 943 95)).toNatClampNeg (am_i g 943 72)) 986 ((am_i g 943 95)).toNatClampNeg (vp_nar .boolean (am_i g 943 103))) 987 ((am_i g 943 95)).toNatClampNeg (am_i g 943 101)) 988 ((am_i g 943 95)).toNatClampNeg x1)))) (ai_gd (c := ai_in (am_i g 943 95) 40) rfl hc2) ?_
      refine ev_oi 12 (as := [.ref 943, .int 126]) (pc := 120) (Lc := [some (.ref 943), some (.int x1)]) (st := []) (V := v0 L) (g1 := (am_si (am_si (am_si (am_si (am_si (am_si g 985 ((am_i g 943 95)).toNatClampNeg (am_i g 943 72)) 986 ((am_i g 943 95)).toNatClampNeg (vp_nar .boolean (am_i g 943 103))) 987 ((am_i g 943 95)).toNatClampNeg (am_i g 943 101)) 988 ((am_i g 943 95)).toNatClampNeg x1) 943 95 ((am_i g 943 95) + 1)) 943 101 (am_i g 943 102))) (e := ez_i) rfl (dm_25 L (am_si (am_si (am_si (am_si (am_si (am_si g 985 ((am_i g 943 95)).toNatClampNeg (am_i g 943 72)) 986 ((am_i g 943 95)).toNatClampNeg (vp_nar .boolean (am_i g 943 103))) 987 ((am_i g 943 95)).toNatClampNeg (am_i g 943 101)) 988 ((am_i g 943 95)).toNatClampNeg x1) 943 95 ((am_i g 943 95) + 1)) 943 101 (am_i g 943 102)) 126) (fun y3 g4 => ?_)
      exact fun hR => by cases hR; exact ev_rt 0 rfl
    · refine ev_oi 4 (as := [.ref 943, .int 6, .int (am_i g 943 74)]) (pc := 46) (Lc := [some (.ref 943), some (.int x1)]) (st := []) (V := v0 L) (g1 := g) (e := ez_i) rfl (dm_22 L g 6 (am_i g 943 74)) (fun y5 g6 => ?_)
      exact fun hR => by cases hR; exact ev_rt 0 rfl
  · refine ev_oi 2 (as := [.ref 943, .int 126]) (pc := 23) (Lc := [some (.ref 943), some (.int x1)]) (st := []) (V := v0 L) (g1 := g) (e := ez_i) rfl (dm_25 L g 126) (fun y7 g8 => ?_)
    exact fun hR => by cases hR; exact ev_rt 0 rfl
/-- DeclaredMarkupModel.quotesStep(I)I -/
noncomputable def fm_124 (g : am_G) (u1 : Int32) : Option (Int32 × am_G) := if (am_i g 943 26) = 70 then if u1 = (am_i g 943 38) then lo_i (fm_108 g ) fun y6 g7 => some (y6, g7) else if u1 = 38 then lo_i (fm_25 (am_si (am_si g 943 39 (am_i g 943 30)) 943 40 70) 60) fun y4 g5 => some (y4, g5) else if u1 = 37 then lo_i (fm_25 (am_si g 943 42 (am_i g 943 30)) 71) fun y2 g3 => some (y2, g3) else lo_g (ai_in (am_i g 943 102) 15000) (some (0, (am_si (am_si g 989 ((am_i g 943 102)).toNatClampNeg u1) 943 102 ((am_i g 943 102) + 1)))) else if (am_i g 943 26) = 71 then lo_i (fm_27 g u1 7 0) fun y8 g9 => some (y8, g9) else if u1 = 59 then lo_i (fm_21 g 9 (am_i g 943 42)) fun y12 g13 => some (y12, g13) else lo_i (fm_23 g ) fun y10 g11 => some (y10, g11)
theorem dm_124 (L : Nat) (g : am_G) (u1 : Int32) (R : Int32 × am_G) : fm_124 g u1 = some R → ai_ev ap_P 124 (ai_e0 ap_P 124 [.ref 943, .int u1] (v0 L, g)) (.inl (ez_i R.1)) (v0 L, R.2) := by
  show _ → ai_ev ap_P 124 (0, [some (.ref 943), some (.int u1)], [], (v0 L, g)) _ _
  unfold fm_124
  refine ev_sw 2 (ps := [(70, 32), (71, 115)]) (d := 124) (x := (am_i g 943 26)) (T := ([some (.ref 943), some (.int u1)], [], (v0 L, g))) rfl ?_
  refine sw_c ?_ ?_
  · refine ev_in 3 (p := u1 = (am_i g 943 38)) (a := 45) (b := 40) (T := ([some (.ref 943), some (.int u1)], [], (v0 L, g))) rfl ?_ ?_
    · refine ev_oi 1 (as := [.ref 943]) (pc := 44) (Lc := [some (.ref 943), some (.int u1)]) (st := []) (V := v0 L) (g1 := g) (e := ez_i) rfl (dm_108 L g ) (fun y6 g7 => ?_)
      exact fun hR => by cases hR; exact ev_rt 0 rfl
    · refine ev_in 2 (p := u1 = 38) (a := 72) (b := 51) (T := ([some (.ref 943), some (.int u1)], [], (v0 L, g))) rfl ?_ ?_
      · refine ev_oi 9 (as := [.ref 943, .int 60]) (pc := 71) (Lc := [some (.ref 943), some (.int u1)]) (st := []) (V := v0 L) (g1 := (am_si (am_si g 943 39 (am_i g 943 30)) 943 40 70)) (e := ez_i) rfl (dm_25 L (am_si (am_si g 943 39 (am_i g 943 30)) 943 40 70) 60) (fun y4 g5 => ?_)
        exact fun hR => by cases hR; exact ev_rt 0 rfl
      · refine ev_in 2 (p := u1 = 37) (a := 93) (b := 78) (T := ([some (.ref 943), some (.int u1)], [], (v0 L, g))) rfl ?_ ?_
        · refine ev_oi 6 (as := [.ref 943, .int 71]) (pc := 92) (Lc := [some (.ref 943), some (.int u1)]) (st := []) (V := v0 L) (g1 := (am_si g 943 42 (am_i g 943 30))) (e := ez_i) rfl (dm_25 L (am_si g 943 42 (am_i g 943 30)) 71) (fun y2 g3 => ?_)
          exact fun hR => by cases hR; exact ev_rt 0 rfl
        · refine ev_gd (c := ai_in (am_i g 943 102) 15000) (fun hc1 => ?_)
          refine ev_jm 5 (t := (103, [some (.ref 943), some (.int u1)], [], (v0 L, (am_si g 989 ((am_i g 943 102)).toNatClampNeg u1)))) (ai_gd (c := ai_in (am_i g 943 102) 15000) rfl hc1) ?_
          exact fun hR => by cases hR; exact ev_rt 7 rfl
  refine sw_c ?_ ?_
  · refine ev_oi 4 (as := [.ref 943, .int u1, .int 7, .int 0]) (pc := 123) (Lc := [some (.ref 943), some (.int u1)]) (st := []) (V := v0 L) (g1 := g) (e := ez_i) rfl (dm_27 L g u1 7 0) (fun y8 g9 => ?_)
    exact fun hR => by cases hR; exact ev_rt 0 rfl
  refine sw_n ?_
  refine ev_in 2 (p := u1 = 59) (a := 143) (b := 130) (T := ([some (.ref 943), some (.int u1)], [], (v0 L, g))) rfl ?_ ?_
  · refine ev_oi 4 (as := [.ref 943, .int 9, .int (am_i g 943 42)]) (pc := 140) (Lc := [some (.ref 943), some (.int u1)]) (st := []) (V := v0 L) (g1 := g) (e := ez_i) rfl (dm_21 L g 9 (am_i g 943 42)) (fun y12 g13 => ?_)
    exact fun hR => by cases hR; exact ev_rt 1 rfl
  · refine ev_oi 1 (as := [.ref 943]) (pc := 147) (Lc := [some (.ref 943), some (.int u1)]) (st := []) (V := v0 L) (g1 := g) (e := ez_i) rfl (dm_23 L g ) (fun y10 g11 => ?_)
    exact fun hR => by cases hR; exact ev_rt 0 rfl
noncomputable def fb_53_35 (g : am_G) (k7 : (Int32 × Int32) → Option (Int32)) (k35 : (Int32 × Int32 × Int32) → Option (Int32)) (u2 : Int32) (u4 : Int32) (u5 : Int32) : Option (Int32) := if u5 < 0 then k7 (u2, u4) else lo_g (ai_in u4 6100) (if (am_i g 967 u4.toNatClampNeg) = 2 then lo_g (ai_in u5 6100) (if (am_i g 971 u5.toNatClampNeg) = 0 then some 0 else lo_l (am_i g 969 u5.toNatClampNeg) fun x3 => k35 (u2, u4, x3)) else k7 (u2, u4))
theorem db_53_35 (L : Nat) (g : am_G) {k7 : (Int32 × Int32) → Option (Int32)} {k35 : (Int32 × Int32 × Int32) → Option (Int32)} (hk7 : ∀ (x : Int32 × Int32) (w1 w4 w5 : Option Value) (R : Int32), k7 x = some R → ai_ev ap_P 53 (7, [some (.ref 943), w1, some (.int x.1), some (.int x.2), w4, w5], [], (v0 L, g)) (.inl (ez_i R)) (v0 L, g)) (hk35 : ∀ (x : Int32 × Int32 × Int32) (w1 w3 : Option Value) (R : Int32), k35 x = some R → ai_ev ap_P 53 (35, [some (.ref 943), w1, some (.int x.1), w3, some (.int x.2.1), some (.int x.2.2)], [], (v0 L, g)) (.inl (ez_i R)) (v0 L, g)) (u2 : Int32) (u4 : Int32) (u5 : Int32) (w1 w3 : Option Value) (R : Int32) : fb_53_35 g k7 k35 u2 u4 u5 = some R → ai_ev ap_P 53 (35, [some (.ref 943), w1, some (.int u2), w3, some (.int u4), some (.int u5)], [], (v0 L, g)) (.inl (ez_i R)) (v0 L, g) := by
  unfold fb_53_35
  refine ev_if 1 (p := u5 < 0) (a := 75) (b := 40) (T := ([some (.ref 943), none, some (.int u2), none, some (.int u4), some (.int u5)], [], (v0 L, g))) rfl ?_ ?_
  · refine ev_jm 2 (t := (7, [some (.ref 943), none, some (.int u2), some (.int u4), some (.int u4), none], [], (v0 L, g))) rfl ?_
    exact hk7 (u2, u4) none (some (.int u4)) none _
  · refine ev_gd (c := ai_in u4 6100) (fun hc1 => ?_)
    refine ev_jm 3 (t := (47, [some (.ref 943), none, some (.int u2), none, some (.int u4), some (.int u5)], [.int (am_i g 967 u4.toNatClampNeg)], (v0 L, g))) (ai_gd (c := ai_in u4 6100) rfl hc1) ?_
    refine ev_in 1 (p := (am_i g 967 u4.toNatClampNeg) = 2) (a := 75) (b := 51) (T := ([some (.ref 943), none, some (.int u2), none, some (.int u4), some (.int u5)], [], (v0 L, g))) rfl ?_ ?_
    · refine ev_gd (c := ai_in u5 6100) (fun hc2 => ?_)
      refine ev_jm 3 (t := (58, [some (.ref 943), none, some (.int u2), none, some (.int u4), some (.int u5)], [.int (am_i g 971 u5.toNatClampNeg)], (v0 L, g))) (ai_gd (c := ai_in u5 6100) rfl hc2) ?_
      refine ev_in 0 (p := (am_i g 971 u5.toNatClampNeg) = 0) (a := 63) (b := 61) (T := ([some (.ref 943), none, some (.int u2), none, some (.int u4), some (.int u5)], [], (v0 L, g))) rfl ?_ ?_
      · exact fun hR => by cases hR; exact ev_rt 1 rfl
      · refine ev_jm 3 (t := (70, [some (.ref 943), none, some (.int u2), none, some (.int u4), some (.int u5)], [.int (am_i g 969 u5.toNatClampNeg)], (v0 L, g))) (ai_gd (c := ai_in u5 6100) rfl hc2) ?_
        refine lo_e (S := fun (x3 : Int32) => (70, [some (.ref 943), none, some (.int u2), none, some (.int u4), some (.int u5)], [.int x3], (v0 L, g))) (fun x3 => ?_)
        refine ev_jm 1 (t := (35, [some (.ref 943), none, some (.int u2), none, some (.int u4), some (.int x3)], [], (v0 L, g))) rfl ?_
        exact hk35 (u2, u4, x3) none none _
    · refine ev_jm 2 (t := (7, [some (.ref 943), none, some (.int u2), some (.int u4), some (.int u4), none], [], (v0 L, g))) rfl ?_
      exact hk7 (u2, u4) none (some (.int u4)) none _
noncomputable def fh_53_35 (g : am_G) (k7 : (Int32 × Int32) → Option (Int32)) (x : Int32 × Int32 × Int32) : Option (Int32) := lo_it (fun k x => fb_53_35 g k7 k x.1 x.2.1 x.2.2) nf_F x
theorem dh_53_35 (L : Nat) (g : am_G) {k7 : (Int32 × Int32) → Option (Int32)} (hk7 : ∀ (x : Int32 × Int32) (w1 w4 w5 : Option Value) (R : Int32), k7 x = some R → ai_ev ap_P 53 (7, [some (.ref 943), w1, some (.int x.1), some (.int x.2), w4, w5], [], (v0 L, g)) (.inl (ez_i R)) (v0 L, g)) (x : Int32 × Int32 × Int32) (w1 w3 : Option Value) (R : Int32) : fh_53_35 g k7 x = some R → ai_ev ap_P 53 (35, [some (.ref 943), w1, some (.int x.1), w3, some (.int x.2.1), some (.int x.2.2)], [], (v0 L, g)) (.inl (ez_i R)) (v0 L, g) :=
  fun hr => lo_ev (E := fun x R => ∀ (w1 w3 : Option Value), ai_ev ap_P 53 (35, [some (.ref 943), w1, some (.int x.1), w3, some (.int x.2.1), some (.int x.2.2)], [], (v0 L, g)) (.inl (ez_i R)) (v0 L, g)) (fun k hk x R hr => fun w1 w3 => db_53_35 L g hk7 (fun x w1 w3 R hr => hk x R hr w1 w3) x.1 x.2.1 x.2.2 w1 w3 R hr) nf_F x R hr w1 w3
noncomputable def fb_53_7 (g : am_G) (k7 : (Int32 × Int32) → Option (Int32)) (u2 : Int32) (u3 : Int32) : Option (Int32) := if u3 = u2 then some 1 else lo_g (ai_in u3 6100) (lo_l (am_i g 968 u3.toNatClampNeg) fun x2 => if (0 : Int32) ≤ x2 then lo_l (am_i g 969 u3.toNatClampNeg) fun x3 => fh_53_35 g k7 (u2, x2, x3) else some 0)
theorem db_53_7 (L : Nat) (g : am_G) {k7 : (Int32 × Int32) → Option (Int32)} (hk7 : ∀ (x : Int32 × Int32) (w1 w4 w5 : Option Value) (R : Int32), k7 x = some R → ai_ev ap_P 53 (7, [some (.ref 943), w1, some (.int x.1), some (.int x.2), w4, w5], [], (v0 L, g)) (.inl (ez_i R)) (v0 L, g)) (u2 : Int32) (u3 : Int32) (w1 w4 w5 : Option Value) (R : Int32) : fb_53_7 g k7 u2 u3 = some R → ai_ev ap_P 53 (7, [some (.ref 943), w1, some (.int u2), some (.int u3), w4, w5], [], (v0 L, g)) (.inl (ez_i R)) (v0 L, g) := by
  unfold fb_53_7
  refine ev_if 2 (p := u3 = u2) (a := 81) (b := 12) (T := ([some (.ref 943), none, some (.int u2), some (.int u3), none, none], [], (v0 L, g))) rfl ?_ ?_
  · exact fun hR => by cases hR; exact ev_rt 1 rfl
  · refine ev_gd (c := ai_in u3 6100) (fun hc1 => ?_)
    refine ev_jm 3 (t := (18, [some (.ref 943), none, some (.int u2), some (.int u3), none, none], [.int (am_i g 968 u3.toNatClampNeg)], (v0 L, g))) (ai_gd (c := ai_in u3 6100) rfl hc1) ?_
    refine lo_e (S := fun (x2 : Int32) => (18, [some (.ref 943), none, some (.int u2), some (.int u3), none, none], [.int x2], (v0 L, g))) (fun x2 => ?_)
    refine ev_if 2 (p := (0 : Int32) ≤ x2) (a := 27) (b := 25) (T := ([some (.ref 943), none, some (.int u2), some (.int u3), some (.int x2), none], [], (v0 L, g))) rfl ?_ ?_
    · refine ev_jm 3 (t := (33, [some (.ref 943), none, some (.int u2), some (.int u3), some (.int x2), none], [.int (am_i g 969 u3.toNatClampNeg)], (v0 L, g))) (ai_gd (c := ai_in u3 6100) rfl hc1) ?_
      refine lo_e (S := fun (x3 : Int32) => (33, [some (.ref 943), none, some (.int u2), some (.int u3), some (.int x2), none], [.int x3], (v0 L, g))) (fun x3 => ?_)
      refine ev_jm 0 (t := (35, [some (.ref 943), none, some (.int u2), some (.int u3), some (.int x2), some (.int x3)], [], (v0 L, g))) rfl ?_
      exact dh_53_35 L g hk7 (u2, x2, x3) none (some (.int u3)) _
    · exact fun hR => by cases hR; exact ev_rt 1 rfl
noncomputable def fh_53_7 (g : am_G)  (x : Int32 × Int32) : Option (Int32) := lo_it (fun k x => fb_53_7 g k x.1 x.2) nf_F x
theorem dh_53_7 (L : Nat) (g : am_G)   (x : Int32 × Int32) (w1 w4 w5 : Option Value) (R : Int32) : fh_53_7 g  x = some R → ai_ev ap_P 53 (7, [some (.ref 943), w1, some (.int x.1), some (.int x.2), w4, w5], [], (v0 L, g)) (.inl (ez_i R)) (v0 L, g) :=
  fun hr => lo_ev (E := fun x R => ∀ (w1 w4 w5 : Option Value), ai_ev ap_P 53 (7, [some (.ref 943), w1, some (.int x.1), some (.int x.2), w4, w5], [], (v0 L, g)) (.inl (ez_i R)) (v0 L, g)) (fun k hk x R hr => fun w1 w4 w5 => db_53_7 L g (fun x w1 w4 w5 R hr => hk x R hr w1 w4 w5) x.1 x.2 w1 w4 w5 R hr) nf_F x R hr w1 w4 w5
/-- DeclaredMarkupModel.begins(II)Z -/
noncomputable def fm_53 (g : am_G) (u1 : Int32) (u2 : Int32) : Option (Int32) := lo_g (ai_in u1 6000) (lo_l (am_i g 965 u1.toNatClampNeg) fun x2 => fh_53_7 g (u2, x2))
theorem dm_53 (L : Nat) (g : am_G) (u1 : Int32) (u2 : Int32) (R : Int32) : fm_53 g u1 u2 = some R → ai_ev ap_P 53 (ai_e0 ap_P 53 [.ref 943, .int u1, .int u2] (v0 L, g)) (.inl (ez_i R)) (v0 L, g) := by
  show _ → ai_ev ap_P 53 (0, [some (.ref 943), some (.int u1), some (.int u2), none, none, none], [], (v0 L, g)) _ _
  unfold fm_53
  refine ev_gd (c := ai_in u1 6000) (fun hc1 => ?_)
  refine ev_jm 3 (t := (6, [some (.ref 943), some (.int u1), some (.int u2), none, none, none], [.int (am_i g 965 u1.toNatClampNeg)], (v0 L, g))) (ai_gd (c := ai_in u1 6000) rfl hc1) ?_
  refine lo_e (S := fun (x2 : Int32) => (6, [some (.ref 943), some (.int u1), some (.int u2), none, none, none], [.int x2], (v0 L, g))) (fun x2 => ?_)
  refine ev_jm 0 (t := (7, [some (.ref 943), some (.int u1), some (.int u2), some (.int x2), none, none], [], (v0 L, g))) rfl ?_
  exact dh_53_7 L g (u2, x2) (some (.int u1)) none none _
noncomputable def fb_54_5 (g : am_G) (k5 : (Int32 × Int32 × Int64 × Int32) → Option (Int64)) (u1 : Int32) (u2 : Int32) (u3 : Int64) (u5 : Int32) : Option (Int64) := lo_g (ai_in u1 40) (if (am_i g 960 u1.toNatClampNeg) ≤ u5 then some u3 else lo_p (fm_53 g ((am_i g 959 u1.toNatClampNeg) + u5) u2) fun y2 => if y2 = 0 then lo_l (u3 ||| 0) fun x4 => k5 (u1, u2, x4, (u5 + 1)) else lo_l (u3 ||| (1 <<< (u5.toInt64 &&& 63))) fun x5 => k5 (u1, u2, x5, (u5 + 1)))
theorem db_54_5 (L : Nat) (g : am_G) {k5 : (Int32 × Int32 × Int64 × Int32) → Option (Int64)} (hk5 : ∀ (x : Int32 × Int32 × Int64 × Int32) (w4 : Option Value) (R : Int64), k5 x = some R → ai_ev ap_P 54 (5, [some (.ref 943), some (.int x.1), some (.int x.2.1), some (.long x.2.2.1), w4, some (.int x.2.2.2)], [], (v0 L, g)) (.inl (ez_j R)) (v0 L, g)) (u1 : Int32) (u2 : Int32) (u3 : Int64) (u5 : Int32) (w4 : Option Value) (R : Int64) : fb_54_5 g k5 u1 u2 u3 u5 = some R → ai_ev ap_P 54 (5, [some (.ref 943), some (.int u1), some (.int u2), some (.long u3), w4, some (.int u5)], [], (v0 L, g)) (.inl (ez_j R)) (v0 L, g) := by
  unfold fb_54_5
  refine ev_gd (c := ai_in u1 40) (fun hc1 => ?_)
  refine ev_jm 4 (t := (13, [some (.ref 943), some (.int u1), some (.int u2), some (.long u3), none, some (.int u5)], [.int (am_i g 960 u1.toNatClampNeg), .int u5], (v0 L, g))) (ai_gd (c := ai_in u1 40) rfl hc1) ?_
  refine ev_if 0 (p := (am_i g 960 u1.toNatClampNeg) ≤ u5) (a := 50) (b := 16) (T := ([some (.ref 943), some (.int u1), some (.int u2), some (.long u3), none, some (.int u5)], [], (v0 L, g))) rfl ?_ ?_
  · exact fun hR => by cases hR; exact ev_rt 1 rfl
  · refine ev_jm 5 (t := (24, [some (.ref 943), some (.int u1), some (.int u2), some (.long u3), none, some (.int u5)], [.int (am_i g 959 u1.toNatClampNeg), .ref 943, .long u3], (v0 L, g))) (ai_gd (c := ai_in u1 40) rfl hc1) ?_
    refine ev_op 3 (as := [.ref 943, .int ((am_i g 959 u1.toNatClampNeg) + u5), .int u2]) (pc := 31) (Lc := [some (.ref 943), some (.int u1), some (.int u2), some (.long u3), none, some (.int u5)]) (st := [.long u3]) (h1 := (v0 L, g)) (e := ez_i) rfl (dm_53 L g ((am_i g 959 u1.toNatClampNeg) + u5) u2) (fun y2 => ?_)
    refine ev_if 0 (p := y2 = 0) (a := 41) (b := 34) (T := ([some (.ref 943), some (.int u1), some (.int u2), some (.long u3), none, some (.int u5)], [.long u3], (v0 L, g))) rfl ?_ ?_
    · refine ev_jm 1 (t := (43, [some (.ref 943), some (.int u1), some (.int u2), none, none, some (.int u5)], [.long (u3 ||| 0)], (v0 L, g))) rfl ?_
      refine lo_e (S := fun (x4 : Int64) => (43, [some (.ref 943), some (.int u1), some (.int u2), none, none, some (.int u5)], [.long x4], (v0 L, g))) (fun x4 => ?_)
      refine ev_jm 2 (t := (5, [some (.ref 943), some (.int u1), some (.int u2), some (.long x4), none, some (.int (u5 + 1))], [], (v0 L, g))) rfl ?_
      exact hk5 (u1, u2, x4, (u5 + 1)) none _
    · refine ev_jm 4 (t := (43, [some (.ref 943), some (.int u1), some (.int u2), none, none, some (.int u5)], [.long (u3 ||| (1 <<< (u5.toInt64 &&& 63)))], (v0 L, g))) rfl ?_
      refine lo_e (S := fun (x5 : Int64) => (43, [some (.ref 943), some (.int u1), some (.int u2), none, none, some (.int u5)], [.long x5], (v0 L, g))) (fun x5 => ?_)
      refine ev_jm 2 (t := (5, [some (.ref 943), some (.int u1), some (.int u2), some (.long x5), none, some (.int (u5 + 1))], [], (v0 L, g))) rfl ?_
      exact hk5 (u1, u2, x5, (u5 + 1)) none _
noncomputable def fh_54_5 (g : am_G)  (x : Int32 × Int32 × Int64 × Int32) : Option (Int64) := lo_it (fun k x => fb_54_5 g k x.1 x.2.1 x.2.2.1 x.2.2.2) nf_F x
theorem dh_54_5 (L : Nat) (g : am_G)   (x : Int32 × Int32 × Int64 × Int32) (w4 : Option Value) (R : Int64) : fh_54_5 g  x = some R → ai_ev ap_P 54 (5, [some (.ref 943), some (.int x.1), some (.int x.2.1), some (.long x.2.2.1), w4, some (.int x.2.2.2)], [], (v0 L, g)) (.inl (ez_j R)) (v0 L, g) :=
  fun hr => lo_ev (E := fun x R => ∀ (w4 : Option Value), ai_ev ap_P 54 (5, [some (.ref 943), some (.int x.1), some (.int x.2.1), some (.long x.2.2.1), w4, some (.int x.2.2.2)], [], (v0 L, g)) (.inl (ez_j R)) (v0 L, g)) (fun k hk x R hr => fun w4 => db_54_5 L g (fun x w4 R hr => hk x R hr w4) x.1 x.2.1 x.2.2.1 x.2.2.2 w4 R hr) nf_F x R hr w4
/-- DeclaredMarkupModel.firsts(II)J -/
noncomputable def fm_54 (g : am_G) (u1 : Int32) (u2 : Int32) : Option (Int64) := fh_54_5 g (u1, u2, 0, 0)
theorem dm_54 (L : Nat) (g : am_G) (u1 : Int32) (u2 : Int32) (R : Int64) : fm_54 g u1 u2 = some R → ai_ev ap_P 54 (ai_e0 ap_P 54 [.ref 943, .int u1, .int u2] (v0 L, g)) (.inl (ez_j R)) (v0 L, g) := by
  show _ → ai_ev ap_P 54 (0, [some (.ref 943), some (.int u1), some (.int u2), none, none, none], [], (v0 L, g)) _ _
  unfold fm_54
  refine ev_jm 3 (t := (5, [some (.ref 943), some (.int u1), some (.int u2), some (.long 0), none, some (.int 0)], [], (v0 L, g))) rfl ?_
  exact dh_54_5 L g (u1, u2, 0, 0) none _
noncomputable def fb_56_23 (g : am_G) (k7 : Int32 → Option (Int32)) (k23 : (Int32 × Int32) → Option (Int32)) (u2 : Int32) (u3 : Int32) : Option (Int32) := if u3 < 0 then lo_g (ai_in u2 6100) (lo_l (am_i g 968 u2.toNatClampNeg) fun x2 => k7 x2) else lo_g (ai_in u2 6100) (lo_g (ai_in (am_i g 968 u2.toNatClampNeg) 6100) (if (am_i g 967 ((am_i g 968 u2.toNatClampNeg)).toNatClampNeg) = 2 then lo_g (ai_in u3 6100) (if (am_i g 971 u3.toNatClampNeg) = 0 then some 0 else lo_l (am_i g 970 u3.toNatClampNeg) fun x7 => k23 (u2, x7)) else lo_l (am_i g 968 u2.toNatClampNeg) fun x5 => k7 x5))
theorem db_56_23 (L : Nat) (g : am_G) {k7 : Int32 → Option (Int32)} {k23 : (Int32 × Int32) → Option (Int32)} (hk7 : ∀ (x : Int32) (w1 w3 : Option Value) (R : Int32), k7 x = some R → ai_ev ap_P 56 (7, [some (.ref 943), w1, some (.int x), w3], [], (v0 L, g)) (.inl (ez_i R)) (v0 L, g)) (hk23 : ∀ (x : Int32 × Int32) (w1 : Option Value) (R : Int32), k23 x = some R → ai_ev ap_P 56 (23, [some (.ref 943), w1, some (.int x.1), some (.int x.2)], [], (v0 L, g)) (.inl (ez_i R)) (v0 L, g)) (u2 : Int32) (u3 : Int32) (w1 : Option Value) (R : Int32) : fb_56_23 g k7 k23 u2 u3 = some R → ai_ev ap_P 56 (23, [some (.ref 943), w1, some (.int u2), some (.int u3)], [], (v0 L, g)) (.inl (ez_i R)) (v0 L, g) := by
  unfold fb_56_23
  refine ev_if 1 (p := u3 < 0) (a := 63) (b := 27) (T := ([some (.ref 943), none, some (.int u2), some (.int u3)], [], (v0 L, g))) rfl ?_ ?_
  · refine ev_gd (c := ai_in u2 6100) (fun hc1 => ?_)
    refine ev_jm 3 (t := (69, [some (.ref 943), none, some (.int u2), none], [.int (am_i g 968 u2.toNatClampNeg)], (v0 L, g))) (ai_gd (c := ai_in u2 6100) rfl hc1) ?_
    refine lo_e (S := fun (x2 : Int32) => (69, [some (.ref 943), none, some (.int u2), none], [.int x2], (v0 L, g))) (fun x2 => ?_)
    refine ev_jm 1 (t := (7, [some (.ref 943), none, some (.int x2), none], [], (v0 L, g))) rfl ?_
    exact hk7 x2 none none _
  · refine ev_gd (c := ai_in u2 6100) (fun hc3 => ?_)
    refine ev_jm 5 (t := (37, [some (.ref 943), none, some (.int u2), some (.int u3)], [.int (am_i g 968 u2.toNatClampNeg), .ref 967], (v0 L, g))) (ai_gd (c := ai_in u2 6100) rfl hc3) ?_
    refine ev_gd (c := ai_in (am_i g 968 u2.toNatClampNeg) 6100) (fun hc4 => ?_)
    refine ev_jm 0 (t := (38, [some (.ref 943), none, some (.int u2), some (.int u3)], [.int (am_i g 967 ((am_i g 968 u2.toNatClampNeg)).toNatClampNeg)], (v0 L, g))) (ai_gd (c := ai_in (am_i g 968 u2.toNatClampNeg) 6100) rfl hc4) ?_
    refine ev_in 1 (p := (am_i g 967 ((am_i g 968 u2.toNatClampNeg)).toNatClampNeg) = 2) (a := 63) (b := 42) (T := ([some (.ref 943), none, some (.int u2), some (.int u3)], [], (v0 L, g))) rfl ?_ ?_
    · refine ev_gd (c := ai_in u3 6100) (fun hc6 => ?_)
      refine ev_jm 3 (t := (48, [some (.ref 943), none, some (.int u2), some (.int u3)], [.int (am_i g 971 u3.toNatClampNeg)], (v0 L, g))) (ai_gd (c := ai_in u3 6100) rfl hc6) ?_
      refine ev_in 0 (p := (am_i g 971 u3.toNatClampNeg) = 0) (a := 53) (b := 51) (T := ([some (.ref 943), none, some (.int u2), some (.int u3)], [], (v0 L, g))) rfl ?_ ?_
      · exact fun hR => by cases hR; exact ev_rt 1 rfl
      · refine ev_jm 3 (t := (59, [some (.ref 943), none, some (.int u2), some (.int u3)], [.int (am_i g 970 u3.toNatClampNeg)], (v0 L, g))) (ai_gd (c := ai_in u3 6100) rfl hc6) ?_
        refine lo_e (S := fun (x7 : Int32) => (59, [some (.ref 943), none, some (.int u2), some (.int u3)], [.int x7], (v0 L, g))) (fun x7 => ?_)
        refine ev_jm 1 (t := (23, [some (.ref 943), none, some (.int u2), some (.int x7)], [], (v0 L, g))) rfl ?_
        exact hk23 (u2, x7) none _
    · refine ev_jm 3 (t := (69, [some (.ref 943), none, some (.int u2), none], [.int (am_i g 968 u2.toNatClampNeg)], (v0 L, g))) (ai_gd (c := ai_in u2 6100) rfl hc3) ?_
      refine lo_e (S := fun (x5 : Int32) => (69, [some (.ref 943), none, some (.int u2), none], [.int x5], (v0 L, g))) (fun x5 => ?_)
      refine ev_jm 1 (t := (7, [some (.ref 943), none, some (.int x5), none], [], (v0 L, g))) rfl ?_
      exact hk7 x5 none none _
noncomputable def fh_56_23 (g : am_G) (k7 : Int32 → Option (Int32)) (x : Int32 × Int32) : Option (Int32) := lo_it (fun k x => fb_56_23 g k7 k x.1 x.2) nf_F x
theorem dh_56_23 (L : Nat) (g : am_G) {k7 : Int32 → Option (Int32)} (hk7 : ∀ (x : Int32) (w1 w3 : Option Value) (R : Int32), k7 x = some R → ai_ev ap_P 56 (7, [some (.ref 943), w1, some (.int x), w3], [], (v0 L, g)) (.inl (ez_i R)) (v0 L, g)) (x : Int32 × Int32) (w1 : Option Value) (R : Int32) : fh_56_23 g k7 x = some R → ai_ev ap_P 56 (23, [some (.ref 943), w1, some (.int x.1), some (.int x.2)], [], (v0 L, g)) (.inl (ez_i R)) (v0 L, g) :=
  fun hr => lo_ev (E := fun x R => ∀ (w1 : Option Value), ai_ev ap_P 56 (23, [some (.ref 943), w1, some (.int x.1), some (.int x.2)], [], (v0 L, g)) (.inl (ez_i R)) (v0 L, g)) (fun k hk x R hr => fun w1 => db_56_23 L g hk7 (fun x w1 R hr => hk x R hr w1) x.1 x.2 w1 R hr) nf_F x R hr w1
noncomputable def fb_56_7 (g : am_G) (k7 : Int32 → Option (Int32)) (u2 : Int32) : Option (Int32) := lo_g (ai_in u2 6100) (if (am_i g 968 u2.toNatClampNeg) < 0 then some 1 else lo_l (am_i g 970 u2.toNatClampNeg) fun x2 => fh_56_23 g k7 (u2, x2))
theorem db_56_7 (L : Nat) (g : am_G) {k7 : Int32 → Option (Int32)} (hk7 : ∀ (x : Int32) (w1 w3 : Option Value) (R : Int32), k7 x = some R → ai_ev ap_P 56 (7, [some (.ref 943), w1, some (.int x), w3], [], (v0 L, g)) (.inl (ez_i R)) (v0 L, g)) (u2 : Int32) (w1 w3 : Option Value) (R : Int32) : fb_56_7 g k7 u2 = some R → ai_ev ap_P 56 (7, [some (.ref 943), w1, some (.int u2), w3], [], (v0 L, g)) (.inl (ez_i R)) (v0 L, g) := by
  unfold fb_56_7
  refine ev_gd (c := ai_in u2 6100) (fun hc1 => ?_)
  refine ev_jm 3 (t := (13, [some (.ref 943), none, some (.int u2), none], [.int (am_i g 968 u2.toNatClampNeg)], (v0 L, g))) (ai_gd (c := ai_in u2 6100) rfl hc1) ?_
  refine ev_if 0 (p := (am_i g 968 u2.toNatClampNeg) < 0) (a := 73) (b := 16) (T := ([some (.ref 943), none, some (.int u2), none], [], (v0 L, g))) rfl ?_ ?_
  · exact fun hR => by cases hR; exact ev_rt 1 rfl
  · refine ev_jm 3 (t := (22, [some (.ref 943), none, some (.int u2), none], [.int (am_i g 970 u2.toNatClampNeg)], (v0 L, g))) (ai_gd (c := ai_in u2 6100) rfl hc1) ?_
    refine lo_e (S := fun (x2 : Int32) => (22, [some (.ref 943), none, some (.int u2), none], [.int x2], (v0 L, g))) (fun x2 => ?_)
    refine ev_jm 0 (t := (23, [some (.ref 943), none, some (.int u2), some (.int x2)], [], (v0 L, g))) rfl ?_
    exact dh_56_23 L g hk7 (u2, x2) none _
noncomputable def fh_56_7 (g : am_G)  (x : Int32) : Option (Int32) := lo_it (fun k x => fb_56_7 g k x) nf_F x
theorem dh_56_7 (L : Nat) (g : am_G)   (x : Int32) (w1 w3 : Option Value) (R : Int32) : fh_56_7 g  x = some R → ai_ev ap_P 56 (7, [some (.ref 943), w1, some (.int x), w3], [], (v0 L, g)) (.inl (ez_i R)) (v0 L, g) :=
  fun hr => lo_ev (E := fun x R => ∀ (w1 w3 : Option Value), ai_ev ap_P 56 (7, [some (.ref 943), w1, some (.int x), w3], [], (v0 L, g)) (.inl (ez_i R)) (v0 L, g)) (fun k hk x R hr => fun w1 w3 => db_56_7 L g (fun x w1 w3 R hr => hk x R hr w1 w3) x w1 w3 R hr) nf_F x R hr w1 w3
/-- DeclaredMarkupModel.ends(I)Z -/
noncomputable def fm_56 (g : am_G) (u1 : Int32) : Option (Int32) := lo_g (ai_in u1 6000) (lo_l (am_i g 965 u1.toNatClampNeg) fun x2 => fh_56_7 g x2)
theorem dm_56 (L : Nat) (g : am_G) (u1 : Int32) (R : Int32) : fm_56 g u1 = some R → ai_ev ap_P 56 (ai_e0 ap_P 56 [.ref 943, .int u1] (v0 L, g)) (.inl (ez_i R)) (v0 L, g) := by
  show _ → ai_ev ap_P 56 (0, [some (.ref 943), some (.int u1), none, none], [], (v0 L, g)) _ _
  unfold fm_56
  refine ev_gd (c := ai_in u1 6000) (fun hc1 => ?_)
  refine ev_jm 3 (t := (6, [some (.ref 943), some (.int u1), none, none], [.int (am_i g 965 u1.toNatClampNeg)], (v0 L, g))) (ai_gd (c := ai_in u1 6000) rfl hc1) ?_
  refine lo_e (S := fun (x2 : Int32) => (6, [some (.ref 943), some (.int u1), none, none], [.int x2], (v0 L, g))) (fun x2 => ?_)
  refine ev_jm 0 (t := (7, [some (.ref 943), some (.int u1), some (.int x2), none], [], (v0 L, g))) rfl ?_
  exact dh_56_7 L g x2 (some (.int u1)) none _
noncomputable def fb_57_5 (g : am_G) (k5 : (Int32 × Int64 × Int32) → Option (Int64)) (u1 : Int32) (u2 : Int64) (u4 : Int32) : Option (Int64) := lo_g (ai_in u1 40) (if (am_i g 960 u1.toNatClampNeg) ≤ u4 then some u2 else lo_p (fm_56 g ((am_i g 959 u1.toNatClampNeg) + u4)) fun y2 => if y2 = 0 then lo_l (u2 ||| 0) fun x4 => k5 (u1, x4, (u4 + 1)) else lo_l (u2 ||| (1 <<< (u4.toInt64 &&& 63))) fun x5 => k5 (u1, x5, (u4 + 1)))
theorem db_57_5 (L : Nat) (g : am_G) {k5 : (Int32 × Int64 × Int32) → Option (Int64)} (hk5 : ∀ (x : Int32 × Int64 × Int32) (w3 : Option Value) (R : Int64), k5 x = some R → ai_ev ap_P 57 (5, [some (.ref 943), some (.int x.1), some (.long x.2.1), w3, some (.int x.2.2)], [], (v0 L, g)) (.inl (ez_j R)) (v0 L, g)) (u1 : Int32) (u2 : Int64) (u4 : Int32) (w3 : Option Value) (R : Int64) : fb_57_5 g k5 u1 u2 u4 = some R → ai_ev ap_P 57 (5, [some (.ref 943), some (.int u1), some (.long u2), w3, some (.int u4)], [], (v0 L, g)) (.inl (ez_j R)) (v0 L, g) := by
  unfold fb_57_5
  refine ev_gd (c := ai_in u1 40) (fun hc1 => ?_)
  refine ev_jm 4 (t := (13, [some (.ref 943), some (.int u1), some (.long u2), none, some (.int u4)], [.int (am_i g 960 u1.toNatClampNeg), .int u4], (v0 L, g))) (ai_gd (c := ai_in u1 40) rfl hc1) ?_
  refine ev_if 0 (p := (am_i g 960 u1.toNatClampNeg) ≤ u4) (a := 49) (b := 16) (T := ([some (.ref 943), some (.int u1), some (.long u2), none, some (.int u4)], [], (v0 L, g))) rfl ?_ ?_
  · exact fun hR => by cases hR; exact ev_rt 1 rfl
  · refine ev_jm 5 (t := (24, [some (.ref 943), some (.int u1), some (.long u2), none, some (.int u4)], [.int (am_i g 959 u1.toNatClampNeg), .ref 943, .long u2], (v0 L, g))) (ai_gd (c := ai_in u1 40) rfl hc1) ?_
    refine ev_op 2 (as := [.ref 943, .int ((am_i g 959 u1.toNatClampNeg) + u4)]) (pc := 30) (Lc := [some (.ref 943), some (.int u1), some (.long u2), none, some (.int u4)]) (st := [.long u2]) (h1 := (v0 L, g)) (e := ez_i) rfl (dm_56 L g ((am_i g 959 u1.toNatClampNeg) + u4)) (fun y2 => ?_)
    refine ev_if 0 (p := y2 = 0) (a := 40) (b := 33) (T := ([some (.ref 943), some (.int u1), some (.long u2), none, some (.int u4)], [.long u2], (v0 L, g))) rfl ?_ ?_
    · refine ev_jm 1 (t := (42, [some (.ref 943), some (.int u1), none, none, some (.int u4)], [.long (u2 ||| 0)], (v0 L, g))) rfl ?_
      refine lo_e (S := fun (x4 : Int64) => (42, [some (.ref 943), some (.int u1), none, none, some (.int u4)], [.long x4], (v0 L, g))) (fun x4 => ?_)
      refine ev_jm 2 (t := (5, [some (.ref 943), some (.int u1), some (.long x4), none, some (.int (u4 + 1))], [], (v0 L, g))) rfl ?_
      exact hk5 (u1, x4, (u4 + 1)) none _
    · refine ev_jm 4 (t := (42, [some (.ref 943), some (.int u1), none, none, some (.int u4)], [.long (u2 ||| (1 <<< (u4.toInt64 &&& 63)))], (v0 L, g))) rfl ?_
      refine lo_e (S := fun (x5 : Int64) => (42, [some (.ref 943), some (.int u1), none, none, some (.int u4)], [.long x5], (v0 L, g))) (fun x5 => ?_)
      refine ev_jm 2 (t := (5, [some (.ref 943), some (.int u1), some (.long x5), none, some (.int (u4 + 1))], [], (v0 L, g))) rfl ?_
      exact hk5 (u1, x5, (u4 + 1)) none _
noncomputable def fh_57_5 (g : am_G)  (x : Int32 × Int64 × Int32) : Option (Int64) := lo_it (fun k x => fb_57_5 g k x.1 x.2.1 x.2.2) nf_F x
theorem dh_57_5 (L : Nat) (g : am_G)   (x : Int32 × Int64 × Int32) (w3 : Option Value) (R : Int64) : fh_57_5 g  x = some R → ai_ev ap_P 57 (5, [some (.ref 943), some (.int x.1), some (.long x.2.1), w3, some (.int x.2.2)], [], (v0 L, g)) (.inl (ez_j R)) (v0 L, g) :=
  fun hr => lo_ev (E := fun x R => ∀ (w3 : Option Value), ai_ev ap_P 57 (5, [some (.ref 943), some (.int x.1), some (.long x.2.1), w3, some (.int x.2.2)], [], (v0 L, g)) (.inl (ez_j R)) (v0 L, g)) (fun k hk x R hr => fun w3 => db_57_5 L g (fun x w3 R hr => hk x R hr w3) x.1 x.2.1 x.2.2 w3 R hr) nf_F x R hr w3
/-- DeclaredMarkupModel.lasts(I)J -/
noncomputable def fm_57 (g : am_G) (u1 : Int32) : Option (Int64) := fh_57_5 g (u1, 0, 0)
theorem dm_57 (L : Nat) (g : am_G) (u1 : Int32) (R : Int64) : fm_57 g u1 = some R → ai_ev ap_P 57 (ai_e0 ap_P 57 [.ref 943, .int u1] (v0 L, g)) (.inl (ez_j R)) (v0 L, g) := by
  show _ → ai_ev ap_P 57 (0, [some (.ref 943), some (.int u1), none, none, none], [], (v0 L, g)) _ _
  unfold fm_57
  refine ev_jm 3 (t := (5, [some (.ref 943), some (.int u1), some (.long 0), none, some (.int 0)], [], (v0 L, g))) rfl ?_
  exact dh_57_5 L g (u1, 0, 0) none _
noncomputable def fb_55_66 (g : am_G) (k17 : (Int32 × Int64 × Int32) → Option (Int64)) (k66 : (Int32 × Int64 × Int32 × Int32) → Option (Int64)) (u1 : Int32) (u3 : Int64) (u6 : Int32) (u7 : Int32) : Option (Int64) := if u7 < 0 then k17 (u1, u3, u6) else lo_g (ai_in u6 6100) (if (am_i g 967 u6.toNatClampNeg) = 2 then lo_p (fm_54 g u1 u7) fun y2 => lo_l (u3 ||| y2) fun x4 => lo_g (ai_in u7 6100) (if (am_i g 971 u7.toNatClampNeg) = 0 then some x4 else lo_l (am_i g 970 u7.toNatClampNeg) fun x6 => k66 (u1, x4, u6, x6)) else k17 (u1, u3, u6))
theorem db_55_66 (L : Nat) (g : am_G) {k17 : (Int32 × Int64 × Int32) → Option (Int64)} {k66 : (Int32 × Int64 × Int32 × Int32) → Option (Int64)} (hk17 : ∀ (x : Int32 × Int64 × Int32) (w2 w4 w6 w7 : Option Value) (R : Int64), k17 x = some R → ai_ev ap_P 55 (17, [some (.ref 943), some (.int x.1), w2, some (.long x.2.1), w4, some (.int x.2.2), w6, w7], [], (v0 L, g)) (.inl (ez_j R)) (v0 L, g)) (hk66 : ∀ (x : Int32 × Int64 × Int32 × Int32) (w2 w4 w5 : Option Value) (R : Int64), k66 x = some R → ai_ev ap_P 55 (66, [some (.ref 943), some (.int x.1), w2, some (.long x.2.1), w4, w5, some (.int x.2.2.1), some (.int x.2.2.2)], [], (v0 L, g)) (.inl (ez_j R)) (v0 L, g)) (u1 : Int32) (u3 : Int64) (u6 : Int32) (u7 : Int32) (w2 w4 w5 : Option Value) (R : Int64) : fb_55_66 g k17 k66 u1 u3 u6 u7 = some R → ai_ev ap_P 55 (66, [some (.ref 943), some (.int u1), w2, some (.long u3), w4, w5, some (.int u6), some (.int u7)], [], (v0 L, g)) (.inl (ez_j R)) (v0 L, g) := by
  unfold fb_55_66
  refine ev_if 1 (p := u7 < 0) (a := 116) (b := 71) (T := ([some (.ref 943), some (.int u1), none, some (.long u3), none, none, some (.int u6), some (.int u7)], [], (v0 L, g))) rfl ?_ ?_
  · refine ev_jm 2 (t := (17, [some (.ref 943), some (.int u1), none, some (.long u3), none, some (.int u6), some (.int u6), none], [], (v0 L, g))) rfl ?_
    exact hk17 (u1, u3, u6) none none (some (.int u6)) none _
  · refine ev_gd (c := ai_in u6 6100) (fun hc1 => ?_)
    refine ev_jm 3 (t := (78, [some (.ref 943), some (.int u1), none, some (.long u3), none, none, some (.int u6), some (.int u7)], [.int (am_i g 967 u6.toNatClampNeg)], (v0 L, g))) (ai_gd (c := ai_in u6 6100) rfl hc1) ?_
    refine ev_in 1 (p := (am_i g 967 u6.toNatClampNeg) = 2) (a := 116) (b := 82) (T := ([some (.ref 943), some (.int u1), none, some (.long u3), none, none, some (.int u6), some (.int u7)], [], (v0 L, g))) rfl ?_ ?_
    · refine ev_op 4 (as := [.ref 943, .int u1, .int u7]) (pc := 90) (Lc := [some (.ref 943), some (.int u1), none, some (.long u3), none, none, some (.int u6), some (.int u7)]) (st := [.long u3]) (h1 := (v0 L, g)) (e := ez_j) rfl (dm_54 L g u1 u7) (fun y2 => ?_)
      refine ev_jm 0 (t := (91, [some (.ref 943), some (.int u1), none, some (.long u3), none, none, some (.int u6), some (.int u7)], [.long (u3 ||| y2)], (v0 L, g))) rfl ?_
      refine lo_e (S := fun (x4 : Int64) => (91, [some (.ref 943), some (.int u1), none, some (.long u3), none, none, some (.int u6), some (.int u7)], [.long x4], (v0 L, g))) (fun x4 => ?_)
      refine ev_gd (c := ai_in u7 6100) (fun hc5 => ?_)
      refine ev_jm 4 (t := (99, [some (.ref 943), some (.int u1), none, some (.long x4), none, none, some (.int u6), some (.int u7)], [.int (am_i g 971 u7.toNatClampNeg)], (v0 L, g))) (ai_gd (c := ai_in u7 6100) rfl hc5) ?_
      refine ev_in 0 (p := (am_i g 971 u7.toNatClampNeg) = 0) (a := 104) (b := 102) (T := ([some (.ref 943), some (.int u1), none, some (.long x4), none, none, some (.int u6), some (.int u7)], [], (v0 L, g))) rfl ?_ ?_
      · exact fun hR => by cases hR; exact ev_rt 1 rfl
      · refine ev_jm 3 (t := (111, [some (.ref 943), some (.int u1), none, some (.long x4), none, none, some (.int u6), some (.int u7)], [.int (am_i g 970 u7.toNatClampNeg)], (v0 L, g))) (ai_gd (c := ai_in u7 6100) rfl hc5) ?_
        refine lo_e (S := fun (x6 : Int32) => (111, [some (.ref 943), some (.int u1), none, some (.long x4), none, none, some (.int u6), some (.int u7)], [.int x6], (v0 L, g))) (fun x6 => ?_)
        refine ev_jm 1 (t := (66, [some (.ref 943), some (.int u1), none, some (.long x4), none, none, some (.int u6), some (.int x6)], [], (v0 L, g))) rfl ?_
        exact hk66 (u1, x4, u6, x6) none none none _
    · refine ev_jm 2 (t := (17, [some (.ref 943), some (.int u1), none, some (.long u3), none, some (.int u6), some (.int u6), none], [], (v0 L, g))) rfl ?_
      exact hk17 (u1, u3, u6) none none (some (.int u6)) none _
noncomputable def fh_55_66 (g : am_G) (k17 : (Int32 × Int64 × Int32) → Option (Int64)) (x : Int32 × Int64 × Int32 × Int32) : Option (Int64) := lo_it (fun k x => fb_55_66 g k17 k x.1 x.2.1 x.2.2.1 x.2.2.2) nf_F x
theorem dh_55_66 (L : Nat) (g : am_G) {k17 : (Int32 × Int64 × Int32) → Option (Int64)} (hk17 : ∀ (x : Int32 × Int64 × Int32) (w2 w4 w6 w7 : Option Value) (R : Int64), k17 x = some R → ai_ev ap_P 55 (17, [some (.ref 943), some (.int x.1), w2, some (.long x.2.1), w4, some (.int x.2.2), w6, w7], [], (v0 L, g)) (.inl (ez_j R)) (v0 L, g)) (x : Int32 × Int64 × Int32 × Int32) (w2 w4 w5 : Option Value) (R : Int64) : fh_55_66 g k17 x = some R → ai_ev ap_P 55 (66, [some (.ref 943), some (.int x.1), w2, some (.long x.2.1), w4, w5, some (.int x.2.2.1), some (.int x.2.2.2)], [], (v0 L, g)) (.inl (ez_j R)) (v0 L, g) :=
  fun hr => lo_ev (E := fun x R => ∀ (w2 w4 w5 : Option Value), ai_ev ap_P 55 (66, [some (.ref 943), some (.int x.1), w2, some (.long x.2.1), w4, w5, some (.int x.2.2.1), some (.int x.2.2.2)], [], (v0 L, g)) (.inl (ez_j R)) (v0 L, g)) (fun k hk x R hr => fun w2 w4 w5 => db_55_66 L g hk17 (fun x w2 w4 w5 R hr => hk x R hr w2 w4 w5) x.1 x.2.1 x.2.2.1 x.2.2.2 w2 w4 w5 R hr) nf_F x R hr w2 w4 w5
noncomputable def fb_55_17 (g : am_G) (k17 : (Int32 × Int64 × Int32) → Option (Int64)) (u1 : Int32) (u3 : Int64) (u5 : Int32) : Option (Int64) := lo_g (ai_in u5 6100) (if (am_i g 968 u5.toNatClampNeg) < 0 then some u3 else lo_l (am_i g 968 u5.toNatClampNeg) fun x2 => lo_g (ai_in x2 6100) (if (am_i g 967 x2.toNatClampNeg) ≤ 3 then lo_l (am_i g 970 u5.toNatClampNeg) fun x4 => fh_55_66 g k17 (u1, u3, x2, x4) else lo_p (fm_54 g u1 u5) fun y5 => lo_l (u3 ||| y5) fun x7 => lo_l (am_i g 970 u5.toNatClampNeg) fun x8 => fh_55_66 g k17 (u1, x7, x2, x8)))
theorem db_55_17 (L : Nat) (g : am_G) {k17 : (Int32 × Int64 × Int32) → Option (Int64)} (hk17 : ∀ (x : Int32 × Int64 × Int32) (w2 w4 w6 w7 : Option Value) (R : Int64), k17 x = some R → ai_ev ap_P 55 (17, [some (.ref 943), some (.int x.1), w2, some (.long x.2.1), w4, some (.int x.2.2), w6, w7], [], (v0 L, g)) (.inl (ez_j R)) (v0 L, g)) (u1 : Int32) (u3 : Int64) (u5 : Int32) (w2 w4 w6 w7 : Option Value) (R : Int64) : fb_55_17 g k17 u1 u3 u5 = some R → ai_ev ap_P 55 (17, [some (.ref 943), some (.int u1), w2, some (.long u3), w4, some (.int u5), w6, w7], [], (v0 L, g)) (.inl (ez_j R)) (v0 L, g) := by
  unfold fb_55_17
  refine ev_gd (c := ai_in u5 6100) (fun hc1 => ?_)
  refine ev_jm 3 (t := (24, [some (.ref 943), some (.int u1), none, some (.long u3), none, some (.int u5), none, none], [.int (am_i g 968 u5.toNatClampNeg)], (v0 L, g))) (ai_gd (c := ai_in u5 6100) rfl hc1) ?_
  refine ev_if 0 (p := (am_i g 968 u5.toNatClampNeg) < 0) (a := 123) (b := 27) (T := ([some (.ref 943), some (.int u1), none, some (.long u3), none, some (.int u5), none, none], [], (v0 L, g))) rfl ?_ ?_
  · exact fun hR => by cases hR; exact ev_rt 1 rfl
  · refine ev_jm 3 (t := (34, [some (.ref 943), some (.int u1), none, some (.long u3), none, some (.int u5), none, none], [.int (am_i g 968 u5.toNatClampNeg)], (v0 L, g))) (ai_gd (c := ai_in u5 6100) rfl hc1) ?_
    refine lo_e (S := fun (x2 : Int32) => (34, [some (.ref 943), some (.int u1), none, some (.long u3), none, some (.int u5), none, none], [.int x2], (v0 L, g))) (fun x2 => ?_)
    refine ev_gd (c := ai_in x2 6100) (fun hc3 => ?_)
    refine ev_jm 4 (t := (43, [some (.ref 943), some (.int u1), none, some (.long u3), none, some (.int u5), some (.int x2), none], [.int (am_i g 967 x2.toNatClampNeg)], (v0 L, g))) (ai_gd (c := ai_in x2 6100) rfl hc3) ?_
    refine ev_if 1 (p := (am_i g 967 x2.toNatClampNeg) ≤ 3) (a := 57) (b := 47) (T := ([some (.ref 943), some (.int u1), none, some (.long u3), none, some (.int u5), some (.int x2), none], [], (v0 L, g))) rfl ?_ ?_
    · refine ev_jm 3 (t := (64, [some (.ref 943), some (.int u1), none, some (.long u3), none, some (.int u5), some (.int x2), none], [.int (am_i g 970 u5.toNatClampNeg)], (v0 L, g))) (ai_gd (c := ai_in u5 6100) rfl hc1) ?_
      refine lo_e (S := fun (x4 : Int32) => (64, [some (.ref 943), some (.int u1), none, some (.long u3), none, some (.int u5), some (.int x2), none], [.int x4], (v0 L, g))) (fun x4 => ?_)
      refine ev_jm 0 (t := (66, [some (.ref 943), some (.int u1), none, some (.long u3), none, some (.int u5), some (.int x2), some (.int x4)], [], (v0 L, g))) rfl ?_
      exact dh_55_66 L g hk17 (u1, u3, x2, x4) none none (some (.int u5)) _
    · refine ev_op 4 (as := [.ref 943, .int u1, .int u5]) (pc := 55) (Lc := [some (.ref 943), some (.int u1), none, some (.long u3), none, some (.int u5), some (.int x2), none]) (st := [.long u3]) (h1 := (v0 L, g)) (e := ez_j) rfl (dm_54 L g u1 u5) (fun y5 => ?_)
      refine ev_jm 0 (t := (56, [some (.ref 943), some (.int u1), none, some (.long u3), none, some (.int u5), some (.int x2), none], [.long (u3 ||| y5)], (v0 L, g))) rfl ?_
      refine lo_e (S := fun (x7 : Int64) => (56, [some (.ref 943), some (.int u1), none, some (.long u3), none, some (.int u5), some (.int x2), none], [.long x7], (v0 L, g))) (fun x7 => ?_)
      refine ev_jm 4 (t := (64, [some (.ref 943), some (.int u1), none, some (.long x7), none, some (.int u5), some (.int x2), none], [.int (am_i g 970 u5.toNatClampNeg)], (v0 L, g))) (ai_gd (c := ai_in u5 6100) rfl hc1) ?_
      refine lo_e (S := fun (x8 : Int32) => (64, [some (.ref 943), some (.int u1), none, some (.long x7), none, some (.int u5), some (.int x2), none], [.int x8], (v0 L, g))) (fun x8 => ?_)
      refine ev_jm 0 (t := (66, [some (.ref 943), some (.int u1), none, some (.long x7), none, some (.int u5), some (.int x2), some (.int x8)], [], (v0 L, g))) rfl ?_
      exact dh_55_66 L g hk17 (u1, x7, x2, x8) none none (some (.int u5)) _
noncomputable def fh_55_17 (g : am_G)  (x : Int32 × Int64 × Int32) : Option (Int64) := lo_it (fun k x => fb_55_17 g k x.1 x.2.1 x.2.2) nf_F x
theorem dh_55_17 (L : Nat) (g : am_G)   (x : Int32 × Int64 × Int32) (w2 w4 w6 w7 : Option Value) (R : Int64) : fh_55_17 g  x = some R → ai_ev ap_P 55 (17, [some (.ref 943), some (.int x.1), w2, some (.long x.2.1), w4, some (.int x.2.2), w6, w7], [], (v0 L, g)) (.inl (ez_j R)) (v0 L, g) :=
  fun hr => lo_ev (E := fun x R => ∀ (w2 w4 w6 w7 : Option Value), ai_ev ap_P 55 (17, [some (.ref 943), some (.int x.1), w2, some (.long x.2.1), w4, some (.int x.2.2), w6, w7], [], (v0 L, g)) (.inl (ez_j R)) (v0 L, g)) (fun k hk x R hr => fun w2 w4 w6 w7 => db_55_17 L g (fun x w2 w4 w6 w7 R hr => hk x R hr w2 w4 w6 w7) x.1 x.2.1 x.2.2 w2 w4 w6 w7 R hr) nf_F x R hr w2 w4 w6 w7
/-- DeclaredMarkupModel.behind(II)J -/
noncomputable def fm_55 (g : am_G) (u1 : Int32) (u2 : Int32) : Option (Int64) := lo_g (ai_in u1 40) (lo_g (ai_in ((am_i g 959 u1.toNatClampNeg) + u2) 6000) (lo_l (am_i g 965 (((am_i g 959 u1.toNatClampNeg) + u2)).toNatClampNeg) fun x3 => fh_55_17 g (u1, 0, x3)))
theorem dm_55 (L : Nat) (g : am_G) (u1 : Int32) (u2 : Int32) (R : Int64) : fm_55 g u1 u2 = some R → ai_ev ap_P 55 (ai_e0 ap_P 55 [.ref 943, .int u1, .int u2] (v0 L, g)) (.inl (ez_j R)) (v0 L, g) := by
  show _ → ai_ev ap_P 55 (0, [some (.ref 943), some (.int u1), some (.int u2), none, none, none, none, none], [], (v0 L, g)) _ _
  unfold fm_55
  refine ev_gd (c := ai_in u1 40) (fun hc1 => ?_)
  refine ev_jm 7 (t := (12, [some (.ref 943), some (.int u1), some (.int u2), some (.long 0), none, none, none, none], [.int (am_i g 959 u1.toNatClampNeg), .ref 965], (v0 L, g))) (ai_gd (c := ai_in u1 40) rfl hc1) ?_
  refine ev_gd (c := ai_in ((am_i g 959 u1.toNatClampNeg) + u2) 6000) (fun hc2 => ?_)
  refine ev_jm 2 (t := (15, [some (.ref 943), some (.int u1), some (.int u2), some (.long 0), none, none, none, none], [.int (am_i g 965 (((am_i g 959 u1.toNatClampNeg) + u2)).toNatClampNeg)], (v0 L, g))) (ai_gd (c := ai_in ((am_i g 959 u1.toNatClampNeg) + u2) 6000) rfl hc2) ?_
  refine lo_e (S := fun (x3 : Int32) => (15, [some (.ref 943), some (.int u1), some (.int u2), some (.long 0), none, none, none, none], [.int x3], (v0 L, g))) (fun x3 => ?_)
  refine ev_jm 0 (t := (17, [some (.ref 943), some (.int u1), some (.int u2), some (.long 0), none, some (.int x3), none, none], [], (v0 L, g))) rfl ?_
  exact dh_55_17 L g (u1, 0, x3) (some (.int u2)) none none none _
noncomputable def fj_58_45 (g : am_G) (k3 : (Int32 × Int64 × Int32) → Option (Int32)) (k17 : (Int32 × Int64 × Int32 × Int32) → Option (Int32)) (u1 : Int32) (u2 : Int64) (u4 : Int32) (u5 : Int32) (t0 : Int32) : Option (Int32) := if t0 = 0 then k17 (u1, u2, u4, (u5 + 1)) else lo_g (ai_in u1 40) (lo_g (ai_in ((am_i g 959 u1.toNatClampNeg) + u4) 6000) (lo_g (ai_in ((am_i g 959 u1.toNatClampNeg) + u5) 6000) (if (am_i g 964 (((am_i g 959 u1.toNatClampNeg) + u4)).toNatClampNeg) = (am_i g 964 (((am_i g 959 u1.toNatClampNeg) + u5)).toNatClampNeg) then some 1 else k17 (u1, u2, u4, (u5 + 1)))))
theorem dj_58_45 (L : Nat) (g : am_G) {k3 : (Int32 × Int64 × Int32) → Option (Int32)} {k17 : (Int32 × Int64 × Int32 × Int32) → Option (Int32)} (hk3 : ∀ (x : Int32 × Int64 × Int32) (w3 w5 w6 : Option Value) (R : Int32), k3 x = some R → ai_ev ap_P 58 (3, [some (.ref 943), some (.int x.1), some (.long x.2.1), w3, some (.int x.2.2), w5, w6], [], (v0 L, g)) (.inl (ez_i R)) (v0 L, g)) (hk17 : ∀ (x : Int32 × Int64 × Int32 × Int32) (w3 w6 : Option Value) (R : Int32), k17 x = some R → ai_ev ap_P 58 (17, [some (.ref 943), some (.int x.1), some (.long x.2.1), w3, some (.int x.2.2.1), some (.int x.2.2.2), w6], [], (v0 L, g)) (.inl (ez_i R)) (v0 L, g)) (u1 : Int32) (u2 : Int64) (u4 : Int32) (u5 : Int32) (t0 : Int32) (w3 w6 : Option Value) (R : Int32) : fj_58_45 g k3 k17 u1 u2 u4 u5 t0 = some R → ai_ev ap_P 58 (45, [some (.ref 943), some (.int u1), some (.long u2), w3, some (.int u4), some (.int u5), w6], [.int t0], (v0 L, g)) (.inl (ez_i R)) (v0 L, g) := by
  unfold fj_58_45
  refine ev_if 2 (p := t0 = 0) (a := 85) (b := 52) (T := ([some (.ref 943), some (.int u1), some (.long u2), none, some (.int u4), some (.int u5), some (.int t0)], [], (v0 L, g))) rfl ?_ ?_
  · refine ev_jm 1 (t := (17, [some (.ref 943), some (.int u1), some (.long u2), none, some (.int u4), some (.int (u5 + 1)), none], [], (v0 L, g))) rfl ?_
    exact hk17 (u1, u2, u4, (u5 + 1)) none none _
  · refine ev_gd (c := ai_in u1 40) (fun hc1 => ?_)
    refine ev_jm 5 (t := (62, [some (.ref 943), some (.int u1), some (.long u2), none, some (.int u4), some (.int u5), some (.int t0)], [.int (am_i g 959 u1.toNatClampNeg), .ref 964], (v0 L, g))) (ai_gd (c := ai_in u1 40) rfl hc1) ?_
    refine ev_gd (c := ai_in ((am_i g 959 u1.toNatClampNeg) + u4) 6000) (fun hc2 => ?_)
    refine ev_jm 2 (t := (66, [some (.ref 943), some (.int u1), some (.long u2), none, some (.int u4), some (.int u5), some (.int t0)], [.int (am_i g 964 (((am_i g 959 u1.toNatClampNeg) + u4)).toNatClampNeg)], (v0 L, g))) (ai_gd (c := ai_in ((am_i g 959 u1.toNatClampNeg) + u4) 6000) rfl hc2) ?_
    refine ev_jm 5 (t := (76, [some (.ref 943), some (.int u1), some (.long u2), none, some (.int u4), some (.int u5), some (.int t0)], [.int (am_i g 959 u1.toNatClampNeg), .ref 964, .int (am_i g 964 (((am_i g 959 u1.toNatClampNeg) + u4)).toNatClampNeg)], (v0 L, g))) (ai_gd (c := ai_in u1 40) rfl hc1) ?_
    refine ev_gd (c := ai_in ((am_i g 959 u1.toNatClampNeg) + u5) 6000) (fun hc3 => ?_)
    refine ev_jm 2 (t := (80, [some (.ref 943), some (.int u1), some (.long u2), none, some (.int u4), some (.int u5), some (.int t0)], [.int (am_i g 964 (((am_i g 959 u1.toNatClampNeg) + u5)).toNatClampNeg), .int (am_i g 964 (((am_i g 959 u1.toNatClampNeg) + u4)).toNatClampNeg)], (v0 L, g))) (ai_gd (c := ai_in ((am_i g 959 u1.toNatClampNeg) + u5) 6000) rfl hc3) ?_
    refine ev_in 0 (p := (am_i g 964 (((am_i g 959 u1.toNatClampNeg) + u4)).toNatClampNeg) = (am_i g 964 (((am_i g 959 u1.toNatClampNeg) + u5)).toNatClampNeg)) (a := 85) (b := 83) (T := ([some (.ref 943), some (.int u1), some (.long u2), none, some (.int u4), some (.int u5), some (.int t0)], [], (v0 L, g))) rfl ?_ ?_
    · exact fun hR => by cases hR; exact ev_rt 1 rfl
    · refine ev_jm 1 (t := (17, [some (.ref 943), some (.int u1), some (.long u2), none, some (.int u4), some (.int (u5 + 1)), none], [], (v0 L, g))) rfl ?_
      exact hk17 (u1, u2, u4, (u5 + 1)) none none _
noncomputable def fb_58_17 (g : am_G) (k3 : (Int32 × Int64 × Int32) → Option (Int32)) (k17 : (Int32 × Int64 × Int32 × Int32) → Option (Int32)) (u1 : Int32) (u2 : Int64) (u4 : Int32) (u5 : Int32) : Option (Int32) := if u4 ≤ u5 then k3 (u1, u2, (u4 + 1)) else if (lg_cmp (((u2 >>> (u4.toInt64 &&& 63)) &&& (u2 >>> (u5.toInt64 &&& 63))) &&& 1) 1) = 0 then fj_58_45 g k3 k17 u1 u2 u4 u5 1 else fj_58_45 g k3 k17 u1 u2 u4 u5 0
theorem db_58_17 (L : Nat) (g : am_G) {k3 : (Int32 × Int64 × Int32) → Option (Int32)} {k17 : (Int32 × Int64 × Int32 × Int32) → Option (Int32)} (hk3 : ∀ (x : Int32 × Int64 × Int32) (w3 w5 w6 : Option Value) (R : Int32), k3 x = some R → ai_ev ap_P 58 (3, [some (.ref 943), some (.int x.1), some (.long x.2.1), w3, some (.int x.2.2), w5, w6], [], (v0 L, g)) (.inl (ez_i R)) (v0 L, g)) (hk17 : ∀ (x : Int32 × Int64 × Int32 × Int32) (w3 w6 : Option Value) (R : Int32), k17 x = some R → ai_ev ap_P 58 (17, [some (.ref 943), some (.int x.1), some (.long x.2.1), w3, some (.int x.2.2.1), some (.int x.2.2.2), w6], [], (v0 L, g)) (.inl (ez_i R)) (v0 L, g)) (u1 : Int32) (u2 : Int64) (u4 : Int32) (u5 : Int32) (w3 w6 : Option Value) (R : Int32) : fb_58_17 g k3 k17 u1 u2 u4 u5 = some R → ai_ev ap_P 58 (17, [some (.ref 943), some (.int u1), some (.long u2), w3, some (.int u4), some (.int u5), w6], [], (v0 L, g)) (.inl (ez_i R)) (v0 L, g) := by
  unfold fb_58_17
  refine ev_if 2 (p := u4 ≤ u5) (a := 91) (b := 24) (T := ([some (.ref 943), some (.int u1), some (.long u2), none, some (.int u4), some (.int u5), none], [], (v0 L, g))) rfl ?_ ?_
  · refine ev_jm 1 (t := (3, [some (.ref 943), some (.int u1), some (.long u2), none, some (.int (u4 + 1)), some (.int u5), none], [], (v0 L, g))) rfl ?_
    exact hk3 (u1, u2, (u4 + 1)) none (some (.int u5)) none _
  · refine ev_in 11 (p := (lg_cmp (((u2 >>> (u4.toInt64 &&& 63)) &&& (u2 >>> (u5.toInt64 &&& 63))) &&& 1) 1) = 0) (a := 44) (b := 40) (T := ([some (.ref 943), some (.int u1), some (.long u2), none, some (.int u4), some (.int u5), none], [], (v0 L, g))) rfl ?_ ?_
    · refine ev_jm 1 (t := (45, [some (.ref 943), some (.int u1), some (.long u2), none, some (.int u4), some (.int u5), none], [.int 1], (v0 L, g))) rfl ?_
      exact dj_58_45 L g hk3 hk17 u1 u2 u4 u5 1 none none _
    · refine ev_jm 0 (t := (45, [some (.ref 943), some (.int u1), some (.long u2), none, some (.int u4), some (.int u5), none], [.int 0], (v0 L, g))) rfl ?_
      exact dj_58_45 L g hk3 hk17 u1 u2 u4 u5 0 none none _
noncomputable def fh_58_17 (g : am_G) (k3 : (Int32 × Int64 × Int32) → Option (Int32)) (x : Int32 × Int64 × Int32 × Int32) : Option (Int32) := lo_it (fun k x => fb_58_17 g k3 k x.1 x.2.1 x.2.2.1 x.2.2.2) nf_F x
theorem dh_58_17 (L : Nat) (g : am_G) {k3 : (Int32 × Int64 × Int32) → Option (Int32)} (hk3 : ∀ (x : Int32 × Int64 × Int32) (w3 w5 w6 : Option Value) (R : Int32), k3 x = some R → ai_ev ap_P 58 (3, [some (.ref 943), some (.int x.1), some (.long x.2.1), w3, some (.int x.2.2), w5, w6], [], (v0 L, g)) (.inl (ez_i R)) (v0 L, g)) (x : Int32 × Int64 × Int32 × Int32) (w3 w6 : Option Value) (R : Int32) : fh_58_17 g k3 x = some R → ai_ev ap_P 58 (17, [some (.ref 943), some (.int x.1), some (.long x.2.1), w3, some (.int x.2.2.1), some (.int x.2.2.2), w6], [], (v0 L, g)) (.inl (ez_i R)) (v0 L, g) :=
  fun hr => lo_ev (E := fun x R => ∀ (w3 w6 : Option Value), ai_ev ap_P 58 (17, [some (.ref 943), some (.int x.1), some (.long x.2.1), w3, some (.int x.2.2.1), some (.int x.2.2.2), w6], [], (v0 L, g)) (.inl (ez_i R)) (v0 L, g)) (fun k hk x R hr => fun w3 w6 => db_58_17 L g hk3 (fun x w3 w6 R hr => hk x R hr w3 w6) x.1 x.2.1 x.2.2.1 x.2.2.2 w3 w6 R hr) nf_F x R hr w3 w6
noncomputable def fb_58_3 (g : am_G) (k3 : (Int32 × Int64 × Int32) → Option (Int32)) (u1 : Int32) (u2 : Int64) (u4 : Int32) : Option (Int32) := lo_g (ai_in u1 40) (if (am_i g 960 u1.toNatClampNeg) ≤ u4 then some 0 else fh_58_17 g k3 (u1, u2, u4, 0))
theorem db_58_3 (L : Nat) (g : am_G) {k3 : (Int32 × Int64 × Int32) → Option (Int32)} (hk3 : ∀ (x : Int32 × Int64 × Int32) (w3 w5 w6 : Option Value) (R : Int32), k3 x = some R → ai_ev ap_P 58 (3, [some (.ref 943), some (.int x.1), some (.long x.2.1), w3, some (.int x.2.2), w5, w6], [], (v0 L, g)) (.inl (ez_i R)) (v0 L, g)) (u1 : Int32) (u2 : Int64) (u4 : Int32) (w3 w5 w6 : Option Value) (R : Int32) : fb_58_3 g k3 u1 u2 u4 = some R → ai_ev ap_P 58 (3, [some (.ref 943), some (.int u1), some (.long u2), w3, some (.int u4), w5, w6], [], (v0 L, g)) (.inl (ez_i R)) (v0 L, g) := by
  unfold fb_58_3
  refine ev_gd (c := ai_in u1 40) (fun hc1 => ?_)
  refine ev_jm 4 (t := (11, [some (.ref 943), some (.int u1), some (.long u2), none, some (.int u4), none, none], [.int (am_i g 960 u1.toNatClampNeg), .int u4], (v0 L, g))) (ai_gd (c := ai_in u1 40) rfl hc1) ?_
  refine ev_if 0 (p := (am_i g 960 u1.toNatClampNeg) ≤ u4) (a := 97) (b := 14) (T := ([some (.ref 943), some (.int u1), some (.long u2), none, some (.int u4), none, none], [], (v0 L, g))) rfl ?_ ?_
  · exact fun hR => by cases hR; exact ev_rt 1 rfl
  · refine ev_jm 1 (t := (17, [some (.ref 943), some (.int u1), some (.long u2), none, some (.int u4), some (.int 0), none], [], (v0 L, g))) rfl ?_
    exact dh_58_17 L g hk3 (u1, u2, u4, 0) none none _
noncomputable def fh_58_3 (g : am_G)  (x : Int32 × Int64 × Int32) : Option (Int32) := lo_it (fun k x => fb_58_3 g k x.1 x.2.1 x.2.2) nf_F x
theorem dh_58_3 (L : Nat) (g : am_G)   (x : Int32 × Int64 × Int32) (w3 w5 w6 : Option Value) (R : Int32) : fh_58_3 g  x = some R → ai_ev ap_P 58 (3, [some (.ref 943), some (.int x.1), some (.long x.2.1), w3, some (.int x.2.2), w5, w6], [], (v0 L, g)) (.inl (ez_i R)) (v0 L, g) :=
  fun hr => lo_ev (E := fun x R => ∀ (w3 w5 w6 : Option Value), ai_ev ap_P 58 (3, [some (.ref 943), some (.int x.1), some (.long x.2.1), w3, some (.int x.2.2), w5, w6], [], (v0 L, g)) (.inl (ez_i R)) (v0 L, g)) (fun k hk x R hr => fun w3 w5 w6 => db_58_3 L g (fun x w3 w5 w6 R hr => hk x R hr w3 w5 w6) x.1 x.2.1 x.2.2 w3 w5 w6 R hr) nf_F x R hr w3 w5 w6
/-- DeclaredMarkupModel.competes(IJ)Z -/
noncomputable def fm_58 (g : am_G) (u1 : Int32) (u2 : Int64) : Option (Int32) := fh_58_3 g (u1, u2, 0)
theorem dm_58 (L : Nat) (g : am_G) (u1 : Int32) (u2 : Int64) (R : Int32) : fm_58 g u1 u2 = some R → ai_ev ap_P 58 (ai_e0 ap_P 58 [.ref 943, .int u1, .long u2] (v0 L, g)) (.inl (ez_i R)) (v0 L, g) := by
  show _ → ai_ev ap_P 58 (0, [some (.ref 943), some (.int u1), some (.long u2), none, none, none, none], [], (v0 L, g)) _ _
  unfold fm_58
  refine ev_jm 1 (t := (3, [some (.ref 943), some (.int u1), some (.long u2), none, some (.int 0), none, none], [], (v0 L, g))) rfl ?_
  exact dh_58_3 L g (u1, u2, 0) none none none _
noncomputable def fb_59_22 (g : am_G) (k22 : (Int32 × Int32 × Int32) → Option (Int32)) (u1 : Int32) (u2 : Int32) (u3 : Int32) : Option (Int32) := lo_g (ai_in u1 40) (if (am_i g 960 u1.toNatClampNeg) ≤ u3 then some (vp_nar .boolean u2) else if u2 = 0 then k22 (u1, 0, (u3 + 1)) else lo_g (ai_in ((am_i g 959 u1.toNatClampNeg) + u3) 6000) (lo_p (fm_58 g u1 (am_j g 966 (((am_i g 959 u1.toNatClampNeg) + u3)).toNatClampNeg)) fun y3 => if y3 = 0 then k22 (u1, 1, (u3 + 1)) else k22 (u1, 0, (u3 + 1))))
theorem db_59_22 (L : Nat) (g : am_G) {k22 : (Int32 × Int32 × Int32) → Option (Int32)} (hk22 : ∀ (x : Int32 × Int32 × Int32) (R : Int32), k22 x = some R → ai_ev ap_P 59 (22, [some (.ref 943), some (.int x.1), some (.int x.2.1), some (.int x.2.2)], [], (v0 L, g)) (.inl (ez_i R)) (v0 L, g)) (u1 : Int32) (u2 : Int32) (u3 : Int32) (R : Int32) : fb_59_22 g k22 u1 u2 u3 = some R → ai_ev ap_P 59 (22, [some (.ref 943), some (.int u1), some (.int u2), some (.int u3)], [], (v0 L, g)) (.inl (ez_i R)) (v0 L, g) := by
  unfold fb_59_22
  refine ev_gd (c := ai_in u1 40) (fun hc1 => ?_)
  refine ev_jm 4 (t := (29, [some (.ref 943), some (.int u1), some (.int u2), some (.int u3)], [.int (am_i g 960 u1.toNatClampNeg), .int u3], (v0 L, g))) (ai_gd (c := ai_in u1 40) rfl hc1) ?_
  refine ev_if 0 (p := (am_i g 960 u1.toNatClampNeg) ≤ u3) (a := 69) (b := 32) (T := ([some (.ref 943), some (.int u1), some (.int u2), some (.int u3)], [], (v0 L, g))) rfl ?_ ?_
  · exact fun hR => by cases hR; exact ev_rt 1 rfl
  · refine ev_if 1 (p := u2 = 0) (a := 61) (b := 36) (T := ([some (.ref 943), some (.int u1), some (.int u2), some (.int u3)], [], (v0 L, g))) rfl ?_ ?_
    · refine ev_jm 3 (t := (22, [some (.ref 943), some (.int u1), some (.int 0), some (.int (u3 + 1))], [], (v0 L, g))) rfl ?_
      exact hk22 (u1, 0, (u3 + 1)) _
    · refine ev_jm 7 (t := (48, [some (.ref 943), some (.int u1), some (.int u2), some (.int u3)], [.int (am_i g 959 u1.toNatClampNeg), .ref 966, .int u1, .ref 943], (v0 L, g))) (ai_gd (c := ai_in u1 40) rfl hc1) ?_
      refine ev_gd (c := ai_in ((am_i g 959 u1.toNatClampNeg) + u3) 6000) (fun hc2 => ?_)
      refine ev_jm 2 (t := (51, [some (.ref 943), some (.int u1), some (.int u2), some (.int u3)], [.long (am_j g 966 (((am_i g 959 u1.toNatClampNeg) + u3)).toNatClampNeg), .int u1, .ref 943], (v0 L, g))) (ai_gd (c := ai_in ((am_i g 959 u1.toNatClampNeg) + u3) 6000) rfl hc2) ?_
      refine ev_op 0 (as := [.ref 943, .int u1, .long (am_j g 966 (((am_i g 959 u1.toNatClampNeg) + u3)).toNatClampNeg)]) (pc := 54) (Lc := [some (.ref 943), some (.int u1), some (.int u2), some (.int u3)]) (st := []) (h1 := (v0 L, g)) (e := ez_i) rfl (dm_58 L g u1 (am_j g 966 (((am_i g 959 u1.toNatClampNeg) + u3)).toNatClampNeg)) (fun y3 => ?_)
      refine ev_in 0 (p := y3 = 0) (a := 61) (b := 57) (T := ([some (.ref 943), some (.int u1), some (.int u2), some (.int u3)], [], (v0 L, g))) rfl ?_ ?_
      · refine ev_jm 4 (t := (22, [some (.ref 943), some (.int u1), some (.int 1), some (.int (u3 + 1))], [], (v0 L, g))) rfl ?_
        exact hk22 (u1, 1, (u3 + 1)) _
      · refine ev_jm 3 (t := (22, [some (.ref 943), some (.int u1), some (.int 0), some (.int (u3 + 1))], [], (v0 L, g))) rfl ?_
        exact hk22 (u1, 0, (u3 + 1)) _
noncomputable def fh_59_22 (g : am_G)  (x : Int32 × Int32 × Int32) : Option (Int32) := lo_it (fun k x => fb_59_22 g k x.1 x.2.1 x.2.2) nf_F x
theorem dh_59_22 (L : Nat) (g : am_G)   (x : Int32 × Int32 × Int32) (R : Int32) : fh_59_22 g  x = some R → ai_ev ap_P 59 (22, [some (.ref 943), some (.int x.1), some (.int x.2.1), some (.int x.2.2)], [], (v0 L, g)) (.inl (ez_i R)) (v0 L, g) :=
  fun hr => lo_ev (E := fun x R => ai_ev ap_P 59 (22, [some (.ref 943), some (.int x.1), some (.int x.2.1), some (.int x.2.2)], [], (v0 L, g)) (.inl (ez_i R)) (v0 L, g)) (fun k hk x R hr => db_59_22 L g hk x.1 x.2.1 x.2.2  R hr) nf_F x R hr
/-- DeclaredMarkupModel.isClear(I)Z -/
noncomputable def fm_59 (g : am_G) (u1 : Int32) : Option (Int32) := lo_g (ai_in u1 40) (lo_p (fm_58 g u1 (am_j g 961 u1.toNatClampNeg)) fun y2 => if y2 = 0 then fh_59_22 g (u1, 1, 0) else fh_59_22 g (u1, 0, 0))
theorem dm_59 (L : Nat) (g : am_G) (u1 : Int32) (R : Int32) : fm_59 g u1 = some R → ai_ev ap_P 59 (ai_e0 ap_P 59 [.ref 943, .int u1] (v0 L, g)) (.inl (ez_i R)) (v0 L, g) := by
  show _ → ai_ev ap_P 59 (0, [some (.ref 943), some (.int u1), none, none], [], (v0 L, g)) _ _
  unfold fm_59
  refine ev_gd (c := ai_in u1 40) (fun hc1 => ?_)
  refine ev_jm 5 (t := (8, [some (.ref 943), some (.int u1), none, none], [.long (am_j g 961 u1.toNatClampNeg), .int u1, .ref 943], (v0 L, g))) (ai_gd (c := ai_in u1 40) rfl hc1) ?_
  refine ev_op 0 (as := [.ref 943, .int u1, .long (am_j g 961 u1.toNatClampNeg)]) (pc := 11) (Lc := [some (.ref 943), some (.int u1), none, none]) (st := []) (h1 := (v0 L, g)) (e := ez_i) rfl (dm_58 L g u1 (am_j g 961 u1.toNatClampNeg)) (fun y2 => ?_)
  refine ev_in 0 (p := y2 = 0) (a := 18) (b := 14) (T := ([some (.ref 943), some (.int u1), none, none], [], (v0 L, g))) rfl ?_ ?_
  · refine ev_jm 4 (t := (22, [some (.ref 943), some (.int u1), some (.int 1), some (.int 0)], [], (v0 L, g))) rfl ?_
    exact dh_59_22 L g (u1, 1, 0) _
  · refine ev_jm 3 (t := (22, [some (.ref 943), some (.int u1), some (.int 0), some (.int 0)], [], (v0 L, g))) rfl ?_
    exact dh_59_22 L g (u1, 0, 0) _
noncomputable def fj_69_92  (g : am_G) : Option (am_G) := some (am_si g 943 61 0)
theorem dj_69_92 (L : Nat)   (g : am_G) (w1 w2 : Option Value) (R : am_G) : fj_69_92  g = some R → ai_ev ap_P 69 (92, [some (.ref 943), w1, w2], [], (v0 L, g)) (.inl none) (v0 L, R) := by
  unfold fj_69_92
  exact fun hR => by cases hR; exact ev_rt 3 rfl
noncomputable def fb_69_43 (k43 : (am_G × Int32 × Int32) → Option (am_G)) (g : am_G) (u1 : Int32) (u2 : Int32) : Option (am_G) := lo_g (ai_in u1 40) (if (am_i g 960 u1.toNatClampNeg) ≤ u2 then lo_p (fm_59 g u1) fun y2 => if y2 = 0 then lo_p (fm_24 g 6) fun g5 => fj_69_92 g5 else fj_69_92 g else lo_p (fm_55 g u1 u2) fun y6 => lo_g (ai_in ((am_i g 959 u1.toNatClampNeg) + u2) 6000) (k43 ((am_sj g 966 (((am_i g 959 u1.toNatClampNeg) + u2)).toNatClampNeg y6), u1, (u2 + 1))))
theorem db_69_43 (L : Nat) {k43 : (am_G × Int32 × Int32) → Option (am_G)} (hk43 : ∀ (x : am_G × Int32 × Int32) (R : am_G), k43 x = some R → ai_ev ap_P 69 (43, [some (.ref 943), some (.int x.2.1), some (.int x.2.2)], [], (v0 L, x.1)) (.inl none) (v0 L, R)) (g : am_G) (u1 : Int32) (u2 : Int32) (R : am_G) : fb_69_43 k43 g u1 u2 = some R → ai_ev ap_P 69 (43, [some (.ref 943), some (.int u1), some (.int u2)], [], (v0 L, g)) (.inl none) (v0 L, R) := by
  unfold fb_69_43
  refine ev_gd (c := ai_in u1 40) (fun hc1 => ?_)
  refine ev_jm 4 (t := (50, [some (.ref 943), some (.int u1), some (.int u2)], [.int (am_i g 960 u1.toNatClampNeg), .int u2], (v0 L, g))) (ai_gd (c := ai_in u1 40) rfl hc1) ?_
  refine ev_if 0 (p := (am_i g 960 u1.toNatClampNeg) ≤ u2) (a := 78) (b := 53) (T := ([some (.ref 943), some (.int u1), some (.int u2)], [], (v0 L, g))) rfl ?_ ?_
  · refine ev_op 2 (as := [.ref 943, .int u1]) (pc := 83) (Lc := [some (.ref 943), some (.int u1), some (.int u2)]) (st := []) (h1 := (v0 L, g)) (e := ez_i) rfl (dm_59 L g u1) (fun y2 => ?_)
    refine ev_in 0 (p := y2 = 0) (a := 92) (b := 86) (T := ([some (.ref 943), some (.int u1), some (.int u2)], [], (v0 L, g))) rfl ?_ ?_
    · refine ev_ov0 2 (as := [.ref 943, .int 6]) (pc := 92) (Lc := [some (.ref 943), some (.int u1), some (.int u2)]) (st := []) (V := v0 L) (g1 := g) rfl (dm_24 L g 6) (fun g5 => ?_)
      exact dj_69_92 L g5 (some (.int u1)) (some (.int u2)) _
    · exact dj_69_92 L g (some (.int u1)) (some (.int u2)) _
  · refine ev_jm 5 (t := (63, [some (.ref 943), some (.int u1), some (.int u2)], [.int (am_i g 959 u1.toNatClampNeg), .ref 966], (v0 L, g))) (ai_gd (c := ai_in u1 40) rfl hc1) ?_
    refine ev_op 5 (as := [.ref 943, .int u1, .int u2]) (pc := 71) (Lc := [some (.ref 943), some (.int u1), some (.int u2)]) (st := [.int ((am_i g 959 u1.toNatClampNeg) + u2), .ref 966]) (h1 := (v0 L, g)) (e := ez_j) rfl (dm_55 L g u1 u2) (fun y6 => ?_)
    refine ev_gd (c := ai_in ((am_i g 959 u1.toNatClampNeg) + u2) 6000) (fun hc8 => ?_)
    refine ev_jm 0 (t := (72, [some (.ref 943), some (.int u1), some (.int u2)], [], (v0 L, (am_sj g 966 (((am_i g 959 u1.toNatClampNeg) + u2)).toNatClampNeg y6)))) (ai_gd (c := ai_in ((am_i g 959 u1.toNatClampNeg) + u2) 6000) rfl hc8) ?_
    refine ev_jm 1 (t := (43, [some (.ref 943), some (.int u1), some (.int (u2 + 1))], [], (v0 L, (am_sj g 966 (((am_i g 959 u1.toNatClampNeg) + u2)).toNatClampNeg y6)))) rfl ?_
    exact hk43 ((am_sj g 966 (((am_i g 959 u1.toNatClampNeg) + u2)).toNatClampNeg y6), u1, (u2 + 1)) _
noncomputable def fh_69_43  (x : am_G × Int32 × Int32) : Option (am_G) := lo_it (fun k x => fb_69_43 k x.1 x.2.1 x.2.2) nf_F x
theorem dh_69_43 (L : Nat)   (x : am_G × Int32 × Int32) (R : am_G) : fh_69_43  x = some R → ai_ev ap_P 69 (43, [some (.ref 943), some (.int x.2.1), some (.int x.2.2)], [], (v0 L, x.1)) (.inl none) (v0 L, R) :=
  fun hr => lo_ev (E := fun x R => ai_ev ap_P 69 (43, [some (.ref 943), some (.int x.2.1), some (.int x.2.2)], [], (v0 L, x.1)) (.inl none) (v0 L, R)) (fun k hk x R hr => db_69_43 L hk x.1 x.2.1 x.2.2  R hr) nf_F x R hr
/-- DeclaredMarkupModel.placed(I)V -/
noncomputable def fm_69 (g : am_G) (u1 : Int32) : Option (am_G) := lo_p (fm_54 g u1 (am_i g 943 70)) fun y1 => lo_g (ai_in u1 40) (lo_p (fm_57 (am_sj g 961 u1.toNatClampNeg y1) u1) fun y4 => lo_g (ai_in (am_i g 943 70) 6100) (fh_69_43 ((am_si (am_sj (am_sj g 961 u1.toNatClampNeg y1) 962 u1.toNatClampNeg y4) 963 u1.toNatClampNeg (vp_nar .boolean (am_i g 971 ((am_i g 943 70)).toNatClampNeg))), u1, 0)))
theorem dm_69 (L : Nat) (g : am_G) (u1 : Int32) (R : am_G) : fm_69 g u1 = some R → ai_ev ap_P 69 (ai_e0 ap_P 69 [.ref 943, .int u1] (v0 L, g)) (.inl none) (v0 L, R) := by
  show _ → ai_ev ap_P 69 (0, [some (.ref 943), some (.int u1), none], [], (v0 L, g)) _ _
  unfold fm_69
  refine ev_op 7 (as := [.ref 943, .int u1, .int (am_i g 943 70)]) (pc := 14) (Lc := [some (.ref 943), some (.int u1), none]) (st := [.int u1, .ref 961]) (h1 := (v0 L, g)) (e := ez_j) rfl (dm_54 L g u1 (am_i g 943 70)) (fun y1 => ?_)
  refine ev_gd (c := ai_in u1 40) (fun hc3 => ?_)
  refine ev_jm 0 (t := (15, [some (.ref 943), some (.int u1), none], [], (v0 L, (am_sj g 961 u1.toNatClampNeg y1)))) (ai_gd (c := ai_in u1 40) rfl hc3) ?_
  refine ev_op 5 (as := [.ref 943, .int u1]) (pc := 25) (Lc := [some (.ref 943), some (.int u1), none]) (st := [.int u1, .ref 962]) (h1 := (v0 L, (am_sj g 961 u1.toNatClampNeg y1))) (e := ez_j) rfl (dm_57 L (am_sj g 961 u1.toNatClampNeg y1) u1) (fun y4 => ?_)
  refine ev_jm 0 (t := (26, [some (.ref 943), some (.int u1), none], [], (v0 L, (am_sj (am_sj g 961 u1.toNatClampNeg y1) 962 u1.toNatClampNeg y4)))) (ai_gd (c := ai_in u1 40) rfl hc3) ?_
  refine ev_gd (c := ai_in (am_i g 943 70) 6100) (fun hc6 => ?_)
  refine ev_jm 7 (t := (40, [some (.ref 943), some (.int u1), none], [.int (am_i g 971 ((am_i g 943 70)).toNatClampNeg), .int u1, .ref 963], (v0 L, (am_sj (am_sj g 961 u1.toNatClampNeg y1) 962 u1.toNatClampNeg y4)))) (ai_gd (c := ai_in (am_i g 943 70) 6100) rfl hc6) ?_
  refine ev_jm 0 (t := (41, [some (.ref 943), some (.int u1), none], [], (v0 L, (am_si (am_sj (am_sj g 961 u1.toNatClampNeg y1) 962 u1.toNatClampNeg y4) 963 u1.toNatClampNeg (vp_nar .boolean (am_i g 971 ((am_i g 943 70)).toNatClampNeg)))))) (ai_gd (c := ai_in u1 40) rfl hc3) ?_
  refine ev_jm 1 (t := (43, [some (.ref 943), some (.int u1), some (.int 0)], [], (v0 L, (am_si (am_sj (am_sj g 961 u1.toNatClampNeg y1) 962 u1.toNatClampNeg y4) 963 u1.toNatClampNeg (vp_nar .boolean (am_i g 971 ((am_i g 943 70)).toNatClampNeg)))))) rfl ?_
  exact dh_69_43 L ((am_si (am_sj (am_sj g 961 u1.toNatClampNeg y1) 962 u1.toNatClampNeg y4) 963 u1.toNatClampNeg (vp_nar .boolean (am_i g 971 ((am_i g 943 70)).toNatClampNeg))), u1, 0) _
noncomputable def fj_70_112  (g : am_G) : Option (Int32 × am_G) := lo_i (fm_25 g 45) fun y1 g2 => some (y1, g2)
theorem dj_70_112 (L : Nat)   (g : am_G) (R : Int32 × am_G) : fj_70_112  g = some R → ai_ev ap_P 70 (112, [some (.ref 943)], [], (v0 L, g)) (.inl (ez_i R.1)) (v0 L, R.2) := by
  unfold fj_70_112
  refine ev_oi 2 (as := [.ref 943, .int 45]) (pc := 118) (Lc := [some (.ref 943)]) (st := []) (V := v0 L) (g1 := g) (e := ez_i) rfl (dm_25 L g 45) (fun y1 g2 => ?_)
  exact fun hR => by cases hR; exact ev_rt 0 rfl
/-- DeclaredMarkupModel.modelled()I -/
noncomputable def fm_70 (g : am_G)  : Option (Int32 × am_G) := if (am_i g 943 71) = 0 then lo_g (ai_in (am_i g 943 49) 40) (if (am_i g 943 75) = 3 then lo_p (fm_69 (am_si (am_si (am_si (am_si (am_si g 957 ((am_i g 943 49)).toNatClampNeg (am_i g 943 72)) 958 ((am_i g 943 49)).toNatClampNeg (am_i g 943 75)) 959 ((am_i g 943 49)).toNatClampNeg (am_i g 943 76)) 960 ((am_i g 943 49)).toNatClampNeg ((am_i g 943 57) - (am_i g 943 76))) 943 49 ((am_i g 943 49) + 1)) (((am_i g 943 49) + 1) - 1)) fun g3 => fj_70_112 g3 else fj_70_112 (am_si (am_si (am_si (am_si (am_si g 957 ((am_i g 943 49)).toNatClampNeg (am_i g 943 72)) 958 ((am_i g 943 49)).toNatClampNeg (am_i g 943 75)) 959 ((am_i g 943 49)).toNatClampNeg (am_i g 943 76)) 960 ((am_i g 943 49)).toNatClampNeg ((am_i g 943 57) - (am_i g 943 76))) 943 49 ((am_i g 943 49) + 1))) else lo_i (fm_25 (am_si (am_si g 943 57 (am_i g 943 76)) 943 61 0) 45) fun y4 g5 => some (y4, g5)
theorem dm_70 (L : Nat) (g : am_G)  (R : Int32 × am_G) : fm_70 g  = some R → ai_ev ap_P 70 (ai_e0 ap_P 70 [.ref 943] (v0 L, g)) (.inl (ez_i R.1)) (v0 L, R.2) := by
  show _ → ai_ev ap_P 70 (0, [some (.ref 943)], [], (v0 L, g)) _ _
  unfold fm_70
  refine ev_if 2 (p := (am_i g 943 71) = 0) (a := 27) (b := 7) (T := ([some (.ref 943)], [], (v0 L, g))) rfl ?_ ?_
  · refine ev_gd (c := ai_in (am_i g 943 49) 40) (fun hc1 => ?_)
    refine ev_jm 6 (t := (40, [some (.ref 943)], [], (v0 L, (am_si g 957 ((am_i g 943 49)).toNatClampNeg (am_i g 943 72))))) (ai_gd (c := ai_in (am_i g 943 49) 40) rfl hc1) ?_
    refine ev_jm 6 (t := (53, [some (.ref 943)], [], (v0 L, (am_si (am_si g 957 ((am_i g 943 49)).toNatClampNeg (am_i g 943 72)) 958 ((am_i g 943 49)).toNatClampNeg (am_i g 943 75))))) (ai_gd (c := ai_in (am_i g 943 49) 40) rfl hc1) ?_
    refine ev_jm 6 (t := (66, [some (.ref 943)], [], (v0 L, (am_si (am_si (am_si g 957 ((am_i g 943 49)).toNatClampNeg (am_i g 943 72)) 958 ((am_i g 943 49)).toNatClampNeg (am_i g 943 75)) 959 ((am_i g 943 49)).toNatClampNeg (am_i g 943 76))))) (ai_gd (c := ai_in (am_i g 943 49) 40) rfl hc1) ?_
    refine ev_jm 9 (t := (84, [some (.ref 943)], [], (v0 L, (am_si (am_si (am_si (am_si g 957 ((am_i g 943 49)).toNatClampNeg (am_i g 943 72)) 958 ((am_i g 943 49)).toNatClampNeg (am_i g 943 75)) 959 ((am_i g 943 49)).toNatClampNeg (am_i g 943 76)) 960 ((am_i g 943 49)).toNatClampNeg ((am_i g 943 57) - (am_i g 943 76)))))) (ai_gd (c := ai_in (am_i g 943 49) 40) rfl hc1) ?_
    refine ev_in 9 (p := (am_i g 943 75) = 3) (a := 112) (b := 102) (T := ([some (.ref 943)], [], (v0 L, (am_si (am_si (am_si (am_si (am_si g 957 ((am_i g 943 49)).toNatClampNeg (am_i g 943 72)) 958 ((am_i g 943 49)).toNatClampNeg (am_i g 943 75)) 959 ((am_i g 943 49)).toNatClampNeg (am_i g 943 76)) 960 ((am_i g 943 49)).toNatClampNeg ((am_i g 943 57) - (am_i g 943 76))) 943 49 ((am_i g 943 49) + 1))))) rfl ?_ ?_
    · refine ev_ov0 5 (as := [.ref 943, .int (((am_i g 943 49) + 1) - 1)]) (pc := 112) (Lc := [some (.ref 943)]) (st := []) (V := v0 L) (g1 := (am_si (am_si (am_si (am_si (am_si g 957 ((am_i g 943 49)).toNatClampNeg (am_i g 943 72)) 958 ((am_i g 943 49)).toNatClampNeg (am_i g 943 75)) 959 ((am_i g 943 49)).toNatClampNeg (am_i g 943 76)) 960 ((am_i g 943 49)).toNatClampNeg ((am_i g 943 57) - (am_i g 943 76))) 943 49 ((am_i g 943 49) + 1))) rfl (dm_69 L (am_si (am_si (am_si (am_si (am_si g 957 ((am_i g 943 49)).toNatClampNeg (am_i g 943 72)) 958 ((am_i g 943 49)).toNatClampNeg (am_i g 943 75)) 959 ((am_i g 943 49)).toNatClampNeg (am_i g 943 76)) 960 ((am_i g 943 49)).toNatClampNeg ((am_i g 943 57) - (am_i g 943 76))) 943 49 ((am_i g 943 49) + 1)) (((am_i g 943 49) + 1) - 1)) (fun g3 => ?_)
      exact dj_70_112 L g3 _
    · exact dj_70_112 L (am_si (am_si (am_si (am_si (am_si g 957 ((am_i g 943 49)).toNatClampNeg (am_i g 943 72)) 958 ((am_i g 943 49)).toNatClampNeg (am_i g 943 75)) 959 ((am_i g 943 49)).toNatClampNeg (am_i g 943 76)) 960 ((am_i g 943 49)).toNatClampNeg ((am_i g 943 57) - (am_i g 943 76))) 943 49 ((am_i g 943 49) + 1)) _
  · refine ev_oi 9 (as := [.ref 943, .int 45]) (pc := 26) (Lc := [some (.ref 943)]) (st := []) (V := v0 L) (g1 := (am_si (am_si g 943 57 (am_i g 943 76)) 943 61 0)) (e := ez_i) rfl (dm_25 L (am_si (am_si g 943 57 (am_i g 943 76)) 943 61 0) 45) (fun y4 g5 => ?_)
    exact fun hR => by cases hR; exact ev_rt 0 rfl
noncomputable def fj_125_275  (g : am_G) (t1 : Int32) : Option (Int32 × am_G) := lo_i (fm_25 g t1) fun y1 g2 => some (y1, g2)
set_option maxRecDepth 20000 in
theorem dj_125_275 (L : Nat)   (g : am_G) (t1 : Int32) (w0 w1 : Option Value) (R : Int32 × am_G) : fj_125_275  g t1 = some R → ai_ev ap_P 125 (275, [w0, w1], [.int t1, .ref 943], (v0 L, g)) (.inl (ez_i R.1)) (v0 L, R.2) := by
  unfold fj_125_275
  refine ev_oi 0 (as := [.ref 943, .int t1]) (pc := 278) (Lc := [none, none]) (st := []) (V := v0 L) (g1 := g) (e := ez_i) rfl (dm_25 L g t1) (fun y1 g2 => ?_)
  exact fun hR => by cases hR; exact ev_rt 1 rfl
/-- DeclaredMarkupModel.elementStep(I)I -/
noncomputable def fm_125 (g : am_G) (u1 : Int32) : Option (Int32 × am_G) := if (am_i g 943 26) = 80 then lo_i (fm_116 g u1 81) fun y1 g2 => some (y1, g2) else if (am_i g 943 26) = 81 then lo_p (fm_16 g u1) fun y3 => if y3 = 0 then lo_i (fm_27 g u1 8 0) fun y5 g6 => some (y5, g6) else some (0, g) else if (am_i g 943 26) = 82 then lo_i (fm_116 g u1 83) fun y7 g8 => some (y7, g8) else if (am_i g 943 26) = 83 then if u1 = 69 then lo_i (fm_34 (am_si g 943 75 0) 5685913 5 1 88) fun y17 g18 => some (y17, g18) else if u1 = 65 then lo_i (fm_34 (am_si g 943 75 1) 1497 3 1 88) fun y15 g16 => some (y15, g16) else if u1 = 40 then lo_i (fm_25 g 84) fun y13 g14 => some (y13, g14) else lo_p (fm_16 g u1) fun y9 => if y9 = 0 then lo_i (fm_23 g ) fun y11 g12 => some (y11, g12) else some (0, g) else if (am_i g 943 26) = 84 then lo_p (fm_16 g u1) fun y19 => if y19 = 0 then if u1 = 35 then lo_i (fm_25 (am_si g 943 75 2) 94) fun y23 g24 => some (y23, g24) else lo_i (fm_26 (am_si (am_si (am_si g 943 67 1) 972 0 (-1)) 973 0 0) 90) fun y21 g22 => some (y21, g22) else some (0, g) else if (am_i g 943 26) = 85 then lo_p (fm_16 g u1) fun y25 => if y25 = 0 then if u1 = 124 then lo_i (fm_25 g 87) fun y29 g30 => some (y29, g30) else if u1 = 41 then if (am_i g 943 57) ≤ (am_i g 943 76) then fj_125_275 g 86 else fj_125_275 g 89 else lo_i (fm_23 g ) fun y27 g28 => some (y27, g28) else some (0, g) else if (am_i g 943 26) = 86 then if u1 = 42 then lo_i (fm_25 g 88) fun y33 g34 => some (y33, g34) else lo_i (fm_26 g 88) fun y31 g32 => some (y31, g32) else if (am_i g 943 26) = 87 then lo_p (fm_16 g u1) fun y35 => if y35 = 0 then lo_i (fm_27 g u1 9 0) fun y37 g38 => some (y37, g38) else some (0, g) else if (am_i g 943 26) = 88 then lo_p (fm_16 g u1) fun y39 => if y39 = 0 then if u1 = 62 then lo_i (fm_70 g ) fun y43 g44 => some (y43, g44) else lo_i (fm_23 g ) fun y41 g42 => some (y41, g42) else some (0, g) else if (am_i g 943 26) = 89 then if u1 = 42 then lo_i (fm_25 g 88) fun y47 g48 => some (y47, g48) else lo_i (fm_23 g ) fun y45 g46 => some (y45, g46) else if u1 = 80 then lo_i (fm_34 g 540149377 6 1 85) fun y51 g52 => some (y51, g52) else lo_i (fm_23 g ) fun y49 g50 => some (y49, g50)
set_option maxRecDepth 20000 in
theorem dm_125 (L : Nat) (g : am_G) (u1 : Int32) (R : Int32 × am_G) : fm_125 g u1 = some R → ai_ev ap_P 125 (ai_e0 ap_P 125 [.ref 943, .int u1] (v0 L, g)) (.inl (ez_i R.1)) (v0 L, R.2) := by
  show _ → ai_ev ap_P 125 (0, [some (.ref 943), some (.int u1)], [], (v0 L, g)) _ _
  unfold fm_125
  refine ev_sw 2 (ps := [(80, 60), (81, 68), (82, 88), (83, 96), (84, 171), (85, 224), (86, 286), (87, 308), (88, 328), (89, 357)]) (d := 377) (x := (am_i g 943 26)) (T := ([some (.ref 943), some (.int u1)], [], (v0 L, g))) rfl ?_
  refine sw_c ?_ ?_
  · refine ev_oi 3 (as := [.ref 943, .int u1, .int 81]) (pc := 67) (Lc := [some (.ref 943), some (.int u1)]) (st := []) (V := v0 L) (g1 := g) (e := ez_i) rfl (dm_116 L g u1 81) (fun y1 g2 => ?_)
    exact fun hR => by cases hR; exact ev_rt 0 rfl
  refine sw_c ?_ ?_
  · refine ev_op 1 (as := [.int u1]) (pc := 72) (Lc := [some (.ref 943), some (.int u1)]) (st := []) (h1 := (v0 L, g)) (e := ez_i) rfl (dm_16 L g u1) (fun y3 => ?_)
    refine ev_if 0 (p := y3 = 0) (a := 79) (b := 75) (T := ([some (.ref 943), some (.int u1)], [], (v0 L, g))) rfl ?_ ?_
    · refine ev_oi 4 (as := [.ref 943, .int u1, .int 8, .int 0]) (pc := 87) (Lc := [some (.ref 943), some (.int u1)]) (st := []) (V := v0 L) (g1 := g) (e := ez_i) rfl (dm_27 L g u1 8 0) (fun y5 g6 => ?_)
      exact fun hR => by cases hR; exact ev_rt 0 rfl
    · exact fun hR => by cases hR; exact ev_rt 2 rfl
  refine sw_c ?_ ?_
  · refine ev_oi 3 (as := [.ref 943, .int u1, .int 83]) (pc := 95) (Lc := [some (.ref 943), some (.int u1)]) (st := []) (V := v0 L) (g1 := g) (e := ez_i) rfl (dm_116 L g u1 83) (fun y7 g8 => ?_)
    exact fun hR => by cases hR; exact ev_rt 0 rfl
  refine sw_c ?_ ?_
  · refine ev_in 2 (p := u1 = 69) (a := 119) (b := 102) (T := ([some (.ref 943), some (.int u1)], [], (v0 L, g))) rfl ?_ ?_
    · refine ev_oi 8 (as := [.ref 943, .long 5685913, .int 5, .int 1, .int 88]) (pc := 118) (Lc := [some (.ref 943), some (.int u1)]) (st := []) (V := v0 L) (g1 := (am_si g 943 75 0)) (e := ez_i) rfl (dm_34 L (am_si g 943 75 0) 5685913 5 1 88) (fun y17 g18 => ?_)
      exact fun hR => by cases hR; exact ev_rt 0 rfl
    · refine ev_in 2 (p := u1 = 65) (a := 142) (b := 125) (T := ([some (.ref 943), some (.int u1)], [], (v0 L, g))) rfl ?_ ?_
      · refine ev_oi 8 (as := [.ref 943, .long 1497, .int 3, .int 1, .int 88]) (pc := 141) (Lc := [some (.ref 943), some (.int u1)]) (st := []) (V := v0 L) (g1 := (am_si g 943 75 1)) (e := ez_i) rfl (dm_34 L (am_si g 943 75 1) 1497 3 1 88) (fun y15 g16 => ?_)
        exact fun hR => by cases hR; exact ev_rt 0 rfl
      · refine ev_in 2 (p := u1 = 40) (a := 155) (b := 148) (T := ([some (.ref 943), some (.int u1)], [], (v0 L, g))) rfl ?_ ?_
        · refine ev_oi 2 (as := [.ref 943, .int 84]) (pc := 154) (Lc := [some (.ref 943), some (.int u1)]) (st := []) (V := v0 L) (g1 := g) (e := ez_i) rfl (dm_25 L g 84) (fun y13 g14 => ?_)
          exact fun hR => by cases hR; exact ev_rt 0 rfl
        · refine ev_op 1 (as := [.int u1]) (pc := 159) (Lc := [some (.ref 943), some (.int u1)]) (st := []) (h1 := (v0 L, g)) (e := ez_i) rfl (dm_16 L g u1) (fun y9 => ?_)
          refine ev_if 0 (p := y9 = 0) (a := 166) (b := 162) (T := ([some (.ref 943), some (.int u1)], [], (v0 L, g))) rfl ?_ ?_
          · refine ev_oi 1 (as := [.ref 943]) (pc := 170) (Lc := [some (.ref 943), some (.int u1)]) (st := []) (V := v0 L) (g1 := g) (e := ez_i) rfl (dm_23 L g ) (fun y11 g12 => ?_)
            exact fun hR => by cases hR; exact ev_rt 0 rfl
          · exact fun hR => by cases hR; exact ev_rt 2 rfl
  refine sw_c ?_ ?_
  · refine ev_op 1 (as := [.int u1]) (pc := 175) (Lc := [some (.ref 943), some (.int u1)]) (st := []) (h1 := (v0 L, g)) (e := ez_i) rfl (dm_16 L g u1) (fun y19 => ?_)
    refine ev_if 0 (p := y19 = 0) (a := 180) (b := 178) (T := ([some (.ref 943), some (.int u1)], [], (v0 L, g))) rfl ?_ ?_
    · refine ev_in 2 (p := u1 = 35) (a := 198) (b := 186) (T := ([some (.ref 943), some (.int u1)], [], (v0 L, g))) rfl ?_ ?_
      · refine ev_oi 5 (as := [.ref 943, .int 94]) (pc := 197) (Lc := [some (.ref 943), some (.int u1)]) (st := []) (V := v0 L) (g1 := (am_si g 943 75 2)) (e := ez_i) rfl (dm_25 L (am_si g 943 75 2) 94) (fun y23 g24 => ?_)
        exact fun hR => by cases hR; exact ev_rt 0 rfl
      · refine ev_oi 15 (as := [.ref 943, .int 90]) (pc := 223) (Lc := [some (.ref 943), some (.int u1)]) (st := []) (V := v0 L) (g1 := (am_si (am_si (am_si g 943 67 1) 972 0 (-1)) 973 0 0)) (e := ez_i) rfl (dm_26 L (am_si (am_si (am_si g 943 67 1) 972 0 (-1)) 973 0 0) 90) (fun y21 g22 => ?_)
        exact fun hR => by cases hR; exact ev_rt 0 rfl
    · exact fun hR => by cases hR; exact ev_rt 1 rfl
  refine sw_c ?_ ?_
  · refine ev_op 1 (as := [.int u1]) (pc := 228) (Lc := [some (.ref 943), some (.int u1)]) (st := []) (h1 := (v0 L, g)) (e := ez_i) rfl (dm_16 L g u1) (fun y25 => ?_)
    refine ev_if 0 (p := y25 = 0) (a := 235) (b := 231) (T := ([some (.ref 943), some (.int u1)], [], (v0 L, g))) rfl ?_ ?_
    · refine ev_in 2 (p := u1 = 124) (a := 250) (b := 241) (T := ([some (.ref 943), some (.int u1)], [], (v0 L, g))) rfl ?_ ?_
      · refine ev_oi 2 (as := [.ref 943, .int 87]) (pc := 247) (Lc := [some (.ref 943), some (.int u1)]) (st := []) (V := v0 L) (g1 := g) (e := ez_i) rfl (dm_25 L g 87) (fun y29 g30 => ?_)
        exact fun hR => by cases hR; exact ev_rt 1 rfl
      · refine ev_in 2 (p := u1 = 41) (a := 281) (b := 256) (T := ([some (.ref 943), some (.int u1)], [], (v0 L, g))) rfl ?_ ?_
        · refine ev_if 5 (p := (am_i g 943 57) ≤ (am_i g 943 76)) (a := 273) (b := 268) (T := ([some (.ref 943), some (.int u1)], [.ref 943], (v0 L, g))) rfl ?_ ?_
          · refine ev_jm 0 (t := (275, [some (.ref 943), some (.int u1)], [.int 86, .ref 943], (v0 L, g))) rfl ?_
            exact dj_125_275 L g 86 (some (.ref 943)) (some (.int u1)) _
          · refine ev_jm 1 (t := (275, [some (.ref 943), some (.int u1)], [.int 89, .ref 943], (v0 L, g))) rfl ?_
            exact dj_125_275 L g 89 (some (.ref 943)) (some (.int u1)) _
        · refine ev_oi 1 (as := [.ref 943]) (pc := 285) (Lc := [some (.ref 943), some (.int u1)]) (st := []) (V := v0 L) (g1 := g) (e := ez_i) rfl (dm_23 L g ) (fun y27 g28 => ?_)
          exact fun hR => by cases hR; exact ev_rt 0 rfl
    · exact fun hR => by cases hR; exact ev_rt 2 rfl
  refine sw_c ?_ ?_
  · refine ev_in 2 (p := u1 = 42) (a := 301) (b := 292) (T := ([some (.ref 943), some (.int u1)], [], (v0 L, g))) rfl ?_ ?_
    · refine ev_oi 2 (as := [.ref 943, .int 88]) (pc := 298) (Lc := [some (.ref 943), some (.int u1)]) (st := []) (V := v0 L) (g1 := g) (e := ez_i) rfl (dm_25 L g 88) (fun y33 g34 => ?_)
      exact fun hR => by cases hR; exact ev_rt 1 rfl
    · refine ev_oi 2 (as := [.ref 943, .int 88]) (pc := 307) (Lc := [some (.ref 943), some (.int u1)]) (st := []) (V := v0 L) (g1 := g) (e := ez_i) rfl (dm_26 L g 88) (fun y31 g32 => ?_)
      exact fun hR => by cases hR; exact ev_rt 0 rfl
  refine sw_c ?_ ?_
  · refine ev_op 1 (as := [.int u1]) (pc := 312) (Lc := [some (.ref 943), some (.int u1)]) (st := []) (h1 := (v0 L, g)) (e := ez_i) rfl (dm_16 L g u1) (fun y35 => ?_)
    refine ev_if 0 (p := y35 = 0) (a := 319) (b := 315) (T := ([some (.ref 943), some (.int u1)], [], (v0 L, g))) rfl ?_ ?_
    · refine ev_oi 4 (as := [.ref 943, .int u1, .int 9, .int 0]) (pc := 327) (Lc := [some (.ref 943), some (.int u1)]) (st := []) (V := v0 L) (g1 := g) (e := ez_i) rfl (dm_27 L g u1 9 0) (fun y37 g38 => ?_)
      exact fun hR => by cases hR; exact ev_rt 0 rfl
    · exact fun hR => by cases hR; exact ev_rt 2 rfl
  refine sw_c ?_ ?_
  · refine ev_op 1 (as := [.int u1]) (pc := 332) (Lc := [some (.ref 943), some (.int u1)]) (st := []) (h1 := (v0 L, g)) (e := ez_i) rfl (dm_16 L g u1) (fun y39 => ?_)
    refine ev_if 0 (p := y39 = 0) (a := 339) (b := 335) (T := ([some (.ref 943), some (.int u1)], [], (v0 L, g))) rfl ?_ ?_
    · refine ev_in 2 (p := u1 = 62) (a := 352) (b := 345) (T := ([some (.ref 943), some (.int u1)], [], (v0 L, g))) rfl ?_ ?_
      · refine ev_oi 1 (as := [.ref 943]) (pc := 349) (Lc := [some (.ref 943), some (.int u1)]) (st := []) (V := v0 L) (g1 := g) (e := ez_i) rfl (dm_70 L g ) (fun y43 g44 => ?_)
        exact fun hR => by cases hR; exact ev_rt 1 rfl
      · refine ev_oi 1 (as := [.ref 943]) (pc := 356) (Lc := [some (.ref 943), some (.int u1)]) (st := []) (V := v0 L) (g1 := g) (e := ez_i) rfl (dm_23 L g ) (fun y41 g42 => ?_)
        exact fun hR => by cases hR; exact ev_rt 0 rfl
    · exact fun hR => by cases hR; exact ev_rt 2 rfl
  refine sw_c ?_ ?_
  · refine ev_in 2 (p := u1 = 42) (a := 372) (b := 363) (T := ([some (.ref 943), some (.int u1)], [], (v0 L, g))) rfl ?_ ?_
    · refine ev_oi 2 (as := [.ref 943, .int 88]) (pc := 369) (Lc := [some (.ref 943), some (.int u1)]) (st := []) (V := v0 L) (g1 := g) (e := ez_i) rfl (dm_25 L g 88) (fun y47 g48 => ?_)
      exact fun hR => by cases hR; exact ev_rt 1 rfl
    · refine ev_oi 1 (as := [.ref 943]) (pc := 376) (Lc := [some (.ref 943), some (.int u1)]) (st := []) (V := v0 L) (g1 := g) (e := ez_i) rfl (dm_23 L g ) (fun y45 g46 => ?_)
      exact fun hR => by cases hR; exact ev_rt 0 rfl
  refine sw_n ?_
  refine ev_in 2 (p := u1 = 80) (a := 398) (b := 383) (T := ([some (.ref 943), some (.int u1)], [], (v0 L, g))) rfl ?_ ?_
  · refine ev_oi 5 (as := [.ref 943, .long 540149377, .int 6, .int 1, .int 85]) (pc := 395) (Lc := [some (.ref 943), some (.int u1)]) (st := []) (V := v0 L) (g1 := g) (e := ez_i) rfl (dm_34 L g 540149377 6 1 85) (fun y51 g52 => ?_)
    exact fun hR => by cases hR; exact ev_rt 1 rfl
  · refine ev_oi 1 (as := [.ref 943]) (pc := 402) (Lc := [some (.ref 943), some (.int u1)]) (st := []) (V := v0 L) (g1 := g) (e := ez_i) rfl (dm_23 L g ) (fun y49 g50 => ?_)
    exact fun hR => by cases hR; exact ev_rt 0 rfl
/-- DeclaredMarkupModel.bracket()I -/
noncomputable def fm_62 (g : am_G)  : Option (Int32 × am_G) := if (am_i g 943 67) = 12 then lo_i (fm_22 g 3 (am_i g 943 30)) fun y4 g5 => some (y4, g5) else lo_g (ai_in (am_i g 943 67) 12) (lo_i (fm_25 (am_si (am_si (am_si g 972 ((am_i g 943 67)).toNatClampNeg (-1)) 973 ((am_i g 943 67)).toNatClampNeg 0) 943 67 ((am_i g 943 67) + 1)) 90) fun y2 g3 => some (y2, g3))
theorem dm_62 (L : Nat) (g : am_G)  (R : Int32 × am_G) : fm_62 g  = some R → ai_ev ap_P 62 (ai_e0 ap_P 62 [.ref 943] (v0 L, g)) (.inl (ez_i R.1)) (v0 L, R.2) := by
  show _ → ai_ev ap_P 62 (0, [some (.ref 943)], [], (v0 L, g)) _ _
  unfold fm_62
  refine ev_in 3 (p := (am_i g 943 67) = 12) (a := 19) (b := 9) (T := ([some (.ref 943)], [], (v0 L, g))) rfl ?_ ?_
  · refine ev_oi 4 (as := [.ref 943, .int 3, .int (am_i g 943 30)]) (pc := 18) (Lc := [some (.ref 943)]) (st := []) (V := v0 L) (g1 := g) (e := ez_i) rfl (dm_22 L g 3 (am_i g 943 30)) (fun y4 g5 => ?_)
    exact fun hR => by cases hR; exact ev_rt 0 rfl
  · refine ev_gd (c := ai_in (am_i g 943 67) 12) (fun hc1 => ?_)
    refine ev_jm 5 (t := (29, [some (.ref 943)], [], (v0 L, (am_si g 972 ((am_i g 943 67)).toNatClampNeg (-1))))) (ai_gd (c := ai_in (am_i g 943 67) 12) rfl hc1) ?_
    refine ev_jm 5 (t := (39, [some (.ref 943)], [], (v0 L, (am_si (am_si g 972 ((am_i g 943 67)).toNatClampNeg (-1)) 973 ((am_i g 943 67)).toNatClampNeg 0)))) (ai_gd (c := ai_in (am_i g 943 67) 12) rfl hc1) ?_
    refine ev_oi 8 (as := [.ref 943, .int 90]) (pc := 55) (Lc := [some (.ref 943)]) (st := []) (V := v0 L) (g1 := (am_si (am_si (am_si g 972 ((am_i g 943 67)).toNatClampNeg (-1)) 973 ((am_i g 943 67)).toNatClampNeg 0) 943 67 ((am_i g 943 67) + 1))) (e := ez_i) rfl (dm_25 L (am_si (am_si (am_si g 972 ((am_i g 943 67)).toNatClampNeg (-1)) 973 ((am_i g 943 67)).toNatClampNeg 0) 943 67 ((am_i g 943 67) + 1)) 90) (fun y2 g3 => ?_)
    exact fun hR => by cases hR; exact ev_rt 0 rfl
/-- DeclaredMarkupModel.isSign(I)Z -/
noncomputable def fm_65 (g : am_G) (u0 : Int32) : Option (Int32) := if u0 = 63 then some 1 else if u0 = 42 then some 1 else if u0 = 43 then some 1 else some 0
theorem dm_65 (L : Nat) (g : am_G) (u0 : Int32) (R : Int32) : fm_65 g u0 = some R → ai_ev ap_P 65 (ai_e0 ap_P 65 [.int u0] (v0 L, g)) (.inl (ez_i R)) (v0 L, g) := by
  show _ → ai_ev ap_P 65 (0, [some (.int u0)], [], (v0 L, g)) _ _
  unfold fm_65
  refine ev_if 2 (p := u0 = 63) (a := 18) (b := 6) (T := ([some (.int u0)], [], (v0 L, g))) rfl ?_ ?_
  · exact fun hR => by cases hR; exact ev_rt 2 rfl
  · refine ev_if 2 (p := u0 = 42) (a := 18) (b := 12) (T := ([some (.int u0)], [], (v0 L, g))) rfl ?_ ?_
    · exact fun hR => by cases hR; exact ev_rt 2 rfl
    · refine ev_in 2 (p := u0 = 43) (a := 22) (b := 18) (T := ([some (.int u0)], [], (v0 L, g))) rfl ?_ ?_
      · exact fun hR => by cases hR; exact ev_rt 2 rfl
      · exact fun hR => by cases hR; exact ev_rt 1 rfl
noncomputable def fj_61_36  (g : am_G) : Option (am_G) := lo_g (ai_in ((am_i g 943 67) - 1) 12) (some (am_si g 972 (((am_i g 943 67) - 1)).toNatClampNeg (am_i g 943 70)))
theorem dj_61_36 (L : Nat)   (g : am_G) (w1 : Option Value) (R : am_G) : fj_61_36  g = some R → ai_ev ap_P 61 (36, [some (.ref 943), w1], [], (v0 L, g)) (.inl none) (v0 L, R) := by
  unfold fj_61_36
  refine ev_gd (c := ai_in ((am_i g 943 67) - 1) 12) (fun hc1 => ?_)
  refine ev_jm 8 (t := (51, [some (.ref 943), none], [], (v0 L, (am_si g 972 (((am_i g 943 67) - 1)).toNatClampNeg (am_i g 943 70))))) (ai_gd (c := ai_in ((am_i g 943 67) - 1) 12) rfl hc1) ?_
  exact fun hR => by cases hR; exact ev_rt 0 rfl
/-- DeclaredMarkupModel.stand()V -/
noncomputable def fm_61 (g : am_G)  : Option (am_G) := lo_g (ai_in ((am_i g 943 67) - 1) 12) (lo_l (am_i g 972 (((am_i g 943 67) - 1)).toNatClampNeg) fun x2 => lo_g (ai_in (am_i g 943 70) 6100) (if x2 < 0 then fj_61_36 (am_si g 969 ((am_i g 943 70)).toNatClampNeg x2) else lo_g (ai_in x2 6100) (fj_61_36 (am_si (am_si g 969 ((am_i g 943 70)).toNatClampNeg x2) 970 x2.toNatClampNeg (am_i g 943 70)))))
theorem dm_61 (L : Nat) (g : am_G)  (R : am_G) : fm_61 g  = some R → ai_ev ap_P 61 (ai_e0 ap_P 61 [.ref 943] (v0 L, g)) (.inl none) (v0 L, R) := by
  show _ → ai_ev ap_P 61 (0, [some (.ref 943), none], [], (v0 L, g)) _ _
  unfold fm_61
  refine ev_gd (c := ai_in ((am_i g 943 67) - 1) 12) (fun hc1 => ?_)
  refine ev_jm 6 (t := (11, [some (.ref 943), none], [.int (am_i g 972 (((am_i g 943 67) - 1)).toNatClampNeg)], (v0 L, g))) (ai_gd (c := ai_in ((am_i g 943 67) - 1) 12) rfl hc1) ?_
  refine lo_e (S := fun (x2 : Int32) => (11, [some (.ref 943), none], [.int x2], (v0 L, g))) (fun x2 => ?_)
  refine ev_gd (c := ai_in (am_i g 943 70) 6100) (fun hc3 => ?_)
  refine ev_jm 6 (t := (22, [some (.ref 943), some (.int x2)], [], (v0 L, (am_si g 969 ((am_i g 943 70)).toNatClampNeg x2)))) (ai_gd (c := ai_in (am_i g 943 70) 6100) rfl hc3) ?_
  refine ev_if 1 (p := x2 < 0) (a := 36) (b := 26) (T := ([some (.ref 943), some (.int x2)], [], (v0 L, (am_si g 969 ((am_i g 943 70)).toNatClampNeg x2)))) rfl ?_ ?_
  · exact dj_61_36 L (am_si g 969 ((am_i g 943 70)).toNatClampNeg x2) (some (.int x2)) _
  · refine ev_gd (c := ai_in x2 6100) (fun hc4 => ?_)
    refine ev_jm 5 (t := (36, [some (.ref 943), some (.int x2)], [], (v0 L, (am_si (am_si g 969 ((am_i g 943 70)).toNatClampNeg x2) 970 x2.toNatClampNeg (am_i g 943 70))))) (ai_gd (c := ai_in x2 6100) rfl hc4) ?_
    exact dj_61_36 L (am_si (am_si g 969 ((am_i g 943 70)).toNatClampNeg x2) 970 x2.toNatClampNeg (am_i g 943 70)) (some (.int x2)) _
noncomputable def fj_64_57  (g : am_G) (u2 : Int32) : Option (am_G) := some (am_si g 943 70 u2)
theorem dj_64_57 (L : Nat)   (g : am_G) (u2 : Int32) (w1 : Option Value) (R : am_G) : fj_64_57  g u2 = some R → ai_ev ap_P 64 (57, [some (.ref 943), w1, some (.int u2)], [], (v0 L, g)) (.inl none) (v0 L, R) := by
  unfold fj_64_57
  exact fun hR => by cases hR; exact ev_rt 3 rfl
noncomputable def fj_64_22  (g : am_G) (u1 : Int32) (t1 : Int32) : Option (am_G) := lo_i (fm_60 g t1) fun y1 g2 => lo_g (ai_in (am_i g2 943 70) 6100) (if u1 = 43 then lo_g (ai_in y1 6100) (fj_64_57 (am_si (am_si g2 968 ((am_i g2 943 70)).toNatClampNeg y1) 971 y1.toNatClampNeg (vp_nar .boolean (am_i g2 971 ((am_i g2 943 70)).toNatClampNeg))) y1) else fj_64_57 (am_si g2 968 ((am_i g2 943 70)).toNatClampNeg y1) y1)
theorem dj_64_22 (L : Nat)   (g : am_G) (u1 : Int32) (t1 : Int32) (w2 : Option Value) (R : am_G) : fj_64_22  g u1 t1 = some R → ai_ev ap_P 64 (22, [some (.ref 943), some (.int u1), w2], [.int t1, .ref 943], (v0 L, g)) (.inl none) (v0 L, R) := by
  unfold fj_64_22
  refine ev_oi 0 (as := [.ref 943, .int t1]) (pc := 25) (Lc := [some (.ref 943), some (.int u1), none]) (st := []) (V := v0 L) (g1 := g) (e := ez_i) rfl (dm_60 L g t1) (fun y1 g2 => ?_)
  refine ev_gd (c := ai_in (am_i g2 943 70) 6100) (fun hc3 => ?_)
  refine ev_jm 6 (t := (36, [some (.ref 943), some (.int u1), some (.int y1)], [], (v0 L, (am_si g2 968 ((am_i g2 943 70)).toNatClampNeg y1)))) (ai_gd (c := ai_in (am_i g2 943 70) 6100) rfl hc3) ?_
  refine ev_in 2 (p := u1 = 43) (a := 57) (b := 42) (T := ([some (.ref 943), some (.int u1), some (.int y1)], [], (v0 L, (am_si g2 968 ((am_i g2 943 70)).toNatClampNeg y1)))) rfl ?_ ?_
  · refine ev_jm 7 (t := (56, [some (.ref 943), some (.int u1), some (.int y1)], [.int (am_i g2 971 ((am_i g2 943 70)).toNatClampNeg), .int y1, .ref 971], (v0 L, (am_si g2 968 ((am_i g2 943 70)).toNatClampNeg y1)))) (ai_gd (c := ai_in (am_i g2 943 70) 6100) rfl hc3) ?_
    refine ev_gd (c := ai_in y1 6100) (fun hc4 => ?_)
    refine ev_jm 0 (t := (57, [some (.ref 943), some (.int u1), some (.int y1)], [], (v0 L, (am_si (am_si g2 968 ((am_i g2 943 70)).toNatClampNeg y1) 971 y1.toNatClampNeg (vp_nar .boolean (am_i g2 971 ((am_i g2 943 70)).toNatClampNeg)))))) (ai_gd (c := ai_in y1 6100) rfl hc4) ?_
    exact dj_64_57 L (am_si (am_si g2 968 ((am_i g2 943 70)).toNatClampNeg y1) 971 y1.toNatClampNeg (vp_nar .boolean (am_i g2 971 ((am_i g2 943 70)).toNatClampNeg))) y1 (some (.int u1)) _
  · exact dj_64_57 L (am_si g2 968 ((am_i g2 943 70)).toNatClampNeg y1) y1 (some (.int u1)) _
/-- DeclaredMarkupModel.signed(I)V -/
noncomputable def fm_64 (g : am_G) (u1 : Int32) : Option (am_G) := if u1 = 63 then fj_64_22 g u1 3 else if u1 = 42 then fj_64_22 g u1 4 else fj_64_22 g u1 5
theorem dm_64 (L : Nat) (g : am_G) (u1 : Int32) (R : am_G) : fm_64 g u1 = some R → ai_ev ap_P 64 (ai_e0 ap_P 64 [.ref 943, .int u1] (v0 L, g)) (.inl none) (v0 L, R) := by
  show _ → ai_ev ap_P 64 (0, [some (.ref 943), some (.int u1), none], [], (v0 L, g)) _ _
  unfold fm_64
  refine ev_in 3 (p := u1 = 63) (a := 11) (b := 7) (T := ([some (.ref 943), some (.int u1), none], [.ref 943], (v0 L, g))) rfl ?_ ?_
  · refine ev_jm 1 (t := (22, [some (.ref 943), some (.int u1), none], [.int 3, .ref 943], (v0 L, g))) rfl ?_
    exact dj_64_22 L g u1 3 none _
  · refine ev_in 2 (p := u1 = 42) (a := 21) (b := 17) (T := ([some (.ref 943), some (.int u1), none], [.ref 943], (v0 L, g))) rfl ?_ ?_
    · refine ev_jm 1 (t := (22, [some (.ref 943), some (.int u1), none], [.int 4, .ref 943], (v0 L, g))) rfl ?_
      exact dj_64_22 L g u1 4 none _
    · refine ev_jm 0 (t := (22, [some (.ref 943), some (.int u1), none], [.int 5, .ref 943], (v0 L, g))) rfl ?_
      exact dj_64_22 L g u1 5 none _
noncomputable def fj_63_90 (k44 : (am_G × Int32 × Int32 × Int32) → Option (am_G)) (g : am_G) (u1 : Int32) (u3 : Int32) : Option (am_G) := lo_g (ai_in u3 6100) (lo_l (am_i g 969 u3.toNatClampNeg) fun x2 => k44 (g, u1, 1, x2))
theorem dj_63_90 (L : Nat) {k44 : (am_G × Int32 × Int32 × Int32) → Option (am_G)} (hk44 : ∀ (x : am_G × Int32 × Int32 × Int32) (R : am_G), k44 x = some R → ai_ev ap_P 63 (44, [some (.ref 943), some (.int x.2.1), some (.int x.2.2.1), some (.int x.2.2.2)], [], (v0 L, x.1)) (.inl none) (v0 L, R)) (g : am_G) (u1 : Int32) (u3 : Int32) (w2 : Option Value) (R : am_G) : fj_63_90 k44 g u1 u3 = some R → ai_ev ap_P 63 (90, [some (.ref 943), some (.int u1), w2, some (.int u3)], [], (v0 L, g)) (.inl none) (v0 L, R) := by
  unfold fj_63_90
  refine ev_gd (c := ai_in u3 6100) (fun hc1 => ?_)
  refine ev_jm 6 (t := (102, [some (.ref 943), some (.int u1), some (.int 1), some (.int u3)], [.int (am_i g 969 u3.toNatClampNeg)], (v0 L, g))) (ai_gd (c := ai_in u3 6100) rfl hc1) ?_
  refine lo_e (S := fun (x2 : Int32) => (102, [some (.ref 943), some (.int u1), some (.int 1), some (.int u3)], [.int x2], (v0 L, g))) (fun x2 => ?_)
  refine ev_jm 1 (t := (44, [some (.ref 943), some (.int u1), some (.int 1), some (.int x2)], [], (v0 L, g))) rfl ?_
  exact hk44 (g, u1, 1, x2) _
noncomputable def fj_63_76 (k44 : (am_G × Int32 × Int32 × Int32) → Option (am_G)) (g : am_G) (u2 : Int32) (u3 : Int32) (t0 : Int32) : Option (am_G) := if u2 = 0 then lo_g (ai_in u3 6100) (if (am_i g 971 u3.toNatClampNeg) = 0 then lo_l (am_i g 969 u3.toNatClampNeg) fun x2 => k44 (g, t0, 0, x2) else fj_63_90 k44 g t0 u3) else fj_63_90 k44 g t0 u3
theorem dj_63_76 (L : Nat) {k44 : (am_G × Int32 × Int32 × Int32) → Option (am_G)} (hk44 : ∀ (x : am_G × Int32 × Int32 × Int32) (R : am_G), k44 x = some R → ai_ev ap_P 63 (44, [some (.ref 943), some (.int x.2.1), some (.int x.2.2.1), some (.int x.2.2.2)], [], (v0 L, x.1)) (.inl none) (v0 L, R)) (g : am_G) (u2 : Int32) (u3 : Int32) (t0 : Int32) (w1 : Option Value) (R : am_G) : fj_63_76 k44 g u2 u3 t0 = some R → ai_ev ap_P 63 (76, [some (.ref 943), w1, some (.int u2), some (.int u3)], [.int t0], (v0 L, g)) (.inl none) (v0 L, R) := by
  unfold fj_63_76
  refine ev_in 2 (p := u2 = 0) (a := 90) (b := 81) (T := ([some (.ref 943), some (.int t0), some (.int u2), some (.int u3)], [], (v0 L, g))) rfl ?_ ?_
  · refine ev_gd (c := ai_in u3 6100) (fun hc1 => ?_)
    refine ev_jm 3 (t := (87, [some (.ref 943), some (.int t0), some (.int u2), some (.int u3)], [.int (am_i g 971 u3.toNatClampNeg)], (v0 L, g))) (ai_gd (c := ai_in u3 6100) rfl hc1) ?_
    refine ev_if 0 (p := (am_i g 971 u3.toNatClampNeg) = 0) (a := 94) (b := 90) (T := ([some (.ref 943), some (.int t0), some (.int u2), some (.int u3)], [], (v0 L, g))) rfl ?_ ?_
    · refine ev_jm 5 (t := (102, [some (.ref 943), some (.int t0), some (.int 0), some (.int u3)], [.int (am_i g 969 u3.toNatClampNeg)], (v0 L, g))) (ai_gd (c := ai_in u3 6100) rfl hc1) ?_
      refine lo_e (S := fun (x2 : Int32) => (102, [some (.ref 943), some (.int t0), some (.int 0), some (.int u3)], [.int x2], (v0 L, g))) (fun x2 => ?_)
      refine ev_jm 1 (t := (44, [some (.ref 943), some (.int t0), some (.int 0), some (.int x2)], [], (v0 L, g))) rfl ?_
      exact hk44 (g, t0, 0, x2) _
    · exact dj_63_90 L hk44 g t0 u3 (some (.int u2)) _
  · exact dj_63_90 L hk44 g t0 u3 (some (.int u2)) _
noncomputable def fj_63_75 (k44 : (am_G × Int32 × Int32 × Int32) → Option (am_G)) (g : am_G) (u2 : Int32) (u3 : Int32) : Option (am_G) := fj_63_76 k44 g u2 u3 0
theorem dj_63_75 (L : Nat) {k44 : (am_G × Int32 × Int32 × Int32) → Option (am_G)} (hk44 : ∀ (x : am_G × Int32 × Int32 × Int32) (R : am_G), k44 x = some R → ai_ev ap_P 63 (44, [some (.ref 943), some (.int x.2.1), some (.int x.2.2.1), some (.int x.2.2.2)], [], (v0 L, x.1)) (.inl none) (v0 L, R)) (g : am_G) (u2 : Int32) (u3 : Int32) (w1 : Option Value) (R : am_G) : fj_63_75 k44 g u2 u3 = some R → ai_ev ap_P 63 (75, [some (.ref 943), w1, some (.int u2), some (.int u3)], [], (v0 L, g)) (.inl none) (v0 L, R) := by
  unfold fj_63_75
  refine ev_jm 0 (t := (76, [some (.ref 943), none, some (.int u2), some (.int u3)], [.int 0], (v0 L, g))) rfl ?_
  exact dj_63_76 L hk44 g u2 u3 0 none _
noncomputable def fj_63_132  (g : am_G) (t1 : Int32) (t2 : Int32) : Option (am_G) := lo_g (ai_in t1 6100) (some (am_si (am_si g 971 t1.toNatClampNeg (vp_nar .boolean t2)) 943 67 ((am_i g 943 67) - 1)))
theorem dj_63_132 (L : Nat)   (g : am_G) (t1 : Int32) (t2 : Int32) (w1 w2 w3 : Option Value) (R : am_G) : fj_63_132  g t1 t2 = some R → ai_ev ap_P 63 (132, [some (.ref 943), w1, w2, w3], [.int t2, .int t1, .ref 971], (v0 L, g)) (.inl none) (v0 L, R) := by
  unfold fj_63_132
  refine ev_gd (c := ai_in t1 6100) (fun hc1 => ?_)
  refine ev_jm 0 (t := (133, [some (.ref 943), none, none, none], [], (v0 L, (am_si g 971 t1.toNatClampNeg (vp_nar .boolean t2))))) (ai_gd (c := ai_in t1 6100) rfl hc1) ?_
  exact fun hR => by cases hR; exact ev_rt 6 rfl
noncomputable def fb_63_44 (k44 : (am_G × Int32 × Int32 × Int32) → Option (am_G)) (g : am_G) (u1 : Int32) (u2 : Int32) (u3 : Int32) : Option (am_G) := if u3 < 0 then lo_g (ai_in (am_i g 943 70) 6100) (if (am_i g 967 ((am_i g 943 70)).toNatClampNeg) = 1 then fj_63_132 g (am_i g 943 70) u2 else fj_63_132 g (am_i g 943 70) u1) else lo_g (ai_in u3 6100) (if u1 = 0 then fj_63_75 k44 (am_si g 968 u3.toNatClampNeg (am_i g 943 70)) u2 u3 else if (am_i g 971 u3.toNatClampNeg) = 0 then fj_63_75 k44 (am_si g 968 u3.toNatClampNeg (am_i g 943 70)) u2 u3 else fj_63_76 k44 (am_si g 968 u3.toNatClampNeg (am_i g 943 70)) u2 u3 1)
theorem db_63_44 (L : Nat) {k44 : (am_G × Int32 × Int32 × Int32) → Option (am_G)} (hk44 : ∀ (x : am_G × Int32 × Int32 × Int32) (R : am_G), k44 x = some R → ai_ev ap_P 63 (44, [some (.ref 943), some (.int x.2.1), some (.int x.2.2.1), some (.int x.2.2.2)], [], (v0 L, x.1)) (.inl none) (v0 L, R)) (g : am_G) (u1 : Int32) (u2 : Int32) (u3 : Int32) (R : am_G) : fb_63_44 k44 g u1 u2 u3 = some R → ai_ev ap_P 63 (44, [some (.ref 943), some (.int u1), some (.int u2), some (.int u3)], [], (v0 L, g)) (.inl none) (v0 L, R) := by
  unfold fb_63_44
  refine ev_if 1 (p := u3 < 0) (a := 106) (b := 48) (T := ([some (.ref 943), some (.int u1), some (.int u2), some (.int u3)], [], (v0 L, g))) rfl ?_ ?_
  · refine ev_gd (c := ai_in (am_i g 943 70) 6100) (fun hc1 => ?_)
    refine ev_jm 8 (t := (123, [some (.ref 943), some (.int u1), some (.int u2), some (.int u3)], [.int (am_i g 967 ((am_i g 943 70)).toNatClampNeg), .int (am_i g 943 70), .ref 971], (v0 L, g))) (ai_gd (c := ai_in (am_i g 943 70) 6100) rfl hc1) ?_
    refine ev_in 1 (p := (am_i g 967 ((am_i g 943 70)).toNatClampNeg) = 1) (a := 131) (b := 127) (T := ([some (.ref 943), some (.int u1), some (.int u2), some (.int u3)], [.int (am_i g 943 70), .ref 971], (v0 L, g))) rfl ?_ ?_
    · refine ev_jm 1 (t := (132, [some (.ref 943), some (.int u1), some (.int u2), some (.int u3)], [.int u2, .int (am_i g 943 70), .ref 971], (v0 L, g))) rfl ?_
      exact dj_63_132 L g (am_i g 943 70) u2 (some (.int u1)) (some (.int u2)) (some (.int u3)) _
    · refine ev_jm 0 (t := (132, [some (.ref 943), some (.int u1), some (.int u2), some (.int u3)], [.int u1, .int (am_i g 943 70), .ref 971], (v0 L, g))) rfl ?_
      exact dj_63_132 L g (am_i g 943 70) u1 (some (.int u1)) (some (.int u2)) (some (.int u3)) _
  · refine ev_gd (c := ai_in u3 6100) (fun hc2 => ?_)
    refine ev_jm 5 (t := (58, [some (.ref 943), some (.int u1), some (.int u2), some (.int u3)], [], (v0 L, (am_si g 968 u3.toNatClampNeg (am_i g 943 70))))) (ai_gd (c := ai_in u3 6100) rfl hc2) ?_
    refine ev_if 1 (p := u1 = 0) (a := 75) (b := 62) (T := ([some (.ref 943), some (.int u1), some (.int u2), some (.int u3)], [], (v0 L, (am_si g 968 u3.toNatClampNeg (am_i g 943 70))))) rfl ?_ ?_
    · exact dj_63_75 L hk44 (am_si g 968 u3.toNatClampNeg (am_i g 943 70)) u2 u3 (some (.int u1)) _
    · refine ev_jm 3 (t := (68, [some (.ref 943), some (.int u1), some (.int u2), some (.int u3)], [.int (am_i g 971 u3.toNatClampNeg)], (v0 L, (am_si g 968 u3.toNatClampNeg (am_i g 943 70))))) (ai_gd (c := ai_in u3 6100) rfl hc2) ?_
      refine ev_if 0 (p := (am_i g 971 u3.toNatClampNeg) = 0) (a := 75) (b := 71) (T := ([some (.ref 943), some (.int u1), some (.int u2), some (.int u3)], [], (v0 L, (am_si g 968 u3.toNatClampNeg (am_i g 943 70))))) rfl ?_ ?_
      · exact dj_63_75 L hk44 (am_si g 968 u3.toNatClampNeg (am_i g 943 70)) u2 u3 (some (.int u1)) _
      · refine ev_jm 1 (t := (76, [some (.ref 943), some (.int u1), some (.int u2), some (.int u3)], [.int 1], (v0 L, (am_si g 968 u3.toNatClampNeg (am_i g 943 70))))) rfl ?_
        exact dj_63_76 L hk44 (am_si g 968 u3.toNatClampNeg (am_i g 943 70)) u2 u3 1 (some (.int u1)) _
noncomputable def fh_63_44  (x : am_G × Int32 × Int32 × Int32) : Option (am_G) := lo_it (fun k x => fb_63_44 k x.1 x.2.1 x.2.2.1 x.2.2.2) nf_F x
theorem dh_63_44 (L : Nat)   (x : am_G × Int32 × Int32 × Int32) (R : am_G) : fh_63_44  x = some R → ai_ev ap_P 63 (44, [some (.ref 943), some (.int x.2.1), some (.int x.2.2.1), some (.int x.2.2.2)], [], (v0 L, x.1)) (.inl none) (v0 L, R) :=
  fun hr => lo_ev (E := fun x R => ai_ev ap_P 63 (44, [some (.ref 943), some (.int x.2.1), some (.int x.2.2.1), some (.int x.2.2.2)], [], (v0 L, x.1)) (.inl none) (v0 L, R)) (fun k hk x R hr => db_63_44 L hk x.1 x.2.1 x.2.2.1 x.2.2.2  R hr) nf_F x R hr
noncomputable def fj_63_22  (g : am_G) (t2 : Int32) : Option (am_G) := lo_i (fm_60 g t2) fun y1 g2 => lo_g (ai_in ((am_i g2 943 67) - 1) 12) (lo_l (am_i g2 972 (((am_i g2 943 67) - 1)).toNatClampNeg) fun x4 => fh_63_44 ((am_si g2 943 70 y1), 1, 0, x4))
theorem dj_63_22 (L : Nat)   (g : am_G) (t2 : Int32) (w1 w2 w3 : Option Value) (R : am_G) : fj_63_22  g t2 = some R → ai_ev ap_P 63 (22, [some (.ref 943), w1, w2, w3], [.int t2, .ref 943, .ref 943], (v0 L, g)) (.inl none) (v0 L, R) := by
  unfold fj_63_22
  refine ev_oi 0 (as := [.ref 943, .int t2]) (pc := 25) (Lc := [some (.ref 943), none, none, none]) (st := [.ref 943]) (V := v0 L) (g1 := g) (e := ez_i) rfl (dm_60 L g t2) (fun y1 g2 => ?_)
  refine ev_gd (c := ai_in ((am_i g2 943 67) - 1) 12) (fun hc3 => ?_)
  refine ev_jm 11 (t := (43, [some (.ref 943), some (.int 1), some (.int 0), none], [.int (am_i g2 972 (((am_i g2 943 67) - 1)).toNatClampNeg)], (v0 L, (am_si g2 943 70 y1)))) (ai_gd (c := ai_in ((am_i g2 943 67) - 1) 12) rfl hc3) ?_
  refine lo_e (S := fun (x4 : Int32) => (43, [some (.ref 943), some (.int 1), some (.int 0), none], [.int x4], (v0 L, (am_si g2 943 70 y1)))) (fun x4 => ?_)
  refine ev_jm 0 (t := (44, [some (.ref 943), some (.int 1), some (.int 0), some (.int x4)], [], (v0 L, (am_si g2 943 70 y1)))) rfl ?_
  exact dh_63_44 L ((am_si g2 943 70 y1), 1, 0, x4) _
/-- DeclaredMarkupModel.closeBracket()V -/
noncomputable def fm_63 (g : am_G)  : Option (am_G) := lo_g (ai_in ((am_i g 943 67) - 1) 12) (if (am_i g 973 (((am_i g 943 67) - 1)).toNatClampNeg) = 1 then fj_63_22 g 1 else fj_63_22 g 2)
theorem dm_63 (L : Nat) (g : am_G)  (R : am_G) : fm_63 g  = some R → ai_ev ap_P 63 (ai_e0 ap_P 63 [.ref 943] (v0 L, g)) (.inl none) (v0 L, R) := by
  show _ → ai_ev ap_P 63 (0, [some (.ref 943), none, none, none], [], (v0 L, g)) _ _
  unfold fm_63
  refine ev_gd (c := ai_in ((am_i g 943 67) - 1) 12) (fun hc1 => ?_)
  refine ev_jm 8 (t := (13, [some (.ref 943), none, none, none], [.int (am_i g 973 (((am_i g 943 67) - 1)).toNatClampNeg), .ref 943, .ref 943], (v0 L, g))) (ai_gd (c := ai_in ((am_i g 943 67) - 1) 12) rfl hc1) ?_
  refine ev_in 1 (p := (am_i g 973 (((am_i g 943 67) - 1)).toNatClampNeg) = 1) (a := 21) (b := 17) (T := ([some (.ref 943), none, none, none], [.ref 943, .ref 943], (v0 L, g))) rfl ?_ ?_
  · refine ev_jm 1 (t := (22, [some (.ref 943), none, none, none], [.int 1, .ref 943, .ref 943], (v0 L, g))) rfl ?_
    exact dj_63_22 L g 1 none none none _
  · refine ev_jm 0 (t := (22, [some (.ref 943), none, none, none], [.int 2, .ref 943, .ref 943], (v0 L, g))) rfl ?_
    exact dj_63_22 L g 2 none none none _
noncomputable def fj_126_133  (g : am_G) (t1 : Int32) : Option (Int32 × am_G) := lo_i (fm_25 g t1) fun y1 g2 => some (y1, g2)
theorem dj_126_133 (L : Nat)   (g : am_G) (t1 : Int32) (w0 w1 w2 : Option Value) (R : Int32 × am_G) : fj_126_133  g t1 = some R → ai_ev ap_P 126 (133, [w0, w1, w2], [.int t1, .ref 943], (v0 L, g)) (.inl (ez_i R.1)) (v0 L, R.2) := by
  unfold fj_126_133
  refine ev_oi 0 (as := [.ref 943, .int t1]) (pc := 136) (Lc := [none, none, none]) (st := []) (V := v0 L) (g1 := g) (e := ez_i) rfl (dm_25 L g t1) (fun y1 g2 => ?_)
  exact fun hR => by cases hR; exact ev_rt 0 rfl
noncomputable def fj_126_192  (g : am_G) : Option (Int32 × am_G) := lo_i (fm_23 g ) fun y1 g2 => some (y1, g2)
theorem dj_126_192 (L : Nat)   (g : am_G) (w1 w2 : Option Value) (R : Int32 × am_G) : fj_126_192  g = some R → ai_ev ap_P 126 (192, [some (.ref 943), w1, w2], [], (v0 L, g)) (.inl (ez_i R.1)) (v0 L, R.2) := by
  unfold fj_126_192
  refine ev_oi 1 (as := [.ref 943]) (pc := 196) (Lc := [some (.ref 943), none, none]) (st := []) (V := v0 L) (g1 := g) (e := ez_i) rfl (dm_23 L g ) (fun y1 g2 => ?_)
  exact fun hR => by cases hR; exact ev_rt 0 rfl
noncomputable def fj_126_197  (g : am_G) (u2 : Int32) : Option (Int32 × am_G) := lo_g (ai_in ((am_i g 943 67) - 1) 12) (lo_i (fm_25 (am_si g 973 (((am_i g 943 67) - 1)).toNatClampNeg u2) 90) fun y2 g3 => some (y2, g3))
theorem dj_126_197 (L : Nat)   (g : am_G) (u2 : Int32) (w1 : Option Value) (R : Int32 × am_G) : fj_126_197  g u2 = some R → ai_ev ap_P 126 (197, [some (.ref 943), w1, some (.int u2)], [], (v0 L, g)) (.inl (ez_i R.1)) (v0 L, R.2) := by
  unfold fj_126_197
  refine ev_gd (c := ai_in ((am_i g 943 67) - 1) 12) (fun hc1 => ?_)
  refine ev_jm 7 (t := (209, [some (.ref 943), none, some (.int u2)], [], (v0 L, (am_si g 973 (((am_i g 943 67) - 1)).toNatClampNeg u2)))) (ai_gd (c := ai_in ((am_i g 943 67) - 1) 12) rfl hc1) ?_
  refine ev_oi 2 (as := [.ref 943, .int 90]) (pc := 215) (Lc := [some (.ref 943), none, some (.int u2)]) (st := []) (V := v0 L) (g1 := (am_si g 973 (((am_i g 943 67) - 1)).toNatClampNeg u2)) (e := ez_i) rfl (dm_25 L (am_si g 973 (((am_i g 943 67) - 1)).toNatClampNeg u2) 90) (fun y2 g3 => ?_)
  exact fun hR => by cases hR; exact ev_rt 0 rfl
noncomputable def fj_126_158  (g : am_G) (t0 : Int32) : Option (Int32 × am_G) := if t0 = 0 then fj_126_192 g else lo_g (ai_in ((am_i g 943 67) - 1) 12) (if (am_i g 973 (((am_i g 943 67) - 1)).toNatClampNeg) ≤ 0 then fj_126_197 g t0 else if (am_i g 973 (((am_i g 943 67) - 1)).toNatClampNeg) = t0 then fj_126_197 g t0 else fj_126_192 g)
theorem dj_126_158 (L : Nat)   (g : am_G) (t0 : Int32) (w1 w2 : Option Value) (R : Int32 × am_G) : fj_126_158  g t0 = some R → ai_ev ap_P 126 (158, [some (.ref 943), w1, w2], [.int t0], (v0 L, g)) (.inl (ez_i R.1)) (v0 L, R.2) := by
  unfold fj_126_158
  refine ev_if 2 (p := t0 = 0) (a := 192) (b := 163) (T := ([some (.ref 943), none, some (.int t0)], [], (v0 L, g))) rfl ?_ ?_
  · exact dj_126_192 L g none (some (.int t0)) _
  · refine ev_gd (c := ai_in ((am_i g 943 67) - 1) 12) (fun hc1 => ?_)
    refine ev_jm 6 (t := (174, [some (.ref 943), none, some (.int t0)], [.int (am_i g 973 (((am_i g 943 67) - 1)).toNatClampNeg)], (v0 L, g))) (ai_gd (c := ai_in ((am_i g 943 67) - 1) 12) rfl hc1) ?_
    refine ev_if 0 (p := (am_i g 973 (((am_i g 943 67) - 1)).toNatClampNeg) ≤ 0) (a := 197) (b := 177) (T := ([some (.ref 943), none, some (.int t0)], [], (v0 L, g))) rfl ?_ ?_
    · exact dj_126_197 L g t0 none _
    · refine ev_jm 6 (t := (188, [some (.ref 943), none, some (.int t0)], [.int (am_i g 973 (((am_i g 943 67) - 1)).toNatClampNeg)], (v0 L, g))) (ai_gd (c := ai_in ((am_i g 943 67) - 1) 12) rfl hc1) ?_
      refine ev_if 1 (p := (am_i g 973 (((am_i g 943 67) - 1)).toNatClampNeg) = t0) (a := 197) (b := 192) (T := ([some (.ref 943), none, some (.int t0)], [], (v0 L, g))) rfl ?_ ?_
      · exact dj_126_197 L g t0 none _
      · exact dj_126_192 L g none (some (.int t0)) _
/-- DeclaredMarkupModel.childrenStep(I)I -/
noncomputable def fm_126 (g : am_G) (u1 : Int32) : Option (Int32 × am_G) := if (am_i g 943 26) = 90 then lo_p (fm_16 g u1) fun y1 => if y1 = 0 then if u1 = 40 then lo_i (fm_62 g ) fun y5 g6 => some (y5, g6) else lo_i (fm_27 g u1 10 0) fun y3 g4 => some (y3, g4) else some (0, g) else if (am_i g 943 26) = 91 then lo_p (fm_65 g u1) fun y7 => if y7 = 0 then lo_p (fm_61 g ) fun g16 => lo_i (fm_26 g16 92) fun y17 g18 => some (y17, g18) else lo_p (fm_64 g u1) fun g10 => lo_p (fm_61 g10 ) fun g12 => lo_i (fm_25 g12 92) fun y13 g14 => some (y13, g14) else if (am_i g 943 26) = 92 then lo_p (fm_16 g u1) fun y19 => if y19 = 0 then if u1 = 41 then lo_p (fm_63 g ) fun g22 => if (am_i g22 943 67) ≤ 0 then fj_126_133 g22 93 else fj_126_133 g22 91 else if u1 = 124 then fj_126_158 g 1 else if u1 = 44 then fj_126_158 g 2 else fj_126_158 g 0 else some (0, g) else lo_p (fm_65 g u1) fun y23 => if y23 = 0 then lo_i (fm_26 g 88) fun y29 g30 => some (y29, g30) else lo_p (fm_64 g u1) fun g26 => lo_i (fm_25 g26 88) fun y27 g28 => some (y27, g28)
theorem dm_126 (L : Nat) (g : am_G) (u1 : Int32) (R : Int32 × am_G) : fm_126 g u1 = some R → ai_ev ap_P 126 (ai_e0 ap_P 126 [.ref 943, .int u1] (v0 L, g)) (.inl (ez_i R.1)) (v0 L, R.2) := by
  show _ → ai_ev ap_P 126 (0, [some (.ref 943), some (.int u1), none], [], (v0 L, g)) _ _
  unfold fm_126
  refine ev_sw 2 (ps := [(90, 32), (91, 65), (92, 99)]) (d := 216) (x := (am_i g 943 26)) (T := ([some (.ref 943), some (.int u1), none], [], (v0 L, g))) rfl ?_
  refine sw_c ?_ ?_
  · refine ev_op 1 (as := [.int u1]) (pc := 36) (Lc := [some (.ref 943), some (.int u1), none]) (st := []) (h1 := (v0 L, g)) (e := ez_i) rfl (dm_16 L g u1) (fun y1 => ?_)
    refine ev_if 0 (p := y1 = 0) (a := 43) (b := 39) (T := ([some (.ref 943), some (.int u1), none], [], (v0 L, g))) rfl ?_ ?_
    · refine ev_in 2 (p := u1 = 40) (a := 56) (b := 49) (T := ([some (.ref 943), some (.int u1), none], [], (v0 L, g))) rfl ?_ ?_
      · refine ev_oi 1 (as := [.ref 943]) (pc := 53) (Lc := [some (.ref 943), some (.int u1), none]) (st := []) (V := v0 L) (g1 := g) (e := ez_i) rfl (dm_62 L g ) (fun y5 g6 => ?_)
        exact fun hR => by cases hR; exact ev_rt 1 rfl
      · refine ev_oi 4 (as := [.ref 943, .int u1, .int 10, .int 0]) (pc := 64) (Lc := [some (.ref 943), some (.int u1), none]) (st := []) (V := v0 L) (g1 := g) (e := ez_i) rfl (dm_27 L g u1 10 0) (fun y3 g4 => ?_)
        exact fun hR => by cases hR; exact ev_rt 0 rfl
    · exact fun hR => by cases hR; exact ev_rt 2 rfl
  refine sw_c ?_ ?_
  · refine ev_op 1 (as := [.int u1]) (pc := 69) (Lc := [some (.ref 943), some (.int u1), none]) (st := []) (h1 := (v0 L, g)) (e := ez_i) rfl (dm_65 L g u1) (fun y7 => ?_)
    refine ev_in 0 (p := y7 = 0) (a := 83) (b := 72) (T := ([some (.ref 943), some (.int u1), none], [], (v0 L, g))) rfl ?_ ?_
    · refine ev_ov0 1 (as := [.ref 943]) (pc := 76) (Lc := [some (.ref 943), some (.int u1), none]) (st := []) (V := v0 L) (g1 := g) rfl (dm_61 L g ) (fun g16 => ?_)
      refine ev_oi 2 (as := [.ref 943, .int 92]) (pc := 82) (Lc := [some (.ref 943), some (.int u1), none]) (st := []) (V := v0 L) (g1 := g16) (e := ez_i) rfl (dm_26 L g16 92) (fun y17 g18 => ?_)
      exact fun hR => by cases hR; exact ev_rt 0 rfl
    · refine ev_ov0 2 (as := [.ref 943, .int u1]) (pc := 88) (Lc := [some (.ref 943), some (.int u1), none]) (st := []) (V := v0 L) (g1 := g) rfl (dm_64 L g u1) (fun g10 => ?_)
      refine ev_ov0 1 (as := [.ref 943]) (pc := 92) (Lc := [some (.ref 943), some (.int u1), none]) (st := []) (V := v0 L) (g1 := g10) rfl (dm_61 L g10 ) (fun g12 => ?_)
      refine ev_oi 2 (as := [.ref 943, .int 92]) (pc := 98) (Lc := [some (.ref 943), some (.int u1), none]) (st := []) (V := v0 L) (g1 := g12) (e := ez_i) rfl (dm_25 L g12 92) (fun y13 g14 => ?_)
      exact fun hR => by cases hR; exact ev_rt 0 rfl
  refine sw_c ?_ ?_
  · refine ev_op 1 (as := [.int u1]) (pc := 103) (Lc := [some (.ref 943), some (.int u1), none]) (st := []) (h1 := (v0 L, g)) (e := ez_i) rfl (dm_16 L g u1) (fun y19 => ?_)
    refine ev_if 0 (p := y19 = 0) (a := 108) (b := 106) (T := ([some (.ref 943), some (.int u1), none], [], (v0 L, g))) rfl ?_ ?_
    · refine ev_in 2 (p := u1 = 41) (a := 137) (b := 114) (T := ([some (.ref 943), some (.int u1), none], [], (v0 L, g))) rfl ?_ ?_
      · refine ev_ov0 1 (as := [.ref 943]) (pc := 118) (Lc := [some (.ref 943), some (.int u1), none]) (st := []) (V := v0 L) (g1 := g) rfl (dm_63 L g ) (fun g22 => ?_)
        refine ev_if 3 (p := (am_i g22 943 67) ≤ 0) (a := 131) (b := 126) (T := ([some (.ref 943), some (.int u1), none], [.ref 943], (v0 L, g22))) rfl ?_ ?_
        · refine ev_jm 0 (t := (133, [some (.ref 943), some (.int u1), none], [.int 93, .ref 943], (v0 L, g22))) rfl ?_
          exact dj_126_133 L g22 93 (some (.ref 943)) (some (.int u1)) none _
        · refine ev_jm 1 (t := (133, [some (.ref 943), some (.int u1), none], [.int 91, .ref 943], (v0 L, g22))) rfl ?_
          exact dj_126_133 L g22 91 (some (.ref 943)) (some (.int u1)) none _
      · refine ev_in 2 (p := u1 = 124) (a := 147) (b := 143) (T := ([some (.ref 943), some (.int u1), none], [], (v0 L, g))) rfl ?_ ?_
        · refine ev_jm 1 (t := (158, [some (.ref 943), some (.int u1), none], [.int 1], (v0 L, g))) rfl ?_
          exact dj_126_158 L g 1 (some (.int u1)) none _
        · refine ev_in 2 (p := u1 = 44) (a := 157) (b := 153) (T := ([some (.ref 943), some (.int u1), none], [], (v0 L, g))) rfl ?_ ?_
          · refine ev_jm 1 (t := (158, [some (.ref 943), some (.int u1), none], [.int 2], (v0 L, g))) rfl ?_
            exact dj_126_158 L g 2 (some (.int u1)) none _
          · refine ev_jm 0 (t := (158, [some (.ref 943), some (.int u1), none], [.int 0], (v0 L, g))) rfl ?_
            exact dj_126_158 L g 0 (some (.int u1)) none _
    · exact fun hR => by cases hR; exact ev_rt 1 rfl
  refine sw_n ?_
  refine ev_op 1 (as := [.int u1]) (pc := 220) (Lc := [some (.ref 943), some (.int u1), none]) (st := []) (h1 := (v0 L, g)) (e := ez_i) rfl (dm_65 L g u1) (fun y23 => ?_)
  refine ev_in 0 (p := y23 = 0) (a := 230) (b := 223) (T := ([some (.ref 943), some (.int u1), none], [], (v0 L, g))) rfl ?_ ?_
  · refine ev_oi 2 (as := [.ref 943, .int 88]) (pc := 229) (Lc := [some (.ref 943), some (.int u1), none]) (st := []) (V := v0 L) (g1 := g) (e := ez_i) rfl (dm_26 L g 88) (fun y29 g30 => ?_)
    exact fun hR => by cases hR; exact ev_rt 0 rfl
  · refine ev_ov0 2 (as := [.ref 943, .int u1]) (pc := 235) (Lc := [some (.ref 943), some (.int u1), none]) (st := []) (V := v0 L) (g1 := g) rfl (dm_64 L g u1) (fun g26 => ?_)
    refine ev_oi 2 (as := [.ref 943, .int 88]) (pc := 241) (Lc := [some (.ref 943), some (.int u1), none]) (st := []) (V := v0 L) (g1 := g26) (e := ez_i) rfl (dm_25 L g26 88) (fun y27 g28 => ?_)
    exact fun hR => by cases hR; exact ev_rt 0 rfl
/-- DeclaredMarkupModel.typed(II)I -/
noncomputable def fm_127 (g : am_G) (u1 : Int32) (u2 : Int32) : Option (Int32 × am_G) := lo_i (fm_26 (am_si g 943 89 u1) u2) fun y1 g2 => some (y1, g2)
theorem dm_127 (L : Nat) (g : am_G) (u1 : Int32) (u2 : Int32) (R : Int32 × am_G) : fm_127 g u1 u2 = some R → ai_ev ap_P 127 (ai_e0 ap_P 127 [.ref 943, .int u1, .int u2] (v0 L, g)) (.inl (ez_i R.1)) (v0 L, R.2) := by
  show _ → ai_ev ap_P 127 (0, [some (.ref 943), some (.int u1), some (.int u2)], [], (v0 L, g)) _ _
  unfold fm_127
  refine ev_oi 5 (as := [.ref 943, .int u2]) (pc := 10) (Lc := [some (.ref 943), some (.int u1), some (.int u2)]) (st := []) (V := v0 L) (g1 := (am_si g 943 89 u1)) (e := ez_i) rfl (dm_26 L (am_si g 943 89 u1) u2) (fun y1 g2 => ?_)
  exact fun hR => by cases hR; exact ev_rt 0 rfl
noncomputable def fj_128_368  (g : am_G) (u1 : Int32) (t1 : Int32) : Option (Int32 × am_G) := if u1 = 89 then lo_i (fm_25 (am_si g 943 89 t1) 108) fun y5 g6 => some (y5, g6) else if u1 = 73 then lo_i (fm_34 (am_si g 943 89 t1) 9395 3 1 108) fun y3 g4 => some (y3, g4) else lo_i (fm_23 (am_si g 943 89 t1) ) fun y1 g2 => some (y1, g2)
set_option maxRecDepth 20000 in
theorem dj_128_368 (L : Nat)   (g : am_G) (u1 : Int32) (t1 : Int32) (R : Int32 × am_G) : fj_128_368  g u1 t1 = some R → ai_ev ap_P 128 (368, [some (.ref 943), some (.int u1)], [.int t1, .ref 943], (v0 L, g)) (.inl (ez_i R.1)) (v0 L, R.2) := by
  unfold fj_128_368
  refine ev_in 3 (p := u1 = 89) (a := 386) (b := 377) (T := ([some (.ref 943), some (.int u1)], [], (v0 L, (am_si g 943 89 t1)))) rfl ?_ ?_
  · refine ev_oi 2 (as := [.ref 943, .int 108]) (pc := 383) (Lc := [some (.ref 943), some (.int u1)]) (st := []) (V := v0 L) (g1 := (am_si g 943 89 t1)) (e := ez_i) rfl (dm_25 L (am_si g 943 89 t1) 108) (fun y5 g6 => ?_)
    exact fun hR => by cases hR; exact ev_rt 1 rfl
  · refine ev_in 2 (p := u1 = 73) (a := 406) (b := 392) (T := ([some (.ref 943), some (.int u1)], [], (v0 L, (am_si g 943 89 t1)))) rfl ?_ ?_
    · refine ev_oi 5 (as := [.ref 943, .long 9395, .int 3, .int 1, .int 108]) (pc := 403) (Lc := [some (.ref 943), some (.int u1)]) (st := []) (V := v0 L) (g1 := (am_si g 943 89 t1)) (e := ez_i) rfl (dm_34 L (am_si g 943 89 t1) 9395 3 1 108) (fun y3 g4 => ?_)
      exact fun hR => by cases hR; exact ev_rt 1 rfl
    · refine ev_oi 1 (as := [.ref 943]) (pc := 410) (Lc := [some (.ref 943), some (.int u1)]) (st := []) (V := v0 L) (g1 := (am_si g 943 89 t1)) (e := ez_i) rfl (dm_23 L (am_si g 943 89 t1) ) (fun y1 g2 => ?_)
      exact fun hR => by cases hR; exact ev_rt 0 rfl
/-- DeclaredMarkupModel.attlistStep(I)I -/
noncomputable def fm_128 (g : am_G) (u1 : Int32) : Option (Int32 × am_G) := if (am_i g 943 26) = 100 then lo_i (fm_116 g u1 101) fun y1 g2 => some (y1, g2) else if (am_i g 943 26) = 101 then lo_p (fm_16 g u1) fun y3 => if y3 = 0 then lo_i (fm_27 g u1 11 0) fun y5 g6 => some (y5, g6) else some (0, g) else if (am_i g 943 26) = 102 then lo_p (fm_16 g u1) fun y7 => if y7 = 0 then if u1 = 62 then lo_i (fm_25 g 45) fun y11 g12 => some (y11, g12) else lo_i (fm_23 g ) fun y9 g10 => some (y9, g10) else lo_i (fm_25 g 103) fun y13 g14 => some (y13, g14) else if (am_i g 943 26) = 103 then lo_p (fm_16 g u1) fun y15 => if y15 = 0 then if u1 = 62 then lo_i (fm_25 g 45) fun y19 g20 => some (y19, g20) else lo_i (fm_27 g u1 12 0) fun y17 g18 => some (y17, g18) else some (0, g) else if (am_i g 943 26) = 104 then lo_i (fm_116 g u1 105) fun y21 g22 => some (y21, g22) else if (am_i g 943 26) = 105 then if u1 = 67 then lo_i (fm_34 (am_si g 943 89 0) 3278465 5 1 108) fun y35 g36 => some (y35, g36) else if u1 = 73 then lo_i (fm_34 (am_si g 943 89 0) 292 2 1 106) fun y33 g34 => some (y33, g34) else if u1 = 69 then lo_i (fm_34 (am_si g 943 89 0) 5722420 5 1 109) fun y31 g32 => some (y31, g32) else if u1 = 78 then lo_i (fm_25 (am_si g 943 89 0) 111) fun y29 g30 => some (y29, g30) else lo_p (fm_16 (am_si (am_si g 943 89 0) 943 89 9) u1) fun y23 => if y23 = 0 then if u1 = 40 then lo_i (fm_25 (am_si (am_si g 943 89 0) 943 89 9) 115) fun y27 g28 => some (y27, g28) else lo_i (fm_23 (am_si (am_si g 943 89 0) 943 89 9) ) fun y25 g26 => some (y25, g26) else some (0, (am_si (am_si g 943 89 0) 943 89 9)) else if (am_i g 943 26) = 106 then if u1 = 82 then lo_i (fm_34 g 18598 3 1 107) fun y39 g40 => some (y39, g40) else lo_i (fm_127 g 1 108) fun y37 g38 => some (y37, g38) else if (am_i g 943 26) = 107 then if u1 = 83 then lo_i (fm_25 (am_si g 943 89 3) 108) fun y43 g44 => some (y43, g44) else lo_i (fm_127 (am_si g 943 89 3) 2 108) fun y41 g42 => some (y41, g42) else if (am_i g 943 26) = 108 then lo_i (fm_116 g u1 110) fun y45 g46 => some (y45, g46) else if (am_i g 943 26) = 109 then if u1 = 89 then fj_128_368 g u1 4 else fj_128_368 g u1 5 else if (am_i g 943 26) = 110 then lo_p (fm_16 g u1) fun y47 => if y47 = 0 then if u1 = 40 then lo_i (fm_25 g 115) fun y51 g52 => some (y51, g52) else lo_i (fm_23 g ) fun y49 g50 => some (y49, g50) else some (0, g) else if (am_i g 943 26) = 111 then if u1 = 77 then lo_i (fm_34 g 457682094 6 1 112) fun y57 g58 => some (y57, g58) else if u1 = 79 then lo_i (fm_34 g 16778929646 7 1 113) fun y55 g56 => some (y55, g56) else lo_i (fm_23 g ) fun y53 g54 => some (y53, g54) else if (am_i g 943 26) = 112 then if u1 = 83 then lo_i (fm_25 (am_si g 943 89 7) 108) fun y61 g62 => some (y61, g62) else lo_i (fm_127 (am_si g 943 89 7) 6 108) fun y59 g60 => some (y59, g60) else if (am_i g 943 26) = 113 then lo_i (fm_116 (am_si g 943 89 8) u1 114) fun y63 g64 => some (y63, g64) else lo_p (fm_16 g u1) fun y65 => if y65 = 0 then if u1 = 40 then lo_i (fm_25 g 115) fun y69 g70 => some (y69, g70) else lo_i (fm_23 g ) fun y67 g68 => some (y67, g68) else some (0, g)
set_option maxRecDepth 20000 in
theorem dm_128 (L : Nat) (g : am_G) (u1 : Int32) (R : Int32 × am_G) : fm_128 g u1 = some R → ai_ev ap_P 128 (ai_e0 ap_P 128 [.ref 943, .int u1] (v0 L, g)) (.inl (ez_i R.1)) (v0 L, R.2) := by
  show _ → ai_ev ap_P 128 (0, [some (.ref 943), some (.int u1)], [], (v0 L, g)) _ _
  unfold fm_128
  refine ev_sw 2 (ps := [(100, 76), (101, 84), (102, 104), (103, 140), (104, 175), (105, 183), (106, 292), (107, 320), (108, 348), (109, 356), (110, 502), (111, 411), (112, 458), (113, 488)]) (d := 502) (x := (am_i g 943 26)) (T := ([some (.ref 943), some (.int u1)], [], (v0 L, g))) rfl ?_
  refine sw_c ?_ ?_
  · refine ev_oi 3 (as := [.ref 943, .int u1, .int 101]) (pc := 83) (Lc := [some (.ref 943), some (.int u1)]) (st := []) (V := v0 L) (g1 := g) (e := ez_i) rfl (dm_116 L g u1 101) (fun y1 g2 => ?_)
    exact fun hR => by cases hR; exact ev_rt 0 rfl
  refine sw_c ?_ ?_
  · refine ev_op 1 (as := [.int u1]) (pc := 88) (Lc := [some (.ref 943), some (.int u1)]) (st := []) (h1 := (v0 L, g)) (e := ez_i) rfl (dm_16 L g u1) (fun y3 => ?_)
    refine ev_if 0 (p := y3 = 0) (a := 95) (b := 91) (T := ([some (.ref 943), some (.int u1)], [], (v0 L, g))) rfl ?_ ?_
    · refine ev_oi 4 (as := [.ref 943, .int u1, .int 11, .int 0]) (pc := 103) (Lc := [some (.ref 943), some (.int u1)]) (st := []) (V := v0 L) (g1 := g) (e := ez_i) rfl (dm_27 L g u1 11 0) (fun y5 g6 => ?_)
      exact fun hR => by cases hR; exact ev_rt 0 rfl
    · exact fun hR => by cases hR; exact ev_rt 2 rfl
  refine sw_c ?_ ?_
  · refine ev_op 1 (as := [.int u1]) (pc := 108) (Lc := [some (.ref 943), some (.int u1)]) (st := []) (h1 := (v0 L, g)) (e := ez_i) rfl (dm_16 L g u1) (fun y7 => ?_)
    refine ev_if 0 (p := y7 = 0) (a := 120) (b := 111) (T := ([some (.ref 943), some (.int u1)], [], (v0 L, g))) rfl ?_ ?_
    · refine ev_in 2 (p := u1 = 62) (a := 135) (b := 126) (T := ([some (.ref 943), some (.int u1)], [], (v0 L, g))) rfl ?_ ?_
      · refine ev_oi 2 (as := [.ref 943, .int 45]) (pc := 132) (Lc := [some (.ref 943), some (.int u1)]) (st := []) (V := v0 L) (g1 := g) (e := ez_i) rfl (dm_25 L g 45) (fun y11 g12 => ?_)
        exact fun hR => by cases hR; exact ev_rt 1 rfl
      · refine ev_oi 1 (as := [.ref 943]) (pc := 139) (Lc := [some (.ref 943), some (.int u1)]) (st := []) (V := v0 L) (g1 := g) (e := ez_i) rfl (dm_23 L g ) (fun y9 g10 => ?_)
        exact fun hR => by cases hR; exact ev_rt 0 rfl
    · refine ev_oi 2 (as := [.ref 943, .int 103]) (pc := 117) (Lc := [some (.ref 943), some (.int u1)]) (st := []) (V := v0 L) (g1 := g) (e := ez_i) rfl (dm_25 L g 103) (fun y13 g14 => ?_)
      exact fun hR => by cases hR; exact ev_rt 1 rfl
  refine sw_c ?_ ?_
  · refine ev_op 1 (as := [.int u1]) (pc := 144) (Lc := [some (.ref 943), some (.int u1)]) (st := []) (h1 := (v0 L, g)) (e := ez_i) rfl (dm_16 L g u1) (fun y15 => ?_)
    refine ev_if 0 (p := y15 = 0) (a := 151) (b := 147) (T := ([some (.ref 943), some (.int u1)], [], (v0 L, g))) rfl ?_ ?_
    · refine ev_in 2 (p := u1 = 62) (a := 166) (b := 157) (T := ([some (.ref 943), some (.int u1)], [], (v0 L, g))) rfl ?_ ?_
      · refine ev_oi 2 (as := [.ref 943, .int 45]) (pc := 163) (Lc := [some (.ref 943), some (.int u1)]) (st := []) (V := v0 L) (g1 := g) (e := ez_i) rfl (dm_25 L g 45) (fun y19 g20 => ?_)
        exact fun hR => by cases hR; exact ev_rt 1 rfl
      · refine ev_oi 4 (as := [.ref 943, .int u1, .int 12, .int 0]) (pc := 174) (Lc := [some (.ref 943), some (.int u1)]) (st := []) (V := v0 L) (g1 := g) (e := ez_i) rfl (dm_27 L g u1 12 0) (fun y17 g18 => ?_)
        exact fun hR => by cases hR; exact ev_rt 0 rfl
    · exact fun hR => by cases hR; exact ev_rt 2 rfl
  refine sw_c ?_ ?_
  · refine ev_oi 3 (as := [.ref 943, .int u1, .int 105]) (pc := 182) (Lc := [some (.ref 943), some (.int u1)]) (st := []) (V := v0 L) (g1 := g) (e := ez_i) rfl (dm_116 L g u1 105) (fun y21 g22 => ?_)
    exact fun hR => by cases hR; exact ev_rt 0 rfl
  refine sw_c ?_ ?_
  · refine ev_in 5 (p := u1 = 67) (a := 206) (b := 194) (T := ([some (.ref 943), some (.int u1)], [], (v0 L, (am_si g 943 89 0)))) rfl ?_ ?_
    · refine ev_oi 5 (as := [.ref 943, .long 3278465, .int 5, .int 1, .int 108]) (pc := 205) (Lc := [some (.ref 943), some (.int u1)]) (st := []) (V := v0 L) (g1 := (am_si g 943 89 0)) (e := ez_i) rfl (dm_34 L (am_si g 943 89 0) 3278465 5 1 108) (fun y35 g36 => ?_)
      exact fun hR => by cases hR; exact ev_rt 0 rfl
    · refine ev_in 2 (p := u1 = 73) (a := 224) (b := 212) (T := ([some (.ref 943), some (.int u1)], [], (v0 L, (am_si g 943 89 0)))) rfl ?_ ?_
      · refine ev_oi 5 (as := [.ref 943, .long 292, .int 2, .int 1, .int 106]) (pc := 223) (Lc := [some (.ref 943), some (.int u1)]) (st := []) (V := v0 L) (g1 := (am_si g 943 89 0)) (e := ez_i) rfl (dm_34 L (am_si g 943 89 0) 292 2 1 106) (fun y33 g34 => ?_)
        exact fun hR => by cases hR; exact ev_rt 0 rfl
      · refine ev_in 2 (p := u1 = 69) (a := 242) (b := 230) (T := ([some (.ref 943), some (.int u1)], [], (v0 L, (am_si g 943 89 0)))) rfl ?_ ?_
        · refine ev_oi 5 (as := [.ref 943, .long 5722420, .int 5, .int 1, .int 109]) (pc := 241) (Lc := [some (.ref 943), some (.int u1)]) (st := []) (V := v0 L) (g1 := (am_si g 943 89 0)) (e := ez_i) rfl (dm_34 L (am_si g 943 89 0) 5722420 5 1 109) (fun y31 g32 => ?_)
          exact fun hR => by cases hR; exact ev_rt 0 rfl
        · refine ev_in 2 (p := u1 = 78) (a := 255) (b := 248) (T := ([some (.ref 943), some (.int u1)], [], (v0 L, (am_si g 943 89 0)))) rfl ?_ ?_
          · refine ev_oi 2 (as := [.ref 943, .int 111]) (pc := 254) (Lc := [some (.ref 943), some (.int u1)]) (st := []) (V := v0 L) (g1 := (am_si g 943 89 0)) (e := ez_i) rfl (dm_25 L (am_si g 943 89 0) 111) (fun y29 g30 => ?_)
            exact fun hR => by cases hR; exact ev_rt 0 rfl
          · refine ev_op 4 (as := [.int u1]) (pc := 265) (Lc := [some (.ref 943), some (.int u1)]) (st := []) (h1 := (v0 L, (am_si (am_si g 943 89 0) 943 89 9))) (e := ez_i) rfl (dm_16 L (am_si (am_si g 943 89 0) 943 89 9) u1) (fun y23 => ?_)
            refine ev_if 0 (p := y23 = 0) (a := 272) (b := 268) (T := ([some (.ref 943), some (.int u1)], [], (v0 L, (am_si (am_si g 943 89 0) 943 89 9)))) rfl ?_ ?_
            · refine ev_in 2 (p := u1 = 40) (a := 287) (b := 278) (T := ([some (.ref 943), some (.int u1)], [], (v0 L, (am_si (am_si g 943 89 0) 943 89 9)))) rfl ?_ ?_
              · refine ev_oi 2 (as := [.ref 943, .int 115]) (pc := 284) (Lc := [some (.ref 943), some (.int u1)]) (st := []) (V := v0 L) (g1 := (am_si (am_si g 943 89 0) 943 89 9)) (e := ez_i) rfl (dm_25 L (am_si (am_si g 943 89 0) 943 89 9) 115) (fun y27 g28 => ?_)
                exact fun hR => by cases hR; exact ev_rt 1 rfl
              · refine ev_oi 1 (as := [.ref 943]) (pc := 291) (Lc := [some (.ref 943), some (.int u1)]) (st := []) (V := v0 L) (g1 := (am_si (am_si g 943 89 0) 943 89 9)) (e := ez_i) rfl (dm_23 L (am_si (am_si g 943 89 0) 943 89 9) ) (fun y25 g26 => ?_)
                exact fun hR => by cases hR; exact ev_rt 0 rfl
            · exact fun hR => by cases hR; exact ev_rt 2 rfl
  refine sw_c ?_ ?_
  · refine ev_in 2 (p := u1 = 82) (a := 312) (b := 298) (T := ([some (.ref 943), some (.int u1)], [], (v0 L, g))) rfl ?_ ?_
    · refine ev_oi 5 (as := [.ref 943, .long 18598, .int 3, .int 1, .int 107]) (pc := 309) (Lc := [some (.ref 943), some (.int u1)]) (st := []) (V := v0 L) (g1 := g) (e := ez_i) rfl (dm_34 L g 18598 3 1 107) (fun y39 g40 => ?_)
      exact fun hR => by cases hR; exact ev_rt 1 rfl
    · refine ev_oi 3 (as := [.ref 943, .int 1, .int 108]) (pc := 319) (Lc := [some (.ref 943), some (.int u1)]) (st := []) (V := v0 L) (g1 := g) (e := ez_i) rfl (dm_127 L g 1 108) (fun y37 g38 => ?_)
      exact fun hR => by cases hR; exact ev_rt 0 rfl
  refine sw_c ?_ ?_
  · refine ev_in 5 (p := u1 = 83) (a := 340) (b := 331) (T := ([some (.ref 943), some (.int u1)], [], (v0 L, (am_si g 943 89 3)))) rfl ?_ ?_
    · refine ev_oi 2 (as := [.ref 943, .int 108]) (pc := 337) (Lc := [some (.ref 943), some (.int u1)]) (st := []) (V := v0 L) (g1 := (am_si g 943 89 3)) (e := ez_i) rfl (dm_25 L (am_si g 943 89 3) 108) (fun y43 g44 => ?_)
      exact fun hR => by cases hR; exact ev_rt 1 rfl
    · refine ev_oi 3 (as := [.ref 943, .int 2, .int 108]) (pc := 347) (Lc := [some (.ref 943), some (.int u1)]) (st := []) (V := v0 L) (g1 := (am_si g 943 89 3)) (e := ez_i) rfl (dm_127 L (am_si g 943 89 3) 2 108) (fun y41 g42 => ?_)
      exact fun hR => by cases hR; exact ev_rt 0 rfl
  refine sw_c ?_ ?_
  · refine ev_oi 3 (as := [.ref 943, .int u1, .int 110]) (pc := 355) (Lc := [some (.ref 943), some (.int u1)]) (st := []) (V := v0 L) (g1 := g) (e := ez_i) rfl (dm_116 L g u1 110) (fun y45 g46 => ?_)
    exact fun hR => by cases hR; exact ev_rt 0 rfl
  refine sw_c ?_ ?_
  · refine ev_in 3 (p := u1 = 89) (a := 367) (b := 363) (T := ([some (.ref 943), some (.int u1)], [.ref 943], (v0 L, g))) rfl ?_ ?_
    · refine ev_jm 1 (t := (368, [some (.ref 943), some (.int u1)], [.int 4, .ref 943], (v0 L, g))) rfl ?_
      exact dj_128_368 L g u1 4 _
    · refine ev_jm 0 (t := (368, [some (.ref 943), some (.int u1)], [.int 5, .ref 943], (v0 L, g))) rfl ?_
      exact dj_128_368 L g u1 5 _
  refine sw_c ?_ ?_
  · refine ev_op 1 (as := [.int u1]) (pc := 506) (Lc := [some (.ref 943), some (.int u1)]) (st := []) (h1 := (v0 L, g)) (e := ez_i) rfl (dm_16 L g u1) (fun y47 => ?_)
    refine ev_if 0 (p := y47 = 0) (a := 513) (b := 509) (T := ([some (.ref 943), some (.int u1)], [], (v0 L, g))) rfl ?_ ?_
    · refine ev_in 2 (p := u1 = 40) (a := 528) (b := 519) (T := ([some (.ref 943), some (.int u1)], [], (v0 L, g))) rfl ?_ ?_
      · refine ev_oi 2 (as := [.ref 943, .int 115]) (pc := 525) (Lc := [some (.ref 943), some (.int u1)]) (st := []) (V := v0 L) (g1 := g) (e := ez_i) rfl (dm_25 L g 115) (fun y51 g52 => ?_)
        exact fun hR => by cases hR; exact ev_rt 1 rfl
      · refine ev_oi 1 (as := [.ref 943]) (pc := 532) (Lc := [some (.ref 943), some (.int u1)]) (st := []) (V := v0 L) (g1 := g) (e := ez_i) rfl (dm_23 L g ) (fun y49 g50 => ?_)
        exact fun hR => by cases hR; exact ev_rt 0 rfl
    · exact fun hR => by cases hR; exact ev_rt 2 rfl
  refine sw_c ?_ ?_
  · refine ev_in 2 (p := u1 = 77) (a := 432) (b := 417) (T := ([some (.ref 943), some (.int u1)], [], (v0 L, g))) rfl ?_ ?_
    · refine ev_oi 5 (as := [.ref 943, .long 457682094, .int 6, .int 1, .int 112]) (pc := 429) (Lc := [some (.ref 943), some (.int u1)]) (st := []) (V := v0 L) (g1 := g) (e := ez_i) rfl (dm_34 L g 457682094 6 1 112) (fun y57 g58 => ?_)
      exact fun hR => by cases hR; exact ev_rt 1 rfl
    · refine ev_in 2 (p := u1 = 79) (a := 453) (b := 438) (T := ([some (.ref 943), some (.int u1)], [], (v0 L, g))) rfl ?_ ?_
      · refine ev_oi 5 (as := [.ref 943, .long 16778929646, .int 7, .int 1, .int 113]) (pc := 450) (Lc := [some (.ref 943), some (.int u1)]) (st := []) (V := v0 L) (g1 := g) (e := ez_i) rfl (dm_34 L g 16778929646 7 1 113) (fun y55 g56 => ?_)
        exact fun hR => by cases hR; exact ev_rt 1 rfl
      · refine ev_oi 1 (as := [.ref 943]) (pc := 457) (Lc := [some (.ref 943), some (.int u1)]) (st := []) (V := v0 L) (g1 := g) (e := ez_i) rfl (dm_23 L g ) (fun y53 g54 => ?_)
        exact fun hR => by cases hR; exact ev_rt 0 rfl
  refine sw_c ?_ ?_
  · refine ev_in 5 (p := u1 = 83) (a := 479) (b := 470) (T := ([some (.ref 943), some (.int u1)], [], (v0 L, (am_si g 943 89 7)))) rfl ?_ ?_
    · refine ev_oi 2 (as := [.ref 943, .int 108]) (pc := 476) (Lc := [some (.ref 943), some (.int u1)]) (st := []) (V := v0 L) (g1 := (am_si g 943 89 7)) (e := ez_i) rfl (dm_25 L (am_si g 943 89 7) 108) (fun y61 g62 => ?_)
      exact fun hR => by cases hR; exact ev_rt 1 rfl
    · refine ev_oi 3 (as := [.ref 943, .int 6, .int 108]) (pc := 487) (Lc := [some (.ref 943), some (.int u1)]) (st := []) (V := v0 L) (g1 := (am_si g 943 89 7)) (e := ez_i) rfl (dm_127 L (am_si g 943 89 7) 6 108) (fun y59 g60 => ?_)
      exact fun hR => by cases hR; exact ev_rt 0 rfl
  refine sw_c ?_ ?_
  · refine ev_oi 6 (as := [.ref 943, .int u1, .int 114]) (pc := 501) (Lc := [some (.ref 943), some (.int u1)]) (st := []) (V := v0 L) (g1 := (am_si g 943 89 8)) (e := ez_i) rfl (dm_116 L (am_si g 943 89 8) u1 114) (fun y63 g64 => ?_)
    exact fun hR => by cases hR; exact ev_rt 0 rfl
  refine sw_n ?_
  refine ev_op 1 (as := [.int u1]) (pc := 506) (Lc := [some (.ref 943), some (.int u1)]) (st := []) (h1 := (v0 L, g)) (e := ez_i) rfl (dm_16 L g u1) (fun y65 => ?_)
  refine ev_if 0 (p := y65 = 0) (a := 513) (b := 509) (T := ([some (.ref 943), some (.int u1)], [], (v0 L, g))) rfl ?_ ?_
  · refine ev_in 2 (p := u1 = 40) (a := 528) (b := 519) (T := ([some (.ref 943), some (.int u1)], [], (v0 L, g))) rfl ?_ ?_
    · refine ev_oi 2 (as := [.ref 943, .int 115]) (pc := 525) (Lc := [some (.ref 943), some (.int u1)]) (st := []) (V := v0 L) (g1 := g) (e := ez_i) rfl (dm_25 L g 115) (fun y69 g70 => ?_)
      exact fun hR => by cases hR; exact ev_rt 1 rfl
    · refine ev_oi 1 (as := [.ref 943]) (pc := 532) (Lc := [some (.ref 943), some (.int u1)]) (st := []) (V := v0 L) (g1 := g) (e := ez_i) rfl (dm_23 L g ) (fun y67 g68 => ?_)
      exact fun hR => by cases hR; exact ev_rt 0 rfl
  · exact fun hR => by cases hR; exact ev_rt 2 rfl
