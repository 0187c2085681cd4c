noncomputable def fj_129_137  (g : am_G) (u1 : Int32) : Option (Int32 × am_G) := lo_i (fm_84 g u1 1) fun y1 g2 => some (y1, g2)
set_option maxRecDepth 20000 in
theorem dj_129_137 (L : Nat)   (g : am_G) (u1 : Int32) (R : Int32 × am_G) : fj_129_137  g u1 = some R → ai_ev ap_P 129 (137, [some (.ref 943), some (.int u1)], [], (v0 L, g)) (.inl (ez_i R.1)) (v0 L, R.2) := by
  unfold fj_129_137
  refine ev_oi 3 (as := [.ref 943, .int u1, .int 1]) (pc := 143) (Lc := [some (.ref 943), some (.int u1)]) (st := []) (V := v0 L) (g1 := g) (e := ez_i) rfl (dm_84 L g u1 1) (fun y1 g2 => ?_)
  exact fun hR => by cases hR; exact ev_rt 1 rfl
noncomputable def fj_129_180  (g : am_G) (t1 : Int32) (t2 : Int32) (t3 : Int32) : Option (Int32 × am_G) := lo_i (fm_27 g t1 t2 t3) fun y1 g2 => some (y1, g2)
set_option maxRecDepth 20000 in
theorem dj_129_180 (L : Nat)   (g : am_G) (t1 : Int32) (t2 : Int32) (t3 : Int32) (w0 w1 : Option Value) (R : Int32 × am_G) : fj_129_180  g t1 t2 t3 = some R → ai_ev ap_P 129 (180, [w0, w1], [.int t3, .int t2, .int t1, .ref 943], (v0 L, g)) (.inl (ez_i R.1)) (v0 L, R.2) := by
  unfold fj_129_180
  refine ev_oi 0 (as := [.ref 943, .int t1, .int t2, .int t3]) (pc := 183) (Lc := [none, none]) (st := []) (V := v0 L) (g1 := g) (e := ez_i) rfl (dm_27 L g t1 t2 t3) (fun y1 g2 => ?_)
  exact fun hR => by cases hR; exact ev_rt 0 rfl
noncomputable def fj_129_265  (g : am_G) (u1 : Int32) (t1 : Int32) : Option (Int32 × am_G) := if u1 = 82 then lo_i (fm_34 (am_si g 943 90 t1) 624436758692 8 1 140) fun y5 g6 => some (y5, g6) else if u1 = 73 then lo_i (fm_34 (am_si g 943 90 t1) 10117063844 7 1 140) fun y3 g4 => some (y3, g4) else lo_i (fm_23 (am_si g 943 90 t1) ) fun y1 g2 => some (y1, g2)
set_option maxRecDepth 20000 in
theorem dj_129_265 (L : Nat)   (g : am_G) (u1 : Int32) (t1 : Int32) (R : Int32 × am_G) : fj_129_265  g u1 t1 = some R → ai_ev ap_P 129 (265, [some (.ref 943), some (.int u1)], [.int t1, .ref 943], (v0 L, g)) (.inl (ez_i R.1)) (v0 L, R.2) := by
  unfold fj_129_265
  refine ev_in 3 (p := u1 = 82) (a := 290) (b := 274) (T := ([some (.ref 943), some (.int u1)], [], (v0 L, (am_si g 943 90 t1)))) rfl ?_ ?_
  · refine ev_oi 5 (as := [.ref 943, .long 624436758692, .int 8, .int 1, .int 140]) (pc := 287) (Lc := [some (.ref 943), some (.int u1)]) (st := []) (V := v0 L) (g1 := (am_si g 943 90 t1)) (e := ez_i) rfl (dm_34 L (am_si g 943 90 t1) 624436758692 8 1 140) (fun y5 g6 => ?_)
    exact fun hR => by cases hR; exact ev_rt 1 rfl
  · refine ev_in 2 (p := u1 = 73) (a := 312) (b := 296) (T := ([some (.ref 943), some (.int u1)], [], (v0 L, (am_si g 943 90 t1)))) rfl ?_ ?_
    · refine ev_oi 5 (as := [.ref 943, .long 10117063844, .int 7, .int 1, .int 140]) (pc := 309) (Lc := [some (.ref 943), some (.int u1)]) (st := []) (V := v0 L) (g1 := (am_si g 943 90 t1)) (e := ez_i) rfl (dm_34 L (am_si g 943 90 t1) 10117063844 7 1 140) (fun y3 g4 => ?_)
      exact fun hR => by cases hR; exact ev_rt 1 rfl
    · refine ev_oi 1 (as := [.ref 943]) (pc := 316) (Lc := [some (.ref 943), some (.int u1)]) (st := []) (V := v0 L) (g1 := (am_si g 943 90 t1)) (e := ez_i) rfl (dm_23 L (am_si g 943 90 t1) ) (fun y1 g2 => ?_)
      exact fun hR => by cases hR; exact ev_rt 0 rfl
noncomputable def fj_129_385  (g : am_G) (u1 : Int32) : Option (Int32 × am_G) := lo_i (fm_84 g u1 1) fun y1 g2 => some (y1, g2)
set_option maxRecDepth 20000 in
theorem dj_129_385 (L : Nat)   (g : am_G) (u1 : Int32) (R : Int32 × am_G) : fj_129_385  g u1 = some R → ai_ev ap_P 129 (385, [some (.ref 943), some (.int u1)], [], (v0 L, g)) (.inl (ez_i R.1)) (v0 L, R.2) := by
  unfold fj_129_385
  refine ev_oi 3 (as := [.ref 943, .int u1, .int 1]) (pc := 391) (Lc := [some (.ref 943), some (.int u1)]) (st := []) (V := v0 L) (g1 := g) (e := ez_i) rfl (dm_84 L g u1 1) (fun y1 g2 => ?_)
  exact fun hR => by cases hR; exact ev_rt 1 rfl
/-- DeclaredMarkupModel.defaultStep(I)I -/
noncomputable def fm_129 (g : am_G) (u1 : Int32) : Option (Int32 × am_G) := if (am_i g 943 26) = 110 then lo_p (fm_16 g u1) fun y1 => if y1 = 0 then if u1 = 35 then lo_i (fm_25 (am_si g 943 90 3) 117) fun y5 g6 => some (y5, g6) else if u1 = 34 then fj_129_137 (am_si g 943 90 3) u1 else if u1 = 39 then fj_129_137 (am_si g 943 90 3) u1 else lo_i (fm_23 (am_si g 943 90 3) ) fun y3 g4 => some (y3, g4) else some (0, g) else if (am_i g 943 26) = 111 then lo_i (fm_76 (am_si g 943 29 1) ) fun y7 g8 => some (y7, g8) else if (am_i g 943 26) = 112 then lo_i (fm_76 (am_si g 943 29 1) ) fun y9 g10 => some (y9, g10) else if (am_i g 943 26) = 113 then lo_i (fm_76 (am_si g 943 29 1) ) fun y11 g12 => some (y11, g12) else if (am_i g 943 26) = 114 then lo_i (fm_76 (am_si g 943 29 1) ) fun y13 g14 => some (y13, g14) else if (am_i g 943 26) = 115 then lo_p (fm_16 g u1) fun y15 => if y15 = 0 then if (am_i g 943 89) = 9 then fj_129_180 g u1 13 1 else fj_129_180 g u1 13 0 else some (0, g) else if (am_i g 943 26) = 116 then lo_p (fm_16 g u1) fun y17 => if y17 = 0 then if u1 = 124 then lo_i (fm_25 g 115) fun y23 g24 => some (y23, g24) else if u1 = 41 then lo_i (fm_25 g 108) fun y21 g22 => some (y21, g22) else lo_i (fm_23 g ) fun y19 g20 => some (y19, g20) else some (0, g) else if (am_i g 943 26) = 117 then if u1 = 70 then lo_i (fm_34 (am_si g 943 90 2) 6611108 5 1 118) fun y25 g26 => some (y25, g26) else if u1 = 82 then fj_129_265 g u1 0 else fj_129_265 g u1 1 else if (am_i g 943 26) = 118 then lo_i (fm_116 g u1 128) fun y27 g28 => some (y27, g28) else if (am_i g 943 26) = 119 then lo_p (fm_16 g u1) fun y29 => if y29 = 0 then if u1 = 62 then lo_i (fm_25 g 45) fun y33 g34 => some (y33, g34) else lo_i (fm_23 g ) fun y31 g32 => some (y31, g32) else lo_i (fm_25 g 103) fun y35 g36 => some (y35, g36) else if (am_i g 943 26) = 120 then lo_i (fm_76 (am_si g 943 29 1) ) fun y37 g38 => some (y37, g38) else if (am_i g 943 26) = 121 then lo_i (fm_76 (am_si g 943 29 1) ) fun y39 g40 => some (y39, g40) else if (am_i g 943 26) = 122 then lo_i (fm_76 (am_si g 943 29 1) ) fun y41 g42 => some (y41, g42) else if (am_i g 943 26) = 123 then lo_i (fm_76 (am_si g 943 29 1) ) fun y43 g44 => some (y43, g44) else if (am_i g 943 26) = 124 then lo_i (fm_76 (am_si g 943 29 1) ) fun y45 g46 => some (y45, g46) else if (am_i g 943 26) = 125 then lo_i (fm_76 (am_si g 943 29 1) ) fun y47 g48 => some (y47, g48) else if (am_i g 943 26) = 126 then lo_i (fm_76 (am_si g 943 29 1) ) fun y49 g50 => some (y49, g50) else if (am_i g 943 26) = 127 then lo_i (fm_76 (am_si g 943 29 1) ) fun y51 g52 => some (y51, g52) else if (am_i g 943 26) = 128 then lo_p (fm_16 g u1) fun y53 => if y53 = 0 then if u1 = 34 then fj_129_385 g u1 else if u1 = 39 then fj_129_385 g u1 else lo_i (fm_23 g ) fun y55 g56 => some (y55, g56) else some (0, g) else lo_i (fm_76 (am_si g 943 29 1) ) fun y57 g58 => some (y57, g58)
set_option maxRecDepth 20000 in
theorem dm_129 (L : Nat) (g : am_G) (u1 : Int32) (R : Int32 × am_G) : fm_129 g u1 = some R → ai_ev ap_P 129 (ai_e0 ap_P 129 [.ref 943, .int u1] (v0 L, g)) (.inl (ez_i R.1)) (v0 L, R.2) := by
  show _ → ai_ev ap_P 129 (0, [some (.ref 943), some (.int u1)], [], (v0 L, g)) _ _
  unfold fm_129
  refine ev_sw 2 (ps := [(110, 96), (111, 399), (112, 399), (113, 399), (114, 399), (115, 151), (116, 184), (117, 230), (118, 317), (119, 326), (120, 399), (121, 399), (122, 399), (123, 399), (124, 399), (125, 399), (126, 399), (127, 399), (128, 362)]) (d := 399) (x := (am_i g 943 26)) (T := ([some (.ref 943), some (.int u1)], [], (v0 L, g))) rfl ?_
  refine sw_c ?_ ?_
  · refine ev_op 1 (as := [.int u1]) (pc := 100) (Lc := [some (.ref 943), some (.int u1)]) (st := []) (h1 := (v0 L, g)) (e := ez_i) rfl (dm_16 L g u1) (fun y1 => ?_)
    refine ev_if 0 (p := y1 = 0) (a := 105) (b := 103) (T := ([some (.ref 943), some (.int u1)], [], (v0 L, g))) rfl ?_ ?_
    · refine ev_in 5 (p := u1 = 35) (a := 125) (b := 116) (T := ([some (.ref 943), some (.int u1)], [], (v0 L, (am_si g 943 90 3)))) rfl ?_ ?_
      · refine ev_oi 2 (as := [.ref 943, .int 117]) (pc := 122) (Lc := [some (.ref 943), some (.int u1)]) (st := []) (V := v0 L) (g1 := (am_si g 943 90 3)) (e := ez_i) rfl (dm_25 L (am_si g 943 90 3) 117) (fun y5 g6 => ?_)
        exact fun hR => by cases hR; exact ev_rt 1 rfl
      · refine ev_if 2 (p := u1 = 34) (a := 137) (b := 131) (T := ([some (.ref 943), some (.int u1)], [], (v0 L, (am_si g 943 90 3)))) rfl ?_ ?_
        · exact dj_129_137 L (am_si g 943 90 3) u1 _
        · refine ev_in 2 (p := u1 = 39) (a := 146) (b := 137) (T := ([some (.ref 943), some (.int u1)], [], (v0 L, (am_si g 943 90 3)))) rfl ?_ ?_
          · exact dj_129_137 L (am_si g 943 90 3) u1 _
          · refine ev_oi 1 (as := [.ref 943]) (pc := 150) (Lc := [some (.ref 943), some (.int u1)]) (st := []) (V := v0 L) (g1 := (am_si g 943 90 3)) (e := ez_i) rfl (dm_23 L (am_si g 943 90 3) ) (fun y3 g4 => ?_)
            exact fun hR => by cases hR; exact ev_rt 0 rfl
    · exact fun hR => by cases hR; exact ev_rt 1 rfl
  refine sw_c ?_ ?_
  · refine ev_oi 4 (as := [.ref 943]) (pc := 408) (Lc := [some (.ref 943), some (.int u1)]) (st := []) (V := v0 L) (g1 := (am_si g 943 29 1)) (e := ez_i) rfl (dm_76 L (am_si g 943 29 1) ) (fun y7 g8 => ?_)
    exact fun hR => by cases hR; exact ev_rt 0 rfl
  refine sw_c ?_ ?_
  · refine ev_oi 4 (as := [.ref 943]) (pc := 408) (Lc := [some (.ref 943), some (.int u1)]) (st := []) (V := v0 L) (g1 := (am_si g 943 29 1)) (e := ez_i) rfl (dm_76 L (am_si g 943 29 1) ) (fun y9 g10 => ?_)
    exact fun hR => by cases hR; exact ev_rt 0 rfl
  refine sw_c ?_ ?_
  · refine ev_oi 4 (as := [.ref 943]) (pc := 408) (Lc := [some (.ref 943), some (.int u1)]) (st := []) (V := v0 L) (g1 := (am_si g 943 29 1)) (e := ez_i) rfl (dm_76 L (am_si g 943 29 1) ) (fun y11 g12 => ?_)
    exact fun hR => by cases hR; exact ev_rt 0 rfl
  refine sw_c ?_ ?_
  · refine ev_oi 4 (as := [.ref 943]) (pc := 408) (Lc := [some (.ref 943), some (.int u1)]) (st := []) (V := v0 L) (g1 := (am_si g 943 29 1)) (e := ez_i) rfl (dm_76 L (am_si g 943 29 1) ) (fun y13 g14 => ?_)
    exact fun hR => by cases hR; exact ev_rt 0 rfl
  refine sw_c ?_ ?_
  · refine ev_op 1 (as := [.int u1]) (pc := 155) (Lc := [some (.ref 943), some (.int u1)]) (st := []) (h1 := (v0 L, g)) (e := ez_i) rfl (dm_16 L g u1) (fun y15 => ?_)
    refine ev_if 0 (p := y15 = 0) (a := 162) (b := 158) (T := ([some (.ref 943), some (.int u1)], [], (v0 L, g))) rfl ?_ ?_
    · refine ev_in 6 (p := (am_i g 943 89) = 9) (a := 179) (b := 175) (T := ([some (.ref 943), some (.int u1)], [.int 13, .int u1, .ref 943], (v0 L, g))) rfl ?_ ?_
      · refine ev_jm 1 (t := (180, [some (.ref 943), some (.int u1)], [.int 1, .int 13, .int u1, .ref 943], (v0 L, g))) rfl ?_
        exact dj_129_180 L g u1 13 1 (some (.ref 943)) (some (.int u1)) _
      · refine ev_jm 0 (t := (180, [some (.ref 943), some (.int u1)], [.int 0, .int 13, .int u1, .ref 943], (v0 L, g))) rfl ?_
        exact dj_129_180 L g u1 13 0 (some (.ref 943)) (some (.int u1)) _
    · exact fun hR => by cases hR; exact ev_rt 2 rfl
  refine sw_c ?_ ?_
  · refine ev_op 1 (as := [.int u1]) (pc := 188) (Lc := [some (.ref 943), some (.int u1)]) (st := []) (h1 := (v0 L, g)) (e := ez_i) rfl (dm_16 L g u1) (fun y17 => ?_)
    refine ev_if 0 (p := y17 = 0) (a := 195) (b := 191) (T := ([some (.ref 943), some (.int u1)], [], (v0 L, g))) rfl ?_ ?_
    · refine ev_in 2 (p := u1 = 124) (a := 210) (b := 201) (T := ([some (.ref 943), some (.int u1)], [], (v0 L, g))) rfl ?_ ?_
      · refine ev_oi 2 (as := [.ref 943, .int 115]) (pc := 207) (Lc := [some (.ref 943), some (.int u1)]) (st := []) (V := v0 L) (g1 := g) (e := ez_i) rfl (dm_25 L g 115) (fun y23 g24 => ?_)
        exact fun hR => by cases hR; exact ev_rt 1 rfl
      · refine ev_in 2 (p := u1 = 41) (a := 225) (b := 216) (T := ([some (.ref 943), some (.int u1)], [], (v0 L, g))) rfl ?_ ?_
        · refine ev_oi 2 (as := [.ref 943, .int 108]) (pc := 222) (Lc := [some (.ref 943), some (.int u1)]) (st := []) (V := v0 L) (g1 := g) (e := ez_i) rfl (dm_25 L g 108) (fun y21 g22 => ?_)
          exact fun hR => by cases hR; exact ev_rt 1 rfl
        · refine ev_oi 1 (as := [.ref 943]) (pc := 229) (Lc := [some (.ref 943), some (.int u1)]) (st := []) (V := v0 L) (g1 := g) (e := ez_i) rfl (dm_23 L g ) (fun y19 g20 => ?_)
          exact fun hR => by cases hR; exact ev_rt 0 rfl
    · exact fun hR => by cases hR; exact ev_rt 2 rfl
  refine sw_c ?_ ?_
  · refine ev_in 2 (p := u1 = 70) (a := 253) (b := 236) (T := ([some (.ref 943), some (.int u1)], [], (v0 L, g))) rfl ?_ ?_
    · refine ev_oi 8 (as := [.ref 943, .long 6611108, .int 5, .int 1, .int 118]) (pc := 252) (Lc := [some (.ref 943), some (.int u1)]) (st := []) (V := v0 L) (g1 := (am_si g 943 90 2)) (e := ez_i) rfl (dm_34 L (am_si g 943 90 2) 6611108 5 1 118) (fun y25 g26 => ?_)
      exact fun hR => by cases hR; exact ev_rt 0 rfl
    · refine ev_in 3 (p := u1 = 82) (a := 264) (b := 260) (T := ([some (.ref 943), some (.int u1)], [.ref 943], (v0 L, g))) rfl ?_ ?_
      · refine ev_jm 1 (t := (265, [some (.ref 943), some (.int u1)], [.int 0, .ref 943], (v0 L, g))) rfl ?_
        exact dj_129_265 L g u1 0 _
      · refine ev_jm 0 (t := (265, [some (.ref 943), some (.int u1)], [.int 1, .ref 943], (v0 L, g))) rfl ?_
        exact dj_129_265 L g u1 1 _
  refine sw_c ?_ ?_
  · refine ev_oi 3 (as := [.ref 943, .int u1, .int 128]) (pc := 325) (Lc := [some (.ref 943), some (.int u1)]) (st := []) (V := v0 L) (g1 := g) (e := ez_i) rfl (dm_116 L g u1 128) (fun y27 g28 => ?_)
    exact fun hR => by cases hR; exact ev_rt 0 rfl
  refine sw_c ?_ ?_
  · refine ev_op 1 (as := [.int u1]) (pc := 330) (Lc := [some (.ref 943), some (.int u1)]) (st := []) (h1 := (v0 L, g)) (e := ez_i) rfl (dm_16 L g u1) (fun y29 => ?_)
    refine ev_if 0 (p := y29 = 0) (a := 342) (b := 333) (T := ([some (.ref 943), some (.int u1)], [], (v0 L, g))) rfl ?_ ?_
    · refine ev_in 2 (p := u1 = 62) (a := 357) (b := 348) (T := ([some (.ref 943), some (.int u1)], [], (v0 L, g))) rfl ?_ ?_
      · refine ev_oi 2 (as := [.ref 943, .int 45]) (pc := 354) (Lc := [some (.ref 943), some (.int u1)]) (st := []) (V := v0 L) (g1 := g) (e := ez_i) rfl (dm_25 L g 45) (fun y33 g34 => ?_)
        exact fun hR => by cases hR; exact ev_rt 1 rfl
      · refine ev_oi 1 (as := [.ref 943]) (pc := 361) (Lc := [some (.ref 943), some (.int u1)]) (st := []) (V := v0 L) (g1 := g) (e := ez_i) rfl (dm_23 L g ) (fun y31 g32 => ?_)
        exact fun hR => by cases hR; exact ev_rt 0 rfl
    · refine ev_oi 2 (as := [.ref 943, .int 103]) (pc := 339) (Lc := [some (.ref 943), some (.int u1)]) (st := []) (V := v0 L) (g1 := g) (e := ez_i) rfl (dm_25 L g 103) (fun y35 g36 => ?_)
      exact fun hR => by cases hR; exact ev_rt 1 rfl
  refine sw_c ?_ ?_
  · refine ev_oi 4 (as := [.ref 943]) (pc := 408) (Lc := [some (.ref 943), some (.int u1)]) (st := []) (V := v0 L) (g1 := (am_si g 943 29 1)) (e := ez_i) rfl (dm_76 L (am_si g 943 29 1) ) (fun y37 g38 => ?_)
    exact fun hR => by cases hR; exact ev_rt 0 rfl
  refine sw_c ?_ ?_
  · refine ev_oi 4 (as := [.ref 943]) (pc := 408) (Lc := [some (.ref 943), some (.int u1)]) (st := []) (V := v0 L) (g1 := (am_si g 943 29 1)) (e := ez_i) rfl (dm_76 L (am_si g 943 29 1) ) (fun y39 g40 => ?_)
    exact fun hR => by cases hR; exact ev_rt 0 rfl
  refine sw_c ?_ ?_
  · refine ev_oi 4 (as := [.ref 943]) (pc := 408) (Lc := [some (.ref 943), some (.int u1)]) (st := []) (V := v0 L) (g1 := (am_si g 943 29 1)) (e := ez_i) rfl (dm_76 L (am_si g 943 29 1) ) (fun y41 g42 => ?_)
    exact fun hR => by cases hR; exact ev_rt 0 rfl
  refine sw_c ?_ ?_
  · refine ev_oi 4 (as := [.ref 943]) (pc := 408) (Lc := [some (.ref 943), some (.int u1)]) (st := []) (V := v0 L) (g1 := (am_si g 943 29 1)) (e := ez_i) rfl (dm_76 L (am_si g 943 29 1) ) (fun y43 g44 => ?_)
    exact fun hR => by cases hR; exact ev_rt 0 rfl
  refine sw_c ?_ ?_
  · refine ev_oi 4 (as := [.ref 943]) (pc := 408) (Lc := [some (.ref 943), some (.int u1)]) (st := []) (V := v0 L) (g1 := (am_si g 943 29 1)) (e := ez_i) rfl (dm_76 L (am_si g 943 29 1) ) (fun y45 g46 => ?_)
    exact fun hR => by cases hR; exact ev_rt 0 rfl
  refine sw_c ?_ ?_
  · refine ev_oi 4 (as := [.ref 943]) (pc := 408) (Lc := [some (.ref 943), some (.int u1)]) (st := []) (V := v0 L) (g1 := (am_si g 943 29 1)) (e := ez_i) rfl (dm_76 L (am_si g 943 29 1) ) (fun y47 g48 => ?_)
    exact fun hR => by cases hR; exact ev_rt 0 rfl
  refine sw_c ?_ ?_
  · refine ev_oi 4 (as := [.ref 943]) (pc := 408) (Lc := [some (.ref 943), some (.int u1)]) (st := []) (V := v0 L) (g1 := (am_si g 943 29 1)) (e := ez_i) rfl (dm_76 L (am_si g 943 29 1) ) (fun y49 g50 => ?_)
    exact fun hR => by cases hR; exact ev_rt 0 rfl
  refine sw_c ?_ ?_
  · refine ev_oi 4 (as := [.ref 943]) (pc := 408) (Lc := [some (.ref 943), some (.int u1)]) (st := []) (V := v0 L) (g1 := (am_si g 943 29 1)) (e := ez_i) rfl (dm_76 L (am_si g 943 29 1) ) (fun y51 g52 => ?_)
    exact fun hR => by cases hR; exact ev_rt 0 rfl
  refine sw_c ?_ ?_
  · refine ev_op 1 (as := [.int u1]) (pc := 366) (Lc := [some (.ref 943), some (.int u1)]) (st := []) (h1 := (v0 L, g)) (e := ez_i) rfl (dm_16 L g u1) (fun y53 => ?_)
    refine ev_if 0 (p := y53 = 0) (a := 373) (b := 369) (T := ([some (.ref 943), some (.int u1)], [], (v0 L, g))) rfl ?_ ?_
    · refine ev_if 2 (p := u1 = 34) (a := 385) (b := 379) (T := ([some (.ref 943), some (.int u1)], [], (v0 L, g))) rfl ?_ ?_
      · exact dj_129_385 L g u1 _
      · refine ev_in 2 (p := u1 = 39) (a := 394) (b := 385) (T := ([some (.ref 943), some (.int u1)], [], (v0 L, g))) rfl ?_ ?_
        · exact dj_129_385 L g u1 _
        · refine ev_oi 1 (as := [.ref 943]) (pc := 398) (Lc := [some (.ref 943), some (.int u1)]) (st := []) (V := v0 L) (g1 := g) (e := ez_i) rfl (dm_23 L g ) (fun y55 g56 => ?_)
          exact fun hR => by cases hR; exact ev_rt 0 rfl
    · exact fun hR => by cases hR; exact ev_rt 2 rfl
  refine sw_n ?_
  refine ev_oi 4 (as := [.ref 943]) (pc := 408) (Lc := [some (.ref 943), some (.int u1)]) (st := []) (V := v0 L) (g1 := (am_si g 943 29 1)) (e := ez_i) rfl (dm_76 L (am_si g 943 29 1) ) (fun y57 g58 => ?_)
  exact fun hR => by cases hR; exact ev_rt 0 rfl
noncomputable def fj_130_64  (g : am_G) (u1 : Int32) (t1 : Int32) : Option (Int32 × am_G) := lo_g ((decide (t1 = 0) || decide (t1 = 1))) (lo_p (fm_16 (am_si g 943 103 t1) u1) fun y2 => if y2 = 0 then if u1 = 37 then lo_i (fm_25 (am_si g 943 103 t1) 122) fun y6 g7 => some (y6, g7) else lo_i (fm_27 (am_si g 943 103 t1) u1 14 0) fun y4 g5 => some (y4, g5) else some (0, (am_si g 943 103 t1)))
theorem dj_130_64 (L : Nat)   (g : am_G) (u1 : Int32) (t1 : Int32) (R : Int32 × am_G) : fj_130_64  g u1 t1 = some R → ai_ev ap_P 130 (64, [some (.ref 943), some (.int u1)], [.int t1, .ref 943], (v0 L, g)) (.inl (ez_i R.1)) (v0 L, R.2) := by
  unfold fj_130_64
  refine ev_gd (c := (decide (t1 = 0) || decide (t1 = 1))) (fun hc1 => ?_)
  refine ev_pb 0 (d := (decide (t1 = 0) || decide (t1 = 1))) (h2 := (v0 L, (am_si g 943 103 t1))) (pc := 67) (Lc := [some (.ref 943), some (.int u1)]) (st := []) rfl hc1 ?_
  refine ev_op 1 (as := [.int u1]) (pc := 71) (Lc := [some (.ref 943), some (.int u1)]) (st := []) (h1 := (v0 L, (am_si g 943 103 t1))) (e := ez_i) rfl (dm_16 L (am_si g 943 103 t1) u1) (fun y2 => ?_)
  refine ev_if 0 (p := y2 = 0) (a := 78) (b := 74) (T := ([some (.ref 943), some (.int u1)], [], (v0 L, (am_si g 943 103 t1)))) rfl ?_ ?_
  · refine ev_in 2 (p := u1 = 37) (a := 93) (b := 84) (T := ([some (.ref 943), some (.int u1)], [], (v0 L, (am_si g 943 103 t1)))) rfl ?_ ?_
    · refine ev_oi 2 (as := [.ref 943, .int 122]) (pc := 90) (Lc := [some (.ref 943), some (.int u1)]) (st := []) (V := v0 L) (g1 := (am_si g 943 103 t1)) (e := ez_i) rfl (dm_25 L (am_si g 943 103 t1) 122) (fun y6 g7 => ?_)
      exact fun hR => by cases hR; exact ev_rt 1 rfl
    · refine ev_oi 4 (as := [.ref 943, .int u1, .int 14, .int 0]) (pc := 101) (Lc := [some (.ref 943), some (.int u1)]) (st := []) (V := v0 L) (g1 := (am_si g 943 103 t1)) (e := ez_i) rfl (dm_27 L (am_si g 943 103 t1) u1 14 0) (fun y4 g5 => ?_)
      exact fun hR => by cases hR; exact ev_rt 0 rfl
  · exact fun hR => by cases hR; exact ev_rt 2 rfl
noncomputable def fj_130_210  (g : am_G) : Option (Int32 × am_G) := lo_i (fm_25 g 70) fun y1 g2 => some (y1, g2)
theorem dj_130_210 (L : Nat)   (g : am_G) (w1 : Option Value) (R : Int32 × am_G) : fj_130_210  g = some R → ai_ev ap_P 130 (210, [some (.ref 943), w1], [], (v0 L, g)) (.inl (ez_i R.1)) (v0 L, R.2) := by
  unfold fj_130_210
  refine ev_oi 2 (as := [.ref 943, .int 70]) (pc := 216) (Lc := [some (.ref 943), none]) (st := []) (V := v0 L) (g1 := g) (e := ez_i) rfl (dm_25 L g 70) (fun y1 g2 => ?_)
  exact fun hR => by cases hR; exact ev_rt 1 rfl
/-- DeclaredMarkupModel.entityStep(I)I -/
noncomputable def fm_130 (g : am_G) (u1 : Int32) : Option (Int32 × am_G) := if (am_i g 943 26) = 120 then lo_i (fm_116 g u1 121) fun y1 g2 => some (y1, g2) else if (am_i g 943 26) = 121 then if u1 = 37 then fj_130_64 g u1 1 else fj_130_64 g u1 0 else if (am_i g 943 26) = 122 then lo_i (fm_116 g u1 123) fun y3 g4 => some (y3, g4) else if (am_i g 943 26) = 123 then lo_p (fm_16 g u1) fun y5 => if y5 = 0 then lo_i (fm_27 g u1 14 0) fun y7 g8 => some (y7, g8) else some (0, g) else if (am_i g 943 26) = 124 then lo_i (fm_116 g u1 125) fun y9 g10 => some (y9, g10) else if (am_i g 943 26) = 125 then lo_p (fm_16 g u1) fun y11 => if y11 = 0 then if u1 = 83 then lo_i (fm_34 g 664391853 6 1 7) fun y17 g18 => some (y17, g18) else if u1 = 80 then lo_i (fm_34 g 558969123 6 1 7) fun y15 g16 => some (y15, g16) else if u1 = 34 then fj_130_210 (am_si (am_si g 943 38 u1) 943 102 (am_i g 943 101)) else if u1 = 39 then fj_130_210 (am_si (am_si g 943 38 u1) 943 102 (am_i g 943 101)) else lo_i (fm_23 (am_si (am_si g 943 38 u1) 943 102 (am_i g 943 101)) ) fun y13 g14 => some (y13, g14) else some (0, g) else lo_p (fm_16 g u1) fun y19 => if y19 = 0 then if u1 = 62 then lo_i (fm_25 g 45) fun y23 g24 => some (y23, g24) else lo_i (fm_23 g ) fun y21 g22 => some (y21, g22) else some (0, g)
theorem dm_130 (L : Nat) (g : am_G) (u1 : Int32) (R : Int32 × am_G) : fm_130 g u1 = some R → ai_ev ap_P 130 (ai_e0 ap_P 130 [.ref 943, .int u1] (v0 L, g)) (.inl (ez_i R.1)) (v0 L, R.2) := by
  show _ → ai_ev ap_P 130 (0, [some (.ref 943), some (.int u1)], [], (v0 L, g)) _ _
  unfold fm_130
  refine ev_sw 2 (ps := [(120, 44), (121, 52), (122, 102), (123, 110), (124, 130), (125, 138)]) (d := 224) (x := (am_i g 943 26)) (T := ([some (.ref 943), some (.int u1)], [], (v0 L, g))) rfl ?_
  refine sw_c ?_ ?_
  · refine ev_oi 3 (as := [.ref 943, .int u1, .int 121]) (pc := 51) (Lc := [some (.ref 943), some (.int u1)]) (st := []) (V := v0 L) (g1 := g) (e := ez_i) rfl (dm_116 L g u1 121) (fun y1 g2 => ?_)
    exact fun hR => by cases hR; exact ev_rt 0 rfl
  refine sw_c ?_ ?_
  · refine ev_in 3 (p := u1 = 37) (a := 63) (b := 59) (T := ([some (.ref 943), some (.int u1)], [.ref 943], (v0 L, g))) rfl ?_ ?_
    · refine ev_jm 1 (t := (64, [some (.ref 943), some (.int u1)], [.int 1, .ref 943], (v0 L, g))) rfl ?_
      exact dj_130_64 L g u1 1 _
    · refine ev_jm 0 (t := (64, [some (.ref 943), some (.int u1)], [.int 0, .ref 943], (v0 L, g))) rfl ?_
      exact dj_130_64 L g u1 0 _
  refine sw_c ?_ ?_
  · refine ev_oi 3 (as := [.ref 943, .int u1, .int 123]) (pc := 109) (Lc := [some (.ref 943), some (.int u1)]) (st := []) (V := v0 L) (g1 := g) (e := ez_i) rfl (dm_116 L g u1 123) (fun y3 g4 => ?_)
    exact fun hR => by cases hR; exact ev_rt 0 rfl
  refine sw_c ?_ ?_
  · refine ev_op 1 (as := [.int u1]) (pc := 114) (Lc := [some (.ref 943), some (.int u1)]) (st := []) (h1 := (v0 L, g)) (e := ez_i) rfl (dm_16 L g u1) (fun y5 => ?_)
    refine ev_if 0 (p := y5 = 0) (a := 121) (b := 117) (T := ([some (.ref 943), some (.int u1)], [], (v0 L, g))) rfl ?_ ?_
    · refine ev_oi 4 (as := [.ref 943, .int u1, .int 14, .int 0]) (pc := 129) (Lc := [some (.ref 943), some (.int u1)]) (st := []) (V := v0 L) (g1 := g) (e := ez_i) rfl (dm_27 L g u1 14 0) (fun y7 g8 => ?_)
      exact fun hR => by cases hR; exact ev_rt 0 rfl
    · exact fun hR => by cases hR; exact ev_rt 2 rfl
  refine sw_c ?_ ?_
  · refine ev_oi 3 (as := [.ref 943, .int u1, .int 125]) (pc := 137) (Lc := [some (.ref 943), some (.int u1)]) (st := []) (V := v0 L) (g1 := g) (e := ez_i) rfl (dm_116 L g u1 125) (fun y9 g10 => ?_)
    exact fun hR => by cases hR; exact ev_rt 0 rfl
  refine sw_c ?_ ?_
  · refine ev_op 1 (as := [.int u1]) (pc := 142) (Lc := [some (.ref 943), some (.int u1)]) (st := []) (h1 := (v0 L, g)) (e := ez_i) rfl (dm_16 L g u1) (fun y11 => ?_)
    refine ev_if 0 (p := y11 = 0) (a := 147) (b := 145) (T := ([some (.ref 943), some (.int u1)], [], (v0 L, g))) rfl ?_ ?_
    · refine ev_in 2 (p := u1 = 83) (a := 166) (b := 153) (T := ([some (.ref 943), some (.int u1)], [], (v0 L, g))) rfl ?_ ?_
      · refine ev_oi 5 (as := [.ref 943, .long 664391853, .int 6, .int 1, .int 7]) (pc := 165) (Lc := [some (.ref 943), some (.int u1)]) (st := []) (V := v0 L) (g1 := g) (e := ez_i) rfl (dm_34 L g 664391853 6 1 7) (fun y17 g18 => ?_)
        exact fun hR => by cases hR; exact ev_rt 0 rfl
      · refine ev_in 2 (p := u1 = 80) (a := 185) (b := 172) (T := ([some (.ref 943), some (.int u1)], [], (v0 L, g))) rfl ?_ ?_
        · refine ev_oi 5 (as := [.ref 943, .long 558969123, .int 6, .int 1, .int 7]) (pc := 184) (Lc := [some (.ref 943), some (.int u1)]) (st := []) (V := v0 L) (g1 := g) (e := ez_i) rfl (dm_34 L g 558969123 6 1 7) (fun y15 g16 => ?_)
          exact fun hR => by cases hR; exact ev_rt 0 rfl
        · refine ev_if 9 (p := u1 = 34) (a := 210) (b := 204) (T := ([some (.ref 943), some (.int u1)], [], (v0 L, (am_si (am_si g 943 38 u1) 943 102 (am_i g 943 101))))) rfl ?_ ?_
          · exact dj_130_210 L (am_si (am_si g 943 38 u1) 943 102 (am_i g 943 101)) (some (.int u1)) _
          · refine ev_in 2 (p := u1 = 39) (a := 219) (b := 210) (T := ([some (.ref 943), some (.int u1)], [], (v0 L, (am_si (am_si g 943 38 u1) 943 102 (am_i g 943 101))))) rfl ?_ ?_
            · exact dj_130_210 L (am_si (am_si g 943 38 u1) 943 102 (am_i g 943 101)) (some (.int u1)) _
            · refine ev_oi 1 (as := [.ref 943]) (pc := 223) (Lc := [some (.ref 943), some (.int u1)]) (st := []) (V := v0 L) (g1 := (am_si (am_si g 943 38 u1) 943 102 (am_i g 943 101))) (e := ez_i) rfl (dm_23 L (am_si (am_si g 943 38 u1) 943 102 (am_i g 943 101)) ) (fun y13 g14 => ?_)
              exact fun hR => by cases hR; exact ev_rt 0 rfl
    · exact fun hR => by cases hR; exact ev_rt 1 rfl
  refine sw_n ?_
  refine ev_op 1 (as := [.int u1]) (pc := 228) (Lc := [some (.ref 943), some (.int u1)]) (st := []) (h1 := (v0 L, g)) (e := ez_i) rfl (dm_16 L g u1) (fun y19 => ?_)
  refine ev_if 0 (p := y19 = 0) (a := 235) (b := 231) (T := ([some (.ref 943), some (.int u1)], [], (v0 L, g))) rfl ?_ ?_
  · refine ev_in 2 (p := u1 = 62) (a := 250) (b := 241) (T := ([some (.ref 943), some (.int u1)], [], (v0 L, g))) rfl ?_ ?_
    · refine ev_oi 2 (as := [.ref 943, .int 45]) (pc := 247) (Lc := [some (.ref 943), some (.int u1)]) (st := []) (V := v0 L) (g1 := g) (e := ez_i) rfl (dm_25 L g 45) (fun y23 g24 => ?_)
      exact fun hR => by cases hR; exact ev_rt 1 rfl
    · refine ev_oi 1 (as := [.ref 943]) (pc := 254) (Lc := [some (.ref 943), some (.int u1)]) (st := []) (V := v0 L) (g1 := g) (e := ez_i) rfl (dm_23 L g ) (fun y21 g22 => ?_)
      exact fun hR => by cases hR; exact ev_rt 0 rfl
  · exact fun hR => by cases hR; exact ev_rt 2 rfl
noncomputable def fj_110_86 (g : am_G)  (u0 : Int32) : Option (Int32) := if u0 = 58 then some 1 else if u0 = 61 then some 1 else if u0 = 63 then some 1 else if u0 = 59 then some 1 else if u0 = 33 then some 1 else if u0 = 42 then some 1 else if u0 = 35 then some 1 else if u0 = 64 then some 1 else if u0 = 36 then some 1 else if u0 = 95 then some 1 else if u0 = 37 then some 1 else some 0
theorem dj_110_86 (L : Nat) (g : am_G)   (u0 : Int32) (R : Int32) : fj_110_86 g  u0 = some R → ai_ev ap_P 110 (86, [some (.int u0)], [], (v0 L, g)) (.inl (ez_i R)) (v0 L, g) := by
  unfold fj_110_86
  refine ev_if 2 (p := u0 = 58) (a := 152) (b := 92) (T := ([some (.int u0)], [], (v0 L, g))) rfl ?_ ?_
  · exact fun hR => by cases hR; exact ev_rt 2 rfl
  · refine ev_if 2 (p := u0 = 61) (a := 152) (b := 98) (T := ([some (.int u0)], [], (v0 L, g))) rfl ?_ ?_
    · exact fun hR => by cases hR; exact ev_rt 2 rfl
    · refine ev_if 2 (p := u0 = 63) (a := 152) (b := 104) (T := ([some (.int u0)], [], (v0 L, g))) rfl ?_ ?_
      · exact fun hR => by cases hR; exact ev_rt 2 rfl
      · refine ev_if 2 (p := u0 = 59) (a := 152) (b := 110) (T := ([some (.int u0)], [], (v0 L, g))) rfl ?_ ?_
        · exact fun hR => by cases hR; exact ev_rt 2 rfl
        · refine ev_if 2 (p := u0 = 33) (a := 152) (b := 116) (T := ([some (.int u0)], [], (v0 L, g))) rfl ?_ ?_
          · exact fun hR => by cases hR; exact ev_rt 2 rfl
          · refine ev_if 2 (p := u0 = 42) (a := 152) (b := 122) (T := ([some (.int u0)], [], (v0 L, g))) rfl ?_ ?_
            · exact fun hR => by cases hR; exact ev_rt 2 rfl
            · refine ev_if 2 (p := u0 = 35) (a := 152) (b := 128) (T := ([some (.int u0)], [], (v0 L, g))) rfl ?_ ?_
              · exact fun hR => by cases hR; exact ev_rt 2 rfl
              · refine ev_if 2 (p := u0 = 64) (a := 152) (b := 134) (T := ([some (.int u0)], [], (v0 L, g))) rfl ?_ ?_
                · exact fun hR => by cases hR; exact ev_rt 2 rfl
                · refine ev_if 2 (p := u0 = 36) (a := 152) (b := 140) (T := ([some (.int u0)], [], (v0 L, g))) rfl ?_ ?_
                  · exact fun hR => by cases hR; exact ev_rt 2 rfl
                  · refine ev_if 2 (p := u0 = 95) (a := 152) (b := 146) (T := ([some (.int u0)], [], (v0 L, g))) rfl ?_ ?_
                    · exact fun hR => by cases hR; exact ev_rt 2 rfl
                    · refine ev_in 2 (p := u0 = 37) (a := 156) (b := 152) (T := ([some (.int u0)], [], (v0 L, g))) rfl ?_ ?_
                      · exact fun hR => by cases hR; exact ev_rt 2 rfl
                      · exact fun hR => by cases hR; exact ev_rt 1 rfl
noncomputable def fj_110_56 (g : am_G)  (u0 : Int32) : Option (Int32) := if u0 = 45 then some 1 else if u0 = 39 then some 1 else if u0 < 40 then fj_110_86 g u0 else if (47 : Int32) < u0 then fj_110_86 g u0 else if u0 = 42 then fj_110_86 g u0 else some 1
theorem dj_110_56 (L : Nat) (g : am_G)   (u0 : Int32) (R : Int32) : fj_110_56 g  u0 = some R → ai_ev ap_P 110 (56, [some (.int u0)], [], (v0 L, g)) (.inl (ez_i R)) (v0 L, g) := by
  unfold fj_110_56
  refine ev_if 2 (p := u0 = 45) (a := 152) (b := 62) (T := ([some (.int u0)], [], (v0 L, g))) rfl ?_ ?_
  · exact fun hR => by cases hR; exact ev_rt 2 rfl
  · refine ev_if 2 (p := u0 = 39) (a := 152) (b := 68) (T := ([some (.int u0)], [], (v0 L, g))) rfl ?_ ?_
    · exact fun hR => by cases hR; exact ev_rt 2 rfl
    · refine ev_if 2 (p := u0 < 40) (a := 86) (b := 74) (T := ([some (.int u0)], [], (v0 L, g))) rfl ?_ ?_
      · exact dj_110_86 L g u0 _
      · refine ev_if 2 (p := (47 : Int32) < u0) (a := 86) (b := 80) (T := ([some (.int u0)], [], (v0 L, g))) rfl ?_ ?_
        · exact dj_110_86 L g u0 _
        · refine ev_in 2 (p := u0 = 42) (a := 152) (b := 86) (T := ([some (.int u0)], [], (v0 L, g))) rfl ?_ ?_
          · exact dj_110_86 L g u0 _
          · exact fun hR => by cases hR; exact ev_rt 2 rfl
noncomputable def fj_110_42 (g : am_G)  (u0 : Int32) : Option (Int32) := if u0 < 97 then fj_110_56 g u0 else if (122 : Int32) < u0 then fj_110_56 g u0 else some 1
theorem dj_110_42 (L : Nat) (g : am_G)   (u0 : Int32) (R : Int32) : fj_110_42 g  u0 = some R → ai_ev ap_P 110 (42, [some (.int u0)], [], (v0 L, g)) (.inl (ez_i R)) (v0 L, g) := by
  unfold fj_110_42
  refine ev_if 2 (p := u0 < 97) (a := 56) (b := 48) (T := ([some (.int u0)], [], (v0 L, g))) rfl ?_ ?_
  · exact dj_110_56 L g u0 _
  · refine ev_if 2 (p := (122 : Int32) < u0) (a := 56) (b := 54) (T := ([some (.int u0)], [], (v0 L, g))) rfl ?_ ?_
    · exact dj_110_56 L g u0 _
    · exact fun hR => by cases hR; exact ev_rt 1 rfl
noncomputable def fj_110_30 (g : am_G)  (u0 : Int32) : Option (Int32) := if u0 < 65 then fj_110_42 g u0 else if u0 ≤ 90 then some 1 else fj_110_42 g u0
theorem dj_110_30 (L : Nat) (g : am_G)   (u0 : Int32) (R : Int32) : fj_110_30 g  u0 = some R → ai_ev ap_P 110 (30, [some (.int u0)], [], (v0 L, g)) (.inl (ez_i R)) (v0 L, g) := by
  unfold fj_110_30
  refine ev_if 2 (p := u0 < 65) (a := 42) (b := 36) (T := ([some (.int u0)], [], (v0 L, g))) rfl ?_ ?_
  · exact dj_110_42 L g u0 _
  · refine ev_if 2 (p := u0 ≤ 90) (a := 54) (b := 42) (T := ([some (.int u0)], [], (v0 L, g))) rfl ?_ ?_
    · exact fun hR => by cases hR; exact ev_rt 1 rfl
    · exact dj_110_42 L g u0 _
/-- DeclaredMarkupModel.isPubid(I)Z -/
noncomputable def fm_110 (g : am_G) (u0 : Int32) : Option (Int32) := if u0 = 32 then some 1 else if u0 = 10 then some 1 else if u0 = 13 then some 1 else if u0 < 48 then fj_110_30 g u0 else if u0 ≤ 57 then some 1 else fj_110_30 g u0
theorem dm_110 (L : Nat) (g : am_G) (u0 : Int32) (R : Int32) : fm_110 g u0 = some R → ai_ev ap_P 110 (ai_e0 ap_P 110 [.int u0] (v0 L, g)) (.inl (ez_i R)) (v0 L, g) := by
  show _ → ai_ev ap_P 110 (0, [some (.int u0)], [], (v0 L, g)) _ _
  unfold fm_110
  refine ev_if 2 (p := u0 = 32) (a := 54) (b := 6) (T := ([some (.int u0)], [], (v0 L, g))) rfl ?_ ?_
  · exact fun hR => by cases hR; exact ev_rt 1 rfl
  · refine ev_if 2 (p := u0 = 10) (a := 54) (b := 12) (T := ([some (.int u0)], [], (v0 L, g))) rfl ?_ ?_
    · exact fun hR => by cases hR; exact ev_rt 1 rfl
    · refine ev_if 2 (p := u0 = 13) (a := 54) (b := 18) (T := ([some (.int u0)], [], (v0 L, g))) rfl ?_ ?_
      · exact fun hR => by cases hR; exact ev_rt 1 rfl
      · refine ev_if 2 (p := u0 < 48) (a := 30) (b := 24) (T := ([some (.int u0)], [], (v0 L, g))) rfl ?_ ?_
        · exact dj_110_30 L g u0 _
        · refine ev_if 2 (p := u0 ≤ 57) (a := 54) (b := 30) (T := ([some (.int u0)], [], (v0 L, g))) rfl ?_ ?_
          · exact fun hR => by cases hR; exact ev_rt 1 rfl
          · exact dj_110_30 L g u0 _
/-- DeclaredMarkupModel.notationStep(I)I -/
noncomputable def fm_131 (g : am_G) (u1 : Int32) : Option (Int32 × am_G) := if (am_i g 943 26) = 130 then lo_i (fm_116 g u1 131) fun y1 g2 => some (y1, g2) else if (am_i g 943 26) = 131 then lo_p (fm_16 g u1) fun y3 => if y3 = 0 then lo_i (fm_27 g u1 15 0) fun y5 g6 => some (y5, g6) else some (0, g) else if (am_i g 943 26) = 132 then lo_i (fm_116 g u1 133) fun y7 g8 => some (y7, g8) else if (am_i g 943 26) = 133 then if u1 = 83 then lo_i (fm_34 g 664391853 6 1 134) fun y15 g16 => some (y15, g16) else if u1 = 80 then lo_i (fm_34 g 558969123 6 1 137) fun y13 g14 => some (y13, g14) else lo_p (fm_16 g u1) fun y9 => if y9 = 0 then lo_i (fm_23 g ) fun y11 g12 => some (y11, g12) else some (0, g) else if (am_i g 943 26) = 134 then lo_i (fm_116 g u1 135) fun y17 g18 => some (y17, g18) else if (am_i g 943 26) = 135 then lo_i (fm_118 g u1 136) fun y19 g20 => some (y19, g20) else if (am_i g 943 26) = 136 then if u1 = (am_i g 943 38) then lo_i (fm_25 g 142) fun y21 g22 => some (y21, g22) else some (0, g) else if (am_i g 943 26) = 137 then lo_i (fm_116 g u1 138) fun y23 g24 => some (y23, g24) else if (am_i g 943 26) = 138 then lo_i (fm_118 g u1 139) fun y25 g26 => some (y25, g26) else if (am_i g 943 26) = 139 then if u1 = (am_i g 943 38) then lo_i (fm_25 g 141) fun y31 g32 => some (y31, g32) else lo_p (fm_110 g u1) fun y27 => if y27 = 0 then lo_i (fm_23 g ) fun y29 g30 => some (y29, g30) else some (0, g) else if (am_i g 943 26) = 140 then lo_p (fm_16 g u1) fun y33 => if y33 = 0 then if u1 = 62 then lo_i (fm_25 g 45) fun y37 g38 => some (y37, g38) else lo_i (fm_26 g 135) fun y35 g36 => some (y35, g36) else some (0, g) else if (am_i g 943 26) = 141 then lo_p (fm_16 g u1) fun y39 => if y39 = 0 then if u1 = 62 then lo_i (fm_25 g 45) fun y43 g44 => some (y43, g44) else lo_i (fm_23 g ) fun y41 g42 => some (y41, g42) else lo_i (fm_25 g 143) fun y45 g46 => some (y45, g46) else if (am_i g 943 26) = 142 then lo_p (fm_16 g u1) fun y47 => if y47 = 0 then if u1 = 62 then lo_i (fm_25 g 45) fun y51 g52 => some (y51, g52) else lo_i (fm_23 g ) fun y49 g50 => some (y49, g50) else some (0, g) else lo_p (fm_16 g u1) fun y53 => if y53 = 0 then if u1 = 62 then lo_i (fm_25 g 45) fun y57 g58 => some (y57, g58) else lo_i (fm_26 g 135) fun y55 g56 => some (y55, g56) else some (0, g)
set_option maxRecDepth 20000 in
theorem dm_131 (L : Nat) (g : am_G) (u1 : Int32) (R : Int32 × am_G) : fm_131 g u1 = some R → ai_ev ap_P 131 (ai_e0 ap_P 131 [.ref 943, .int u1] (v0 L, g)) (.inl (ez_i R.1)) (v0 L, R.2) := by
  show _ → ai_ev ap_P 131 (0, [some (.ref 943), some (.int u1)], [], (v0 L, g)) _ _
  unfold fm_131
  refine ev_sw 2 (ps := [(130, 72), (131, 81), (132, 101), (133, 110), (134, 170), (135, 179), (136, 188), (137, 208), (138, 217), (139, 226), (140, 328), (141, 260), (142, 297)]) (d := 328) (x := (am_i g 943 26)) (T := ([some (.ref 943), some (.int u1)], [], (v0 L, g))) rfl ?_
  refine sw_c ?_ ?_
  · refine ev_oi 3 (as := [.ref 943, .int u1, .int 131]) (pc := 80) (Lc := [some (.ref 943), some (.int u1)]) (st := []) (V := v0 L) (g1 := g) (e := ez_i) rfl (dm_116 L g u1 131) (fun y1 g2 => ?_)
    exact fun hR => by cases hR; exact ev_rt 0 rfl
  refine sw_c ?_ ?_
  · refine ev_op 1 (as := [.int u1]) (pc := 85) (Lc := [some (.ref 943), some (.int u1)]) (st := []) (h1 := (v0 L, g)) (e := ez_i) rfl (dm_16 L g u1) (fun y3 => ?_)
    refine ev_if 0 (p := y3 = 0) (a := 92) (b := 88) (T := ([some (.ref 943), some (.int u1)], [], (v0 L, g))) rfl ?_ ?_
    · refine ev_oi 4 (as := [.ref 943, .int u1, .int 15, .int 0]) (pc := 100) (Lc := [some (.ref 943), some (.int u1)]) (st := []) (V := v0 L) (g1 := g) (e := ez_i) rfl (dm_27 L g u1 15 0) (fun y5 g6 => ?_)
      exact fun hR => by cases hR; exact ev_rt 0 rfl
    · exact fun hR => by cases hR; exact ev_rt 2 rfl
  refine sw_c ?_ ?_
  · refine ev_oi 3 (as := [.ref 943, .int u1, .int 133]) (pc := 109) (Lc := [some (.ref 943), some (.int u1)]) (st := []) (V := v0 L) (g1 := g) (e := ez_i) rfl (dm_116 L g u1 133) (fun y7 g8 => ?_)
    exact fun hR => by cases hR; exact ev_rt 0 rfl
  refine sw_c ?_ ?_
  · refine ev_in 2 (p := u1 = 83) (a := 132) (b := 116) (T := ([some (.ref 943), some (.int u1)], [], (v0 L, g))) rfl ?_ ?_
    · refine ev_oi 5 (as := [.ref 943, .long 664391853, .int 6, .int 1, .int 134]) (pc := 129) (Lc := [some (.ref 943), some (.int u1)]) (st := []) (V := v0 L) (g1 := g) (e := ez_i) rfl (dm_34 L g 664391853 6 1 134) (fun y15 g16 => ?_)
      exact fun hR => by cases hR; exact ev_rt 1 rfl
    · refine ev_in 2 (p := u1 = 80) (a := 154) (b := 138) (T := ([some (.ref 943), some (.int u1)], [], (v0 L, g))) rfl ?_ ?_
      · refine ev_oi 5 (as := [.ref 943, .long 558969123, .int 6, .int 1, .int 137]) (pc := 151) (Lc := [some (.ref 943), some (.int u1)]) (st := []) (V := v0 L) (g1 := g) (e := ez_i) rfl (dm_34 L g 558969123 6 1 137) (fun y13 g14 => ?_)
        exact fun hR => by cases hR; exact ev_rt 1 rfl
      · refine ev_op 1 (as := [.int u1]) (pc := 158) (Lc := [some (.ref 943), some (.int u1)]) (st := []) (h1 := (v0 L, g)) (e := ez_i) rfl (dm_16 L g u1) (fun y9 => ?_)
        refine ev_if 0 (p := y9 = 0) (a := 165) (b := 161) (T := ([some (.ref 943), some (.int u1)], [], (v0 L, g))) rfl ?_ ?_
        · refine ev_oi 1 (as := [.ref 943]) (pc := 169) (Lc := [some (.ref 943), some (.int u1)]) (st := []) (V := v0 L) (g1 := g) (e := ez_i) rfl (dm_23 L g ) (fun y11 g12 => ?_)
          exact fun hR => by cases hR; exact ev_rt 0 rfl
        · exact fun hR => by cases hR; exact ev_rt 2 rfl
  refine sw_c ?_ ?_
  · refine ev_oi 3 (as := [.ref 943, .int u1, .int 135]) (pc := 178) (Lc := [some (.ref 943), some (.int u1)]) (st := []) (V := v0 L) (g1 := g) (e := ez_i) rfl (dm_116 L g u1 135) (fun y17 g18 => ?_)
    exact fun hR => by cases hR; exact ev_rt 0 rfl
  refine sw_c ?_ ?_
  · refine ev_oi 3 (as := [.ref 943, .int u1, .int 136]) (pc := 187) (Lc := [some (.ref 943), some (.int u1)]) (st := []) (V := v0 L) (g1 := g) (e := ez_i) rfl (dm_118 L g u1 136) (fun y19 g20 => ?_)
    exact fun hR => by cases hR; exact ev_rt 0 rfl
  refine sw_c ?_ ?_
  · refine ev_in 3 (p := u1 = (am_i g 943 38)) (a := 206) (b := 196) (T := ([some (.ref 943), some (.int u1)], [], (v0 L, g))) rfl ?_ ?_
    · refine ev_oi 2 (as := [.ref 943, .int 142]) (pc := 203) (Lc := [some (.ref 943), some (.int u1)]) (st := []) (V := v0 L) (g1 := g) (e := ez_i) rfl (dm_25 L g 142) (fun y21 g22 => ?_)
      exact fun hR => by cases hR; exact ev_rt 1 rfl
    · exact fun hR => by cases hR; exact ev_rt 1 rfl
  refine sw_c ?_ ?_
  · refine ev_oi 3 (as := [.ref 943, .int u1, .int 138]) (pc := 216) (Lc := [some (.ref 943), some (.int u1)]) (st := []) (V := v0 L) (g1 := g) (e := ez_i) rfl (dm_116 L g u1 138) (fun y23 g24 => ?_)
    exact fun hR => by cases hR; exact ev_rt 0 rfl
  refine sw_c ?_ ?_
  · refine ev_oi 3 (as := [.ref 943, .int u1, .int 139]) (pc := 225) (Lc := [some (.ref 943), some (.int u1)]) (st := []) (V := v0 L) (g1 := g) (e := ez_i) rfl (dm_118 L g u1 139) (fun y25 g26 => ?_)
    exact fun hR => by cases hR; exact ev_rt 0 rfl
  refine sw_c ?_ ?_
  · refine ev_in 3 (p := u1 = (am_i g 943 38)) (a := 244) (b := 234) (T := ([some (.ref 943), some (.int u1)], [], (v0 L, g))) rfl ?_ ?_
    · refine ev_oi 2 (as := [.ref 943, .int 141]) (pc := 241) (Lc := [some (.ref 943), some (.int u1)]) (st := []) (V := v0 L) (g1 := g) (e := ez_i) rfl (dm_25 L g 141) (fun y31 g32 => ?_)
      exact fun hR => by cases hR; exact ev_rt 1 rfl
    · refine ev_op 1 (as := [.int u1]) (pc := 248) (Lc := [some (.ref 943), some (.int u1)]) (st := []) (h1 := (v0 L, g)) (e := ez_i) rfl (dm_110 L g u1) (fun y27 => ?_)
      refine ev_if 0 (p := y27 = 0) (a := 255) (b := 251) (T := ([some (.ref 943), some (.int u1)], [], (v0 L, g))) rfl ?_ ?_
      · refine ev_oi 1 (as := [.ref 943]) (pc := 259) (Lc := [some (.ref 943), some (.int u1)]) (st := []) (V := v0 L) (g1 := g) (e := ez_i) rfl (dm_23 L g ) (fun y29 g30 => ?_)
        exact fun hR => by cases hR; exact ev_rt 0 rfl
      · exact fun hR => by cases hR; exact ev_rt 2 rfl
  refine sw_c ?_ ?_
  · refine ev_op 1 (as := [.int u1]) (pc := 332) (Lc := [some (.ref 943), some (.int u1)]) (st := []) (h1 := (v0 L, g)) (e := ez_i) rfl (dm_16 L g u1) (fun y33 => ?_)
    refine ev_if 0 (p := y33 = 0) (a := 339) (b := 335) (T := ([some (.ref 943), some (.int u1)], [], (v0 L, g))) rfl ?_ ?_
    · refine ev_in 2 (p := u1 = 62) (a := 354) (b := 345) (T := ([some (.ref 943), some (.int u1)], [], (v0 L, g))) rfl ?_ ?_
      · refine ev_oi 2 (as := [.ref 943, .int 45]) (pc := 351) (Lc := [some (.ref 943), some (.int u1)]) (st := []) (V := v0 L) (g1 := g) (e := ez_i) rfl (dm_25 L g 45) (fun y37 g38 => ?_)
        exact fun hR => by cases hR; exact ev_rt 1 rfl
      · refine ev_oi 2 (as := [.ref 943, .int 135]) (pc := 361) (Lc := [some (.ref 943), some (.int u1)]) (st := []) (V := v0 L) (g1 := g) (e := ez_i) rfl (dm_26 L g 135) (fun y35 g36 => ?_)
        exact fun hR => by cases hR; exact ev_rt 0 rfl
    · exact fun hR => by cases hR; exact ev_rt 2 rfl
  refine sw_c ?_ ?_
  · refine ev_op 1 (as := [.int u1]) (pc := 264) (Lc := [some (.ref 943), some (.int u1)]) (st := []) (h1 := (v0 L, g)) (e := ez_i) rfl (dm_16 L g u1) (fun y39 => ?_)
    refine ev_if 0 (p := y39 = 0) (a := 277) (b := 267) (T := ([some (.ref 943), some (.int u1)], [], (v0 L, g))) rfl ?_ ?_
    · refine ev_in 2 (p := u1 = 62) (a := 292) (b := 283) (T := ([some (.ref 943), some (.int u1)], [], (v0 L, g))) rfl ?_ ?_
      · refine ev_oi 2 (as := [.ref 943, .int 45]) (pc := 289) (Lc := [some (.ref 943), some (.int u1)]) (st := []) (V := v0 L) (g1 := g) (e := ez_i) rfl (dm_25 L g 45) (fun y43 g44 => ?_)
        exact fun hR => by cases hR; exact ev_rt 1 rfl
      · refine ev_oi 1 (as := [.ref 943]) (pc := 296) (Lc := [some (.ref 943), some (.int u1)]) (st := []) (V := v0 L) (g1 := g) (e := ez_i) rfl (dm_23 L g ) (fun y41 g42 => ?_)
        exact fun hR => by cases hR; exact ev_rt 0 rfl
    · refine ev_oi 2 (as := [.ref 943, .int 143]) (pc := 274) (Lc := [some (.ref 943), some (.int u1)]) (st := []) (V := v0 L) (g1 := g) (e := ez_i) rfl (dm_25 L g 143) (fun y45 g46 => ?_)
      exact fun hR => by cases hR; exact ev_rt 1 rfl
  refine sw_c ?_ ?_
  · refine ev_op 1 (as := [.int u1]) (pc := 301) (Lc := [some (.ref 943), some (.int u1)]) (st := []) (h1 := (v0 L, g)) (e := ez_i) rfl (dm_16 L g u1) (fun y47 => ?_)
    refine ev_if 0 (p := y47 = 0) (a := 308) (b := 304) (T := ([some (.ref 943), some (.int u1)], [], (v0 L, g))) rfl ?_ ?_
    · refine ev_in 2 (p := u1 = 62) (a := 323) (b := 314) (T := ([some (.ref 943), some (.int u1)], [], (v0 L, g))) rfl ?_ ?_
      · refine ev_oi 2 (as := [.ref 943, .int 45]) (pc := 320) (Lc := [some (.ref 943), some (.int u1)]) (st := []) (V := v0 L) (g1 := g) (e := ez_i) rfl (dm_25 L g 45) (fun y51 g52 => ?_)
        exact fun hR => by cases hR; exact ev_rt 1 rfl
      · refine ev_oi 1 (as := [.ref 943]) (pc := 327) (Lc := [some (.ref 943), some (.int u1)]) (st := []) (V := v0 L) (g1 := g) (e := ez_i) rfl (dm_23 L g ) (fun y49 g50 => ?_)
        exact fun hR => by cases hR; exact ev_rt 0 rfl
    · exact fun hR => by cases hR; exact ev_rt 2 rfl
  refine sw_n ?_
  refine ev_op 1 (as := [.int u1]) (pc := 332) (Lc := [some (.ref 943), some (.int u1)]) (st := []) (h1 := (v0 L, g)) (e := ez_i) rfl (dm_16 L g u1) (fun y53 => ?_)
  refine ev_if 0 (p := y53 = 0) (a := 339) (b := 335) (T := ([some (.ref 943), some (.int u1)], [], (v0 L, g))) rfl ?_ ?_
  · refine ev_in 2 (p := u1 = 62) (a := 354) (b := 345) (T := ([some (.ref 943), some (.int u1)], [], (v0 L, g))) rfl ?_ ?_
    · refine ev_oi 2 (as := [.ref 943, .int 45]) (pc := 351) (Lc := [some (.ref 943), some (.int u1)]) (st := []) (V := v0 L) (g1 := g) (e := ez_i) rfl (dm_25 L g 45) (fun y57 g58 => ?_)
      exact fun hR => by cases hR; exact ev_rt 1 rfl
    · refine ev_oi 2 (as := [.ref 943, .int 135]) (pc := 361) (Lc := [some (.ref 943), some (.int u1)]) (st := []) (V := v0 L) (g1 := g) (e := ez_i) rfl (dm_26 L g 135) (fun y55 g56 => ?_)
      exact fun hR => by cases hR; exact ev_rt 0 rfl
  · exact fun hR => by cases hR; exact ev_rt 2 rfl
/-- DeclaredMarkupModel.sectionStep(I)I -/
noncomputable def fm_132 (g : am_G) (u1 : Int32) : Option (Int32 × am_G) := if (am_i g 943 26) = 150 then lo_i (fm_34 g 3278465 5 1 151) fun y1 g2 => some (y1, g2) else if (am_i g 943 26) = 151 then if u1 = 91 then lo_p (fm_46 g ) fun g4 => lo_i (fm_25 g4 152) fun y5 g6 => some (y5, g6) else lo_i (fm_23 g ) fun y7 g8 => some (y7, g8) else if (am_i g 943 26) = 152 then if u1 = 93 then lo_i (fm_25 g 153) fun y11 g12 => some (y11, g12) else lo_p (fm_40 g u1) fun g10 => some (0, g10) else if (am_i g 943 26) = 153 then if u1 = 93 then lo_i (fm_25 g 154) fun y17 g18 => some (y17, g18) else lo_p (fm_40 g 93) fun g14 => lo_i (fm_26 g14 152) fun y15 g16 => some (y15, g16) else if u1 = 62 then lo_i (fm_44 g ) fun y25 g26 => some (y25, g26) else lo_p (fm_40 g 93) fun g20 => if u1 = 93 then some (0, g20) else lo_p (fm_40 g20 93) fun g22 => lo_i (fm_26 g22 152) fun y23 g24 => some (y23, g24)
theorem dm_132 (L : Nat) (g : am_G) (u1 : Int32) (R : Int32 × am_G) : fm_132 g u1 = some R → ai_ev ap_P 132 (ai_e0 ap_P 132 [.ref 943, .int u1] (v0 L, g)) (.inl (ez_i R.1)) (v0 L, R.2) := by
  show _ → ai_ev ap_P 132 (0, [some (.ref 943), some (.int u1)], [], (v0 L, g)) _ _
  unfold fm_132
  refine ev_sw 2 (ps := [(150, 36), (151, 49), (152, 72), (153, 93)]) (d := 121) (x := (am_i g 943 26)) (T := ([some (.ref 943), some (.int u1)], [], (v0 L, g))) rfl ?_
  refine sw_c ?_ ?_
  · refine ev_oi 5 (as := [.ref 943, .long 3278465, .int 5, .int 1, .int 151]) (pc := 48) (Lc := [some (.ref 943), some (.int u1)]) (st := []) (V := v0 L) (g1 := g) (e := ez_i) rfl (dm_34 L g 3278465 5 1 151) (fun y1 g2 => ?_)
    exact fun hR => by cases hR; exact ev_rt 0 rfl
  refine sw_c ?_ ?_
  · refine ev_if 2 (p := u1 = 91) (a := 60) (b := 55) (T := ([some (.ref 943), some (.int u1)], [], (v0 L, g))) rfl ?_ ?_
    · refine ev_ov0 1 (as := [.ref 943]) (pc := 64) (Lc := [some (.ref 943), some (.int u1)]) (st := []) (V := v0 L) (g1 := g) rfl (dm_46 L g ) (fun g4 => ?_)
      refine ev_oi 2 (as := [.ref 943, .int 152]) (pc := 71) (Lc := [some (.ref 943), some (.int u1)]) (st := []) (V := v0 L) (g1 := g4) (e := ez_i) rfl (dm_25 L g4 152) (fun y5 g6 => ?_)
      exact fun hR => by cases hR; exact ev_rt 0 rfl
    · refine ev_oi 1 (as := [.ref 943]) (pc := 59) (Lc := [some (.ref 943), some (.int u1)]) (st := []) (V := v0 L) (g1 := g) (e := ez_i) rfl (dm_23 L g ) (fun y7 g8 => ?_)
      exact fun hR => by cases hR; exact ev_rt 0 rfl
  refine sw_c ?_ ?_
  · refine ev_in 2 (p := u1 = 93) (a := 86) (b := 78) (T := ([some (.ref 943), some (.int u1)], [], (v0 L, g))) rfl ?_ ?_
    · refine ev_oi 2 (as := [.ref 943, .int 153]) (pc := 85) (Lc := [some (.ref 943), some (.int u1)]) (st := []) (V := v0 L) (g1 := g) (e := ez_i) rfl (dm_25 L g 153) (fun y11 g12 => ?_)
      exact fun hR => by cases hR; exact ev_rt 0 rfl
    · refine ev_ov0 2 (as := [.ref 943, .int u1]) (pc := 91) (Lc := [some (.ref 943), some (.int u1)]) (st := []) (V := v0 L) (g1 := g) rfl (dm_40 L g u1) (fun g10 => ?_)
      exact fun hR => by cases hR; exact ev_rt 1 rfl
  refine sw_c ?_ ?_
  · refine ev_in 2 (p := u1 = 93) (a := 107) (b := 99) (T := ([some (.ref 943), some (.int u1)], [], (v0 L, g))) rfl ?_ ?_
    · refine ev_oi 2 (as := [.ref 943, .int 154]) (pc := 106) (Lc := [some (.ref 943), some (.int u1)]) (st := []) (V := v0 L) (g1 := g) (e := ez_i) rfl (dm_25 L g 154) (fun y17 g18 => ?_)
      exact fun hR => by cases hR; exact ev_rt 0 rfl
    · refine ev_ov0 2 (as := [.ref 943, .int 93]) (pc := 113) (Lc := [some (.ref 943), some (.int u1)]) (st := []) (V := v0 L) (g1 := g) rfl (dm_40 L g 93) (fun g14 => ?_)
      refine ev_oi 2 (as := [.ref 943, .int 152]) (pc := 120) (Lc := [some (.ref 943), some (.int u1)]) (st := []) (V := v0 L) (g1 := g14) (e := ez_i) rfl (dm_26 L g14 152) (fun y15 g16 => ?_)
      exact fun hR => by cases hR; exact ev_rt 0 rfl
  refine sw_n ?_
  refine ev_in 2 (p := u1 = 62) (a := 132) (b := 127) (T := ([some (.ref 943), some (.int u1)], [], (v0 L, g))) rfl ?_ ?_
  · refine ev_oi 1 (as := [.ref 943]) (pc := 131) (Lc := [some (.ref 943), some (.int u1)]) (st := []) (V := v0 L) (g1 := g) (e := ez_i) rfl (dm_44 L g ) (fun y25 g26 => ?_)
    exact fun hR => by cases hR; exact ev_rt 0 rfl
  · refine ev_ov0 2 (as := [.ref 943, .int 93]) (pc := 138) (Lc := [some (.ref 943), some (.int u1)]) (st := []) (V := v0 L) (g1 := g) rfl (dm_40 L g 93) (fun g20 => ?_)
    refine ev_in 2 (p := u1 = 93) (a := 146) (b := 144) (T := ([some (.ref 943), some (.int u1)], [], (v0 L, g20))) rfl ?_ ?_
    · exact fun hR => by cases hR; exact ev_rt 1 rfl
    · refine ev_ov0 2 (as := [.ref 943, .int 93]) (pc := 152) (Lc := [some (.ref 943), some (.int u1)]) (st := []) (V := v0 L) (g1 := g20) rfl (dm_40 L g20 93) (fun g22 => ?_)
      refine ev_oi 2 (as := [.ref 943, .int 152]) (pc := 159) (Lc := [some (.ref 943), some (.int u1)]) (st := []) (V := v0 L) (g1 := g22) (e := ez_i) rfl (dm_26 L g22 152) (fun y23 g24 => ?_)
      exact fun hR => by cases hR; exact ev_rt 0 rfl
noncomputable def fj_133_121  (g : am_G) (u1 : Int32) : Option (Int32 × am_G) := lo_i (fm_120 g u1) fun y1 g2 => some (y1, g2)
set_option maxRecDepth 20000 in
theorem dj_133_121 (L : Nat)   (g : am_G) (u1 : Int32) (R : Int32 × am_G) : fj_133_121  g u1 = some R → ai_ev ap_P 133 (121, [some (.ref 943), some (.int u1)], [], (v0 L, g)) (.inl (ez_i R.1)) (v0 L, R.2) := by
  unfold fj_133_121
  refine ev_oi 2 (as := [.ref 943, .int u1]) (pc := 126) (Lc := [some (.ref 943), some (.int u1)]) (st := []) (V := v0 L) (g1 := g) (e := ez_i) rfl (dm_120 L g u1) (fun y1 g2 => ?_)
  exact fun hR => by cases hR; exact ev_rt 0 rfl
noncomputable def fj_133_220  (g : am_G) (u1 : Int32) : Option (Int32 × am_G) := lo_i (fm_125 g u1) fun y1 g2 => some (y1, g2)
set_option maxRecDepth 20000 in
theorem dj_133_220 (L : Nat)   (g : am_G) (u1 : Int32) (R : Int32 × am_G) : fj_133_220  g u1 = some R → ai_ev ap_P 133 (220, [some (.ref 943), some (.int u1)], [], (v0 L, g)) (.inl (ez_i R.1)) (v0 L, R.2) := by
  unfold fj_133_220
  refine ev_oi 2 (as := [.ref 943, .int u1]) (pc := 225) (Lc := [some (.ref 943), some (.int u1)]) (st := []) (V := v0 L) (g1 := g) (e := ez_i) rfl (dm_125 L g u1) (fun y1 g2 => ?_)
  exact fun hR => by cases hR; exact ev_rt 0 rfl
noncomputable def fj_133_268  (g : am_G) (u1 : Int32) : Option (Int32 × am_G) := lo_i (fm_128 g u1) fun y1 g2 => some (y1, g2)
set_option maxRecDepth 20000 in
theorem dj_133_268 (L : Nat)   (g : am_G) (u1 : Int32) (R : Int32 × am_G) : fj_133_268  g u1 = some R → ai_ev ap_P 133 (268, [some (.ref 943), some (.int u1)], [], (v0 L, g)) (.inl (ez_i R.1)) (v0 L, R.2) := by
  unfold fj_133_268
  refine ev_oi 2 (as := [.ref 943, .int u1]) (pc := 273) (Lc := [some (.ref 943), some (.int u1)]) (st := []) (V := v0 L) (g1 := g) (e := ez_i) rfl (dm_128 L g u1) (fun y1 g2 => ?_)
  exact fun hR => by cases hR; exact ev_rt 0 rfl
noncomputable def fj_133_303  (g : am_G) (u1 : Int32) : Option (Int32 × am_G) := lo_i (fm_129 g u1) fun y1 g2 => some (y1, g2)
set_option maxRecDepth 20000 in
theorem dj_133_303 (L : Nat)   (g : am_G) (u1 : Int32) (R : Int32 × am_G) : fj_133_303  g u1 = some R → ai_ev ap_P 133 (303, [some (.ref 943), some (.int u1)], [], (v0 L, g)) (.inl (ez_i R.1)) (v0 L, R.2) := by
  unfold fj_133_303
  refine ev_oi 2 (as := [.ref 943, .int u1]) (pc := 308) (Lc := [some (.ref 943), some (.int u1)]) (st := []) (V := v0 L) (g1 := g) (e := ez_i) rfl (dm_129 L g u1) (fun y1 g2 => ?_)
  exact fun hR => by cases hR; exact ev_rt 0 rfl
noncomputable def fj_133_274  (g : am_G) (u1 : Int32) : Option (Int32 × am_G) := if (am_i g 943 26) < 120 then fj_133_303 g u1 else if (am_i g 943 26) = 128 then fj_133_303 g u1 else if (am_i g 943 26) = 140 then fj_133_303 g u1 else if (128 : Int32) ≤ (am_i g 943 26) then if (150 : Int32) ≤ (am_i g 943 26) then lo_i (fm_132 g u1) fun y1 g2 => some (y1, g2) else lo_i (fm_131 g u1) fun y3 g4 => some (y3, g4) else lo_i (fm_130 g u1) fun y5 g6 => some (y5, g6)
set_option maxRecDepth 20000 in
theorem dj_133_274 (L : Nat)   (g : am_G) (u1 : Int32) (R : Int32 × am_G) : fj_133_274  g u1 = some R → ai_ev ap_P 133 (274, [some (.ref 943), some (.int u1)], [], (v0 L, g)) (.inl (ez_i R.1)) (v0 L, R.2) := by
  unfold fj_133_274
  refine ev_if 3 (p := (am_i g 943 26) < 120) (a := 303) (b := 283) (T := ([some (.ref 943), some (.int u1)], [], (v0 L, g))) rfl ?_ ?_
  · exact dj_133_303 L g u1 _
  · refine ev_if 3 (p := (am_i g 943 26) = 128) (a := 303) (b := 293) (T := ([some (.ref 943), some (.int u1)], [], (v0 L, g))) rfl ?_ ?_
    · exact dj_133_303 L g u1 _
    · refine ev_in 3 (p := (am_i g 943 26) = 140) (a := 309) (b := 303) (T := ([some (.ref 943), some (.int u1)], [], (v0 L, g))) rfl ?_ ?_
      · exact dj_133_303 L g u1 _
      · refine ev_if 3 (p := (128 : Int32) ≤ (am_i g 943 26)) (a := 325) (b := 319) (T := ([some (.ref 943), some (.int u1)], [], (v0 L, g))) rfl ?_ ?_
        · refine ev_if 3 (p := (150 : Int32) ≤ (am_i g 943 26)) (a := 343) (b := 335) (T := ([some (.ref 943), some (.int u1)], [], (v0 L, g))) rfl ?_ ?_
          · refine ev_oi 2 (as := [.ref 943, .int u1]) (pc := 348) (Lc := [some (.ref 943), some (.int u1)]) (st := []) (V := v0 L) (g1 := g) (e := ez_i) rfl (dm_132 L g u1) (fun y1 g2 => ?_)
            exact fun hR => by cases hR; exact ev_rt 0 rfl
          · refine ev_oi 2 (as := [.ref 943, .int u1]) (pc := 340) (Lc := [some (.ref 943), some (.int u1)]) (st := []) (V := v0 L) (g1 := g) (e := ez_i) rfl (dm_131 L g u1) (fun y3 g4 => ?_)
            exact fun hR => by cases hR; exact ev_rt 1 rfl
        · refine ev_oi 2 (as := [.ref 943, .int u1]) (pc := 324) (Lc := [some (.ref 943), some (.int u1)]) (st := []) (V := v0 L) (g1 := g) (e := ez_i) rfl (dm_130 L g u1) (fun y5 g6 => ?_)
          exact fun hR => by cases hR; exact ev_rt 0 rfl
noncomputable def fj_133_127  (g : am_G) (u1 : Int32) : Option (Int32 × am_G) := if (30 : Int32) ≤ (am_i g 943 26) then if (50 : Int32) ≤ (am_i g 943 26) then if (60 : Int32) ≤ (am_i g 943 26) then if (70 : Int32) ≤ (am_i g 943 26) then if (80 : Int32) ≤ (am_i g 943 26) then if (am_i g 943 26) < 90 then fj_133_220 g u1 else if (am_i g 943 26) = 94 then fj_133_220 g u1 else if (94 : Int32) ≤ (am_i g 943 26) then if (am_i g 943 26) < 110 then fj_133_268 g u1 else if (am_i g 943 26) ≤ 110 then fj_133_274 g u1 else if (115 : Int32) ≤ (am_i g 943 26) then fj_133_274 g u1 else fj_133_268 g u1 else lo_i (fm_126 g u1) fun y1 g2 => some (y1, g2) else lo_i (fm_124 g u1) fun y3 g4 => some (y3, g4) else lo_i (fm_123 g u1) fun y5 g6 => some (y5, g6) else lo_i (fm_122 g u1) fun y7 g8 => some (y7, g8) else lo_i (fm_121 g u1) fun y9 g10 => some (y9, g10) else lo_i (fm_117 g u1) fun y11 g12 => some (y11, g12)
set_option maxRecDepth 20000 in
theorem dj_133_127 (L : Nat)   (g : am_G) (u1 : Int32) (R : Int32 × am_G) : fj_133_127  g u1 = some R → ai_ev ap_P 133 (127, [some (.ref 943), some (.int u1)], [], (v0 L, g)) (.inl (ez_i R.1)) (v0 L, R.2) := by
  unfold fj_133_127
  refine ev_if 3 (p := (30 : Int32) ≤ (am_i g 943 26)) (a := 142) (b := 136) (T := ([some (.ref 943), some (.int u1)], [], (v0 L, g))) rfl ?_ ?_
  · refine ev_if 3 (p := (50 : Int32) ≤ (am_i g 943 26)) (a := 157) (b := 151) (T := ([some (.ref 943), some (.int u1)], [], (v0 L, g))) rfl ?_ ?_
    · refine ev_if 3 (p := (60 : Int32) ≤ (am_i g 943 26)) (a := 172) (b := 166) (T := ([some (.ref 943), some (.int u1)], [], (v0 L, g))) rfl ?_ ?_
      · refine ev_if 3 (p := (70 : Int32) ≤ (am_i g 943 26)) (a := 187) (b := 181) (T := ([some (.ref 943), some (.int u1)], [], (v0 L, g))) rfl ?_ ?_
        · refine ev_if 3 (p := (80 : Int32) ≤ (am_i g 943 26)) (a := 202) (b := 196) (T := ([some (.ref 943), some (.int u1)], [], (v0 L, g))) rfl ?_ ?_
          · refine ev_if 3 (p := (am_i g 943 26) < 90) (a := 220) (b := 211) (T := ([some (.ref 943), some (.int u1)], [], (v0 L, g))) rfl ?_ ?_
            · exact dj_133_220 L g u1 _
            · refine ev_in 3 (p := (am_i g 943 26) = 94) (a := 226) (b := 220) (T := ([some (.ref 943), some (.int u1)], [], (v0 L, g))) rfl ?_ ?_
              · exact dj_133_220 L g u1 _
              · refine ev_if 3 (p := (94 : Int32) ≤ (am_i g 943 26)) (a := 241) (b := 235) (T := ([some (.ref 943), some (.int u1)], [], (v0 L, g))) rfl ?_ ?_
                · refine ev_if 3 (p := (am_i g 943 26) < 110) (a := 268) (b := 250) (T := ([some (.ref 943), some (.int u1)], [], (v0 L, g))) rfl ?_ ?_
                  · exact dj_133_268 L g u1 _
                  · refine ev_if 3 (p := (am_i g 943 26) ≤ 110) (a := 274) (b := 259) (T := ([some (.ref 943), some (.int u1)], [], (v0 L, g))) rfl ?_ ?_
                    · exact dj_133_274 L g u1 _
                    · refine ev_if 3 (p := (115 : Int32) ≤ (am_i g 943 26)) (a := 274) (b := 268) (T := ([some (.ref 943), some (.int u1)], [], (v0 L, g))) rfl ?_ ?_
                      · exact dj_133_274 L g u1 _
                      · exact dj_133_268 L g u1 _
                · refine ev_oi 2 (as := [.ref 943, .int u1]) (pc := 240) (Lc := [some (.ref 943), some (.int u1)]) (st := []) (V := v0 L) (g1 := g) (e := ez_i) rfl (dm_126 L g u1) (fun y1 g2 => ?_)
                  exact fun hR => by cases hR; exact ev_rt 0 rfl
          · refine ev_oi 2 (as := [.ref 943, .int u1]) (pc := 201) (Lc := [some (.ref 943), some (.int u1)]) (st := []) (V := v0 L) (g1 := g) (e := ez_i) rfl (dm_124 L g u1) (fun y3 g4 => ?_)
            exact fun hR => by cases hR; exact ev_rt 0 rfl
        · refine ev_oi 2 (as := [.ref 943, .int u1]) (pc := 186) (Lc := [some (.ref 943), some (.int u1)]) (st := []) (V := v0 L) (g1 := g) (e := ez_i) rfl (dm_123 L g u1) (fun y5 g6 => ?_)
          exact fun hR => by cases hR; exact ev_rt 0 rfl
      · refine ev_oi 2 (as := [.ref 943, .int u1]) (pc := 171) (Lc := [some (.ref 943), some (.int u1)]) (st := []) (V := v0 L) (g1 := g) (e := ez_i) rfl (dm_122 L g u1) (fun y7 g8 => ?_)
        exact fun hR => by cases hR; exact ev_rt 0 rfl
    · refine ev_oi 2 (as := [.ref 943, .int u1]) (pc := 156) (Lc := [some (.ref 943), some (.int u1)]) (st := []) (V := v0 L) (g1 := g) (e := ez_i) rfl (dm_121 L g u1) (fun y9 g10 => ?_)
      exact fun hR => by cases hR; exact ev_rt 0 rfl
  · refine ev_oi 2 (as := [.ref 943, .int u1]) (pc := 141) (Lc := [some (.ref 943), some (.int u1)]) (st := []) (V := v0 L) (g1 := g) (e := ez_i) rfl (dm_117 L g u1) (fun y11 g12 => ?_)
    exact fun hR => by cases hR; exact ev_rt 0 rfl
/-- DeclaredMarkupModel.step(I)I -/
noncomputable def fm_133 (g : am_G) (u1 : Int32) : Option (Int32 × am_G) := if (am_i g 943 26) = 5 then lo_p (fm_18 g u1) fun y7 => if y7 = 0 then lo_i (fm_33 (am_si g 943 29 1) ) fun y9 g10 => some (y9, g10) else lo_g (ai_in ((am_i g 943 17) + (am_i g 943 18)) 19000) (some (0, (am_si (am_si g 951 (((am_i g 943 17) + (am_i g 943 18))).toNatClampNeg u1) 943 18 ((am_i g 943 18) + 1)))) else if (am_i g 943 26) = 6 then lo_i (fm_35 g u1) fun y5 g6 => some (y5, g6) else if (am_i g 943 26) = 0 then lo_i (fm_115 g u1) fun y3 g4 => some (y3, g4) else if (am_i g 943 26) = 50 then lo_i (fm_113 g u1) fun y1 g2 => some (y1, g2) else if (am_i g 943 26) < 5 then fj_133_121 g u1 else if (am_i g 943 26) < 30 then fj_133_127 g u1 else if (40 : Int32) ≤ (am_i g 943 26) then fj_133_127 g u1 else fj_133_121 g u1
set_option maxRecDepth 20000 in
theorem dm_133 (L : Nat) (g : am_G) (u1 : Int32) (R : Int32 × am_G) : fm_133 g u1 = some R → ai_ev ap_P 133 (ai_e0 ap_P 133 [.ref 943, .int u1] (v0 L, g)) (.inl (ez_i R.1)) (v0 L, R.2) := by
  show _ → ai_ev ap_P 133 (0, [some (.ref 943), some (.int u1)], [], (v0 L, g)) _ _
  unfold fm_133
  refine ev_in 3 (p := (am_i g 943 26) = 5) (a := 52) (b := 8) (T := ([some (.ref 943), some (.int u1)], [], (v0 L, g))) rfl ?_ ?_
  · refine ev_op 1 (as := [.int u1]) (pc := 12) (Lc := [some (.ref 943), some (.int u1)]) (st := []) (h1 := (v0 L, g)) (e := ez_i) rfl (dm_18 L g u1) (fun y7 => ?_)
    refine ev_if 0 (p := y7 = 0) (a := 42) (b := 15) (T := ([some (.ref 943), some (.int u1)], [], (v0 L, g))) rfl ?_ ?_
    · refine ev_oi 4 (as := [.ref 943]) (pc := 51) (Lc := [some (.ref 943), some (.int u1)]) (st := []) (V := v0 L) (g1 := (am_si g 943 29 1)) (e := ez_i) rfl (dm_33 L (am_si g 943 29 1) ) (fun y9 g10 => ?_)
      exact fun hR => by cases hR; exact ev_rt 0 rfl
    · refine ev_gd (c := ai_in ((am_i g 943 17) + (am_i g 943 18)) 19000) (fun hc11 => ?_)
      refine ev_jm 8 (t := (30, [some (.ref 943), some (.int u1)], [], (v0 L, (am_si g 951 (((am_i g 943 17) + (am_i g 943 18))).toNatClampNeg u1)))) (ai_gd (c := ai_in ((am_i g 943 17) + (am_i g 943 18)) 19000) rfl hc11) ?_
      exact fun hR => by cases hR; exact ev_rt 7 rfl
  · refine ev_in 3 (p := (am_i g 943 26) = 6) (a := 67) (b := 61) (T := ([some (.ref 943), some (.int u1)], [], (v0 L, g))) rfl ?_ ?_
    · refine ev_oi 2 (as := [.ref 943, .int u1]) (pc := 66) (Lc := [some (.ref 943), some (.int u1)]) (st := []) (V := v0 L) (g1 := g) (e := ez_i) rfl (dm_35 L g u1) (fun y5 g6 => ?_)
      exact fun hR => by cases hR; exact ev_rt 0 rfl
    · refine ev_in 2 (p := (am_i g 943 26) = 0) (a := 80) (b := 74) (T := ([some (.ref 943), some (.int u1)], [], (v0 L, g))) rfl ?_ ?_
      · refine ev_oi 2 (as := [.ref 943, .int u1]) (pc := 79) (Lc := [some (.ref 943), some (.int u1)]) (st := []) (V := v0 L) (g1 := g) (e := ez_i) rfl (dm_115 L g u1) (fun y3 g4 => ?_)
        exact fun hR => by cases hR; exact ev_rt 0 rfl
      · refine ev_in 3 (p := (am_i g 943 26) = 50) (a := 95) (b := 89) (T := ([some (.ref 943), some (.int u1)], [], (v0 L, g))) rfl ?_ ?_
        · refine ev_oi 2 (as := [.ref 943, .int u1]) (pc := 94) (Lc := [some (.ref 943), some (.int u1)]) (st := []) (V := v0 L) (g1 := g) (e := ez_i) rfl (dm_113 L g u1) (fun y1 g2 => ?_)
          exact fun hR => by cases hR; exact ev_rt 0 rfl
        · refine ev_if 3 (p := (am_i g 943 26) < 5) (a := 121) (b := 103) (T := ([some (.ref 943), some (.int u1)], [], (v0 L, g))) rfl ?_ ?_
          · exact dj_133_121 L g u1 _
          · refine ev_if 3 (p := (am_i g 943 26) < 30) (a := 127) (b := 112) (T := ([some (.ref 943), some (.int u1)], [], (v0 L, g))) rfl ?_ ?_
            · exact dj_133_127 L g u1 _
            · refine ev_if 3 (p := (40 : Int32) ≤ (am_i g 943 26)) (a := 127) (b := 121) (T := ([some (.ref 943), some (.int u1)], [], (v0 L, g))) rfl ?_ ?_
              · exact dj_133_127 L g u1 _
              · exact dj_133_121 L g u1 _
noncomputable def fb_134_104 (k104 : (am_G × Int32 × Int32) → Option (Int32 × am_G)) (g : am_G) (u1 : Int32) (u2 : Int32) : Option (Int32 × am_G) := if (am_i g 943 29) = 0 then some (u2, g) else if u2 = 0 then lo_i (fm_133 (am_si g 943 29 0) u1) fun y1 g2 => k104 (g2, u1, y1) else some (u2, g)
theorem db_134_104 (L : Nat) {k104 : (am_G × Int32 × Int32) → Option (Int32 × am_G)} (hk104 : ∀ (x : am_G × Int32 × Int32) (R : Int32 × am_G), k104 x = some R → ai_ev ap_P 134 (104, [some (.ref 943), some (.int x.2.1), some (.int x.2.2)], [], (v0 L, x.1)) (.inl (ez_i R.1)) (v0 L, R.2)) (g : am_G) (u1 : Int32) (u2 : Int32) (R : Int32 × am_G) : fb_134_104 k104 g u1 u2 = some R → ai_ev ap_P 134 (104, [some (.ref 943), some (.int u1), some (.int u2)], [], (v0 L, g)) (.inl (ez_i R.1)) (v0 L, R.2) := by
  unfold fb_134_104
  refine ev_if 2 (p := (am_i g 943 29) = 0) (a := 129) (b := 111) (T := ([some (.ref 943), some (.int u1), some (.int u2)], [], (v0 L, g))) rfl ?_ ?_
  · exact fun hR => by cases hR; exact ev_rt 1 rfl
  · refine ev_in 1 (p := u2 = 0) (a := 129) (b := 115) (T := ([some (.ref 943), some (.int u1), some (.int u2)], [], (v0 L, g))) rfl ?_ ?_
    · refine ev_oi 5 (as := [.ref 943, .int u1]) (pc := 125) (Lc := [some (.ref 943), some (.int u1), some (.int u2)]) (st := []) (V := v0 L) (g1 := (am_si g 943 29 0)) (e := ez_i) rfl (dm_133 L (am_si g 943 29 0) u1) (fun y1 g2 => ?_)
      refine ev_jm 1 (t := (104, [some (.ref 943), some (.int u1), some (.int y1)], [], (v0 L, g2))) rfl ?_
      exact hk104 (g2, u1, y1) _
    · exact fun hR => by cases hR; exact ev_rt 1 rfl
noncomputable def fh_134_104  (x : am_G × Int32 × Int32) : Option (Int32 × am_G) := lo_it (fun k x => fb_134_104 k x.1 x.2.1 x.2.2) nf_F x
theorem dh_134_104 (L : Nat)   (x : am_G × Int32 × Int32) (R : Int32 × am_G) : fh_134_104  x = some R → ai_ev ap_P 134 (104, [some (.ref 943), some (.int x.2.1), some (.int x.2.2)], [], (v0 L, x.1)) (.inl (ez_i R.1)) (v0 L, R.2) :=
  fun hr => lo_ev (E := fun x R => ai_ev ap_P 134 (104, [some (.ref 943), some (.int x.2.1), some (.int x.2.2)], [], (v0 L, x.1)) (.inl (ez_i R.1)) (v0 L, R.2)) (fun k hk x R hr => db_134_104 L hk x.1 x.2.1 x.2.2  R hr) nf_F x R hr
noncomputable def fj_134_97  (g : am_G) (u1 : Int32) : Option (Int32 × am_G) := fh_134_104 ((am_si g 943 29 1), u1, 0)
theorem dj_134_97 (L : Nat)   (g : am_G) (u1 : Int32) (w2 : Option Value) (R : Int32 × am_G) : fj_134_97  g u1 = some R → ai_ev ap_P 134 (97, [some (.ref 943), some (.int u1), w2], [], (v0 L, g)) (.inl (ez_i R.1)) (v0 L, R.2) := by
  unfold fj_134_97
  refine ev_jm 4 (t := (104, [some (.ref 943), some (.int u1), some (.int 0)], [], (v0 L, (am_si g 943 29 1)))) rfl ?_
  exact dh_134_104 L ((am_si g 943 29 1), u1, 0) _
noncomputable def fj_134_26  (g : am_G) : Option (Int32 × am_G) := if (am_i g 943 9) ≤ 0 then lo_g (ai_in (am_i g 943 5) 6000) (lo_l (am_i g 945 ((am_i g 943 5)).toNatClampNeg) fun x2 => fj_134_97 (am_si (am_si g 943 30 (am_i g 946 ((am_i g 943 5)).toNatClampNeg)) 943 5 ((am_i g 943 5) + 1)) x2) else lo_g (ai_in ((am_i g 943 8) - 1) 9000) (lo_l (am_i g 947 (((am_i g 943 8) - 1)).toNatClampNeg) fun x4 => fj_134_97 (am_si (am_si g 943 8 ((am_i g 943 8) - 1)) 943 30 (am_i g 943 13)) x4)
theorem dj_134_26 (L : Nat)   (g : am_G) (w1 w2 : Option Value) (R : Int32 × am_G) : fj_134_26  g = some R → ai_ev ap_P 134 (26, [some (.ref 943), w1, w2], [], (v0 L, g)) (.inl (ez_i R.1)) (v0 L, R.2) := by
  unfold fj_134_26
  refine ev_if 2 (p := (am_i g 943 9) ≤ 0) (a := 64) (b := 33) (T := ([some (.ref 943), none, none], [], (v0 L, g))) rfl ?_ ?_
  · refine ev_gd (c := ai_in (am_i g 943 5) 6000) (fun hc1 => ?_)
    refine ev_jm 4 (t := (73, [some (.ref 943), none, none], [.int (am_i g 945 ((am_i g 943 5)).toNatClampNeg)], (v0 L, g))) (ai_gd (c := ai_in (am_i g 943 5) 6000) rfl hc1) ?_
    refine lo_e (S := fun (x2 : Int32) => (73, [some (.ref 943), none, none], [.int x2], (v0 L, g))) (fun x2 => ?_)
    refine ev_jm 6 (t := (84, [some (.ref 943), some (.int x2), none], [.int (am_i g 946 ((am_i g 943 5)).toNatClampNeg), .ref 943], (v0 L, g))) (ai_gd (c := ai_in (am_i g 943 5) 6000) rfl hc1) ?_
    refine ev_jm 6 (t := (97, [some (.ref 943), some (.int x2), none], [], (v0 L, (am_si (am_si g 943 30 (am_i g 946 ((am_i g 943 5)).toNatClampNeg)) 943 5 ((am_i g 943 5) + 1))))) rfl ?_
    exact dj_134_97 L (am_si (am_si g 943 30 (am_i g 946 ((am_i g 943 5)).toNatClampNeg)) 943 5 ((am_i g 943 5) + 1)) x2 none _
  · refine ev_gd (c := ai_in ((am_i g 943 8) - 1) 9000) (fun hc3 => ?_)
    refine ev_jm 10 (t := (52, [some (.ref 943), none, none], [.int (am_i g 947 (((am_i g 943 8) - 1)).toNatClampNeg)], (v0 L, (am_si g 943 8 ((am_i g 943 8) - 1))))) (ai_gd (c := ai_in ((am_i g 943 8) - 1) 9000) rfl hc3) ?_
    refine lo_e (S := fun (x4 : Int32) => (52, [some (.ref 943), none, none], [.int x4], (v0 L, (am_si g 943 8 ((am_i g 943 8) - 1))))) (fun x4 => ?_)
    refine ev_jm 5 (t := (97, [some (.ref 943), some (.int x4), none], [], (v0 L, (am_si (am_si g 943 8 ((am_i g 943 8) - 1)) 943 30 (am_i g 943 13))))) rfl ?_
    exact dj_134_97 L (am_si (am_si g 943 8 ((am_i g 943 8) - 1)) 943 30 (am_i g 943 13)) x4 none _
/-- DeclaredMarkupModel.one()I -/
noncomputable def fm_134 (g : am_G)  : Option (Int32 × am_G) := if (am_i g 943 9) ≤ 0 then fj_134_26 g else lo_g (ai_in ((am_i g 943 8) - 1) 9000) (if (0 : Int32) ≤ (am_i g 947 (((am_i g 943 8) - 1)).toNatClampNeg) then fj_134_26 g else lo_i (fm_103 g ) fun y2 g3 => some (y2, g3))
theorem dm_134 (L : Nat) (g : am_G)  (R : Int32 × am_G) : fm_134 g  = some R → ai_ev ap_P 134 (ai_e0 ap_P 134 [.ref 943] (v0 L, g)) (.inl (ez_i R.1)) (v0 L, R.2) := by
  show _ → ai_ev ap_P 134 (0, [some (.ref 943), none, none], [], (v0 L, g)) _ _
  unfold fm_134
  refine ev_if 2 (p := (am_i g 943 9) ≤ 0) (a := 26) (b := 7) (T := ([some (.ref 943), none, none], [], (v0 L, g))) rfl ?_ ?_
  · exact dj_134_26 L g none none _
  · refine ev_gd (c := ai_in ((am_i g 943 8) - 1) 9000) (fun hc1 => ?_)
    refine ev_jm 6 (t := (18, [some (.ref 943), none, none], [.int (am_i g 947 (((am_i g 943 8) - 1)).toNatClampNeg)], (v0 L, g))) (ai_gd (c := ai_in ((am_i g 943 8) - 1) 9000) rfl hc1) ?_
    refine ev_if 0 (p := (0 : Int32) ≤ (am_i g 947 (((am_i g 943 8) - 1)).toNatClampNeg)) (a := 26) (b := 21) (T := ([some (.ref 943), none, none], [], (v0 L, g))) rfl ?_ ?_
    · exact dj_134_26 L g none none _
    · refine ev_oi 1 (as := [.ref 943]) (pc := 25) (Lc := [some (.ref 943), none, none]) (st := []) (V := v0 L) (g1 := g) (e := ez_i) rfl (dm_103 L g ) (fun y2 g3 => ?_)
      exact fun hR => by cases hR; exact ev_rt 0 rfl
noncomputable def fj_137_130 (k108 : (am_G × Int32 × Int32) → Option (Int32 × am_G)) (g : am_G) (u1 : Int32) : Option (Int32 × am_G) := lo_i (fm_134 g ) fun y1 g2 => k108 (g2, u1, y1)
theorem dj_137_130 (L : Nat) {k108 : (am_G × Int32 × Int32) → Option (Int32 × am_G)} (hk108 : ∀ (x : am_G × Int32 × Int32) (w2 : Option Value) (R : Int32 × am_G), k108 x = some R → ai_ev ap_P 137 (108, [some (.ref 943), some (.int x.2.1), w2, some (.int x.2.2)], [], (v0 L, x.1)) (.inl (ez_i R.1)) (v0 L, R.2)) (g : am_G) (u1 : Int32) (w2 w3 : Option Value) (R : Int32 × am_G) : fj_137_130 k108 g u1 = some R → ai_ev ap_P 137 (130, [some (.ref 943), some (.int u1), w2, w3], [], (v0 L, g)) (.inl (ez_i R.1)) (v0 L, R.2) := by
  unfold fj_137_130
  refine ev_oi 1 (as := [.ref 943]) (pc := 134) (Lc := [some (.ref 943), some (.int u1), none, none]) (st := []) (V := v0 L) (g1 := g) (e := ez_i) rfl (dm_134 L g ) (fun y1 g2 => ?_)
  refine ev_jm 1 (t := (108, [some (.ref 943), some (.int u1), none, some (.int y1)], [], (v0 L, g2))) rfl ?_
  exact hk108 (g2, u1, y1) none _
noncomputable def fj_137_184  (g : am_G) (u1 : Int32) (u3 : Int32) : Option (Int32 × am_G) := if u3 = 0 then if (am_i g 943 138) ≤ 30000 then some (u3, g) else lo_i (fm_22 g 12 u1) fun y1 g2 => some (y1, g2) else some (u3, g)
theorem dj_137_184 (L : Nat)   (g : am_G) (u1 : Int32) (u3 : Int32) (w2 : Option Value) (R : Int32 × am_G) : fj_137_184  g u1 u3 = some R → ai_ev ap_P 137 (184, [some (.ref 943), some (.int u1), w2, some (.int u3)], [], (v0 L, g)) (.inl (ez_i R.1)) (v0 L, R.2) := by
  unfold fj_137_184
  refine ev_in 1 (p := u3 = 0) (a := 206) (b := 188) (T := ([some (.ref 943), some (.int u1), none, some (.int u3)], [], (v0 L, g))) rfl ?_ ?_
  · refine ev_if 3 (p := (am_i g 943 138) ≤ 30000) (a := 206) (b := 198) (T := ([some (.ref 943), some (.int u1), none, some (.int u3)], [], (v0 L, g))) rfl ?_ ?_
    · exact fun hR => by cases hR; exact ev_rt 1 rfl
    · refine ev_oi 3 (as := [.ref 943, .int 12, .int u1]) (pc := 205) (Lc := [some (.ref 943), some (.int u1), none, some (.int u3)]) (st := []) (V := v0 L) (g1 := g) (e := ez_i) rfl (dm_22 L g 12 u1) (fun y1 g2 => ?_)
      exact fun hR => by cases hR; exact ev_rt 2 rfl
  · exact fun hR => by cases hR; exact ev_rt 1 rfl
noncomputable def fj_137_179  (g : am_G) (u1 : Int32) : Option (Int32 × am_G) := lo_i (fm_23 g ) fun y1 g2 => fj_137_184 g2 u1 y1
theorem dj_137_179 (L : Nat)   (g : am_G) (u1 : Int32) (w2 w3 : Option Value) (R : Int32 × am_G) : fj_137_179  g u1 = some R → ai_ev ap_P 137 (179, [some (.ref 943), some (.int u1), w2, w3], [], (v0 L, g)) (.inl (ez_i R.1)) (v0 L, R.2) := by
  unfold fj_137_179
  refine ev_oi 1 (as := [.ref 943]) (pc := 183) (Lc := [some (.ref 943), some (.int u1), none, none]) (st := []) (V := v0 L) (g1 := g) (e := ez_i) rfl (dm_23 L g ) (fun y1 g2 => ?_)
  refine ev_jm 0 (t := (184, [some (.ref 943), some (.int u1), none, some (.int y1)], [], (v0 L, g2))) rfl ?_
  exact dj_137_184 L g2 u1 y1 none _
noncomputable def fj_137_160  (g : am_G) (u1 : Int32) (u3 : Int32) : Option (Int32 × am_G) := if u3 = 0 then if (am_i g 943 26) = 0 then if (am_i g 943 28) = 2 then fj_137_184 g u1 u3 else fj_137_179 g u1 else fj_137_179 g u1 else fj_137_184 g u1 u3
theorem dj_137_160 (L : Nat)   (g : am_G) (u1 : Int32) (u3 : Int32) (w2 : Option Value) (R : Int32 × am_G) : fj_137_160  g u1 u3 = some R → ai_ev ap_P 137 (160, [some (.ref 943), some (.int u1), w2, some (.int u3)], [], (v0 L, g)) (.inl (ez_i R.1)) (v0 L, R.2) := by
  unfold fj_137_160
  refine ev_in 1 (p := u3 = 0) (a := 184) (b := 164) (T := ([some (.ref 943), some (.int u1), none, some (.int u3)], [], (v0 L, g))) rfl ?_ ?_
  · refine ev_in 2 (p := (am_i g 943 26) = 0) (a := 179) (b := 171) (T := ([some (.ref 943), some (.int u1), none, some (.int u3)], [], (v0 L, g))) rfl ?_ ?_
    · refine ev_if 3 (p := (am_i g 943 28) = 2) (a := 184) (b := 179) (T := ([some (.ref 943), some (.int u1), none, some (.int u3)], [], (v0 L, g))) rfl ?_ ?_
      · exact dj_137_184 L g u1 u3 none _
      · exact dj_137_179 L g u1 none (some (.int u3)) _
    · exact dj_137_179 L g u1 none (some (.int u3)) _
  · exact dj_137_184 L g u1 u3 none _
noncomputable def fj_137_138  (g : am_G) (u1 : Int32) (u3 : Int32) : Option (Int32 × am_G) := if u3 = 0 then if (am_i g 943 26) = 5 then lo_i (fm_33 (am_si g 943 30 u1) ) fun y1 g2 => fj_137_160 g2 u1 y1 else fj_137_160 (am_si g 943 30 u1) u1 u3 else fj_137_160 (am_si g 943 30 u1) u1 u3
theorem dj_137_138 (L : Nat)   (g : am_G) (u1 : Int32) (u3 : Int32) (w2 : Option Value) (R : Int32 × am_G) : fj_137_138  g u1 u3 = some R → ai_ev ap_P 137 (138, [some (.ref 943), some (.int u1), w2, some (.int u3)], [], (v0 L, g)) (.inl (ez_i R.1)) (v0 L, R.2) := by
  unfold fj_137_138
  refine ev_in 4 (p := u3 = 0) (a := 160) (b := 147) (T := ([some (.ref 943), some (.int u1), none, some (.int u3)], [], (v0 L, (am_si g 943 30 u1)))) rfl ?_ ?_
  · refine ev_in 3 (p := (am_i g 943 26) = 5) (a := 160) (b := 155) (T := ([some (.ref 943), some (.int u1), none, some (.int u3)], [], (v0 L, (am_si g 943 30 u1)))) rfl ?_ ?_
    · refine ev_oi 1 (as := [.ref 943]) (pc := 159) (Lc := [some (.ref 943), some (.int u1), none, some (.int u3)]) (st := []) (V := v0 L) (g1 := (am_si g 943 30 u1)) (e := ez_i) rfl (dm_33 L (am_si g 943 30 u1) ) (fun y1 g2 => ?_)
      refine ev_jm 0 (t := (160, [some (.ref 943), some (.int u1), none, some (.int y1)], [], (v0 L, g2))) rfl ?_
      exact dj_137_160 L g2 u1 y1 none _
    · exact dj_137_160 L (am_si g 943 30 u1) u1 u3 none _
  · exact dj_137_160 L (am_si g 943 30 u1) u1 u3 none _
noncomputable def fb_137_108 (k108 : (am_G × Int32 × Int32) → Option (Int32 × am_G)) (g : am_G) (u1 : Int32) (u3 : Int32) : Option (Int32 × am_G) := if u3 = 0 then if (am_i g 943 5) < (am_i g 943 4) then fj_137_130 k108 g u1 else if (am_i g 943 9) ≤ 0 then fj_137_138 g u1 u3 else fj_137_130 k108 g u1 else fj_137_138 g u1 u3
theorem db_137_108 (L : Nat) {k108 : (am_G × Int32 × Int32) → Option (Int32 × am_G)} (hk108 : ∀ (x : am_G × Int32 × Int32) (w2 : Option Value) (R : Int32 × am_G), k108 x = some R → ai_ev ap_P 137 (108, [some (.ref 943), some (.int x.2.1), w2, some (.int x.2.2)], [], (v0 L, x.1)) (.inl (ez_i R.1)) (v0 L, R.2)) (g : am_G) (u1 : Int32) (u3 : Int32) (w2 : Option Value) (R : Int32 × am_G) : fb_137_108 k108 g u1 u3 = some R → ai_ev ap_P 137 (108, [some (.ref 943), some (.int u1), w2, some (.int u3)], [], (v0 L, g)) (.inl (ez_i R.1)) (v0 L, R.2) := by
  unfold fb_137_108
  refine ev_in 1 (p := u3 = 0) (a := 138) (b := 112) (T := ([some (.ref 943), some (.int u1), none, some (.int u3)], [], (v0 L, g))) rfl ?_ ?_
  · refine ev_if 4 (p := (am_i g 943 5) < (am_i g 943 4)) (a := 130) (b := 123) (T := ([some (.ref 943), some (.int u1), none, some (.int u3)], [], (v0 L, g))) rfl ?_ ?_
    · exact dj_137_130 L hk108 g u1 none (some (.int u3)) _
    · refine ev_if 2 (p := (am_i g 943 9) ≤ 0) (a := 138) (b := 130) (T := ([some (.ref 943), some (.int u1), none, some (.int u3)], [], (v0 L, g))) rfl ?_ ?_
      · exact dj_137_138 L g u1 u3 none _
      · exact dj_137_130 L hk108 g u1 none (some (.int u3)) _
  · exact dj_137_138 L g u1 u3 none _
noncomputable def fh_137_108  (x : am_G × Int32 × Int32) : Option (Int32 × am_G) := lo_it (fun k x => fb_137_108 k x.1 x.2.1 x.2.2) nf_F x
theorem dh_137_108 (L : Nat)   (x : am_G × Int32 × Int32) (w2 : Option Value) (R : Int32 × am_G) : fh_137_108  x = some R → ai_ev ap_P 137 (108, [some (.ref 943), some (.int x.2.1), w2, some (.int x.2.2)], [], (v0 L, x.1)) (.inl (ez_i R.1)) (v0 L, R.2) :=
  fun hr => lo_ev (E := fun x R => ∀ (w2 : Option Value), ai_ev ap_P 137 (108, [some (.ref 943), some (.int x.2.1), w2, some (.int x.2.2)], [], (v0 L, x.1)) (.inl (ez_i R.1)) (v0 L, R.2)) (fun k hk x R hr => fun w2 => db_137_108 L (fun x w2 R hr => hk x R hr w2) x.1 x.2.1 x.2.2 w2 R hr) nf_F x R hr w2
noncomputable def fj_137_90  (g : am_G) (u1 : Int32) (t0 : Int32) : Option (Int32 × am_G) := if t0 = 0 then fh_137_108 (g, u1, 0) else fh_137_108 ((am_si (am_si g 943 5 5) 943 26 10), u1, 0)
theorem dj_137_90 (L : Nat)   (g : am_G) (u1 : Int32) (t0 : Int32) (w2 w3 : Option Value) (R : Int32 × am_G) : fj_137_90  g u1 t0 = some R → ai_ev ap_P 137 (90, [some (.ref 943), some (.int u1), w2, w3], [.int t0], (v0 L, g)) (.inl (ez_i R.1)) (v0 L, R.2) := by
  unfold fj_137_90
  refine ev_if 2 (p := t0 = 0) (a := 106) (b := 95) (T := ([some (.ref 943), some (.int u1), some (.int t0), none], [], (v0 L, g))) rfl ?_ ?_
  · refine ev_jm 1 (t := (108, [some (.ref 943), some (.int u1), none, some (.int 0)], [], (v0 L, g))) rfl ?_
    exact dh_137_108 L (g, u1, 0) none _
  · refine ev_jm 7 (t := (108, [some (.ref 943), some (.int u1), none, some (.int 0)], [], (v0 L, (am_si (am_si g 943 5 5) 943 26 10)))) rfl ?_
    exact dh_137_108 L ((am_si (am_si g 943 5 5) 943 26 10), u1, 0) none _
noncomputable def fj_137_89  (g : am_G) (u1 : Int32) : Option (Int32 × am_G) := fj_137_90 g u1 0
theorem dj_137_89 (L : Nat)   (g : am_G) (u1 : Int32) (w2 w3 : Option Value) (R : Int32 × am_G) : fj_137_89  g u1 = some R → ai_ev ap_P 137 (89, [some (.ref 943), some (.int u1), w2, w3], [], (v0 L, g)) (.inl (ez_i R.1)) (v0 L, R.2) := by
  unfold fj_137_89
  refine ev_jm 0 (t := (90, [some (.ref 943), some (.int u1), none, none], [.int 0], (v0 L, g))) rfl ?_
  exact dj_137_90 L g u1 0 none none _
/-- DeclaredMarkupModel.read(I)I -/
noncomputable def fm_137 (g : am_G) (u1 : Int32) : Option (Int32 × am_G) := lo_i (fm_20 g u1) fun y1 g2 => if (0 : Int32) ≤ y1 then if (am_i g2 943 4) ≤ 5 then fj_137_89 g2 u1 else if (am_i g2 945 0) = 60 then if (am_i g2 945 1) = 63 then if (am_i g2 945 2) = 120 then if (am_i g2 945 3) = 109 then if (am_i g2 945 4) = 108 then lo_p (fm_16 g2 (am_i g2 945 5)) fun y3 => if y3 = 0 then fj_137_89 g2 u1 else fj_137_90 g2 u1 1 else fj_137_89 g2 u1 else fj_137_89 g2 u1 else fj_137_89 g2 u1 else fj_137_89 g2 u1 else fj_137_89 g2 u1 else some ((-1), g2)
theorem dm_137 (L : Nat) (g : am_G) (u1 : Int32) (R : Int32 × am_G) : fm_137 g u1 = some R → ai_ev ap_P 137 (ai_e0 ap_P 137 [.ref 943, .int u1] (v0 L, g)) (.inl (ez_i R.1)) (v0 L, R.2) := by
  show _ → ai_ev ap_P 137 (0, [some (.ref 943), some (.int u1), none, none], [], (v0 L, g)) _ _
  unfold fm_137
  refine ev_oi 2 (as := [.ref 943, .int u1]) (pc := 5) (Lc := [some (.ref 943), some (.int u1), none, none]) (st := []) (V := v0 L) (g1 := g) (e := ez_i) rfl (dm_20 L g u1) (fun y1 g2 => ?_)
  refine ev_if 0 (p := (0 : Int32) ≤ y1) (a := 10) (b := 8) (T := ([some (.ref 943), some (.int u1), none, none], [], (v0 L, g2))) rfl ?_ ?_
  · refine ev_if 3 (p := (am_i g2 943 4) ≤ 5) (a := 89) (b := 18) (T := ([some (.ref 943), some (.int u1), none, none], [], (v0 L, g2))) rfl ?_ ?_
    · exact dj_137_89 L g2 u1 none none _
    · refine ev_in 5 (p := (am_i g2 945 0) = 60) (a := 89) (b := 29) (T := ([some (.ref 943), some (.int u1), none, none], [], (v0 L, g2))) rfl ?_ ?_
      · refine ev_in 5 (p := (am_i g2 945 1) = 63) (a := 89) (b := 40) (T := ([some (.ref 943), some (.int u1), none, none], [], (v0 L, g2))) rfl ?_ ?_
        · refine ev_in 5 (p := (am_i g2 945 2) = 120) (a := 89) (b := 51) (T := ([some (.ref 943), some (.int u1), none, none], [], (v0 L, g2))) rfl ?_ ?_
          · refine ev_in 5 (p := (am_i g2 945 3) = 109) (a := 89) (b := 62) (T := ([some (.ref 943), some (.int u1), none, none], [], (v0 L, g2))) rfl ?_ ?_
            · refine ev_in 5 (p := (am_i g2 945 4) = 108) (a := 89) (b := 73) (T := ([some (.ref 943), some (.int u1), none, none], [], (v0 L, g2))) rfl ?_ ?_
              · refine ev_op 4 (as := [.int (am_i g2 945 5)]) (pc := 82) (Lc := [some (.ref 943), some (.int u1), none, none]) (st := []) (h1 := (v0 L, g2)) (e := ez_i) rfl (dm_16 L g2 (am_i g2 945 5)) (fun y3 => ?_)
                refine ev_if 0 (p := y3 = 0) (a := 89) (b := 85) (T := ([some (.ref 943), some (.int u1), none, none], [], (v0 L, g2))) rfl ?_ ?_
                · exact dj_137_89 L g2 u1 none none _
                · refine ev_jm 1 (t := (90, [some (.ref 943), some (.int u1), none, none], [.int 1], (v0 L, g2))) rfl ?_
                  exact dj_137_90 L g2 u1 1 none none _
              · exact dj_137_89 L g2 u1 none none _
            · exact dj_137_89 L g2 u1 none none _
          · exact dj_137_89 L g2 u1 none none _
        · exact dj_137_89 L g2 u1 none none _
      · exact dj_137_89 L g2 u1 none none _
  · exact fun hR => by cases hR; exact ev_rt 1 rfl
noncomputable def fb_93_24 (g : am_G) (k24 : (Int32 × Int32 × Int32 × Int32) → Option (Int32)) (u1 : Int32) (u2 : Int32) (u3 : Int32) (u4 : Int32) : Option (Int32) := lo_g (ai_in u1 4400) (if (am_i g 1003 u1.toNatClampNeg) ≤ u4 then some (vp_nar .boolean u3) else if u3 = 0 then some (vp_nar .boolean u3) else lo_g (ai_in ((am_i g 1002 u1.toNatClampNeg) + u4) 8000) (lo_g (ai_in u2 4400) (lo_g (ai_in ((am_i g 1002 u2.toNatClampNeg) + u4) 8000) (if (am_i g 1005 (((am_i g 1002 u1.toNatClampNeg) + u4)).toNatClampNeg) = (am_i g 1005 (((am_i g 1002 u2.toNatClampNeg) + u4)).toNatClampNeg) then k24 (u1, u2, 1, (u4 + 1)) else k24 (u1, u2, 0, (u4 + 1))))))
theorem db_93_24 (L : Nat) (g : am_G) {k24 : (Int32 × Int32 × Int32 × Int32) → Option (Int32)} (hk24 : ∀ (x : Int32 × Int32 × Int32 × Int32) (R : Int32), k24 x = some R → ai_ev ap_P 93 (24, [some (.ref 943), some (.int x.1), some (.int x.2.1), some (.int x.2.2.1), some (.int x.2.2.2)], [], (v0 L, g)) (.inl (ez_i R)) (v0 L, g)) (u1 : Int32) (u2 : Int32) (u3 : Int32) (u4 : Int32) (R : Int32) : fb_93_24 g k24 u1 u2 u3 u4 = some R → ai_ev ap_P 93 (24, [some (.ref 943), some (.int u1), some (.int u2), some (.int u3), some (.int u4)], [], (v0 L, g)) (.inl (ez_i R)) (v0 L, g) := by
  unfold fb_93_24
  refine ev_gd (c := ai_in u1 4400) (fun hc1 => ?_)
  refine ev_jm 4 (t := (32, [some (.ref 943), some (.int u1), some (.int u2), some (.int u3), some (.int u4)], [.int (am_i g 1003 u1.toNatClampNeg), .int u4], (v0 L, g))) (ai_gd (c := ai_in u1 4400) rfl hc1) ?_
  refine ev_if 0 (p := (am_i g 1003 u1.toNatClampNeg) ≤ u4) (a := 82) (b := 35) (T := ([some (.ref 943), some (.int u1), some (.int u2), some (.int u3), some (.int u4)], [], (v0 L, g))) rfl ?_ ?_
  · exact fun hR => by cases hR; exact ev_rt 1 rfl
  · refine ev_if 1 (p := u3 = 0) (a := 82) (b := 39) (T := ([some (.ref 943), some (.int u1), some (.int u2), some (.int u3), some (.int u4)], [], (v0 L, g))) rfl ?_ ?_
    · exact fun hR => by cases hR; exact ev_rt 1 rfl
    · refine ev_jm 5 (t := (49, [some (.ref 943), some (.int u1), some (.int u2), some (.int u3), some (.int u4)], [.int (am_i g 1002 u1.toNatClampNeg), .ref 1005], (v0 L, g))) (ai_gd (c := ai_in u1 4400) rfl hc1) ?_
      refine ev_gd (c := ai_in ((am_i g 1002 u1.toNatClampNeg) + u4) 8000) (fun hc2 => ?_)
      refine ev_jm 2 (t := (53, [some (.ref 943), some (.int u1), some (.int u2), some (.int u3), some (.int u4)], [.int (am_i g 1005 (((am_i g 1002 u1.toNatClampNeg) + u4)).toNatClampNeg)], (v0 L, g))) (ai_gd (c := ai_in ((am_i g 1002 u1.toNatClampNeg) + u4) 8000) rfl hc2) ?_
      refine ev_gd (c := ai_in u2 4400) (fun hc3 => ?_)
      refine ev_jm 5 (t := (63, [some (.ref 943), some (.int u1), some (.int u2), some (.int u3), some (.int u4)], [.int (am_i g 1002 u2.toNatClampNeg), .ref 1005, .int (am_i g 1005 (((am_i g 1002 u1.toNatClampNeg) + u4)).toNatClampNeg)], (v0 L, g))) (ai_gd (c := ai_in u2 4400) rfl hc3) ?_
      refine ev_gd (c := ai_in ((am_i g 1002 u2.toNatClampNeg) + u4) 8000) (fun hc4 => ?_)
      refine ev_jm 2 (t := (67, [some (.ref 943), some (.int u1), some (.int u2), some (.int u3), some (.int u4)], [.int (am_i g 1005 (((am_i g 1002 u2.toNatClampNeg) + u4)).toNatClampNeg), .int (am_i g 1005 (((am_i g 1002 u1.toNatClampNeg) + u4)).toNatClampNeg)], (v0 L, g))) (ai_gd (c := ai_in ((am_i g 1002 u2.toNatClampNeg) + u4) 8000) rfl hc4) ?_
      refine ev_in 0 (p := (am_i g 1005 (((am_i g 1002 u1.toNatClampNeg) + u4)).toNatClampNeg) = (am_i g 1005 (((am_i g 1002 u2.toNatClampNeg) + u4)).toNatClampNeg)) (a := 74) (b := 70) (T := ([some (.ref 943), some (.int u1), some (.int u2), some (.int u3), some (.int u4)], [], (v0 L, g))) rfl ?_ ?_
      · refine ev_jm 4 (t := (24, [some (.ref 943), some (.int u1), some (.int u2), some (.int 1), some (.int (u4 + 1))], [], (v0 L, g))) rfl ?_
        exact hk24 (u1, u2, 1, (u4 + 1)) _
      · refine ev_jm 3 (t := (24, [some (.ref 943), some (.int u1), some (.int u2), some (.int 0), some (.int (u4 + 1))], [], (v0 L, g))) rfl ?_
        exact hk24 (u1, u2, 0, (u4 + 1)) _
noncomputable def fh_93_24 (g : am_G)  (x : Int32 × Int32 × Int32 × Int32) : Option (Int32) := lo_it (fun k x => fb_93_24 g k x.1 x.2.1 x.2.2.1 x.2.2.2) nf_F x
theorem dh_93_24 (L : Nat) (g : am_G)   (x : Int32 × Int32 × Int32 × Int32) (R : Int32) : fh_93_24 g  x = some R → ai_ev ap_P 93 (24, [some (.ref 943), some (.int x.1), some (.int x.2.1), some (.int x.2.2.1), some (.int x.2.2.2)], [], (v0 L, g)) (.inl (ez_i R)) (v0 L, g) :=
  fun hr => lo_ev (E := fun x R => ai_ev ap_P 93 (24, [some (.ref 943), some (.int x.1), some (.int x.2.1), some (.int x.2.2.1), some (.int x.2.2.2)], [], (v0 L, g)) (.inl (ez_i R)) (v0 L, g)) (fun k hk x R hr => db_93_24 L g hk x.1 x.2.1 x.2.2.1 x.2.2.2  R hr) nf_F x R hr
/-- DeclaredMarkupModel.isLike(II)Z -/
noncomputable def fm_93 (g : am_G) (u1 : Int32) (u2 : Int32) : Option (Int32) := lo_g (ai_in u1 4400) (lo_g (ai_in u2 4400) (if (am_i g 1003 u1.toNatClampNeg) = (am_i g 1003 u2.toNatClampNeg) then fh_93_24 g (u1, u2, 1, 0) else fh_93_24 g (u1, u2, 0, 0)))
theorem dm_93 (L : Nat) (g : am_G) (u1 : Int32) (u2 : Int32) (R : Int32) : fm_93 g u1 u2 = some R → ai_ev ap_P 93 (ai_e0 ap_P 93 [.ref 943, .int u1, .int u2] (v0 L, g)) (.inl (ez_i R)) (v0 L, g) := by
  show _ → ai_ev ap_P 93 (0, [some (.ref 943), some (.int u1), some (.int u2), none, none], [], (v0 L, g)) _ _
  unfold fm_93
  refine ev_gd (c := ai_in u1 4400) (fun hc1 => ?_)
  refine ev_jm 3 (t := (6, [some (.ref 943), some (.int u1), some (.int u2), none, none], [.int (am_i g 1003 u1.toNatClampNeg)], (v0 L, g))) (ai_gd (c := ai_in u1 4400) rfl hc1) ?_
  refine ev_gd (c := ai_in u2 4400) (fun hc2 => ?_)
  refine ev_jm 3 (t := (12, [some (.ref 943), some (.int u1), some (.int u2), none, none], [.int (am_i g 1003 u2.toNatClampNeg), .int (am_i g 1003 u1.toNatClampNeg)], (v0 L, g))) (ai_gd (c := ai_in u2 4400) rfl hc2) ?_
  refine ev_in 0 (p := (am_i g 1003 u1.toNatClampNeg) = (am_i g 1003 u2.toNatClampNeg)) (a := 19) (b := 15) (T := ([some (.ref 943), some (.int u1), some (.int u2), none, none], [], (v0 L, g))) rfl ?_ ?_
  · refine ev_jm 4 (t := (24, [some (.ref 943), some (.int u1), some (.int u2), some (.int 1), some (.int 0)], [], (v0 L, g))) rfl ?_
    exact dh_93_24 L g (u1, u2, 1, 0) _
  · refine ev_jm 3 (t := (24, [some (.ref 943), some (.int u1), some (.int u2), some (.int 0), some (.int 0)], [], (v0 L, g))) rfl ?_
    exact dh_93_24 L g (u1, u2, 0, 0) _
noncomputable def fj_135_50 (k2 : (am_G × Int32) → Option (am_G)) (k14 : (am_G × Int32 × Int32 × Int32) → Option (am_G)) (g : am_G) (u1 : Int32) (u2 : Int32) (u3 : Int32) (t0 : Int32) : Option (am_G) := if u2 = 0 then if t0 = 0 then k14 (g, u1, 0, (u3 + 1)) else k14 (g, u1, 1, (u3 + 1)) else k14 (g, u1, 1, (u3 + 1))
set_option maxRecDepth 20000 in
theorem dj_135_50 (L : Nat) {k2 : (am_G × Int32) → Option (am_G)} {k14 : (am_G × Int32 × Int32 × Int32) → Option (am_G)} (hk2 : ∀ (x : am_G × Int32) (w2 w3 w4 w5 : Option Value) (R : am_G), k2 x = some R → ai_ev ap_P 135 (2, [some (.ref 943), some (.int x.2), w2, w3, w4, w5], [], (v0 L, x.1)) (.inl none) (v0 L, R)) (hk14 : ∀ (x : am_G × Int32 × Int32 × Int32) (w4 w5 : Option Value) (R : am_G), k14 x = some R → ai_ev ap_P 135 (14, [some (.ref 943), some (.int x.2.1), some (.int x.2.2.1), some (.int x.2.2.2), w4, w5], [], (v0 L, x.1)) (.inl none) (v0 L, R)) (g : am_G) (u1 : Int32) (u2 : Int32) (u3 : Int32) (t0 : Int32) (w4 w5 : Option Value) (R : am_G) : fj_135_50 k2 k14 g u1 u2 u3 t0 = some R → ai_ev ap_P 135 (50, [some (.ref 943), some (.int u1), some (.int u2), some (.int u3), w4, w5], [.int t0], (v0 L, g)) (.inl none) (v0 L, R) := by
  unfold fj_135_50
  refine ev_in 2 (p := u2 = 0) (a := 61) (b := 56) (T := ([some (.ref 943), some (.int u1), some (.int u2), some (.int u3), some (.int t0), none], [], (v0 L, g))) rfl ?_ ?_
  · refine ev_if 1 (p := t0 = 0) (a := 65) (b := 61) (T := ([some (.ref 943), some (.int u1), some (.int u2), some (.int u3), some (.int t0), none], [], (v0 L, g))) rfl ?_ ?_
    · refine ev_jm 3 (t := (14, [some (.ref 943), some (.int u1), some (.int 0), some (.int (u3 + 1)), none, none], [], (v0 L, g))) rfl ?_
      exact hk14 (g, u1, 0, (u3 + 1)) none none _
    · refine ev_jm 4 (t := (14, [some (.ref 943), some (.int u1), some (.int 1), some (.int (u3 + 1)), none, none], [], (v0 L, g))) rfl ?_
      exact hk14 (g, u1, 1, (u3 + 1)) none none _
  · refine ev_jm 4 (t := (14, [some (.ref 943), some (.int u1), some (.int 1), some (.int (u3 + 1)), none, none], [], (v0 L, g))) rfl ?_
    exact hk14 (g, u1, 1, (u3 + 1)) none none _
noncomputable def fj_135_49 (k2 : (am_G × Int32) → Option (am_G)) (k14 : (am_G × Int32 × Int32 × Int32) → Option (am_G)) (g : am_G) (u1 : Int32) (u2 : Int32) (u3 : Int32) : Option (am_G) := fj_135_50 k2 k14 g u1 u2 u3 0
set_option maxRecDepth 20000 in
theorem dj_135_49 (L : Nat) {k2 : (am_G × Int32) → Option (am_G)} {k14 : (am_G × Int32 × Int32 × Int32) → Option (am_G)} (hk2 : ∀ (x : am_G × Int32) (w2 w3 w4 w5 : Option Value) (R : am_G), k2 x = some R → ai_ev ap_P 135 (2, [some (.ref 943), some (.int x.2), w2, w3, w4, w5], [], (v0 L, x.1)) (.inl none) (v0 L, R)) (hk14 : ∀ (x : am_G × Int32 × Int32 × Int32) (w4 w5 : Option Value) (R : am_G), k14 x = some R → ai_ev ap_P 135 (14, [some (.ref 943), some (.int x.2.1), some (.int x.2.2.1), some (.int x.2.2.2), w4, w5], [], (v0 L, x.1)) (.inl none) (v0 L, R)) (g : am_G) (u1 : Int32) (u2 : Int32) (u3 : Int32) (w4 w5 : Option Value) (R : am_G) : fj_135_49 k2 k14 g u1 u2 u3 = some R → ai_ev ap_P 135 (49, [some (.ref 943), some (.int u1), some (.int u2), some (.int u3), w4, w5], [], (v0 L, g)) (.inl none) (v0 L, R) := by
  unfold fj_135_49
  refine ev_jm 0 (t := (50, [some (.ref 943), some (.int u1), some (.int u2), some (.int u3), none, none], [.int 0], (v0 L, g))) rfl ?_
  exact dj_135_50 L hk2 hk14 g u1 u2 u3 0 none none _
noncomputable def fj_135_92 (k2 : (am_G × Int32) → Option (am_G)) (g : am_G) (u1 : Int32) (u2 : Int32) : Option (am_G) := lo_g (ai_in u1 4400) (if (am_i g 1004 u1.toNatClampNeg) = 0 then if u2 = 0 then lo_p (fm_24 g 14) fun g3 => k2 (g3, (u1 + 1)) else k2 (g, (u1 + 1)) else k2 (g, (u1 + 1)))
set_option maxRecDepth 20000 in
theorem dj_135_92 (L : Nat) {k2 : (am_G × Int32) → Option (am_G)} (hk2 : ∀ (x : am_G × Int32) (w2 w3 w4 w5 : Option Value) (R : am_G), k2 x = some R → ai_ev ap_P 135 (2, [some (.ref 943), some (.int x.2), w2, w3, w4, w5], [], (v0 L, x.1)) (.inl none) (v0 L, R)) (g : am_G) (u1 : Int32) (u2 : Int32) (w3 w4 w5 : Option Value) (R : am_G) : fj_135_92 k2 g u1 u2 = some R → ai_ev ap_P 135 (92, [some (.ref 943), some (.int u1), some (.int u2), w3, w4, w5], [], (v0 L, g)) (.inl none) (v0 L, R) := by
  unfold fj_135_92
  refine ev_gd (c := ai_in u1 4400) (fun hc1 => ?_)
  refine ev_jm 3 (t := (98, [some (.ref 943), some (.int u1), some (.int u2), none, none, none], [.int (am_i g 1004 u1.toNatClampNeg)], (v0 L, g))) (ai_gd (c := ai_in u1 4400) rfl hc1) ?_
  refine ev_in 0 (p := (am_i g 1004 u1.toNatClampNeg) = 0) (a := 111) (b := 101) (T := ([some (.ref 943), some (.int u1), some (.int u2), none, none, none], [], (v0 L, g))) rfl ?_ ?_
  · refine ev_in 1 (p := u2 = 0) (a := 111) (b := 105) (T := ([some (.ref 943), some (.int u1), some (.int u2), none, none, none], [], (v0 L, g))) rfl ?_ ?_
    · refine ev_ov0 2 (as := [.ref 943, .int 14]) (pc := 111) (Lc := [some (.ref 943), some (.int u1), some (.int u2), none, none, none]) (st := []) (V := v0 L) (g1 := g) rfl (dm_24 L g 14) (fun g3 => ?_)
      refine ev_jm 1 (t := (2, [some (.ref 943), some (.int (u1 + 1)), none, none, none, none], [], (v0 L, g3))) rfl ?_
      exact hk2 (g3, (u1 + 1)) none none none none _
    · refine ev_jm 1 (t := (2, [some (.ref 943), some (.int (u1 + 1)), none, none, none, none], [], (v0 L, g))) rfl ?_
      exact hk2 (g, (u1 + 1)) none none none none _
  · refine ev_jm 1 (t := (2, [some (.ref 943), some (.int (u1 + 1)), none, none, none, none], [], (v0 L, g))) rfl ?_
    exact hk2 (g, (u1 + 1)) none none none none _
noncomputable def fb_135_14 (k2 : (am_G × Int32) → Option (am_G)) (k14 : (am_G × Int32 × Int32 × Int32) → Option (am_G)) (g : am_G) (u1 : Int32) (u2 : Int32) (u3 : Int32) : Option (am_G) := if (am_i g 943 128) ≤ u3 then lo_g (ai_in u1 4400) (if (am_i g 1004 u1.toNatClampNeg) = 0 then fj_135_92 k2 g u1 u2 else if u2 = 0 then fj_135_92 k2 g u1 u2 else lo_p (fm_24 g 11) fun g3 => fj_135_92 k2 g3 u1 u2) else if u1 = u3 then fj_135_49 k2 k14 g u1 u2 u3 else lo_g (ai_in u3 4400) (if (am_i g 1004 u3.toNatClampNeg) = 0 then fj_135_49 k2 k14 g u1 u2 u3 else lo_p (fm_93 g u1 u3) fun y5 => if y5 = 0 then fj_135_49 k2 k14 g u1 u2 u3 else fj_135_50 k2 k14 g u1 u2 u3 1)
set_option maxRecDepth 20000 in
theorem db_135_14 (L : Nat) {k2 : (am_G × Int32) → Option (am_G)} {k14 : (am_G × Int32 × Int32 × Int32) → Option (am_G)} (hk2 : ∀ (x : am_G × Int32) (w2 w3 w4 w5 : Option Value) (R : am_G), k2 x = some R → ai_ev ap_P 135 (2, [some (.ref 943), some (.int x.2), w2, w3, w4, w5], [], (v0 L, x.1)) (.inl none) (v0 L, R)) (hk14 : ∀ (x : am_G × Int32 × Int32 × Int32) (w4 w5 : Option Value) (R : am_G), k14 x = some R → ai_ev ap_P 135 (14, [some (.ref 943), some (.int x.2.1), some (.int x.2.2.1), some (.int x.2.2.2), w4, w5], [], (v0 L, x.1)) (.inl none) (v0 L, R)) (g : am_G) (u1 : Int32) (u2 : Int32) (u3 : Int32) (w4 w5 : Option Value) (R : am_G) : fb_135_14 k2 k14 g u1 u2 u3 = some R → ai_ev ap_P 135 (14, [some (.ref 943), some (.int u1), some (.int u2), some (.int u3), w4, w5], [], (v0 L, g)) (.inl none) (v0 L, R) := by
  unfold fb_135_14
  refine ev_if 3 (p := (am_i g 943 128) ≤ u3) (a := 73) (b := 22) (T := ([some (.ref 943), some (.int u1), some (.int u2), some (.int u3), none, none], [], (v0 L, g))) rfl ?_ ?_
  · refine ev_gd (c := ai_in u1 4400) (fun hc1 => ?_)
    refine ev_jm 3 (t := (79, [some (.ref 943), some (.int u1), some (.int u2), some (.int u3), none, none], [.int (am_i g 1004 u1.toNatClampNeg)], (v0 L, g))) (ai_gd (c := ai_in u1 4400) rfl hc1) ?_
    refine ev_if 0 (p := (am_i g 1004 u1.toNatClampNeg) = 0) (a := 92) (b := 82) (T := ([some (.ref 943), some (.int u1), some (.int u2), some (.int u3), none, none], [], (v0 L, g))) rfl ?_ ?_
    · exact dj_135_92 L hk2 g u1 u2 (some (.int u3)) none none _
    · refine ev_if 1 (p := u2 = 0) (a := 92) (b := 86) (T := ([some (.ref 943), some (.int u1), some (.int u2), some (.int u3), none, none], [], (v0 L, g))) rfl ?_ ?_
      · exact dj_135_92 L hk2 g u1 u2 (some (.int u3)) none none _
      · refine ev_ov0 2 (as := [.ref 943, .int 11]) (pc := 92) (Lc := [some (.ref 943), some (.int u1), some (.int u2), some (.int u3), none, none]) (st := []) (V := v0 L) (g1 := g) rfl (dm_24 L g 11) (fun g3 => ?_)
        exact dj_135_92 L hk2 g3 u1 u2 (some (.int u3)) none none _
  · refine ev_if 2 (p := u1 = u3) (a := 49) (b := 27) (T := ([some (.ref 943), some (.int u1), some (.int u2), some (.int u3), none, none], [], (v0 L, g))) rfl ?_ ?_
    · exact dj_135_49 L hk2 hk14 g u1 u2 u3 none none _
    · refine ev_gd (c := ai_in u3 4400) (fun hc4 => ?_)
      refine ev_jm 3 (t := (33, [some (.ref 943), some (.int u1), some (.int u2), some (.int u3), none, none], [.int (am_i g 1004 u3.toNatClampNeg)], (v0 L, g))) (ai_gd (c := ai_in u3 4400) rfl hc4) ?_
      refine ev_if 0 (p := (am_i g 1004 u3.toNatClampNeg) = 0) (a := 49) (b := 36) (T := ([some (.ref 943), some (.int u1), some (.int u2), some (.int u3), none, none], [], (v0 L, g))) rfl ?_ ?_
      · exact dj_135_49 L hk2 hk14 g u1 u2 u3 none none _
      · refine ev_op 3 (as := [.ref 943, .int u1, .int u3]) (pc := 42) (Lc := [some (.ref 943), some (.int u1), some (.int u2), some (.int u3), none, none]) (st := []) (h1 := (v0 L, g)) (e := ez_i) rfl (dm_93 L g u1 u3) (fun y5 => ?_)
        refine ev_if 0 (p := y5 = 0) (a := 49) (b := 45) (T := ([some (.ref 943), some (.int u1), some (.int u2), some (.int u3), none, none], [], (v0 L, g))) rfl ?_ ?_
        · exact dj_135_49 L hk2 hk14 g u1 u2 u3 none none _
        · refine ev_jm 1 (t := (50, [some (.ref 943), some (.int u1), some (.int u2), some (.int u3), none, none], [.int 1], (v0 L, g))) rfl ?_
          exact dj_135_50 L hk2 hk14 g u1 u2 u3 1 none none _
noncomputable def fh_135_14 (k2 : (am_G × Int32) → Option (am_G)) (x : am_G × Int32 × Int32 × Int32) : Option (am_G) := lo_it (fun k x => fb_135_14 k2 k x.1 x.2.1 x.2.2.1 x.2.2.2) nf_F x
set_option maxRecDepth 20000 in
theorem dh_135_14 (L : Nat) {k2 : (am_G × Int32) → Option (am_G)} (hk2 : ∀ (x : am_G × Int32) (w2 w3 w4 w5 : Option Value) (R : am_G), k2 x = some R → ai_ev ap_P 135 (2, [some (.ref 943), some (.int x.2), w2, w3, w4, w5], [], (v0 L, x.1)) (.inl none) (v0 L, R)) (x : am_G × Int32 × Int32 × Int32) (w4 w5 : Option Value) (R : am_G) : fh_135_14 k2 x = some R → ai_ev ap_P 135 (14, [some (.ref 943), some (.int x.2.1), some (.int x.2.2.1), some (.int x.2.2.2), w4, w5], [], (v0 L, x.1)) (.inl none) (v0 L, R) :=
  fun hr => lo_ev (E := fun x R => ∀ (w4 w5 : Option Value), ai_ev ap_P 135 (14, [some (.ref 943), some (.int x.2.1), some (.int x.2.2.1), some (.int x.2.2.2), w4, w5], [], (v0 L, x.1)) (.inl none) (v0 L, R)) (fun k hk x R hr => fun w4 w5 => db_135_14 L hk2 (fun x w4 w5 R hr => hk x R hr w4 w5) x.1 x.2.1 x.2.2.1 x.2.2.2 w4 w5 R hr) nf_F x R hr w4 w5
noncomputable def fb_135_197 (k119 : (am_G × Int32) → Option (am_G)) (k170 : (am_G × Int32 × Int32) → Option (am_G)) (k197 : (am_G × Int32 × Int32 × Int32 × Int32) → Option (am_G)) (g : am_G) (u1 : Int32) (u3 : Int32) (u4 : Int32) (u5 : Int32) : Option (am_G) := if (am_i g 943 104) ≤ u5 then if u4 = 0 then lo_p (fm_24 g 17) fun g2 => k170 (g2, u1, (u3 + 1)) else k170 (g, u1, (u3 + 1)) else if u4 = 0 then lo_g (ai_in u5 20) (lo_g (ai_in u1 80) (lo_g (ai_in ((am_i g 980 u1.toNatClampNeg) + u3) 330) (if (am_i g 990 u5.toNatClampNeg) = (am_i g 982 (((am_i g 980 u1.toNatClampNeg) + u3)).toNatClampNeg) then k197 (g, u1, u3, 1, (u5 + 1)) else k197 (g, u1, u3, 0, (u5 + 1))))) else k197 (g, u1, u3, 1, (u5 + 1))
set_option maxRecDepth 20000 in
theorem db_135_197 (L : Nat) {k119 : (am_G × Int32) → Option (am_G)} {k170 : (am_G × Int32 × Int32) → Option (am_G)} {k197 : (am_G × Int32 × Int32 × Int32 × Int32) → Option (am_G)} (hk119 : ∀ (x : am_G × Int32) (w2 w3 w4 w5 : Option Value) (R : am_G), k119 x = some R → ai_ev ap_P 135 (119, [some (.ref 943), some (.int x.2), w2, w3, w4, w5], [], (v0 L, x.1)) (.inl none) (v0 L, R)) (hk170 : ∀ (x : am_G × Int32 × Int32) (w2 w4 w5 : Option Value) (R : am_G), k170 x = some R → ai_ev ap_P 135 (170, [some (.ref 943), some (.int x.2.1), w2, some (.int x.2.2), w4, w5], [], (v0 L, x.1)) (.inl none) (v0 L, R)) (hk197 : ∀ (x : am_G × Int32 × Int32 × Int32 × Int32) (w2 : Option Value) (R : am_G), k197 x = some R → ai_ev ap_P 135 (197, [some (.ref 943), some (.int x.2.1), w2, some (.int x.2.2.1), some (.int x.2.2.2.1), some (.int x.2.2.2.2)], [], (v0 L, x.1)) (.inl none) (v0 L, R)) (g : am_G) (u1 : Int32) (u3 : Int32) (u4 : Int32) (u5 : Int32) (w2 : Option Value) (R : am_G) : fb_135_197 k119 k170 k197 g u1 u3 u4 u5 = some R → ai_ev ap_P 135 (197, [some (.ref 943), some (.int u1), w2, some (.int u3), some (.int u4), some (.int u5)], [], (v0 L, g)) (.inl none) (v0 L, R) := by
  unfold fb_135_197
  refine ev_if 3 (p := (am_i g 943 104) ≤ u5) (a := 247) (b := 206) (T := ([some (.ref 943), some (.int u1), none, some (.int u3), some (.int u4), some (.int u5)], [], (v0 L, g))) rfl ?_ ?_
  · refine ev_in 1 (p := u4 = 0) (a := 258) (b := 252) (T := ([some (.ref 943), some (.int u1), none, some (.int u3), some (.int u4), some (.int u5)], [], (v0 L, g))) rfl ?_ ?_
    · refine ev_ov0 2 (as := [.ref 943, .int 17]) (pc := 258) (Lc := [some (.ref 943), some (.int u1), none, some (.int u3), some (.int u4), some (.int u5)]) (st := []) (V := v0 L) (g1 := g) rfl (dm_24 L g 17) (fun g2 => ?_)
      refine ev_jm 1 (t := (170, [some (.ref 943), some (.int u1), none, some (.int (u3 + 1)), none, none], [], (v0 L, g2))) rfl ?_
      exact hk170 (g2, u1, (u3 + 1)) none none none _
    · refine ev_jm 1 (t := (170, [some (.ref 943), some (.int u1), none, some (.int (u3 + 1)), none, none], [], (v0 L, g))) rfl ?_
      exact hk170 (g, u1, (u3 + 1)) none none none _
  · refine ev_in 1 (p := u4 = 0) (a := 234) (b := 211) (T := ([some (.ref 943), some (.int u1), none, some (.int u3), some (.int u4), some (.int u5)], [], (v0 L, g))) rfl ?_ ?_
    · refine ev_gd (c := ai_in u5 20) (fun hc3 => ?_)
      refine ev_jm 3 (t := (218, [some (.ref 943), some (.int u1), none, some (.int u3), some (.int u4), some (.int u5)], [.int (am_i g 990 u5.toNatClampNeg)], (v0 L, g))) (ai_gd (c := ai_in u5 20) rfl hc3) ?_
      refine ev_gd (c := ai_in u1 80) (fun hc4 => ?_)
      refine ev_jm 5 (t := (228, [some (.ref 943), some (.int u1), none, some (.int u3), some (.int u4), some (.int u5)], [.int (am_i g 980 u1.toNatClampNeg), .ref 982, .int (am_i g 990 u5.toNatClampNeg)], (v0 L, g))) (ai_gd (c := ai_in u1 80) rfl hc4) ?_
      refine ev_gd (c := ai_in ((am_i g 980 u1.toNatClampNeg) + u3) 330) (fun hc5 => ?_)
      refine ev_jm 2 (t := (231, [some (.ref 943), some (.int u1), none, some (.int u3), some (.int u4), some (.int u5)], [.int (am_i g 982 (((am_i g 980 u1.toNatClampNeg) + u3)).toNatClampNeg), .int (am_i g 990 u5.toNatClampNeg)], (v0 L, g))) (ai_gd (c := ai_in ((am_i g 980 u1.toNatClampNeg) + u3) 330) rfl hc5) ?_
      refine ev_in 0 (p := (am_i g 990 u5.toNatClampNeg) = (am_i g 982 (((am_i g 980 u1.toNatClampNeg) + u3)).toNatClampNeg)) (a := 238) (b := 234) (T := ([some (.ref 943), some (.int u1), none, some (.int u3), some (.int u4), some (.int u5)], [], (v0 L, g))) rfl ?_ ?_
      · refine ev_jm 4 (t := (197, [some (.ref 943), some (.int u1), none, some (.int u3), some (.int 1), some (.int (u5 + 1))], [], (v0 L, g))) rfl ?_
        exact hk197 (g, u1, u3, 1, (u5 + 1)) none _
      · refine ev_jm 3 (t := (197, [some (.ref 943), some (.int u1), none, some (.int u3), some (.int 0), some (.int (u5 + 1))], [], (v0 L, g))) rfl ?_
        exact hk197 (g, u1, u3, 0, (u5 + 1)) none _
    · refine ev_jm 4 (t := (197, [some (.ref 943), some (.int u1), none, some (.int u3), some (.int 1), some (.int (u5 + 1))], [], (v0 L, g))) rfl ?_
      exact hk197 (g, u1, u3, 1, (u5 + 1)) none _
noncomputable def fh_135_197 (k119 : (am_G × Int32) → Option (am_G)) (k170 : (am_G × Int32 × Int32) → Option (am_G)) (x : am_G × Int32 × Int32 × Int32 × Int32) : Option (am_G) := lo_it (fun k x => fb_135_197 k119 k170 k x.1 x.2.1 x.2.2.1 x.2.2.2.1 x.2.2.2.2) nf_F x
set_option maxRecDepth 20000 in
theorem dh_135_197 (L : Nat) {k119 : (am_G × Int32) → Option (am_G)} {k170 : (am_G × Int32 × Int32) → Option (am_G)} (hk119 : ∀ (x : am_G × Int32) (w2 w3 w4 w5 : Option Value) (R : am_G), k119 x = some R → ai_ev ap_P 135 (119, [some (.ref 943), some (.int x.2), w2, w3, w4, w5], [], (v0 L, x.1)) (.inl none) (v0 L, R)) (hk170 : ∀ (x : am_G × Int32 × Int32) (w2 w4 w5 : Option Value) (R : am_G), k170 x = some R → ai_ev ap_P 135 (170, [some (.ref 943), some (.int x.2.1), w2, some (.int x.2.2), w4, w5], [], (v0 L, x.1)) (.inl none) (v0 L, R)) (x : am_G × Int32 × Int32 × Int32 × Int32) (w2 : Option Value) (R : am_G) : fh_135_197 k119 k170 x = some R → ai_ev ap_P 135 (197, [some (.ref 943), some (.int x.2.1), w2, some (.int x.2.2.1), some (.int x.2.2.2.1), some (.int x.2.2.2.2)], [], (v0 L, x.1)) (.inl none) (v0 L, R) :=
  fun hr => lo_ev (E := fun x R => ∀ (w2 : Option Value), ai_ev ap_P 135 (197, [some (.ref 943), some (.int x.2.1), w2, some (.int x.2.2.1), some (.int x.2.2.2.1), some (.int x.2.2.2.2)], [], (v0 L, x.1)) (.inl none) (v0 L, R)) (fun k hk x R hr => fun w2 => db_135_197 L hk119 hk170 (fun x w2 R hr => hk x R hr w2) x.1 x.2.1 x.2.2.1 x.2.2.2.1 x.2.2.2.2 w2 R hr) nf_F x R hr w2
noncomputable def fb_135_170 (k119 : (am_G × Int32) → Option (am_G)) (k170 : (am_G × Int32 × Int32) → Option (am_G)) (g : am_G) (u1 : Int32) (u3 : Int32) : Option (am_G) := lo_g (ai_in u1 80) (if (am_i g 981 u1.toNatClampNeg) ≤ u3 then k119 (g, (u1 + 1)) else if (am_i g 976 u1.toNatClampNeg) = 8 then fh_135_197 k119 k170 (g, u1, u3, 0, 0) else k119 (g, (u1 + 1)))
set_option maxRecDepth 20000 in
theorem db_135_170 (L : Nat) {k119 : (am_G × Int32) → Option (am_G)} {k170 : (am_G × Int32 × Int32) → Option (am_G)} (hk119 : ∀ (x : am_G × Int32) (w2 w3 w4 w5 : Option Value) (R : am_G), k119 x = some R → ai_ev ap_P 135 (119, [some (.ref 943), some (.int x.2), w2, w3, w4, w5], [], (v0 L, x.1)) (.inl none) (v0 L, R)) (hk170 : ∀ (x : am_G × Int32 × Int32) (w2 w4 w5 : Option Value) (R : am_G), k170 x = some R → ai_ev ap_P 135 (170, [some (.ref 943), some (.int x.2.1), w2, some (.int x.2.2), w4, w5], [], (v0 L, x.1)) (.inl none) (v0 L, R)) (g : am_G) (u1 : Int32) (u3 : Int32) (w2 w4 w5 : Option Value) (R : am_G) : fb_135_170 k119 k170 g u1 u3 = some R → ai_ev ap_P 135 (170, [some (.ref 943), some (.int u1), w2, some (.int u3), w4, w5], [], (v0 L, g)) (.inl none) (v0 L, R) := by
  unfold fb_135_170
  refine ev_gd (c := ai_in u1 80) (fun hc1 => ?_)
  refine ev_jm 4 (t := (177, [some (.ref 943), some (.int u1), none, some (.int u3), none, none], [.int (am_i g 981 u1.toNatClampNeg), .int u3], (v0 L, g))) (ai_gd (c := ai_in u1 80) rfl hc1) ?_
  refine ev_if 0 (p := (am_i g 981 u1.toNatClampNeg) ≤ u3) (a := 264) (b := 180) (T := ([some (.ref 943), some (.int u1), none, some (.int u3), none, none], [], (v0 L, g))) rfl ?_ ?_
  · refine ev_jm 1 (t := (119, [some (.ref 943), some (.int (u1 + 1)), none, none, none, none], [], (v0 L, g))) rfl ?_
    exact hk119 (g, (u1 + 1)) none none none none _
  · refine ev_jm 3 (t := (186, [some (.ref 943), some (.int u1), none, some (.int u3), none, none], [.int (am_i g 976 u1.toNatClampNeg)], (v0 L, g))) (ai_gd (c := ai_in u1 80) rfl hc1) ?_
    refine ev_in 1 (p := (am_i g 976 u1.toNatClampNeg) = 8) (a := 264) (b := 191) (T := ([some (.ref 943), some (.int u1), none, some (.int u3), none, none], [], (v0 L, g))) rfl ?_ ?_
    · refine ev_jm 3 (t := (197, [some (.ref 943), some (.int u1), none, some (.int u3), some (.int 0), some (.int 0)], [], (v0 L, g))) rfl ?_
      exact dh_135_197 L hk119 hk170 (g, u1, u3, 0, 0) none _
    · refine ev_jm 1 (t := (119, [some (.ref 943), some (.int (u1 + 1)), none, none, none, none], [], (v0 L, g))) rfl ?_
      exact hk119 (g, (u1 + 1)) none none none none _
noncomputable def fh_135_170 (k119 : (am_G × Int32) → Option (am_G)) (x : am_G × Int32 × Int32) : Option (am_G) := lo_it (fun k x => fb_135_170 k119 k x.1 x.2.1 x.2.2) nf_F x
set_option maxRecDepth 20000 in
theorem dh_135_170 (L : Nat) {k119 : (am_G × Int32) → Option (am_G)} (hk119 : ∀ (x : am_G × Int32) (w2 w3 w4 w5 : Option Value) (R : am_G), k119 x = some R → ai_ev ap_P 135 (119, [some (.ref 943), some (.int x.2), w2, w3, w4, w5], [], (v0 L, x.1)) (.inl none) (v0 L, R)) (x : am_G × Int32 × Int32) (w2 w4 w5 : Option Value) (R : am_G) : fh_135_170 k119 x = some R → ai_ev ap_P 135 (170, [some (.ref 943), some (.int x.2.1), w2, some (.int x.2.2), w4, w5], [], (v0 L, x.1)) (.inl none) (v0 L, R) :=
  fun hr => lo_ev (E := fun x R => ∀ (w2 w4 w5 : Option Value), ai_ev ap_P 135 (170, [some (.ref 943), some (.int x.2.1), w2, some (.int x.2.2), w4, w5], [], (v0 L, x.1)) (.inl none) (v0 L, R)) (fun k hk x R hr => fun w2 w4 w5 => db_135_170 L hk119 (fun x w2 w4 w5 R hr => hk x R hr w2 w4 w5) x.1 x.2.1 x.2.2 w2 w4 w5 R hr) nf_F x R hr w2 w4 w5
noncomputable def fb_135_119 (k119 : (am_G × Int32) → Option (am_G)) (g : am_G) (u1 : Int32) : Option (am_G) := if (am_i g 943 77) ≤ u1 then some g else lo_g (ai_in u1 80) (lo_p (fm_48 g (am_i g 974 u1.toNatClampNeg)) fun y2 => if (am_i g 976 u1.toNatClampNeg) = 8 then if y2 < 0 then fh_135_170 k119 (g, u1, 0) else lo_g (ai_in y2 40) (if (am_i g 958 y2.toNatClampNeg) = 0 then lo_p (fm_24 g 19) fun g6 => fh_135_170 k119 (g6, u1, 0) else fh_135_170 k119 (g, u1, 0)) else fh_135_170 k119 (g, u1, 0))
set_option maxRecDepth 20000 in
theorem db_135_119 (L : Nat) {k119 : (am_G × Int32) → Option (am_G)} (hk119 : ∀ (x : am_G × Int32) (w2 w3 w4 w5 : Option Value) (R : am_G), k119 x = some R → ai_ev ap_P 135 (119, [some (.ref 943), some (.int x.2), w2, w3, w4, w5], [], (v0 L, x.1)) (.inl none) (v0 L, R)) (g : am_G) (u1 : Int32) (w2 w3 w4 w5 : Option Value) (R : am_G) : fb_135_119 k119 g u1 = some R → ai_ev ap_P 135 (119, [some (.ref 943), some (.int u1), w2, w3, w4, w5], [], (v0 L, g)) (.inl none) (v0 L, R) := by
  unfold fb_135_119
  refine ev_if 3 (p := (am_i g 943 77) ≤ u1) (a := 270) (b := 127) (T := ([some (.ref 943), some (.int u1), none, none, none, none], [], (v0 L, g))) rfl ?_ ?_
  · exact fun hR => by cases hR; exact ev_rt 0 rfl
  · refine ev_gd (c := ai_in u1 80) (fun hc1 => ?_)
    refine ev_jm 4 (t := (134, [some (.ref 943), some (.int u1), none, none, none, none], [.int (am_i g 974 u1.toNatClampNeg), .ref 943], (v0 L, g))) (ai_gd (c := ai_in u1 80) rfl hc1) ?_
    refine ev_op 0 (as := [.ref 943, .int (am_i g 974 u1.toNatClampNeg)]) (pc := 137) (Lc := [some (.ref 943), some (.int u1), none, none, none, none]) (st := []) (h1 := (v0 L, g)) (e := ez_i) rfl (dm_48 L g (am_i g 974 u1.toNatClampNeg)) (fun y2 => ?_)
    refine ev_jm 4 (t := (144, [some (.ref 943), some (.int u1), some (.int y2), none, none, none], [.int (am_i g 976 u1.toNatClampNeg)], (v0 L, g))) (ai_gd (c := ai_in u1 80) rfl hc1) ?_
    refine ev_in 1 (p := (am_i g 976 u1.toNatClampNeg) = 8) (a := 168) (b := 149) (T := ([some (.ref 943), some (.int u1), some (.int y2), none, none, none], [], (v0 L, g))) rfl ?_ ?_
    · refine ev_if 1 (p := y2 < 0) (a := 168) (b := 153) (T := ([some (.ref 943), some (.int u1), some (.int y2), none, none, none], [], (v0 L, g))) rfl ?_ ?_
      · refine ev_jm 1 (t := (170, [some (.ref 943), some (.int u1), none, some (.int 0), none, none], [], (v0 L, g))) rfl ?_
        exact dh_135_170 L hk119 (g, u1, 0) none none none _
      · refine ev_gd (c := ai_in y2 40) (fun hc4 => ?_)
        refine ev_jm 3 (t := (159, [some (.ref 943), some (.int u1), some (.int y2), none, none, none], [.int (am_i g 958 y2.toNatClampNeg)], (v0 L, g))) (ai_gd (c := ai_in y2 40) rfl hc4) ?_
        refine ev_in 0 (p := (am_i g 958 y2.toNatClampNeg) = 0) (a := 168) (b := 162) (T := ([some (.ref 943), some (.int u1), some (.int y2), none, none, none], [], (v0 L, g))) rfl ?_ ?_
        · refine ev_ov0 2 (as := [.ref 943, .int 19]) (pc := 168) (Lc := [some (.ref 943), some (.int u1), some (.int y2), none, none, none]) (st := []) (V := v0 L) (g1 := g) rfl (dm_24 L g 19) (fun g6 => ?_)
          refine ev_jm 1 (t := (170, [some (.ref 943), some (.int u1), none, some (.int 0), none, none], [], (v0 L, g6))) rfl ?_
          exact dh_135_170 L hk119 (g6, u1, 0) none none none _
        · refine ev_jm 1 (t := (170, [some (.ref 943), some (.int u1), none, some (.int 0), none, none], [], (v0 L, g))) rfl ?_
          exact dh_135_170 L hk119 (g, u1, 0) none none none _
    · refine ev_jm 1 (t := (170, [some (.ref 943), some (.int u1), none, some (.int 0), none, none], [], (v0 L, g))) rfl ?_
      exact dh_135_170 L hk119 (g, u1, 0) none none none _
noncomputable def fh_135_119  (x : am_G × Int32) : Option (am_G) := lo_it (fun k x => fb_135_119 k x.1 x.2) nf_F x
set_option maxRecDepth 20000 in
theorem dh_135_119 (L : Nat)   (x : am_G × Int32) (w2 w3 w4 w5 : Option Value) (R : am_G) : fh_135_119  x = some R → ai_ev ap_P 135 (119, [some (.ref 943), some (.int x.2), w2, w3, w4, w5], [], (v0 L, x.1)) (.inl none) (v0 L, R) :=
  fun hr => lo_ev (E := fun x R => ∀ (w2 w3 w4 w5 : Option Value), ai_ev ap_P 135 (119, [some (.ref 943), some (.int x.2), w2, w3, w4, w5], [], (v0 L, x.1)) (.inl none) (v0 L, R)) (fun k hk x R hr => fun w2 w3 w4 w5 => db_135_119 L (fun x w2 w3 w4 w5 R hr => hk x R hr w2 w3 w4 w5) x.1 x.2 w2 w3 w4 w5 R hr) nf_F x R hr w2 w3 w4 w5
noncomputable def fb_135_2 (k2 : (am_G × Int32) → Option (am_G)) (g : am_G) (u1 : Int32) : Option (am_G) := if (am_i g 943 128) ≤ u1 then fh_135_119 (g, 0) else fh_135_14 k2 (g, u1, 0, 0)
set_option maxRecDepth 20000 in
theorem db_135_2 (L : Nat) {k2 : (am_G × Int32) → Option (am_G)} (hk2 : ∀ (x : am_G × Int32) (w2 w3 w4 w5 : Option Value) (R : am_G), k2 x = some R → ai_ev ap_P 135 (2, [some (.ref 943), some (.int x.2), w2, w3, w4, w5], [], (v0 L, x.1)) (.inl none) (v0 L, R)) (g : am_G) (u1 : Int32) (w2 w3 w4 w5 : Option Value) (R : am_G) : fb_135_2 k2 g u1 = some R → ai_ev ap_P 135 (2, [some (.ref 943), some (.int u1), w2, w3, w4, w5], [], (v0 L, g)) (.inl none) (v0 L, R) := by
  unfold fb_135_2
  refine ev_if 3 (p := (am_i g 943 128) ≤ u1) (a := 117) (b := 10) (T := ([some (.ref 943), some (.int u1), none, none, none, none], [], (v0 L, g))) rfl ?_ ?_
  · refine ev_jm 1 (t := (119, [some (.ref 943), some (.int 0), none, none, none, none], [], (v0 L, g))) rfl ?_
    exact dh_135_119 L (g, 0) none none none none _
  · refine ev_jm 3 (t := (14, [some (.ref 943), some (.int u1), some (.int 0), some (.int 0), none, none], [], (v0 L, g))) rfl ?_
    exact dh_135_14 L hk2 (g, u1, 0, 0) none none _
noncomputable def fh_135_2  (x : am_G × Int32) : Option (am_G) := lo_it (fun k x => fb_135_2 k x.1 x.2) nf_F x
set_option maxRecDepth 20000 in
theorem dh_135_2 (L : Nat)   (x : am_G × Int32) (w2 w3 w4 w5 : Option Value) (R : am_G) : fh_135_2  x = some R → ai_ev ap_P 135 (2, [some (.ref 943), some (.int x.2), w2, w3, w4, w5], [], (v0 L, x.1)) (.inl none) (v0 L, R) :=
  fun hr => lo_ev (E := fun x R => ∀ (w2 w3 w4 w5 : Option Value), ai_ev ap_P 135 (2, [some (.ref 943), some (.int x.2), w2, w3, w4, w5], [], (v0 L, x.1)) (.inl none) (v0 L, R)) (fun k hk x R hr => fun w2 w3 w4 w5 => db_135_2 L (fun x w2 w3 w4 w5 R hr => hk x R hr w2 w3 w4 w5) x.1 x.2 w2 w3 w4 w5 R hr) nf_F x R hr w2 w3 w4 w5
/-- DeclaredMarkupModel.last()V -/
noncomputable def fm_135 (g : am_G)  : Option (am_G) := fh_135_2 (g, 0)
set_option maxRecDepth 20000 in
theorem dm_135 (L : Nat) (g : am_G)  (R : am_G) : fm_135 g  = some R → ai_ev ap_P 135 (ai_e0 ap_P 135 [.ref 943] (v0 L, g)) (.inl none) (v0 L, R) := by
  show _ → ai_ev ap_P 135 (0, [some (.ref 943), none, none, none, none, none], [], (v0 L, g)) _ _
  unfold fm_135
  refine ev_jm 1 (t := (2, [some (.ref 943), some (.int 0), none, none, none, none], [], (v0 L, g))) rfl ?_
  exact dh_135_2 L (g, 0) none none none none _
noncomputable def fj_138_96  (g : am_G) : Option (Int32 × am_G) := if (am_i g 943 145) = 0 then some (3, g) else some (2, g)
theorem dj_138_96 (L : Nat)   (g : am_G) (w1 w2 : Option Value) (R : Int32 × am_G) : fj_138_96  g = some R → ai_ev ap_P 138 (96, [some (.ref 943), w1, w2], [], (v0 L, g)) (.inl (ez_i R.1)) (v0 L, R.2) := by
  unfold fj_138_96
  refine ev_in 2 (p := (am_i g 943 145) = 0) (a := 107) (b := 103) (T := ([some (.ref 943), none, none], [], (v0 L, g))) rfl ?_ ?_
  · exact fun hR => by cases hR; exact ev_rt 2 rfl
  · exact fun hR => by cases hR; exact ev_rt 1 rfl
noncomputable def fj_138_58  (g : am_G) (t1 : Int32) : Option (Int32 × am_G) := lo_g ((decide (t1 = 0) || decide (t1 = 1))) (if t1 = 0 then some (1, (am_si (am_si (am_si g 943 146 t1) 943 138 0) 943 145 0)) else lo_p (fm_135 (am_si g 943 146 t1) ) fun g3 => if (am_i g3 943 44) = 0 then fj_138_96 (am_si g3 943 145 1) else fj_138_96 g3)
theorem dj_138_58 (L : Nat)   (g : am_G) (t1 : Int32) (w1 w2 : Option Value) (R : Int32 × am_G) : fj_138_58  g t1 = some R → ai_ev ap_P 138 (58, [some (.ref 943), w1, w2], [.int t1, .ref 943], (v0 L, g)) (.inl (ez_i R.1)) (v0 L, R.2) := by
  unfold fj_138_58
  refine ev_gd (c := (decide (t1 = 0) || decide (t1 = 1))) (fun hc1 => ?_)
  refine ev_pb 0 (d := (decide (t1 = 0) || decide (t1 = 1))) (h2 := (v0 L, (am_si g 943 146 t1))) (pc := 61) (Lc := [some (.ref 943), none, none]) (st := []) rfl hc1 ?_
  refine ev_in 2 (p := t1 = 0) (a := 80) (b := 68) (T := ([some (.ref 943), none, none], [], (v0 L, (am_si g 943 146 t1)))) rfl ?_ ?_
  · exact fun hR => by cases hR; exact ev_rt 7 rfl
  · refine ev_ov0 1 (as := [.ref 943]) (pc := 84) (Lc := [some (.ref 943), none, none]) (st := []) (V := v0 L) (g1 := (am_si g 943 146 t1)) rfl (dm_135 L (am_si g 943 146 t1) ) (fun g3 => ?_)
    refine ev_in 2 (p := (am_i g3 943 44) = 0) (a := 96) (b := 91) (T := ([some (.ref 943), none, none], [], (v0 L, g3))) rfl ?_ ?_
    · refine ev_jm 2 (t := (96, [some (.ref 943), none, none], [], (v0 L, (am_si g3 943 145 1)))) rfl ?_
      exact dj_138_96 L (am_si g3 943 145 1) none none _
    · exact dj_138_96 L g3 none none _
/-- DeclaredMarkupModel.judge(II)I -/
noncomputable def fm_138 (g : am_G) (u1 : Int32) (u2 : Int32) : Option (Int32 × am_G) := if u1 < 0 then some (0, g) else if (am_i g 943 1) < u1 then some (0, g) else if u2 < 0 then some (0, g) else if u2 ≤ 100000 then lo_p (fm_136 (am_si g 943 15 u2) ) fun g2 => lo_i (fm_137 (am_si (am_si g2 943 6 u1) 943 1 0) u1) fun y3 g4 => if y3 = 0 then fj_138_58 g4 1 else fj_138_58 g4 0 else some (0, g)
theorem dm_138 (L : Nat) (g : am_G) (u1 : Int32) (u2 : Int32) (R : Int32 × am_G) : fm_138 g u1 u2 = some R → ai_ev ap_P 138 (ai_e0 ap_P 138 [.ref 943, .int u1, .int u2] (v0 L, g)) (.inl (ez_i R.1)) (v0 L, R.2) := by
  show _ → ai_ev ap_P 138 (0, [some (.ref 943), some (.int u1), some (.int u2)], [], (v0 L, g)) _ _
  unfold fm_138
  refine ev_if 1 (p := u1 < 0) (a := 23) (b := 4) (T := ([some (.ref 943), some (.int u1), some (.int u2)], [], (v0 L, g))) rfl ?_ ?_
  · exact fun hR => by cases hR; exact ev_rt 1 rfl
  · refine ev_if 3 (p := (am_i g 943 1) < u1) (a := 23) (b := 12) (T := ([some (.ref 943), some (.int u1), some (.int u2)], [], (v0 L, g))) rfl ?_ ?_
    · exact fun hR => by cases hR; exact ev_rt 1 rfl
    · refine ev_if 1 (p := u2 < 0) (a := 23) (b := 16) (T := ([some (.ref 943), some (.int u1), some (.int u2)], [], (v0 L, g))) rfl ?_ ?_
      · exact fun hR => by cases hR; exact ev_rt 1 rfl
      · refine ev_if 2 (p := u2 ≤ 100000) (a := 25) (b := 23) (T := ([some (.ref 943), some (.int u1), some (.int u2)], [], (v0 L, g))) rfl ?_ ?_
        · refine ev_ov0 4 (as := [.ref 943]) (pc := 34) (Lc := [some (.ref 943), some (.int u1), some (.int u2)]) (st := []) (V := v0 L) (g1 := (am_si g 943 15 u2)) rfl (dm_136 L (am_si g 943 15 u2) ) (fun g2 => ?_)
          refine ev_oi 9 (as := [.ref 943, .int u1]) (pc := 50) (Lc := [some (.ref 943), some (.int u1), some (.int u2)]) (st := [.ref 943]) (V := v0 L) (g1 := (am_si (am_si g2 943 6 u1) 943 1 0)) (e := ez_i) rfl (dm_137 L (am_si (am_si g2 943 6 u1) 943 1 0) u1) (fun y3 g4 => ?_)
          refine ev_in 0 (p := y3 = 0) (a := 57) (b := 53) (T := ([some (.ref 943), some (.int u1), some (.int u2)], [.ref 943], (v0 L, g4))) rfl ?_ ?_
          · refine ev_jm 1 (t := (58, [some (.ref 943), some (.int u1), some (.int u2)], [.int 1, .ref 943], (v0 L, g4))) rfl ?_
            exact dj_138_58 L g4 1 (some (.int u1)) (some (.int u2)) _
          · refine ev_jm 0 (t := (58, [some (.ref 943), some (.int u1), some (.int u2)], [.int 0, .ref 943], (v0 L, g4))) rfl ?_
            exact dj_138_58 L g4 0 (some (.int u1)) (some (.int u2)) _
        · exact fun hR => by cases hR; exact ev_rt 1 rfl
/-- DeclaredMarkup.fault()I -/
noncomputable def fm_6 (g : am_G)  : Option (Int32) := some (am_i g 33 11)
theorem dm_6 (L : Nat) (g : am_G)  (R : Int32) : fm_6 g  = some R → ai_ev ap_P 6 (ai_e0 ap_P 6 [.ref 32] (v0 L, g)) (.inl (ez_i R)) (v0 L, g) := by
  show _ → ai_ev ap_P 6 (0, [some (.ref 32)], [], (v0 L, g)) _ _
  unfold fm_6
  exact fun hR => by cases hR; exact ev_rt 3 rfl
/-- DeclaredMarkupModel.fault()I -/
noncomputable def fm_139 (g : am_G)  : Option (Int32) := some (am_i g 943 142)
theorem dm_139 (L : Nat) (g : am_G)  (R : Int32) : fm_139 g  = some R → ai_ev ap_P 139 (ai_e0 ap_P 139 [.ref 943] (v0 L, g)) (.inl (ez_i R)) (v0 L, g) := by
  show _ → ai_ev ap_P 139 (0, [some (.ref 943)], [], (v0 L, g)) _ _
  unfold fm_139
  exact fun hR => by cases hR; exact ev_rt 2 rfl
/-- DeclaredMarkup.place()I -/
noncomputable def fm_7 (g : am_G)  : Option (Int32) := some (am_i g 33 12)
theorem dm_7 (L : Nat) (g : am_G)  (R : Int32) : fm_7 g  = some R → ai_ev ap_P 7 (ai_e0 ap_P 7 [.ref 32] (v0 L, g)) (.inl (ez_i R)) (v0 L, g) := by
  show _ → ai_ev ap_P 7 (0, [some (.ref 32)], [], (v0 L, g)) _ _
  unfold fm_7
  exact fun hR => by cases hR; exact ev_rt 3 rfl
/-- DeclaredMarkupModel.place()I -/
noncomputable def fm_140 (g : am_G)  : Option (Int32) := some (am_i g 943 143)
theorem dm_140 (L : Nat) (g : am_G)  (R : Int32) : fm_140 g  = some R → ai_ev ap_P 140 (ai_e0 ap_P 140 [.ref 943] (v0 L, g)) (.inl (ez_i R)) (v0 L, g) := by
  show _ → ai_ev ap_P 140 (0, [some (.ref 943)], [], (v0 L, g)) _ _
  unfold fm_140
  exact fun hR => by cases hR; exact ev_rt 2 rfl
/-- DeclaredMarkup.limit()I -/
noncomputable def fm_8 (g : am_G)  : Option (Int32) := some (am_i g 33 13)
theorem dm_8 (L : Nat) (g : am_G)  (R : Int32) : fm_8 g  = some R → ai_ev ap_P 8 (ai_e0 ap_P 8 [.ref 32] (v0 L, g)) (.inl (ez_i R)) (v0 L, g) := by
  show _ → ai_ev ap_P 8 (0, [some (.ref 32)], [], (v0 L, g)) _ _
  unfold fm_8
  exact fun hR => by cases hR; exact ev_rt 3 rfl
/-- DeclaredMarkupModel.limit()I -/
noncomputable def fm_141 (g : am_G)  : Option (Int32) := some (am_i g 943 144)
theorem dm_141 (L : Nat) (g : am_G)  (R : Int32) : fm_141 g  = some R → ai_ev ap_P 141 (ai_e0 ap_P 141 [.ref 943] (v0 L, g)) (.inl (ez_i R)) (v0 L, g) := by
  show _ → ai_ev ap_P 141 (0, [some (.ref 943)], [], (v0 L, g)) _ _
  unfold fm_141
  exact fun hR => by cases hR; exact ev_rt 2 rfl
/-- DeclaredMarkup.broken()I -/
noncomputable def fm_9 (g : am_G)  : Option (Int32) := some (am_i g 33 14)
theorem dm_9 (L : Nat) (g : am_G)  (R : Int32) : fm_9 g  = some R → ai_ev ap_P 9 (ai_e0 ap_P 9 [.ref 32] (v0 L, g)) (.inl (ez_i R)) (v0 L, g) := by
  show _ → ai_ev ap_P 9 (0, [some (.ref 32)], [], (v0 L, g)) _ _
  unfold fm_9
  exact fun hR => by cases hR; exact ev_rt 3 rfl
/-- DeclaredMarkupModel.broken()I -/
noncomputable def fm_142 (g : am_G)  : Option (Int32) := some (am_i g 943 145)
theorem dm_142 (L : Nat) (g : am_G)  (R : Int32) : fm_142 g  = some R → ai_ev ap_P 142 (ai_e0 ap_P 142 [.ref 943] (v0 L, g)) (.inl (ez_i R)) (v0 L, g) := by
  show _ → ai_ev ap_P 142 (0, [some (.ref 943)], [], (v0 L, g)) _ _
  unfold fm_142
  exact fun hR => by cases hR; exact ev_rt 2 rfl
noncomputable def fb_198_84 (k84 : (am_G × Int32 × Int64 × Int32) → Option (Int64 × am_G)) (g : am_G) (u1 : Int32) (u2 : Int64) (u4 : Int32) : Option (Int64 × am_G) := if (am_i g 872 2) ≤ u4 then if u1 = 0 then some (0, (am_si (am_si (am_si g 872 2 ((am_i g 872 2) - u1)) 872 3 ((am_i g 872 3) - u1)) 872 4 ((am_i g 872 4) + u1))) else some (u2, (am_si (am_si (am_si g 872 2 ((am_i g 872 2) - u1)) 872 3 ((am_i g 872 3) - u1)) 872 4 ((am_i g 872 4) + u1))) else lo_g (ai_in u4 30000) (lo_g (ai_in (u4 - u1) 30000) (k84 ((am_si g 873 ((u4 - u1)).toNatClampNeg ((am_i g 873 u4.toNatClampNeg).toInt8.toInt32)), u1, u2, (u4 + 1))))
theorem db_198_84 (L : Nat) {k84 : (am_G × Int32 × Int64 × Int32) → Option (Int64 × am_G)} (hk84 : ∀ (x : am_G × Int32 × Int64 × Int32) (w3 : Option Value) (R : Int64 × am_G), k84 x = some R → ai_ev ap_P 198 (84, [some (.ref 872), some (.int x.2.1), some (.long x.2.2.1), w3, some (.int x.2.2.2)], [], (v0 L, x.1)) (.inl (ez_j R.1)) (v0 L, R.2)) (g : am_G) (u1 : Int32) (u2 : Int64) (u4 : Int32) (w3 : Option Value) (R : Int64 × am_G) : fb_198_84 k84 g u1 u2 u4 = some R → ai_ev ap_P 198 (84, [some (.ref 872), some (.int u1), some (.long u2), w3, some (.int u4)], [], (v0 L, g)) (.inl (ez_j R.1)) (v0 L, R.2) := by
  unfold fb_198_84
  refine ev_if 3 (p := (am_i g 872 2) ≤ u4) (a := 115) (b := 93) (T := ([some (.ref 872), some (.int u1), some (.long u2), none, some (.int u4)], [], (v0 L, g))) rfl ?_ ?_
  · refine ev_in 19 (p := u1 = 0) (a := 153) (b := 149) (T := ([some (.ref 872), some (.int u1), some (.long u2), none, some (.int u4)], [], (v0 L, (am_si (am_si (am_si g 872 2 ((am_i g 872 2) - u1)) 872 3 ((am_i g 872 3) - u1)) 872 4 ((am_i g 872 4) + u1))))) rfl ?_ ?_
    · exact fun hR => by cases hR; exact ev_rt 2 rfl
    · exact fun hR => by cases hR; exact ev_rt 1 rfl
  · refine ev_gd (c := ai_in u4 30000) (fun hc1 => ?_)
    refine ev_jm 8 (t := (108, [some (.ref 872), some (.int u1), some (.long u2), none, some (.int u4)], [.int (am_i g 873 u4.toNatClampNeg), .int (u4 - u1), .ref 873], (v0 L, g))) (ai_gd (c := ai_in u4 30000) rfl hc1) ?_
    refine ev_gd (c := ai_in (u4 - u1) 30000) (fun hc2 => ?_)
    refine ev_jm 0 (t := (109, [some (.ref 872), some (.int u1), some (.long u2), none, some (.int u4)], [], (v0 L, (am_si g 873 ((u4 - u1)).toNatClampNeg ((am_i g 873 u4.toNatClampNeg).toInt8.toInt32))))) (ai_gd (c := ai_in (u4 - u1) 30000) rfl hc2) ?_
    refine ev_jm 1 (t := (84, [some (.ref 872), some (.int u1), some (.long u2), none, some (.int (u4 + 1))], [], (v0 L, (am_si g 873 ((u4 - u1)).toNatClampNeg ((am_i g 873 u4.toNatClampNeg).toInt8.toInt32))))) rfl ?_
    exact hk84 ((am_si g 873 ((u4 - u1)).toNatClampNeg ((am_i g 873 u4.toNatClampNeg).toInt8.toInt32)), u1, u2, (u4 + 1)) none _
noncomputable def fh_198_84  (x : am_G × Int32 × Int64 × Int32) : Option (Int64 × am_G) := lo_it (fun k x => fb_198_84 k x.1 x.2.1 x.2.2.1 x.2.2.2) nf_F x
theorem dh_198_84 (L : Nat)   (x : am_G × Int32 × Int64 × Int32) (w3 : Option Value) (R : Int64 × am_G) : fh_198_84  x = some R → ai_ev ap_P 198 (84, [some (.ref 872), some (.int x.2.1), some (.long x.2.2.1), w3, some (.int x.2.2.2)], [], (v0 L, x.1)) (.inl (ez_j R.1)) (v0 L, R.2) :=
  fun hr => lo_ev (E := fun x R => ∀ (w3 : Option Value), ai_ev ap_P 198 (84, [some (.ref 872), some (.int x.2.1), some (.long x.2.2.1), w3, some (.int x.2.2.2)], [], (v0 L, x.1)) (.inl (ez_j R.1)) (v0 L, R.2)) (fun k hk x R hr => fun w3 => db_198_84 L (fun x w3 R hr => hk x R hr w3) x.1 x.2.1 x.2.2.1 x.2.2.2 w3 R hr) nf_F x R hr w3
noncomputable def fj_198_78  (g : am_G) (u1 : Int32) (u2 : Int64) (t1 : Int32) : Option (Int64 × am_G) := lo_g ((decide (t1 = 0) || decide (t1 = 1))) (fh_198_84 ((am_si g 872 6 t1), u1, u2, u1))
theorem dj_198_78 (L : Nat)   (g : am_G) (u1 : Int32) (u2 : Int64) (t1 : Int32) (w3 w4 : Option Value) (R : Int64 × am_G) : fj_198_78  g u1 u2 t1 = some R → ai_ev ap_P 198 (78, [some (.ref 872), some (.int u1), some (.long u2), w3, w4], [.int t1, .ref 872], (v0 L, g)) (.inl (ez_j R.1)) (v0 L, R.2) := by
  unfold fj_198_78
  refine ev_gd (c := (decide (t1 = 0) || decide (t1 = 1))) (fun hc1 => ?_)
  refine ev_pb 0 (d := (decide (t1 = 0) || decide (t1 = 1))) (h2 := (v0 L, (am_si g 872 6 t1))) (pc := 81) (Lc := [some (.ref 872), some (.int u1), some (.long u2), none, none]) (st := []) rfl hc1 ?_
  refine ev_jm 1 (t := (84, [some (.ref 872), some (.int u1), some (.long u2), none, some (.int u1)], [], (v0 L, (am_si g 872 6 t1)))) rfl ?_
  exact dh_198_84 L ((am_si g 872 6 t1), u1, u2, u1) none _
noncomputable def fb_198_19 (k19 : (am_G × Int32 × Int64 × Int32) → Option (Int64 × am_G)) (g : am_G) (u1 : Int32) (u2 : Int64) (u4 : Int32) : Option (Int64 × am_G) := if u1 ≤ u4 then if u1 ≤ 0 then fh_198_84 (g, u1, u2, u1) else lo_g (ai_in (u1 - 1) 30000) (if (am_i g 873 ((u1 - 1)).toNatClampNeg) = 10 then fj_198_78 g u1 u2 1 else fj_198_78 g u1 u2 0) else lo_g (ai_in u4 30000) (lo_l (u2 ||| (((am_i g 873 u4.toNatClampNeg).toInt64 &&& 255) <<< ((48 - (8 * u4)).toInt64 &&& 63))) fun x3 => k19 (g, u1, x3, (u4 + 1)))
theorem db_198_19 (L : Nat) {k19 : (am_G × Int32 × Int64 × Int32) → Option (Int64 × am_G)} (hk19 : ∀ (x : am_G × Int32 × Int64 × Int32) (w3 : Option Value) (R : Int64 × am_G), k19 x = some R → ai_ev ap_P 198 (19, [some (.ref 872), some (.int x.2.1), some (.long x.2.2.1), w3, some (.int x.2.2.2)], [], (v0 L, x.1)) (.inl (ez_j R.1)) (v0 L, R.2)) (g : am_G) (u1 : Int32) (u2 : Int64) (u4 : Int32) (w3 : Option Value) (R : Int64 × am_G) : fb_198_19 k19 g u1 u2 u4 = some R → ai_ev ap_P 198 (19, [some (.ref 872), some (.int u1), some (.long u2), w3, some (.int u4)], [], (v0 L, g)) (.inl (ez_j R.1)) (v0 L, R.2) := by
  unfold fb_198_19
  refine ev_if 2 (p := u1 ≤ u4) (a := 55) (b := 25) (T := ([some (.ref 872), some (.int u1), some (.long u2), none, some (.int u4)], [], (v0 L, g))) rfl ?_ ?_
  · refine ev_if 1 (p := u1 ≤ 0) (a := 81) (b := 59) (T := ([some (.ref 872), some (.int u1), some (.long u2), none, some (.int u4)], [], (v0 L, g))) rfl ?_ ?_
    · refine ev_jm 1 (t := (84, [some (.ref 872), some (.int u1), some (.long u2), none, some (.int u1)], [], (v0 L, g))) rfl ?_
      exact dh_198_84 L (g, u1, u2, u1) none _
    · refine ev_gd (c := ai_in (u1 - 1) 30000) (fun hc1 => ?_)
      refine ev_jm 6 (t := (68, [some (.ref 872), some (.int u1), some (.long u2), none, some (.int u4)], [.int (am_i g 873 ((u1 - 1)).toNatClampNeg), .ref 872], (v0 L, g))) (ai_gd (c := ai_in (u1 - 1) 30000) rfl hc1) ?_
      refine ev_in 1 (p := (am_i g 873 ((u1 - 1)).toNatClampNeg) = 10) (a := 77) (b := 73) (T := ([some (.ref 872), some (.int u1), some (.long u2), none, some (.int u4)], [.ref 872], (v0 L, g))) rfl ?_ ?_
      · refine ev_jm 1 (t := (78, [some (.ref 872), some (.int u1), some (.long u2), none, some (.int u4)], [.int 1, .ref 872], (v0 L, g))) rfl ?_
        exact dj_198_78 L g u1 u2 1 none (some (.int u4)) _
      · refine ev_jm 0 (t := (78, [some (.ref 872), some (.int u1), some (.long u2), none, some (.int u4)], [.int 0, .ref 872], (v0 L, g))) rfl ?_
        exact dj_198_78 L g u1 u2 0 none (some (.int u4)) _
  · refine ev_gd (c := ai_in u4 30000) (fun hc2 => ?_)
    refine ev_jm 4 (t := (33, [some (.ref 872), some (.int u1), some (.long u2), none, some (.int u4)], [.int (am_i g 873 u4.toNatClampNeg), .long u2], (v0 L, g))) (ai_gd (c := ai_in u4 30000) rfl hc2) ?_
    refine ev_jm 9 (t := (48, [some (.ref 872), some (.int u1), some (.long u2), none, some (.int u4)], [.long (u2 ||| (((am_i g 873 u4.toNatClampNeg).toInt64 &&& 255) <<< ((48 - (8 * u4)).toInt64 &&& 63)))], (v0 L, g))) rfl ?_
    refine lo_e (S := fun (x3 : Int64) => (48, [some (.ref 872), some (.int u1), some (.long u2), none, some (.int u4)], [.long x3], (v0 L, g))) (fun x3 => ?_)
    refine ev_jm 2 (t := (19, [some (.ref 872), some (.int u1), some (.long x3), none, some (.int (u4 + 1))], [], (v0 L, g))) rfl ?_
    exact hk19 (g, u1, x3, (u4 + 1)) none _
noncomputable def fh_198_19  (x : am_G × Int32 × Int64 × Int32) : Option (Int64 × am_G) := lo_it (fun k x => fb_198_19 k x.1 x.2.1 x.2.2.1 x.2.2.2) nf_F x
theorem dh_198_19 (L : Nat)   (x : am_G × Int32 × Int64 × Int32) (w3 : Option Value) (R : Int64 × am_G) : fh_198_19  x = some R → ai_ev ap_P 198 (19, [some (.ref 872), some (.int x.2.1), some (.long x.2.2.1), w3, some (.int x.2.2.2)], [], (v0 L, x.1)) (.inl (ez_j R.1)) (v0 L, R.2) :=
  fun hr => lo_ev (E := fun x R => ∀ (w3 : Option Value), ai_ev ap_P 198 (19, [some (.ref 872), some (.int x.2.1), some (.long x.2.2.1), w3, some (.int x.2.2.2)], [], (v0 L, x.1)) (.inl (ez_j R.1)) (v0 L, R.2)) (fun k hk x R hr => fun w3 => db_198_19 L (fun x w3 R hr => hk x R hr w3) x.1 x.2.1 x.2.2.1 x.2.2.2 w3 R hr) nf_F x R hr w3
/-- DeclaredMarkup$Lines.take()J -/
noncomputable def fm_198 (g : am_G)  : Option (Int64 × am_G) := lo_p (fm_334 g 7 (am_i g 872 3)) fun y1 => lo_l (y1.toInt64 <<< ((56 : Int32).toInt64 &&& 63)) fun x3 => fh_198_19 (g, y1, x3, 0)
theorem dm_198 (L : Nat) (g : am_G)  (R : Int64 × am_G) : fm_198 g  = some R → ai_ev ap_P 198 (ai_e0 ap_P 198 [.ref 872] (v0 L, g)) (.inl (ez_j R.1)) (v0 L, R.2) := by
  show _ → ai_ev ap_P 198 (0, [some (.ref 872), none, none, none, none], [], (v0 L, g)) _ _
  unfold fm_198
  refine ev_op 3 (as := [.int 7, .int (am_i g 872 3)]) (pc := 9) (Lc := [some (.ref 872), none, none, none, none]) (st := []) (h1 := (v0 L, g)) (e := ez_i) rfl (dm_334 L g 7 (am_i g 872 3)) (fun y1 => ?_)
  refine ev_jm 4 (t := (15, [some (.ref 872), some (.int y1), none, none, none], [.long (y1.toInt64 <<< ((56 : Int32).toInt64 &&& 63))], (v0 L, g))) rfl ?_
  refine lo_e (S := fun (x3 : Int64) => (15, [some (.ref 872), some (.int y1), none, none, none], [.long x3], (v0 L, g))) (fun x3 => ?_)
  refine ev_jm 2 (t := (19, [some (.ref 872), some (.int y1), some (.long x3), none, some (.int 0)], [], (v0 L, g))) rfl ?_
  exact dh_198_19 L (g, y1, x3, 0) none _
/-- DeclaredMarkup.fetch()J -/
noncomputable def fm_10 (g : am_G)  : Option (Int64 × am_G) := lo_i (fm_198 g ) fun y1 g2 => some (y1, g2)
theorem dm_10 (L : Nat) (g : am_G)  (R : Int64 × am_G) : fm_10 g  = some R → ai_ev ap_P 10 (ai_e0 ap_P 10 [.ref 32] (v0 L, g)) (.inl (ez_j R.1)) (v0 L, R.2) := by
  show _ → ai_ev ap_P 10 (0, [some (.ref 32)], [], (v0 L, g)) _ _
  unfold fm_10
  refine ev_oi 3 (as := [.ref 872]) (pc := 10) (Lc := [some (.ref 32)]) (st := []) (V := v0 L) (g1 := g) (e := ez_j) rfl (dm_198 L g ) (fun y1 g2 => ?_)
  exact fun hR => by cases hR; exact ev_rt 0 rfl
noncomputable def fj_143_90 (k44 : (am_G × Int32 × Int64 × Int32) → Option (Int64 × am_G)) (g : am_G) (u1 : Int32) (u2 : Int64) (u4 : Int32) (t0 : Int64) : Option (Int64 × am_G) := lo_l (u2 ||| (t0 <<< ((48 - (8 * u4)).toInt64 &&& 63))) fun x1 => k44 (g, u1, x1, (u4 + 1))
theorem dj_143_90 (L : Nat) {k44 : (am_G × Int32 × Int64 × Int32) → Option (Int64 × am_G)} (hk44 : ∀ (x : am_G × Int32 × Int64 × Int32) (w3 w5 w6 w7 : Option Value) (R : Int64 × am_G), k44 x = some R → ai_ev ap_P 143 (44, [some (.ref 943), some (.int x.2.1), some (.long x.2.2.1), w3, some (.int x.2.2.2), w5, w6, w7], [], (v0 L, x.1)) (.inl (ez_j R.1)) (v0 L, R.2)) (g : am_G) (u1 : Int32) (u2 : Int64) (u4 : Int32) (t0 : Int64) (w3 w5 w6 w7 : Option Value) (R : Int64 × am_G) : fj_143_90 k44 g u1 u2 u4 t0 = some R → ai_ev ap_P 143 (90, [some (.ref 943), some (.int u1), some (.long u2), w3, some (.int u4), w5, w6, w7], [.long t0], (v0 L, g)) (.inl (ez_j R.1)) (v0 L, R.2) := by
  unfold fj_143_90
  refine ev_jm 9 (t := (105, [some (.ref 943), some (.int u1), some (.long u2), none, some (.int u4), none, some (.long t0), none], [.long (u2 ||| (t0 <<< ((48 - (8 * u4)).toInt64 &&& 63)))], (v0 L, g))) rfl ?_
  refine lo_e (S := fun (x1 : Int64) => (105, [some (.ref 943), some (.int u1), some (.long u2), none, some (.int u4), none, some (.long t0), none], [.long x1], (v0 L, g))) (fun x1 => ?_)
  refine ev_jm 2 (t := (44, [some (.ref 943), some (.int u1), some (.long x1), none, some (.int (u4 + 1)), none, some (.long t0), none], [], (v0 L, g))) rfl ?_
  exact hk44 (g, u1, x1, (u4 + 1)) none none (some (.long t0)) none _
noncomputable def fb_143_44 (k44 : (am_G × Int32 × Int64 × Int32) → Option (Int64 × am_G)) (g : am_G) (u1 : Int32) (u2 : Int64) (u4 : Int32) : Option (Int64 × am_G) := if u1 ≤ u4 then some (u2, (am_si g 943 139 ((am_i g 943 139) + u1))) else lo_l ((am_i g 943 139) + u4) fun x1 => if (15000 : Int32) ≤ x1 then lo_g (ai_in (x1 - 15000) 15000) (fj_143_90 k44 g u1 u2 u4 ((am_i g 1007 ((x1 - 15000)).toNatClampNeg).toInt64)) else lo_g (ai_in x1 15000) (fj_143_90 k44 g u1 u2 u4 ((am_i g 1006 x1.toNatClampNeg).toInt64))
theorem db_143_44 (L : Nat) {k44 : (am_G × Int32 × Int64 × Int32) → Option (Int64 × am_G)} (hk44 : ∀ (x : am_G × Int32 × Int64 × Int32) (w3 w5 w6 w7 : Option Value) (R : Int64 × am_G), k44 x = some R → ai_ev ap_P 143 (44, [some (.ref 943), some (.int x.2.1), some (.long x.2.2.1), w3, some (.int x.2.2.2), w5, w6, w7], [], (v0 L, x.1)) (.inl (ez_j R.1)) (v0 L, R.2)) (g : am_G) (u1 : Int32) (u2 : Int64) (u4 : Int32) (w3 w5 w6 w7 : Option Value) (R : Int64 × am_G) : fb_143_44 k44 g u1 u2 u4 = some R → ai_ev ap_P 143 (44, [some (.ref 943), some (.int u1), some (.long u2), w3, some (.int u4), w5, w6, w7], [], (v0 L, g)) (.inl (ez_j R.1)) (v0 L, R.2) := by
  unfold fb_143_44
  refine ev_if 2 (p := u1 ≤ u4) (a := 112) (b := 50) (T := ([some (.ref 943), some (.int u1), some (.long u2), none, some (.int u4), none, none, none], [], (v0 L, g))) rfl ?_ ?_
  · exact fun hR => by cases hR; exact ev_rt 7 rfl
  · refine ev_jm 3 (t := (57, [some (.ref 943), some (.int u1), some (.long u2), none, some (.int u4), none, none, none], [.int ((am_i g 943 139) + u4)], (v0 L, g))) rfl ?_
    refine lo_e (S := fun (x1 : Int32) => (57, [some (.ref 943), some (.int u1), some (.long u2), none, some (.int u4), none, none, none], [.int x1], (v0 L, g))) (fun x1 => ?_)
    refine ev_if 3 (p := (15000 : Int32) ≤ x1) (a := 78) (b := 67) (T := ([some (.ref 943), some (.int u1), some (.long u2), none, some (.int u4), some (.int x1), none, none], [], (v0 L, g))) rfl ?_ ?_
    · refine ev_gd (c := ai_in (x1 - 15000) 15000) (fun hc2 => ?_)
      refine ev_jm 5 (t := (89, [some (.ref 943), some (.int u1), some (.long u2), none, some (.int u4), some (.int x1), none, none], [.int (am_i g 1007 ((x1 - 15000)).toNatClampNeg)], (v0 L, g))) (ai_gd (c := ai_in (x1 - 15000) 15000) rfl hc2) ?_
      refine ev_jm 0 (t := (90, [some (.ref 943), some (.int u1), some (.long u2), none, some (.int u4), some (.int x1), none, none], [.long (am_i g 1007 ((x1 - 15000)).toNatClampNeg).toInt64], (v0 L, g))) rfl ?_
      exact dj_143_90 L hk44 g u1 u2 u4 ((am_i g 1007 ((x1 - 15000)).toNatClampNeg).toInt64) none (some (.int x1)) none none _
    · refine ev_gd (c := ai_in x1 15000) (fun hc3 => ?_)
      refine ev_jm 3 (t := (74, [some (.ref 943), some (.int u1), some (.long u2), none, some (.int u4), some (.int x1), none, none], [.int (am_i g 1006 x1.toNatClampNeg)], (v0 L, g))) (ai_gd (c := ai_in x1 15000) rfl hc3) ?_
      refine ev_jm 1 (t := (90, [some (.ref 943), some (.int u1), some (.long u2), none, some (.int u4), some (.int x1), none, none], [.long (am_i g 1006 x1.toNatClampNeg).toInt64], (v0 L, g))) rfl ?_
      exact dj_143_90 L hk44 g u1 u2 u4 ((am_i g 1006 x1.toNatClampNeg).toInt64) none (some (.int x1)) none none _
noncomputable def fh_143_44  (x : am_G × Int32 × Int64 × Int32) : Option (Int64 × am_G) := lo_it (fun k x => fb_143_44 k x.1 x.2.1 x.2.2.1 x.2.2.2) nf_F x
theorem dh_143_44 (L : Nat)   (x : am_G × Int32 × Int64 × Int32) (w3 w5 w6 w7 : Option Value) (R : Int64 × am_G) : fh_143_44  x = some R → ai_ev ap_P 143 (44, [some (.ref 943), some (.int x.2.1), some (.long x.2.2.1), w3, some (.int x.2.2.2), w5, w6, w7], [], (v0 L, x.1)) (.inl (ez_j R.1)) (v0 L, R.2) :=
  fun hr => lo_ev (E := fun x R => ∀ (w3 w5 w6 w7 : Option Value), ai_ev ap_P 143 (44, [some (.ref 943), some (.int x.2.1), some (.long x.2.2.1), w3, some (.int x.2.2.2), w5, w6, w7], [], (v0 L, x.1)) (.inl (ez_j R.1)) (v0 L, R.2)) (fun k hk x R hr => fun w3 w5 w6 w7 => db_143_44 L (fun x w3 w5 w6 w7 R hr => hk x R hr w3 w5 w6 w7) x.1 x.2.1 x.2.2.1 x.2.2.2 w3 w5 w6 w7 R hr) nf_F x R hr w3 w5 w6 w7
noncomputable def fj_143_28  (g : am_G) (t0 : Int32) : Option (Int64 × am_G) := if t0 = 0 then some (0, g) else lo_l (t0.toInt64 <<< ((56 : Int32).toInt64 &&& 63)) fun x1 => fh_143_44 (g, t0, x1, 0)
theorem dj_143_28 (L : Nat)   (g : am_G) (t0 : Int32) (w1 w2 w3 w4 w5 w6 w7 : Option Value) (R : Int64 × am_G) : fj_143_28  g t0 = some R → ai_ev ap_P 143 (28, [some (.ref 943), w1, w2, w3, w4, w5, w6, w7], [.int t0], (v0 L, g)) (.inl (ez_j R.1)) (v0 L, R.2) := by
  unfold fj_143_28
  refine ev_in 2 (p := t0 = 0) (a := 35) (b := 33) (T := ([some (.ref 943), some (.int t0), none, none, none, none, none, none], [], (v0 L, g))) rfl ?_ ?_
  · exact fun hR => by cases hR; exact ev_rt 1 rfl
  · refine ev_jm 3 (t := (40, [some (.ref 943), some (.int t0), none, none, none, none, none, none], [.long (t0.toInt64 <<< ((56 : Int32).toInt64 &&& 63))], (v0 L, g))) rfl ?_
    refine lo_e (S := fun (x1 : Int64) => (40, [some (.ref 943), some (.int t0), none, none, none, none, none, none], [.long x1], (v0 L, g))) (fun x1 => ?_)
    refine ev_jm 2 (t := (44, [some (.ref 943), some (.int t0), some (.long x1), none, some (.int 0), none, none, none], [], (v0 L, g))) rfl ?_
    exact dh_143_44 L (g, t0, x1, 0) none none none none _
/-- DeclaredMarkupModel.fetch()J -/
noncomputable def fm_143 (g : am_G)  : Option (Int64 × am_G) := if (7 : Int32) ≤ ((am_i g 943 138) - (am_i g 943 139)) then fj_143_28 g 7 else fj_143_28 g ((am_i g 943 138) - (am_i g 943 139))
theorem dm_143 (L : Nat) (g : am_G)  (R : Int64 × am_G) : fm_143 g  = some R → ai_ev ap_P 143 (ai_e0 ap_P 143 [.ref 943] (v0 L, g)) (.inl (ez_j R.1)) (v0 L, R.2) := by
  show _ → ai_ev ap_P 143 (0, [some (.ref 943), none, none, none, none, none, none, none], [], (v0 L, g)) _ _
  unfold fm_143
  refine ev_if 6 (p := (7 : Int32) ≤ ((am_i g 943 138) - (am_i g 943 139))) (a := 26) (b := 14) (T := ([some (.ref 943), none, none, none, none, none, none, none], [], (v0 L, g))) rfl ?_ ?_
  · refine ev_jm 0 (t := (28, [some (.ref 943), none, none, none, none, none, none, none], [.int 7], (v0 L, g))) rfl ?_
    exact dj_143_28 L g 7 none none none none none none none _
  · refine ev_jm 5 (t := (28, [some (.ref 943), none, none, none, none, none, none, none], [.int ((am_i g 943 138) - (am_i g 943 139))], (v0 L, g))) rfl ?_
    exact dj_143_28 L g ((am_i g 943 138) - (am_i g 943 139)) none none none none none none none _
/-- DeclaredMarkup.count(I)I -/
noncomputable def fm_11 (g : am_G) (u1 : Int32) : Option (Int32) := if u1 = 0 then some (am_i g 32 1) else if u1 = 1 then some (am_i g 872 2) else if u1 = 2 then some (am_i g 39 6) else if u1 = 3 then some (am_i g 49 5) else if u1 = 4 then some ((am_i g 855 5) + (am_i g 861 5)) else if u1 = 5 then some (am_i g 49 6) else if u1 = 6 then some (am_i g 33 15) else some (-1)
theorem dm_11 (L : Nat) (g : am_G) (u1 : Int32) (R : Int32) : fm_11 g u1 = some R → ai_ev ap_P 11 (ai_e0 ap_P 11 [.ref 32, .int u1] (v0 L, g)) (.inl (ez_i R)) (v0 L, g) := by
  show _ → ai_ev ap_P 11 (0, [some (.ref 32), some (.int u1)], [], (v0 L, g)) _ _
  unfold fm_11
  refine ev_sw 1 (ps := [(0, 44), (1, 49), (2, 60), (3, 71), (4, 82), (5, 104), (6, 115)]) (d := 123) (x := u1) (T := ([some (.ref 32), some (.int u1)], [], (v0 L, g))) rfl ?_
  refine sw_c ?_ ?_
  · exact fun hR => by cases hR; exact ev_rt 2 rfl
  refine sw_c ?_ ?_
  · exact fun hR => by cases hR; exact ev_rt 4 rfl
  refine sw_c ?_ ?_
  · exact fun hR => by cases hR; exact ev_rt 4 rfl
  refine sw_c ?_ ?_
  · exact fun hR => by cases hR; exact ev_rt 4 rfl
  refine sw_c ?_ ?_
  · exact fun hR => by cases hR; exact ev_rt 9 rfl
  refine sw_c ?_ ?_
  · exact fun hR => by cases hR; exact ev_rt 4 rfl
  refine sw_c ?_ ?_
  · exact fun hR => by cases hR; exact ev_rt 3 rfl
  refine sw_n ?_
  exact fun hR => by cases hR; exact ev_rt 1 rfl
/-- DeclaredMarkupModel.count(I)I -/
noncomputable def fm_144 (g : am_G) (u1 : Int32) : Option (Int32) := if u1 = 0 then some (am_i g 943 1) else if u1 = 1 then some ((am_i g 943 138) - (am_i g 943 139)) else if u1 = 2 then if (am_i g 943 146) = 0 then some 0 else some (am_i g 943 14) else if u1 = 3 then if (am_i g 943 146) = 0 then some 0 else some (am_i g 943 49) else if u1 = 4 then if (am_i g 943 146) = 0 then some 0 else some (am_i g 943 95) else if u1 = 5 then if (am_i g 943 146) = 0 then some 0 else some (am_i g 943 77) else if u1 = 6 then if (am_i g 943 146) = 0 then some 0 else some (am_i g 943 112) else some (-1)
theorem dm_144 (L : Nat) (g : am_G) (u1 : Int32) (R : Int32) : fm_144 g u1 = some R → ai_ev ap_P 144 (ai_e0 ap_P 144 [.ref 943, .int u1] (v0 L, g)) (.inl (ez_i R)) (v0 L, g) := by
  show _ → ai_ev ap_P 144 (0, [some (.ref 943), some (.int u1)], [], (v0 L, g)) _ _
  unfold fm_144
  refine ev_sw 1 (ps := [(0, 44), (1, 49), (2, 59), (3, 75), (4, 91), (5, 107), (6, 123)]) (d := 139) (x := u1) (T := ([some (.ref 943), some (.int u1)], [], (v0 L, g))) rfl ?_
  refine sw_c ?_ ?_
  · exact fun hR => by cases hR; exact ev_rt 2 rfl
  refine sw_c ?_ ?_
  · exact fun hR => by cases hR; exact ev_rt 5 rfl
  refine sw_c ?_ ?_
  · refine ev_if 2 (p := (am_i g 943 146) = 0) (a := 73) (b := 66) (T := ([some (.ref 943), some (.int u1)], [], (v0 L, g))) rfl ?_ ?_
    · exact fun hR => by cases hR; exact ev_rt 1 rfl
    · exact fun hR => by cases hR; exact ev_rt 3 rfl
  refine sw_c ?_ ?_
  · refine ev_if 2 (p := (am_i g 943 146) = 0) (a := 89) (b := 82) (T := ([some (.ref 943), some (.int u1)], [], (v0 L, g))) rfl ?_ ?_
    · exact fun hR => by cases hR; exact ev_rt 1 rfl
    · exact fun hR => by cases hR; exact ev_rt 3 rfl
  refine sw_c ?_ ?_
  · refine ev_if 2 (p := (am_i g 943 146) = 0) (a := 105) (b := 98) (T := ([some (.ref 943), some (.int u1)], [], (v0 L, g))) rfl ?_ ?_
    · exact fun hR => by cases hR; exact ev_rt 1 rfl
    · exact fun hR => by cases hR; exact ev_rt 3 rfl
  refine sw_c ?_ ?_
  · refine ev_if 2 (p := (am_i g 943 146) = 0) (a := 121) (b := 114) (T := ([some (.ref 943), some (.int u1)], [], (v0 L, g))) rfl ?_ ?_
    · exact fun hR => by cases hR; exact ev_rt 1 rfl
    · exact fun hR => by cases hR; exact ev_rt 3 rfl
  refine sw_c ?_ ?_
  · refine ev_if 2 (p := (am_i g 943 146) = 0) (a := 137) (b := 130) (T := ([some (.ref 943), some (.int u1)], [], (v0 L, g))) rfl ?_ ?_
    · exact fun hR => by cases hR; exact ev_rt 1 rfl
    · exact fun hR => by cases hR; exact ev_rt 3 rfl
  refine sw_n ?_
  exact fun hR => by cases hR; exact ev_rt 1 rfl
noncomputable def fb_1_18 (L : Nat) (k18 : (am_G × Int32) → Option (Int32 × am_G)) (g : am_G) (u3 : Int32) : Option (Int32 × am_G) := if ((nI L) - 6) < u3 then some (1, g) else lo_g (ai_in u3 L) (if ((am_i g 0 u3.toNatClampNeg) &&& 7) = 0 then lo_g (ai_in (u3 + 1) L) (lo_g (ai_in (u3 + 2) L) (lo_g (ai_in (u3 + 3) L) (lo_g (ai_in (u3 + 4) L) (lo_g (ai_in (u3 + 5) L) (lo_i (fm_4 g (am_i g 0 ((u3 + 1)).toNatClampNeg) (am_i g 0 ((u3 + 2)).toNatClampNeg) (am_i g 0 ((u3 + 3)).toNatClampNeg) (am_i g 0 ((u3 + 4)).toNatClampNeg) (am_i g 0 ((u3 + 5)).toNatClampNeg)) fun y7 g8 => lo_i (fm_14 g8 (am_i g8 0 ((u3 + 1)).toNatClampNeg) (am_i g8 0 ((u3 + 2)).toNatClampNeg) (am_i g8 0 ((u3 + 3)).toNatClampNeg) (am_i g8 0 ((u3 + 4)).toNatClampNeg) (am_i g8 0 ((u3 + 5)).toNatClampNeg)) fun y9 g10 => if y7 = y9 then k18 (g10, (u3 + 6)) else some (0, g10)))))) else if ((am_i g 0 u3.toNatClampNeg) &&& 7) = 1 then lo_g (ai_in (u3 + 1) L) (lo_g (ai_in (u3 + 2) L) (lo_i (fm_5 g (am_i g 0 ((u3 + 1)).toNatClampNeg) (am_i g 0 ((u3 + 2)).toNatClampNeg)) fun y13 g14 => lo_i (fm_138 g14 (am_i g14 0 ((u3 + 1)).toNatClampNeg) (am_i g14 0 ((u3 + 2)).toNatClampNeg)) fun y15 g16 => if y13 = y15 then k18 (g16, (u3 + 6)) else some (0, g16))) else if ((am_i g 0 u3.toNatClampNeg) &&& 7) = 2 then lo_p (fm_6 g ) fun y17 => lo_p (fm_139 g ) fun y19 => if y17 = y19 then k18 (g, (u3 + 6)) else some (0, g) else if ((am_i g 0 u3.toNatClampNeg) &&& 7) = 3 then lo_p (fm_7 g ) fun y21 => lo_p (fm_140 g ) fun y23 => if y21 = y23 then k18 (g, (u3 + 6)) else some (0, g) else if ((am_i g 0 u3.toNatClampNeg) &&& 7) = 4 then lo_p (fm_8 g ) fun y25 => lo_p (fm_141 g ) fun y27 => if y25 = y27 then k18 (g, (u3 + 6)) else some (0, g) else if ((am_i g 0 u3.toNatClampNeg) &&& 7) = 5 then lo_p (fm_9 g ) fun y29 => lo_p (fm_142 g ) fun y31 => if y29 = y31 then k18 (g, (u3 + 6)) else some (0, g) else if ((am_i g 0 u3.toNatClampNeg) &&& 7) = 6 then lo_i (fm_10 g ) fun y33 g34 => lo_i (fm_143 g34 ) fun y35 g36 => if (lg_cmp y33 y35) = 0 then k18 (g36, (u3 + 6)) else some (0, g36) else if ((am_i g 0 u3.toNatClampNeg) &&& 7) = 7 then lo_g (ai_in (u3 + 1) L) (lo_p (fm_11 g (am_i g 0 ((u3 + 1)).toNatClampNeg)) fun y38 => lo_p (fm_144 g (am_i g 0 ((u3 + 1)).toNatClampNeg)) fun y40 => if y38 = y40 then k18 (g, (u3 + 6)) else some (0, g)) else k18 (g, (u3 + 6)))
set_option maxRecDepth 20000 in
theorem db_1_18 (L : Nat) {k18 : (am_G × Int32) → Option (Int32 × am_G)} (hk18 : ∀ (x : am_G × Int32) (R : Int32 × am_G), k18 x = some R → ai_ev ap_P 1 (18, [some (.ref 0), some (.ref 32), some (.ref 943), some (.int x.2)], [], (v0 L, x.1)) (.inl (ez_i R.1)) (v0 L, R.2)) (g : am_G) (u3 : Int32) (R : Int32 × am_G) : fb_1_18 L k18 g u3 = some R → ai_ev ap_P 1 (18, [some (.ref 0), some (.ref 32), some (.ref 943), some (.int u3)], [], (v0 L, g)) (.inl (ez_i R.1)) (v0 L, R.2) := by
  unfold fb_1_18
  refine ev_if 5 (p := ((nI L) - 6) < u3) (a := 271) (b := 27) (T := ([some (.ref 0), some (.ref 32), some (.ref 943), some (.int u3)], [], (v0 L, g))) rfl ?_ ?_
  · exact fun hR => by cases hR; exact ev_rt 1 rfl
  · refine ev_gd (c := ai_in u3 L) (fun hc1 => ?_)
    refine ev_jm 2 (t := (30, [some (.ref 0), some (.ref 32), some (.ref 943), some (.int u3)], [.int (am_i g 0 u3.toNatClampNeg)], (v0 L, g))) (ai_gd (c := ai_in u3 L) rfl hc1) ?_
    refine ev_sw 2 (ps := [(0, 80), (1, 143), (2, 176), (3, 189), (4, 202), (5, 215), (6, 228), (7, 242)]) (d := 265) (x := ((am_i g 0 u3.toNatClampNeg) &&& 7)) (T := ([some (.ref 0), some (.ref 32), some (.ref 943), some (.int u3)], [], (v0 L, g))) rfl ?_
    refine sw_c ?_ ?_
    · refine ev_gd (c := ai_in (u3 + 1) L) (fun hc2 => ?_)
      refine ev_jm 5 (t := (86, [some (.ref 0), some (.ref 32), some (.ref 943), some (.int u3)], [.int (am_i g 0 ((u3 + 1)).toNatClampNeg), .ref 32], (v0 L, g))) (ai_gd (c := ai_in (u3 + 1) L) rfl hc2) ?_
      refine ev_gd (c := ai_in (u3 + 2) L) (fun hc3 => ?_)
      refine ev_jm 4 (t := (91, [some (.ref 0), some (.ref 32), some (.ref 943), some (.int u3)], [.int (am_i g 0 ((u3 + 2)).toNatClampNeg), .int (am_i g 0 ((u3 + 1)).toNatClampNeg), .ref 32], (v0 L, g))) (ai_gd (c := ai_in (u3 + 2) L) rfl hc3) ?_
      refine ev_gd (c := ai_in (u3 + 3) L) (fun hc4 => ?_)
      refine ev_jm 4 (t := (96, [some (.ref 0), some (.ref 32), some (.ref 943), some (.int u3)], [.int (am_i g 0 ((u3 + 3)).toNatClampNeg), .int (am_i g 0 ((u3 + 2)).toNatClampNeg), .int (am_i g 0 ((u3 + 1)).toNatClampNeg), .ref 32], (v0 L, g))) (ai_gd (c := ai_in (u3 + 3) L) rfl hc4) ?_
      refine ev_gd (c := ai_in (u3 + 4) L) (fun hc5 => ?_)
      refine ev_jm 4 (t := (101, [some (.ref 0), some (.ref 32), some (.ref 943), some (.int u3)], [.int (am_i g 0 ((u3 + 4)).toNatClampNeg), .int (am_i g 0 ((u3 + 3)).toNatClampNeg), .int (am_i g 0 ((u3 + 2)).toNatClampNeg), .int (am_i g 0 ((u3 + 1)).toNatClampNeg), .ref 32], (v0 L, g))) (ai_gd (c := ai_in (u3 + 4) L) rfl hc5) ?_
      refine ev_gd (c := ai_in (u3 + 5) L) (fun hc6 => ?_)
      refine ev_jm 4 (t := (106, [some (.ref 0), some (.ref 32), some (.ref 943), some (.int u3)], [.int (am_i g 0 ((u3 + 5)).toNatClampNeg), .int (am_i g 0 ((u3 + 4)).toNatClampNeg), .int (am_i g 0 ((u3 + 3)).toNatClampNeg), .int (am_i g 0 ((u3 + 2)).toNatClampNeg), .int (am_i g 0 ((u3 + 1)).toNatClampNeg), .ref 32], (v0 L, g))) (ai_gd (c := ai_in (u3 + 5) L) rfl hc6) ?_
      refine ev_oi 0 (as := [.ref 32, .int (am_i g 0 ((u3 + 1)).toNatClampNeg), .int (am_i g 0 ((u3 + 2)).toNatClampNeg), .int (am_i g 0 ((u3 + 3)).toNatClampNeg), .int (am_i g 0 ((u3 + 4)).toNatClampNeg), .int (am_i g 0 ((u3 + 5)).toNatClampNeg)]) (pc := 109) (Lc := [some (.ref 0), some (.ref 32), some (.ref 943), some (.int u3)]) (st := []) (V := v0 L) (g1 := g) (e := ez_i) rfl (dm_4 L g (am_i g 0 ((u3 + 1)).toNatClampNeg) (am_i g 0 ((u3 + 2)).toNatClampNeg) (am_i g 0 ((u3 + 3)).toNatClampNeg) (am_i g 0 ((u3 + 4)).toNatClampNeg) (am_i g 0 ((u3 + 5)).toNatClampNeg)) (fun y7 g8 => ?_)
      refine ev_jm 5 (t := (115, [some (.ref 0), some (.ref 32), some (.ref 943), some (.int u3)], [.int (am_i g8 0 ((u3 + 1)).toNatClampNeg), .ref 943, .int y7], (v0 L, g8))) (ai_gd (c := ai_in (u3 + 1) L) rfl hc2) ?_
      refine ev_jm 4 (t := (120, [some (.ref 0), some (.ref 32), some (.ref 943), some (.int u3)], [.int (am_i g8 0 ((u3 + 2)).toNatClampNeg), .int (am_i g8 0 ((u3 + 1)).toNatClampNeg), .ref 943, .int y7], (v0 L, g8))) (ai_gd (c := ai_in (u3 + 2) L) rfl hc3) ?_
      refine ev_jm 4 (t := (125, [some (.ref 0), some (.ref 32), some (.ref 943), some (.int u3)], [.int (am_i g8 0 ((u3 + 3)).toNatClampNeg), .int (am_i g8 0 ((u3 + 2)).toNatClampNeg), .int (am_i g8 0 ((u3 + 1)).toNatClampNeg), .ref 943, .int y7], (v0 L, g8))) (ai_gd (c := ai_in (u3 + 3) L) rfl hc4) ?_
      refine ev_jm 4 (t := (130, [some (.ref 0), some (.ref 32), some (.ref 943), some (.int u3)], [.int (am_i g8 0 ((u3 + 4)).toNatClampNeg), .int (am_i g8 0 ((u3 + 3)).toNatClampNeg), .int (am_i g8 0 ((u3 + 2)).toNatClampNeg), .int (am_i g8 0 ((u3 + 1)).toNatClampNeg), .ref 943, .int y7], (v0 L, g8))) (ai_gd (c := ai_in (u3 + 4) L) rfl hc5) ?_
      refine ev_jm 4 (t := (135, [some (.ref 0), some (.ref 32), some (.ref 943), some (.int u3)], [.int (am_i g8 0 ((u3 + 5)).toNatClampNeg), .int (am_i g8 0 ((u3 + 4)).toNatClampNeg), .int (am_i g8 0 ((u3 + 3)).toNatClampNeg), .int (am_i g8 0 ((u3 + 2)).toNatClampNeg), .int (am_i g8 0 ((u3 + 1)).toNatClampNeg), .ref 943, .int y7], (v0 L, g8))) (ai_gd (c := ai_in (u3 + 5) L) rfl hc6) ?_
      refine ev_oi 0 (as := [.ref 943, .int (am_i g8 0 ((u3 + 1)).toNatClampNeg), .int (am_i g8 0 ((u3 + 2)).toNatClampNeg), .int (am_i g8 0 ((u3 + 3)).toNatClampNeg), .int (am_i g8 0 ((u3 + 4)).toNatClampNeg), .int (am_i g8 0 ((u3 + 5)).toNatClampNeg)]) (pc := 138) (Lc := [some (.ref 0), some (.ref 32), some (.ref 943), some (.int u3)]) (st := [.int y7]) (V := v0 L) (g1 := g8) (e := ez_i) rfl (dm_14 L g8 (am_i g8 0 ((u3 + 1)).toNatClampNeg) (am_i g8 0 ((u3 + 2)).toNatClampNeg) (am_i g8 0 ((u3 + 3)).toNatClampNeg) (am_i g8 0 ((u3 + 4)).toNatClampNeg) (am_i g8 0 ((u3 + 5)).toNatClampNeg)) (fun y9 g10 => ?_)
      refine ev_if 0 (p := y7 = y9) (a := 265) (b := 141) (T := ([some (.ref 0), some (.ref 32), some (.ref 943), some (.int u3)], [], (v0 L, g10))) rfl ?_ ?_
      · refine ev_jm 1 (t := (18, [some (.ref 0), some (.ref 32), some (.ref 943), some (.int (u3 + 6))], [], (v0 L, g10))) rfl ?_
        exact hk18 (g10, (u3 + 6)) _
      · exact fun hR => by cases hR; exact ev_rt 1 rfl
    refine sw_c ?_ ?_
    · refine ev_gd (c := ai_in (u3 + 1) L) (fun hc11 => ?_)
      refine ev_jm 5 (t := (149, [some (.ref 0), some (.ref 32), some (.ref 943), some (.int u3)], [.int (am_i g 0 ((u3 + 1)).toNatClampNeg), .ref 32], (v0 L, g))) (ai_gd (c := ai_in (u3 + 1) L) rfl hc11) ?_
      refine ev_gd (c := ai_in (u3 + 2) L) (fun hc12 => ?_)
      refine ev_jm 4 (t := (154, [some (.ref 0), some (.ref 32), some (.ref 943), some (.int u3)], [.int (am_i g 0 ((u3 + 2)).toNatClampNeg), .int (am_i g 0 ((u3 + 1)).toNatClampNeg), .ref 32], (v0 L, g))) (ai_gd (c := ai_in (u3 + 2) L) rfl hc12) ?_
      refine ev_oi 0 (as := [.ref 32, .int (am_i g 0 ((u3 + 1)).toNatClampNeg), .int (am_i g 0 ((u3 + 2)).toNatClampNeg)]) (pc := 157) (Lc := [some (.ref 0), some (.ref 32), some (.ref 943), some (.int u3)]) (st := []) (V := v0 L) (g1 := g) (e := ez_i) rfl (dm_5 L g (am_i g 0 ((u3 + 1)).toNatClampNeg) (am_i g 0 ((u3 + 2)).toNatClampNeg)) (fun y13 g14 => ?_)
      refine ev_jm 5 (t := (163, [some (.ref 0), some (.ref 32), some (.ref 943), some (.int u3)], [.int (am_i g14 0 ((u3 + 1)).toNatClampNeg), .ref 943, .int y13], (v0 L, g14))) (ai_gd (c := ai_in (u3 + 1) L) rfl hc11) ?_
      refine ev_jm 4 (t := (168, [some (.ref 0), some (.ref 32), some (.ref 943), some (.int u3)], [.int (am_i g14 0 ((u3 + 2)).toNatClampNeg), .int (am_i g14 0 ((u3 + 1)).toNatClampNeg), .ref 943, .int y13], (v0 L, g14))) (ai_gd (c := ai_in (u3 + 2) L) rfl hc12) ?_
      refine ev_oi 0 (as := [.ref 943, .int (am_i g14 0 ((u3 + 1)).toNatClampNeg), .int (am_i g14 0 ((u3 + 2)).toNatClampNeg)]) (pc := 171) (Lc := [some (.ref 0), some (.ref 32), some (.ref 943), some (.int u3)]) (st := [.int y13]) (V := v0 L) (g1 := g14) (e := ez_i) rfl (dm_138 L g14 (am_i g14 0 ((u3 + 1)).toNatClampNeg) (am_i g14 0 ((u3 + 2)).toNatClampNeg)) (fun y15 g16 => ?_)
      refine ev_if 0 (p := y13 = y15) (a := 265) (b := 174) (T := ([some (.ref 0), some (.ref 32), some (.ref 943), some (.int u3)], [], (v0 L, g16))) rfl ?_ ?_
      · refine ev_jm 1 (t := (18, [some (.ref 0), some (.ref 32), some (.ref 943), some (.int (u3 + 6))], [], (v0 L, g16))) rfl ?_
        exact hk18 (g16, (u3 + 6)) _
      · exact fun hR => by cases hR; exact ev_rt 1 rfl
    refine sw_c ?_ ?_
    · refine ev_op 1 (as := [.ref 32]) (pc := 180) (Lc := [some (.ref 0), some (.ref 32), some (.ref 943), some (.int u3)]) (st := []) (h1 := (v0 L, g)) (e := ez_i) rfl (dm_6 L g ) (fun y17 => ?_)
      refine ev_op 1 (as := [.ref 943]) (pc := 184) (Lc := [some (.ref 0), some (.ref 32), some (.ref 943), some (.int u3)]) (st := [.int y17]) (h1 := (v0 L, g)) (e := ez_i) rfl (dm_139 L g ) (fun y19 => ?_)
      refine ev_if 0 (p := y17 = y19) (a := 265) (b := 187) (T := ([some (.ref 0), some (.ref 32), some (.ref 943), some (.int u3)], [], (v0 L, g))) rfl ?_ ?_
      · refine ev_jm 1 (t := (18, [some (.ref 0), some (.ref 32), some (.ref 943), some (.int (u3 + 6))], [], (v0 L, g))) rfl ?_
        exact hk18 (g, (u3 + 6)) _
      · exact fun hR => by cases hR; exact ev_rt 1 rfl
    refine sw_c ?_ ?_
    · refine ev_op 1 (as := [.ref 32]) (pc := 193) (Lc := [some (.ref 0), some (.ref 32), some (.ref 943), some (.int u3)]) (st := []) (h1 := (v0 L, g)) (e := ez_i) rfl (dm_7 L g ) (fun y21 => ?_)
      refine ev_op 1 (as := [.ref 943]) (pc := 197) (Lc := [some (.ref 0), some (.ref 32), some (.ref 943), some (.int u3)]) (st := [.int y21]) (h1 := (v0 L, g)) (e := ez_i) rfl (dm_140 L g ) (fun y23 => ?_)
      refine ev_if 0 (p := y21 = y23) (a := 265) (b := 200) (T := ([some (.ref 0), some (.ref 32), some (.ref 943), some (.int u3)], [], (v0 L, g))) rfl ?_ ?_
      · refine ev_jm 1 (t := (18, [some (.ref 0), some (.ref 32), some (.ref 943), some (.int (u3 + 6))], [], (v0 L, g))) rfl ?_
        exact hk18 (g, (u3 + 6)) _
      · exact fun hR => by cases hR; exact ev_rt 1 rfl
    refine sw_c ?_ ?_
    · refine ev_op 1 (as := [.ref 32]) (pc := 206) (Lc := [some (.ref 0), some (.ref 32), some (.ref 943), some (.int u3)]) (st := []) (h1 := (v0 L, g)) (e := ez_i) rfl (dm_8 L g ) (fun y25 => ?_)
      refine ev_op 1 (as := [.ref 943]) (pc := 210) (Lc := [some (.ref 0), some (.ref 32), some (.ref 943), some (.int u3)]) (st := [.int y25]) (h1 := (v0 L, g)) (e := ez_i) rfl (dm_141 L g ) (fun y27 => ?_)
      refine ev_if 0 (p := y25 = y27) (a := 265) (b := 213) (T := ([some (.ref 0), some (.ref 32), some (.ref 943), some (.int u3)], [], (v0 L, g))) rfl ?_ ?_
      · refine ev_jm 1 (t := (18, [some (.ref 0), some (.ref 32), some (.ref 943), some (.int (u3 + 6))], [], (v0 L, g))) rfl ?_
        exact hk18 (g, (u3 + 6)) _
      · exact fun hR => by cases hR; exact ev_rt 1 rfl
    refine sw_c ?_ ?_
    · refine ev_op 1 (as := [.ref 32]) (pc := 219) (Lc := [some (.ref 0), some (.ref 32), some (.ref 943), some (.int u3)]) (st := []) (h1 := (v0 L, g)) (e := ez_i) rfl (dm_9 L g ) (fun y29 => ?_)
      refine ev_op 1 (as := [.ref 943]) (pc := 223) (Lc := [some (.ref 0), some (.ref 32), some (.ref 943), some (.int u3)]) (st := [.int y29]) (h1 := (v0 L, g)) (e := ez_i) rfl (dm_142 L g ) (fun y31 => ?_)
      refine ev_if 0 (p := y29 = y31) (a := 265) (b := 226) (T := ([some (.ref 0), some (.ref 32), some (.ref 943), some (.int u3)], [], (v0 L, g))) rfl ?_ ?_
      · refine ev_jm 1 (t := (18, [some (.ref 0), some (.ref 32), some (.ref 943), some (.int (u3 + 6))], [], (v0 L, g))) rfl ?_
        exact hk18 (g, (u3 + 6)) _
      · exact fun hR => by cases hR; exact ev_rt 1 rfl
    refine sw_c ?_ ?_
    · refine ev_oi 1 (as := [.ref 32]) (pc := 232) (Lc := [some (.ref 0), some (.ref 32), some (.ref 943), some (.int u3)]) (st := []) (V := v0 L) (g1 := g) (e := ez_j) rfl (dm_10 L g ) (fun y33 g34 => ?_)
      refine ev_oi 1 (as := [.ref 943]) (pc := 236) (Lc := [some (.ref 0), some (.ref 32), some (.ref 943), some (.int u3)]) (st := [.long y33]) (V := v0 L) (g1 := g34) (e := ez_j) rfl (dm_143 L g34 ) (fun y35 g36 => ?_)
      refine ev_if 1 (p := (lg_cmp y33 y35) = 0) (a := 265) (b := 240) (T := ([some (.ref 0), some (.ref 32), some (.ref 943), some (.int u3)], [], (v0 L, g36))) rfl ?_ ?_
      · refine ev_jm 1 (t := (18, [some (.ref 0), some (.ref 32), some (.ref 943), some (.int (u3 + 6))], [], (v0 L, g36))) rfl ?_
        exact hk18 (g36, (u3 + 6)) _
      · exact fun hR => by cases hR; exact ev_rt 1 rfl
    refine sw_c ?_ ?_
    · refine ev_gd (c := ai_in (u3 + 1) L) (fun hc37 => ?_)
      refine ev_jm 5 (t := (248, [some (.ref 0), some (.ref 32), some (.ref 943), some (.int u3)], [.int (am_i g 0 ((u3 + 1)).toNatClampNeg), .ref 32], (v0 L, g))) (ai_gd (c := ai_in (u3 + 1) L) rfl hc37) ?_
      refine ev_op 0 (as := [.ref 32, .int (am_i g 0 ((u3 + 1)).toNatClampNeg)]) (pc := 251) (Lc := [some (.ref 0), some (.ref 32), some (.ref 943), some (.int u3)]) (st := []) (h1 := (v0 L, g)) (e := ez_i) rfl (dm_11 L g (am_i g 0 ((u3 + 1)).toNatClampNeg)) (fun y38 => ?_)
      refine ev_jm 5 (t := (257, [some (.ref 0), some (.ref 32), some (.ref 943), some (.int u3)], [.int (am_i g 0 ((u3 + 1)).toNatClampNeg), .ref 943, .int y38], (v0 L, g))) (ai_gd (c := ai_in (u3 + 1) L) rfl hc37) ?_
      refine ev_op 0 (as := [.ref 943, .int (am_i g 0 ((u3 + 1)).toNatClampNeg)]) (pc := 260) (Lc := [some (.ref 0), some (.ref 32), some (.ref 943), some (.int u3)]) (st := [.int y38]) (h1 := (v0 L, g)) (e := ez_i) rfl (dm_144 L g (am_i g 0 ((u3 + 1)).toNatClampNeg)) (fun y40 => ?_)
      refine ev_if 0 (p := y38 = y40) (a := 265) (b := 263) (T := ([some (.ref 0), some (.ref 32), some (.ref 943), some (.int u3)], [], (v0 L, g))) rfl ?_ ?_
      · refine ev_jm 1 (t := (18, [some (.ref 0), some (.ref 32), some (.ref 943), some (.int (u3 + 6))], [], (v0 L, g))) rfl ?_
        exact hk18 (g, (u3 + 6)) _
      · exact fun hR => by cases hR; exact ev_rt 1 rfl
    refine sw_n ?_
    refine ev_jm 1 (t := (18, [some (.ref 0), some (.ref 32), some (.ref 943), some (.int (u3 + 6))], [], (v0 L, g))) rfl ?_
    exact hk18 (g, (u3 + 6)) _
noncomputable def fh_1_18 (L : Nat)  (x : am_G × Int32) : Option (Int32 × am_G) := lo_it (fun k x => fb_1_18 L k x.1 x.2) nf_F x
set_option maxRecDepth 20000 in
theorem dh_1_18 (L : Nat)   (x : am_G × Int32) (R : Int32 × am_G) : fh_1_18 L  x = some R → ai_ev ap_P 1 (18, [some (.ref 0), some (.ref 32), some (.ref 943), some (.int x.2)], [], (v0 L, x.1)) (.inl (ez_i R.1)) (v0 L, R.2) :=
  fun hr => lo_ev (E := fun x R => ai_ev ap_P 1 (18, [some (.ref 0), some (.ref 32), some (.ref 943), some (.int x.2)], [], (v0 L, x.1)) (.inl (ez_i R.1)) (v0 L, R.2)) (fun k hk x R hr => db_1_18 L hk x.1 x.2  R hr) nf_F x R hr
/-- DeclaredMarkupLaw.law([I)Z -/
noncomputable def fm_1 (L : Nat) (g : am_G)  : Option (Int32 × am_G) := fh_1_18 L (g, 0)
set_option maxRecDepth 20000 in
theorem dm_1 (L : Nat) (g : am_G) (R : Int32 × am_G) : fm_1 L g = some R → ai_ev ap_P 1 (16, [some (.ref 0), some (.ref 32), some (.ref 943), none], [], (v0 L, g)) (.inl (ez_i R.1)) (v0 L, R.2) := by
  unfold fm_1
  refine ev_jm 1 (t := (18, [some (.ref 0), some (.ref 32), some (.ref 943), some (.int 0)], [], (v0 L, g))) rfl ?_
  exact dh_1_18 L (g, 0) _
