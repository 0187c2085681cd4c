noncomputable def fj_120_281  (g : am_G) (t1 : Int32) : Option (Int32 × am_G) := lo_i (fm_25 g t1) fun y1 g2 => some (y1, g2)
set_option maxRecDepth 20000 in
theorem dj_120_281 (L : Nat)   (g : am_G) (t1 : Int32) (w0 w1 : Option Value) (R : Int32 × am_G) : fj_120_281  g t1 = some R → ai_ev ap_P 120 (281, [w0, w1], [.int t1, .ref 943], (v0 L, g)) (.inl (ez_i R.1)) (v0 L, R.2) := by
  unfold fj_120_281
  refine ev_oi 0 (as := [.ref 943, .int t1]) (pc := 284) (Lc := [none, none]) (st := []) (V := v0 L) (g1 := g) (e := ez_i) rfl (dm_25 L g t1) (fun y1 g2 => ?_)
  exact fun hR => by cases hR; exact ev_rt 0 rfl
noncomputable def fj_120_308  (g : am_G) : Option (Int32 × am_G) := lo_i (fm_44 g ) fun y1 g2 => some (y1, g2)
set_option maxRecDepth 20000 in
theorem dj_120_308 (L : Nat)   (g : am_G) (w1 : Option Value) (R : Int32 × am_G) : fj_120_308  g = some R → ai_ev ap_P 120 (308, [some (.ref 943), w1], [], (v0 L, g)) (.inl (ez_i R.1)) (v0 L, R.2) := by
  unfold fj_120_308
  refine ev_oi 1 (as := [.ref 943]) (pc := 312) (Lc := [some (.ref 943), none]) (st := []) (V := v0 L) (g1 := g) (e := ez_i) rfl (dm_44 L g ) (fun y1 g2 => ?_)
  exact fun hR => by cases hR; exact ev_rt 0 rfl
/-- DeclaredMarkupModel.markStep(I)I -/
noncomputable def fm_120 (g : am_G) (u1 : Int32) : Option (Int32 × am_G) := if (am_i g 943 26) = 1 then lo_i (fm_111 g u1) fun y1 g2 => some (y1, g2) else if (am_i g 943 26) = 2 then lo_i (fm_112 g u1) fun y3 g4 => some (y3, g4) else if (am_i g 943 26) = 3 then if u1 = 45 then lo_i (fm_25 g 30) fun y7 g8 => some (y7, g8) else lo_i (fm_23 g ) fun y5 g6 => some (y5, g6) else if (am_i g 943 26) = 4 then if u1 = 76 then lo_i (fm_34 g 408327636 6 1 80) fun y13 g14 => some (y13, g14) else if u1 = 78 then lo_i (fm_34 g 15345305 5 1 120) fun y11 g12 => some (y11, g12) else lo_i (fm_23 g ) fun y9 g10 => some (y9, g10) else if (am_i g 943 26) = 5 then if u1 = 62 then lo_i (fm_43 g ) fun y19 g20 => some (y19, g20) else lo_p (fm_42 g 63) fun g16 => if u1 = 63 then some (0, g16) else lo_i (fm_26 g16 38) fun y17 g18 => some (y17, g18) else if (am_i g 943 26) = 6 then if u1 = 62 then lo_i (fm_43 g ) fun y25 g26 => some (y25, g26) else lo_p (fm_42 g 63) fun g22 => if u1 = 63 then some (0, g22) else lo_i (fm_26 g22 38) fun y23 g24 => some (y23, g24) else if (am_i g 943 26) = 7 then if u1 = 62 then lo_i (fm_43 g ) fun y31 g32 => some (y31, g32) else lo_p (fm_42 g 63) fun g28 => if u1 = 63 then some (0, g28) else lo_i (fm_26 g28 38) fun y29 g30 => some (y29, g30) else if (am_i g 943 26) = 8 then if u1 = 62 then lo_i (fm_43 g ) fun y37 g38 => some (y37, g38) else lo_p (fm_42 g 63) fun g34 => if u1 = 63 then some (0, g34) else lo_i (fm_26 g34 38) fun y35 g36 => some (y35, g36) else if (am_i g 943 26) = 9 then if u1 = 62 then lo_i (fm_43 g ) fun y43 g44 => some (y43, g44) else lo_p (fm_42 g 63) fun g40 => if u1 = 63 then some (0, g40) else lo_i (fm_26 g40 38) fun y41 g42 => some (y41, g42) else if (am_i g 943 26) = 10 then if u1 = 62 then lo_i (fm_43 g ) fun y49 g50 => some (y49, g50) else lo_p (fm_42 g 63) fun g46 => if u1 = 63 then some (0, g46) else lo_i (fm_26 g46 38) fun y47 g48 => some (y47, g48) else if (am_i g 943 26) = 11 then if u1 = 62 then lo_i (fm_43 g ) fun y55 g56 => some (y55, g56) else lo_p (fm_42 g 63) fun g52 => if u1 = 63 then some (0, g52) else lo_i (fm_26 g52 38) fun y53 g54 => some (y53, g54) else if (am_i g 943 26) = 12 then if u1 = 62 then lo_i (fm_43 g ) fun y61 g62 => some (y61, g62) else lo_p (fm_42 g 63) fun g58 => if u1 = 63 then some (0, g58) else lo_i (fm_26 g58 38) fun y59 g60 => some (y59, g60) else if (am_i g 943 26) = 13 then if u1 = 62 then lo_i (fm_43 g ) fun y67 g68 => some (y67, g68) else lo_p (fm_42 g 63) fun g64 => if u1 = 63 then some (0, g64) else lo_i (fm_26 g64 38) fun y65 g66 => some (y65, g66) else if (am_i g 943 26) = 14 then if u1 = 62 then lo_i (fm_43 g ) fun y73 g74 => some (y73, g74) else lo_p (fm_42 g 63) fun g70 => if u1 = 63 then some (0, g70) else lo_i (fm_26 g70 38) fun y71 g72 => some (y71, g72) else if (am_i g 943 26) = 15 then if u1 = 62 then lo_i (fm_43 g ) fun y79 g80 => some (y79, g80) else lo_p (fm_42 g 63) fun g76 => if u1 = 63 then some (0, g76) else lo_i (fm_26 g76 38) fun y77 g78 => some (y77, g78) else if (am_i g 943 26) = 16 then if u1 = 62 then lo_i (fm_43 g ) fun y85 g86 => some (y85, g86) else lo_p (fm_42 g 63) fun g82 => if u1 = 63 then some (0, g82) else lo_i (fm_26 g82 38) fun y83 g84 => some (y83, g84) else if (am_i g 943 26) = 17 then if u1 = 62 then lo_i (fm_43 g ) fun y91 g92 => some (y91, g92) else lo_p (fm_42 g 63) fun g88 => if u1 = 63 then some (0, g88) else lo_i (fm_26 g88 38) fun y89 g90 => some (y89, g90) else if (am_i g 943 26) = 18 then if u1 = 62 then lo_i (fm_43 g ) fun y97 g98 => some (y97, g98) else lo_p (fm_42 g 63) fun g94 => if u1 = 63 then some (0, g94) else lo_i (fm_26 g94 38) fun y95 g96 => some (y95, g96) else if (am_i g 943 26) = 19 then if u1 = 62 then lo_i (fm_43 g ) fun y103 g104 => some (y103, g104) else lo_p (fm_42 g 63) fun g100 => if u1 = 63 then some (0, g100) else lo_i (fm_26 g100 38) fun y101 g102 => some (y101, g102) else if (am_i g 943 26) = 20 then if u1 = 62 then lo_i (fm_43 g ) fun y109 g110 => some (y109, g110) else lo_p (fm_42 g 63) fun g106 => if u1 = 63 then some (0, g106) else lo_i (fm_26 g106 38) fun y107 g108 => some (y107, g108) else if (am_i g 943 26) = 21 then if u1 = 62 then lo_i (fm_43 g ) fun y115 g116 => some (y115, g116) else lo_p (fm_42 g 63) fun g112 => if u1 = 63 then some (0, g112) else lo_i (fm_26 g112 38) fun y113 g114 => some (y113, g114) else if (am_i g 943 26) = 22 then if u1 = 62 then lo_i (fm_43 g ) fun y121 g122 => some (y121, g122) else lo_p (fm_42 g 63) fun g118 => if u1 = 63 then some (0, g118) else lo_i (fm_26 g118 38) fun y119 g120 => some (y119, g120) else if (am_i g 943 26) = 23 then if u1 = 62 then lo_i (fm_43 g ) fun y127 g128 => some (y127, g128) else lo_p (fm_42 g 63) fun g124 => if u1 = 63 then some (0, g124) else lo_i (fm_26 g124 38) fun y125 g126 => some (y125, g126) else if (am_i g 943 26) = 24 then if u1 = 62 then lo_i (fm_43 g ) fun y133 g134 => some (y133, g134) else lo_p (fm_42 g 63) fun g130 => if u1 = 63 then some (0, g130) else lo_i (fm_26 g130 38) fun y131 g132 => some (y131, g132) else if (am_i g 943 26) = 25 then if u1 = 62 then lo_i (fm_43 g ) fun y139 g140 => some (y139, g140) else lo_p (fm_42 g 63) fun g136 => if u1 = 63 then some (0, g136) else lo_i (fm_26 g136 38) fun y137 g138 => some (y137, g138) else if (am_i g 943 26) = 26 then if u1 = 62 then lo_i (fm_43 g ) fun y145 g146 => some (y145, g146) else lo_p (fm_42 g 63) fun g142 => if u1 = 63 then some (0, g142) else lo_i (fm_26 g142 38) fun y143 g144 => some (y143, g144) else if (am_i g 943 26) = 27 then if u1 = 62 then lo_i (fm_43 g ) fun y151 g152 => some (y151, g152) else lo_p (fm_42 g 63) fun g148 => if u1 = 63 then some (0, g148) else lo_i (fm_26 g148 38) fun y149 g150 => some (y149, g150) else if (am_i g 943 26) = 28 then if u1 = 62 then lo_i (fm_43 g ) fun y157 g158 => some (y157, g158) else lo_p (fm_42 g 63) fun g154 => if u1 = 63 then some (0, g154) else lo_i (fm_26 g154 38) fun y155 g156 => some (y155, g156) else if (am_i g 943 26) = 29 then if u1 = 62 then lo_i (fm_43 g ) fun y163 g164 => some (y163, g164) else lo_p (fm_42 g 63) fun g160 => if u1 = 63 then some (0, g160) else lo_i (fm_26 g160 38) fun y161 g162 => some (y161, g162) else if (am_i g 943 26) = 30 then if u1 = 45 then lo_i (fm_25 g 31) fun y165 g166 => some (y165, g166) else some (0, g) else if (am_i g 943 26) = 31 then if u1 = 45 then fj_120_281 g 32 else fj_120_281 g 30 else if (am_i g 943 26) = 32 then if u1 = 62 then if (am_i g 943 27) = 1 then lo_p (fm_45 g ) fun g168 => fj_120_308 g168 else fj_120_308 g else lo_i (fm_23 g ) fun y169 g170 => some (y169, g170) else if (am_i g 943 26) = 33 then lo_i (fm_27 g u1 0 0) fun y171 g172 => some (y171, g172) else if (am_i g 943 26) = 34 then lo_p (fm_16 g u1) fun y173 => if y173 = 0 then if u1 = 63 then lo_i (fm_25 g 37) fun y177 g178 => some (y177, g178) else lo_i (fm_23 g ) fun y175 g176 => some (y175, g176) else lo_i (fm_25 g 35) fun y179 g180 => some (y179, g180) else if (am_i g 943 26) = 35 then lo_p (fm_16 g u1) fun y181 => if y181 = 0 then if u1 = 63 then lo_i (fm_25 g 36) fun y185 g186 => some (y185, g186) else lo_i (fm_26 g 38) fun y183 g184 => some (y183, g184) else some (0, g) else if (am_i g 943 26) = 36 then if u1 = 62 then lo_i (fm_43 g ) fun y193 g194 => some (y193, g194) else lo_p (fm_42 g 63) fun g188 => if u1 = 63 then lo_i (fm_25 g188 39) fun y191 g192 => some (y191, g192) else lo_i (fm_26 g188 38) fun y189 g190 => some (y189, g190) else if (am_i g 943 26) = 37 then if u1 = 62 then lo_i (fm_43 g ) fun y197 g198 => some (y197, g198) else lo_i (fm_23 g ) fun y195 g196 => some (y195, g196) else if (am_i g 943 26) = 38 then if u1 = 63 then lo_i (fm_25 g 39) fun y201 g202 => some (y201, g202) else lo_p (fm_42 g u1) fun g200 => some (0, g200) else if u1 = 62 then lo_i (fm_43 g ) fun y207 g208 => some (y207, g208) else lo_p (fm_42 g 63) fun g204 => if u1 = 63 then some (0, g204) else lo_i (fm_26 g204 38) fun y205 g206 => some (y205, g206)
set_option maxRecDepth 20000 in
theorem dm_120 (L : Nat) (g : am_G) (u1 : Int32) (R : Int32 × am_G) : fm_120 g u1 = some R → ai_ev ap_P 120 (ai_e0 ap_P 120 [.ref 943, .int u1] (v0 L, g)) (.inl (ez_i R.1)) (v0 L, R.2) := by
  show _ → ai_ev ap_P 120 (0, [some (.ref 943), some (.int u1)], [], (v0 L, g)) _ _
  unfold fm_120
  refine ev_sw 2 (ps := [(1, 172), (2, 178), (3, 184), (4, 204), (5, 465), (6, 465), (7, 465), (8, 465), (9, 465), (10, 465), (11, 465), (12, 465), (13, 465), (14, 465), (15, 465), (16, 465), (17, 465), (18, 465), (19, 465), (20, 465), (21, 465), (22, 465), (23, 465), (24, 465), (25, 465), (26, 465), (27, 465), (28, 465), (29, 465), (30, 250), (31, 267), (32, 285), (33, 313), (34, 321), (35, 357), (36, 388), (37, 427), (38, 445)]) (d := 465) (x := (am_i g 943 26)) (T := ([some (.ref 943), some (.int u1)], [], (v0 L, g))) rfl ?_
  refine sw_c ?_ ?_
  · refine ev_oi 2 (as := [.ref 943, .int u1]) (pc := 177) (Lc := [some (.ref 943), some (.int u1)]) (st := []) (V := v0 L) (g1 := g) (e := ez_i) rfl (dm_111 L g u1) (fun y1 g2 => ?_)
    exact fun hR => by cases hR; exact ev_rt 0 rfl
  refine sw_c ?_ ?_
  · refine ev_oi 2 (as := [.ref 943, .int u1]) (pc := 183) (Lc := [some (.ref 943), some (.int u1)]) (st := []) (V := v0 L) (g1 := g) (e := ez_i) rfl (dm_112 L g u1) (fun y3 g4 => ?_)
    exact fun hR => by cases hR; exact ev_rt 0 rfl
  refine sw_c ?_ ?_
  · refine ev_in 2 (p := u1 = 45) (a := 199) (b := 190) (T := ([some (.ref 943), some (.int u1)], [], (v0 L, g))) rfl ?_ ?_
    · refine ev_oi 2 (as := [.ref 943, .int 30]) (pc := 196) (Lc := [some (.ref 943), some (.int u1)]) (st := []) (V := v0 L) (g1 := g) (e := ez_i) rfl (dm_25 L g 30) (fun y7 g8 => ?_)
      exact fun hR => by cases hR; exact ev_rt 1 rfl
    · refine ev_oi 1 (as := [.ref 943]) (pc := 203) (Lc := [some (.ref 943), some (.int u1)]) (st := []) (V := v0 L) (g1 := g) (e := ez_i) rfl (dm_23 L g ) (fun y5 g6 => ?_)
      exact fun hR => by cases hR; exact ev_rt 0 rfl
  refine sw_c ?_ ?_
  · refine ev_in 2 (p := u1 = 76) (a := 225) (b := 210) (T := ([some (.ref 943), some (.int u1)], [], (v0 L, g))) rfl ?_ ?_
    · refine ev_oi 5 (as := [.ref 943, .long 408327636, .int 6, .int 1, .int 80]) (pc := 222) (Lc := [some (.ref 943), some (.int u1)]) (st := []) (V := v0 L) (g1 := g) (e := ez_i) rfl (dm_34 L g 408327636 6 1 80) (fun y13 g14 => ?_)
      exact fun hR => by cases hR; exact ev_rt 1 rfl
    · refine ev_in 2 (p := u1 = 78) (a := 245) (b := 231) (T := ([some (.ref 943), some (.int u1)], [], (v0 L, g))) rfl ?_ ?_
      · refine ev_oi 5 (as := [.ref 943, .long 15345305, .int 5, .int 1, .int 120]) (pc := 242) (Lc := [some (.ref 943), some (.int u1)]) (st := []) (V := v0 L) (g1 := g) (e := ez_i) rfl (dm_34 L g 15345305 5 1 120) (fun y11 g12 => ?_)
        exact fun hR => by cases hR; exact ev_rt 1 rfl
      · refine ev_oi 1 (as := [.ref 943]) (pc := 249) (Lc := [some (.ref 943), some (.int u1)]) (st := []) (V := v0 L) (g1 := g) (e := ez_i) rfl (dm_23 L g ) (fun y9 g10 => ?_)
        exact fun hR => by cases hR; exact ev_rt 0 rfl
  refine sw_c ?_ ?_
  · refine ev_in 2 (p := u1 = 62) (a := 476) (b := 471) (T := ([some (.ref 943), some (.int u1)], [], (v0 L, g))) rfl ?_ ?_
    · refine ev_oi 1 (as := [.ref 943]) (pc := 475) (Lc := [some (.ref 943), some (.int u1)]) (st := []) (V := v0 L) (g1 := g) (e := ez_i) rfl (dm_43 L g ) (fun y19 g20 => ?_)
      exact fun hR => by cases hR; exact ev_rt 0 rfl
    · refine ev_ov0 2 (as := [.ref 943, .int 63]) (pc := 482) (Lc := [some (.ref 943), some (.int u1)]) (st := []) (V := v0 L) (g1 := g) rfl (dm_42 L g 63) (fun g16 => ?_)
      refine ev_in 2 (p := u1 = 63) (a := 492) (b := 488) (T := ([some (.ref 943), some (.int u1)], [], (v0 L, g16))) rfl ?_ ?_
      · exact fun hR => by cases hR; exact ev_rt 2 rfl
      · refine ev_oi 2 (as := [.ref 943, .int 38]) (pc := 498) (Lc := [some (.ref 943), some (.int u1)]) (st := []) (V := v0 L) (g1 := g16) (e := ez_i) rfl (dm_26 L g16 38) (fun y17 g18 => ?_)
        exact fun hR => by cases hR; exact ev_rt 0 rfl
  refine sw_c ?_ ?_
  · refine ev_in 2 (p := u1 = 62) (a := 476) (b := 471) (T := ([some (.ref 943), some (.int u1)], [], (v0 L, g))) rfl ?_ ?_
    · refine ev_oi 1 (as := [.ref 943]) (pc := 475) (Lc := [some (.ref 943), some (.int u1)]) (st := []) (V := v0 L) (g1 := g) (e := ez_i) rfl (dm_43 L g ) (fun y25 g26 => ?_)
      exact fun hR => by cases hR; exact ev_rt 0 rfl
    · refine ev_ov0 2 (as := [.ref 943, .int 63]) (pc := 482) (Lc := [some (.ref 943), some (.int u1)]) (st := []) (V := v0 L) (g1 := g) rfl (dm_42 L g 63) (fun g22 => ?_)
      refine ev_in 2 (p := u1 = 63) (a := 492) (b := 488) (T := ([some (.ref 943), some (.int u1)], [], (v0 L, g22))) rfl ?_ ?_
      · exact fun hR => by cases hR; exact ev_rt 2 rfl
      · refine ev_oi 2 (as := [.ref 943, .int 38]) (pc := 498) (Lc := [some (.ref 943), some (.int u1)]) (st := []) (V := v0 L) (g1 := g22) (e := ez_i) rfl (dm_26 L g22 38) (fun y23 g24 => ?_)
        exact fun hR => by cases hR; exact ev_rt 0 rfl
  refine sw_c ?_ ?_
  · refine ev_in 2 (p := u1 = 62) (a := 476) (b := 471) (T := ([some (.ref 943), some (.int u1)], [], (v0 L, g))) rfl ?_ ?_
    · refine ev_oi 1 (as := [.ref 943]) (pc := 475) (Lc := [some (.ref 943), some (.int u1)]) (st := []) (V := v0 L) (g1 := g) (e := ez_i) rfl (dm_43 L g ) (fun y31 g32 => ?_)
      exact fun hR => by cases hR; exact ev_rt 0 rfl
    · refine ev_ov0 2 (as := [.ref 943, .int 63]) (pc := 482) (Lc := [some (.ref 943), some (.int u1)]) (st := []) (V := v0 L) (g1 := g) rfl (dm_42 L g 63) (fun g28 => ?_)
      refine ev_in 2 (p := u1 = 63) (a := 492) (b := 488) (T := ([some (.ref 943), some (.int u1)], [], (v0 L, g28))) rfl ?_ ?_
      · exact fun hR => by cases hR; exact ev_rt 2 rfl
      · refine ev_oi 2 (as := [.ref 943, .int 38]) (pc := 498) (Lc := [some (.ref 943), some (.int u1)]) (st := []) (V := v0 L) (g1 := g28) (e := ez_i) rfl (dm_26 L g28 38) (fun y29 g30 => ?_)
        exact fun hR => by cases hR; exact ev_rt 0 rfl
  refine sw_c ?_ ?_
  · refine ev_in 2 (p := u1 = 62) (a := 476) (b := 471) (T := ([some (.ref 943), some (.int u1)], [], (v0 L, g))) rfl ?_ ?_
    · refine ev_oi 1 (as := [.ref 943]) (pc := 475) (Lc := [some (.ref 943), some (.int u1)]) (st := []) (V := v0 L) (g1 := g) (e := ez_i) rfl (dm_43 L g ) (fun y37 g38 => ?_)
      exact fun hR => by cases hR; exact ev_rt 0 rfl
    · refine ev_ov0 2 (as := [.ref 943, .int 63]) (pc := 482) (Lc := [some (.ref 943), some (.int u1)]) (st := []) (V := v0 L) (g1 := g) rfl (dm_42 L g 63) (fun g34 => ?_)
      refine ev_in 2 (p := u1 = 63) (a := 492) (b := 488) (T := ([some (.ref 943), some (.int u1)], [], (v0 L, g34))) rfl ?_ ?_
      · exact fun hR => by cases hR; exact ev_rt 2 rfl
      · refine ev_oi 2 (as := [.ref 943, .int 38]) (pc := 498) (Lc := [some (.ref 943), some (.int u1)]) (st := []) (V := v0 L) (g1 := g34) (e := ez_i) rfl (dm_26 L g34 38) (fun y35 g36 => ?_)
        exact fun hR => by cases hR; exact ev_rt 0 rfl
  refine sw_c ?_ ?_
  · refine ev_in 2 (p := u1 = 62) (a := 476) (b := 471) (T := ([some (.ref 943), some (.int u1)], [], (v0 L, g))) rfl ?_ ?_
    · refine ev_oi 1 (as := [.ref 943]) (pc := 475) (Lc := [some (.ref 943), some (.int u1)]) (st := []) (V := v0 L) (g1 := g) (e := ez_i) rfl (dm_43 L g ) (fun y43 g44 => ?_)
      exact fun hR => by cases hR; exact ev_rt 0 rfl
    · refine ev_ov0 2 (as := [.ref 943, .int 63]) (pc := 482) (Lc := [some (.ref 943), some (.int u1)]) (st := []) (V := v0 L) (g1 := g) rfl (dm_42 L g 63) (fun g40 => ?_)
      refine ev_in 2 (p := u1 = 63) (a := 492) (b := 488) (T := ([some (.ref 943), some (.int u1)], [], (v0 L, g40))) rfl ?_ ?_
      · exact fun hR => by cases hR; exact ev_rt 2 rfl
      · refine ev_oi 2 (as := [.ref 943, .int 38]) (pc := 498) (Lc := [some (.ref 943), some (.int u1)]) (st := []) (V := v0 L) (g1 := g40) (e := ez_i) rfl (dm_26 L g40 38) (fun y41 g42 => ?_)
        exact fun hR => by cases hR; exact ev_rt 0 rfl
  refine sw_c ?_ ?_
  · refine ev_in 2 (p := u1 = 62) (a := 476) (b := 471) (T := ([some (.ref 943), some (.int u1)], [], (v0 L, g))) rfl ?_ ?_
    · refine ev_oi 1 (as := [.ref 943]) (pc := 475) (Lc := [some (.ref 943), some (.int u1)]) (st := []) (V := v0 L) (g1 := g) (e := ez_i) rfl (dm_43 L g ) (fun y49 g50 => ?_)
      exact fun hR => by cases hR; exact ev_rt 0 rfl
    · refine ev_ov0 2 (as := [.ref 943, .int 63]) (pc := 482) (Lc := [some (.ref 943), some (.int u1)]) (st := []) (V := v0 L) (g1 := g) rfl (dm_42 L g 63) (fun g46 => ?_)
      refine ev_in 2 (p := u1 = 63) (a := 492) (b := 488) (T := ([some (.ref 943), some (.int u1)], [], (v0 L, g46))) rfl ?_ ?_
      · exact fun hR => by cases hR; exact ev_rt 2 rfl
      · refine ev_oi 2 (as := [.ref 943, .int 38]) (pc := 498) (Lc := [some (.ref 943), some (.int u1)]) (st := []) (V := v0 L) (g1 := g46) (e := ez_i) rfl (dm_26 L g46 38) (fun y47 g48 => ?_)
        exact fun hR => by cases hR; exact ev_rt 0 rfl
  refine sw_c ?_ ?_
  · refine ev_in 2 (p := u1 = 62) (a := 476) (b := 471) (T := ([some (.ref 943), some (.int u1)], [], (v0 L, g))) rfl ?_ ?_
    · refine ev_oi 1 (as := [.ref 943]) (pc := 475) (Lc := [some (.ref 943), some (.int u1)]) (st := []) (V := v0 L) (g1 := g) (e := ez_i) rfl (dm_43 L g ) (fun y55 g56 => ?_)
      exact fun hR => by cases hR; exact ev_rt 0 rfl
    · refine ev_ov0 2 (as := [.ref 943, .int 63]) (pc := 482) (Lc := [some (.ref 943), some (.int u1)]) (st := []) (V := v0 L) (g1 := g) rfl (dm_42 L g 63) (fun g52 => ?_)
      refine ev_in 2 (p := u1 = 63) (a := 492) (b := 488) (T := ([some (.ref 943), some (.int u1)], [], (v0 L, g52))) rfl ?_ ?_
      · exact fun hR => by cases hR; exact ev_rt 2 rfl
      · refine ev_oi 2 (as := [.ref 943, .int 38]) (pc := 498) (Lc := [some (.ref 943), some (.int u1)]) (st := []) (V := v0 L) (g1 := g52) (e := ez_i) rfl (dm_26 L g52 38) (fun y53 g54 => ?_)
        exact fun hR => by cases hR; exact ev_rt 0 rfl
  refine sw_c ?_ ?_
  · refine ev_in 2 (p := u1 = 62) (a := 476) (b := 471) (T := ([some (.ref 943), some (.int u1)], [], (v0 L, g))) rfl ?_ ?_
    · refine ev_oi 1 (as := [.ref 943]) (pc := 475) (Lc := [some (.ref 943), some (.int u1)]) (st := []) (V := v0 L) (g1 := g) (e := ez_i) rfl (dm_43 L g ) (fun y61 g62 => ?_)
      exact fun hR => by cases hR; exact ev_rt 0 rfl
    · refine ev_ov0 2 (as := [.ref 943, .int 63]) (pc := 482) (Lc := [some (.ref 943), some (.int u1)]) (st := []) (V := v0 L) (g1 := g) rfl (dm_42 L g 63) (fun g58 => ?_)
      refine ev_in 2 (p := u1 = 63) (a := 492) (b := 488) (T := ([some (.ref 943), some (.int u1)], [], (v0 L, g58))) rfl ?_ ?_
      · exact fun hR => by cases hR; exact ev_rt 2 rfl
      · refine ev_oi 2 (as := [.ref 943, .int 38]) (pc := 498) (Lc := [some (.ref 943), some (.int u1)]) (st := []) (V := v0 L) (g1 := g58) (e := ez_i) rfl (dm_26 L g58 38) (fun y59 g60 => ?_)
        exact fun hR => by cases hR; exact ev_rt 0 rfl
  refine sw_c ?_ ?_
  · refine ev_in 2 (p := u1 = 62) (a := 476) (b := 471) (T := ([some (.ref 943), some (.int u1)], [], (v0 L, g))) rfl ?_ ?_
    · refine ev_oi 1 (as := [.ref 943]) (pc := 475) (Lc := [some (.ref 943), some (.int u1)]) (st := []) (V := v0 L) (g1 := g) (e := ez_i) rfl (dm_43 L g ) (fun y67 g68 => ?_)
      exact fun hR => by cases hR; exact ev_rt 0 rfl
    · refine ev_ov0 2 (as := [.ref 943, .int 63]) (pc := 482) (Lc := [some (.ref 943), some (.int u1)]) (st := []) (V := v0 L) (g1 := g) rfl (dm_42 L g 63) (fun g64 => ?_)
      refine ev_in 2 (p := u1 = 63) (a := 492) (b := 488) (T := ([some (.ref 943), some (.int u1)], [], (v0 L, g64))) rfl ?_ ?_
      · exact fun hR => by cases hR; exact ev_rt 2 rfl
      · refine ev_oi 2 (as := [.ref 943, .int 38]) (pc := 498) (Lc := [some (.ref 943), some (.int u1)]) (st := []) (V := v0 L) (g1 := g64) (e := ez_i) rfl (dm_26 L g64 38) (fun y65 g66 => ?_)
        exact fun hR => by cases hR; exact ev_rt 0 rfl
  refine sw_c ?_ ?_
  · refine ev_in 2 (p := u1 = 62) (a := 476) (b := 471) (T := ([some (.ref 943), some (.int u1)], [], (v0 L, g))) rfl ?_ ?_
    · refine ev_oi 1 (as := [.ref 943]) (pc := 475) (Lc := [some (.ref 943), some (.int u1)]) (st := []) (V := v0 L) (g1 := g) (e := ez_i) rfl (dm_43 L g ) (fun y73 g74 => ?_)
      exact fun hR => by cases hR; exact ev_rt 0 rfl
    · refine ev_ov0 2 (as := [.ref 943, .int 63]) (pc := 482) (Lc := [some (.ref 943), some (.int u1)]) (st := []) (V := v0 L) (g1 := g) rfl (dm_42 L g 63) (fun g70 => ?_)
      refine ev_in 2 (p := u1 = 63) (a := 492) (b := 488) (T := ([some (.ref 943), some (.int u1)], [], (v0 L, g70))) rfl ?_ ?_
      · exact fun hR => by cases hR; exact ev_rt 2 rfl
      · refine ev_oi 2 (as := [.ref 943, .int 38]) (pc := 498) (Lc := [some (.ref 943), some (.int u1)]) (st := []) (V := v0 L) (g1 := g70) (e := ez_i) rfl (dm_26 L g70 38) (fun y71 g72 => ?_)
        exact fun hR => by cases hR; exact ev_rt 0 rfl
  refine sw_c ?_ ?_
  · refine ev_in 2 (p := u1 = 62) (a := 476) (b := 471) (T := ([some (.ref 943), some (.int u1)], [], (v0 L, g))) rfl ?_ ?_
    · refine ev_oi 1 (as := [.ref 943]) (pc := 475) (Lc := [some (.ref 943), some (.int u1)]) (st := []) (V := v0 L) (g1 := g) (e := ez_i) rfl (dm_43 L g ) (fun y79 g80 => ?_)
      exact fun hR => by cases hR; exact ev_rt 0 rfl
    · refine ev_ov0 2 (as := [.ref 943, .int 63]) (pc := 482) (Lc := [some (.ref 943), some (.int u1)]) (st := []) (V := v0 L) (g1 := g) rfl (dm_42 L g 63) (fun g76 => ?_)
      refine ev_in 2 (p := u1 = 63) (a := 492) (b := 488) (T := ([some (.ref 943), some (.int u1)], [], (v0 L, g76))) rfl ?_ ?_
      · exact fun hR => by cases hR; exact ev_rt 2 rfl
      · refine ev_oi 2 (as := [.ref 943, .int 38]) (pc := 498) (Lc := [some (.ref 943), some (.int u1)]) (st := []) (V := v0 L) (g1 := g76) (e := ez_i) rfl (dm_26 L g76 38) (fun y77 g78 => ?_)
        exact fun hR => by cases hR; exact ev_rt 0 rfl
  refine sw_c ?_ ?_
  · refine ev_in 2 (p := u1 = 62) (a := 476) (b := 471) (T := ([some (.ref 943), some (.int u1)], [], (v0 L, g))) rfl ?_ ?_
    · refine ev_oi 1 (as := [.ref 943]) (pc := 475) (Lc := [some (.ref 943), some (.int u1)]) (st := []) (V := v0 L) (g1 := g) (e := ez_i) rfl (dm_43 L g ) (fun y85 g86 => ?_)
      exact fun hR => by cases hR; exact ev_rt 0 rfl
    · refine ev_ov0 2 (as := [.ref 943, .int 63]) (pc := 482) (Lc := [some (.ref 943), some (.int u1)]) (st := []) (V := v0 L) (g1 := g) rfl (dm_42 L g 63) (fun g82 => ?_)
      refine ev_in 2 (p := u1 = 63) (a := 492) (b := 488) (T := ([some (.ref 943), some (.int u1)], [], (v0 L, g82))) rfl ?_ ?_
      · exact fun hR => by cases hR; exact ev_rt 2 rfl
      · refine ev_oi 2 (as := [.ref 943, .int 38]) (pc := 498) (Lc := [some (.ref 943), some (.int u1)]) (st := []) (V := v0 L) (g1 := g82) (e := ez_i) rfl (dm_26 L g82 38) (fun y83 g84 => ?_)
        exact fun hR => by cases hR; exact ev_rt 0 rfl
  refine sw_c ?_ ?_
  · refine ev_in 2 (p := u1 = 62) (a := 476) (b := 471) (T := ([some (.ref 943), some (.int u1)], [], (v0 L, g))) rfl ?_ ?_
    · refine ev_oi 1 (as := [.ref 943]) (pc := 475) (Lc := [some (.ref 943), some (.int u1)]) (st := []) (V := v0 L) (g1 := g) (e := ez_i) rfl (dm_43 L g ) (fun y91 g92 => ?_)
      exact fun hR => by cases hR; exact ev_rt 0 rfl
    · refine ev_ov0 2 (as := [.ref 943, .int 63]) (pc := 482) (Lc := [some (.ref 943), some (.int u1)]) (st := []) (V := v0 L) (g1 := g) rfl (dm_42 L g 63) (fun g88 => ?_)
      refine ev_in 2 (p := u1 = 63) (a := 492) (b := 488) (T := ([some (.ref 943), some (.int u1)], [], (v0 L, g88))) rfl ?_ ?_
      · exact fun hR => by cases hR; exact ev_rt 2 rfl
      · refine ev_oi 2 (as := [.ref 943, .int 38]) (pc := 498) (Lc := [some (.ref 943), some (.int u1)]) (st := []) (V := v0 L) (g1 := g88) (e := ez_i) rfl (dm_26 L g88 38) (fun y89 g90 => ?_)
        exact fun hR => by cases hR; exact ev_rt 0 rfl
  refine sw_c ?_ ?_
  · refine ev_in 2 (p := u1 = 62) (a := 476) (b := 471) (T := ([some (.ref 943), some (.int u1)], [], (v0 L, g))) rfl ?_ ?_
    · refine ev_oi 1 (as := [.ref 943]) (pc := 475) (Lc := [some (.ref 943), some (.int u1)]) (st := []) (V := v0 L) (g1 := g) (e := ez_i) rfl (dm_43 L g ) (fun y97 g98 => ?_)
      exact fun hR => by cases hR; exact ev_rt 0 rfl
    · refine ev_ov0 2 (as := [.ref 943, .int 63]) (pc := 482) (Lc := [some (.ref 943), some (.int u1)]) (st := []) (V := v0 L) (g1 := g) rfl (dm_42 L g 63) (fun g94 => ?_)
      refine ev_in 2 (p := u1 = 63) (a := 492) (b := 488) (T := ([some (.ref 943), some (.int u1)], [], (v0 L, g94))) rfl ?_ ?_
      · exact fun hR => by cases hR; exact ev_rt 2 rfl
      · refine ev_oi 2 (as := [.ref 943, .int 38]) (pc := 498) (Lc := [some (.ref 943), some (.int u1)]) (st := []) (V := v0 L) (g1 := g94) (e := ez_i) rfl (dm_26 L g94 38) (fun y95 g96 => ?_)
        exact fun hR => by cases hR; exact ev_rt 0 rfl
  refine sw_c ?_ ?_
  · refine ev_in 2 (p := u1 = 62) (a := 476) (b := 471) (T := ([some (.ref 943), some (.int u1)], [], (v0 L, g))) rfl ?_ ?_
    · refine ev_oi 1 (as := [.ref 943]) (pc := 475) (Lc := [some (.ref 943), some (.int u1)]) (st := []) (V := v0 L) (g1 := g) (e := ez_i) rfl (dm_43 L g ) (fun y103 g104 => ?_)
      exact fun hR => by cases hR; exact ev_rt 0 rfl
    · refine ev_ov0 2 (as := [.ref 943, .int 63]) (pc := 482) (Lc := [some (.ref 943), some (.int u1)]) (st := []) (V := v0 L) (g1 := g) rfl (dm_42 L g 63) (fun g100 => ?_)
      refine ev_in 2 (p := u1 = 63) (a := 492) (b := 488) (T := ([some (.ref 943), some (.int u1)], [], (v0 L, g100))) rfl ?_ ?_
      · exact fun hR => by cases hR; exact ev_rt 2 rfl
      · refine ev_oi 2 (as := [.ref 943, .int 38]) (pc := 498) (Lc := [some (.ref 943), some (.int u1)]) (st := []) (V := v0 L) (g1 := g100) (e := ez_i) rfl (dm_26 L g100 38) (fun y101 g102 => ?_)
        exact fun hR => by cases hR; exact ev_rt 0 rfl
  refine sw_c ?_ ?_
  · refine ev_in 2 (p := u1 = 62) (a := 476) (b := 471) (T := ([some (.ref 943), some (.int u1)], [], (v0 L, g))) rfl ?_ ?_
    · refine ev_oi 1 (as := [.ref 943]) (pc := 475) (Lc := [some (.ref 943), some (.int u1)]) (st := []) (V := v0 L) (g1 := g) (e := ez_i) rfl (dm_43 L g ) (fun y109 g110 => ?_)
      exact fun hR => by cases hR; exact ev_rt 0 rfl
    · refine ev_ov0 2 (as := [.ref 943, .int 63]) (pc := 482) (Lc := [some (.ref 943), some (.int u1)]) (st := []) (V := v0 L) (g1 := g) rfl (dm_42 L g 63) (fun g106 => ?_)
      refine ev_in 2 (p := u1 = 63) (a := 492) (b := 488) (T := ([some (.ref 943), some (.int u1)], [], (v0 L, g106))) rfl ?_ ?_
      · exact fun hR => by cases hR; exact ev_rt 2 rfl
      · refine ev_oi 2 (as := [.ref 943, .int 38]) (pc := 498) (Lc := [some (.ref 943), some (.int u1)]) (st := []) (V := v0 L) (g1 := g106) (e := ez_i) rfl (dm_26 L g106 38) (fun y107 g108 => ?_)
        exact fun hR => by cases hR; exact ev_rt 0 rfl
  refine sw_c ?_ ?_
  · refine ev_in 2 (p := u1 = 62) (a := 476) (b := 471) (T := ([some (.ref 943), some (.int u1)], [], (v0 L, g))) rfl ?_ ?_
    · refine ev_oi 1 (as := [.ref 943]) (pc := 475) (Lc := [some (.ref 943), some (.int u1)]) (st := []) (V := v0 L) (g1 := g) (e := ez_i) rfl (dm_43 L g ) (fun y115 g116 => ?_)
      exact fun hR => by cases hR; exact ev_rt 0 rfl
    · refine ev_ov0 2 (as := [.ref 943, .int 63]) (pc := 482) (Lc := [some (.ref 943), some (.int u1)]) (st := []) (V := v0 L) (g1 := g) rfl (dm_42 L g 63) (fun g112 => ?_)
      refine ev_in 2 (p := u1 = 63) (a := 492) (b := 488) (T := ([some (.ref 943), some (.int u1)], [], (v0 L, g112))) rfl ?_ ?_
      · exact fun hR => by cases hR; exact ev_rt 2 rfl
      · refine ev_oi 2 (as := [.ref 943, .int 38]) (pc := 498) (Lc := [some (.ref 943), some (.int u1)]) (st := []) (V := v0 L) (g1 := g112) (e := ez_i) rfl (dm_26 L g112 38) (fun y113 g114 => ?_)
        exact fun hR => by cases hR; exact ev_rt 0 rfl
  refine sw_c ?_ ?_
  · refine ev_in 2 (p := u1 = 62) (a := 476) (b := 471) (T := ([some (.ref 943), some (.int u1)], [], (v0 L, g))) rfl ?_ ?_
    · refine ev_oi 1 (as := [.ref 943]) (pc := 475) (Lc := [some (.ref 943), some (.int u1)]) (st := []) (V := v0 L) (g1 := g) (e := ez_i) rfl (dm_43 L g ) (fun y121 g122 => ?_)
      exact fun hR => by cases hR; exact ev_rt 0 rfl
    · refine ev_ov0 2 (as := [.ref 943, .int 63]) (pc := 482) (Lc := [some (.ref 943), some (.int u1)]) (st := []) (V := v0 L) (g1 := g) rfl (dm_42 L g 63) (fun g118 => ?_)
      refine ev_in 2 (p := u1 = 63) (a := 492) (b := 488) (T := ([some (.ref 943), some (.int u1)], [], (v0 L, g118))) rfl ?_ ?_
      · exact fun hR => by cases hR; exact ev_rt 2 rfl
      · refine ev_oi 2 (as := [.ref 943, .int 38]) (pc := 498) (Lc := [some (.ref 943), some (.int u1)]) (st := []) (V := v0 L) (g1 := g118) (e := ez_i) rfl (dm_26 L g118 38) (fun y119 g120 => ?_)
        exact fun hR => by cases hR; exact ev_rt 0 rfl
  refine sw_c ?_ ?_
  · refine ev_in 2 (p := u1 = 62) (a := 476) (b := 471) (T := ([some (.ref 943), some (.int u1)], [], (v0 L, g))) rfl ?_ ?_
    · refine ev_oi 1 (as := [.ref 943]) (pc := 475) (Lc := [some (.ref 943), some (.int u1)]) (st := []) (V := v0 L) (g1 := g) (e := ez_i) rfl (dm_43 L g ) (fun y127 g128 => ?_)
      exact fun hR => by cases hR; exact ev_rt 0 rfl
    · refine ev_ov0 2 (as := [.ref 943, .int 63]) (pc := 482) (Lc := [some (.ref 943), some (.int u1)]) (st := []) (V := v0 L) (g1 := g) rfl (dm_42 L g 63) (fun g124 => ?_)
      refine ev_in 2 (p := u1 = 63) (a := 492) (b := 488) (T := ([some (.ref 943), some (.int u1)], [], (v0 L, g124))) rfl ?_ ?_
      · exact fun hR => by cases hR; exact ev_rt 2 rfl
      · refine ev_oi 2 (as := [.ref 943, .int 38]) (pc := 498) (Lc := [some (.ref 943), some (.int u1)]) (st := []) (V := v0 L) (g1 := g124) (e := ez_i) rfl (dm_26 L g124 38) (fun y125 g126 => ?_)
        exact fun hR => by cases hR; exact ev_rt 0 rfl
  refine sw_c ?_ ?_
  · refine ev_in 2 (p := u1 = 62) (a := 476) (b := 471) (T := ([some (.ref 943), some (.int u1)], [], (v0 L, g))) rfl ?_ ?_
    · refine ev_oi 1 (as := [.ref 943]) (pc := 475) (Lc := [some (.ref 943), some (.int u1)]) (st := []) (V := v0 L) (g1 := g) (e := ez_i) rfl (dm_43 L g ) (fun y133 g134 => ?_)
      exact fun hR => by cases hR; exact ev_rt 0 rfl
    · refine ev_ov0 2 (as := [.ref 943, .int 63]) (pc := 482) (Lc := [some (.ref 943), some (.int u1)]) (st := []) (V := v0 L) (g1 := g) rfl (dm_42 L g 63) (fun g130 => ?_)
      refine ev_in 2 (p := u1 = 63) (a := 492) (b := 488) (T := ([some (.ref 943), some (.int u1)], [], (v0 L, g130))) rfl ?_ ?_
      · exact fun hR => by cases hR; exact ev_rt 2 rfl
      · refine ev_oi 2 (as := [.ref 943, .int 38]) (pc := 498) (Lc := [some (.ref 943), some (.int u1)]) (st := []) (V := v0 L) (g1 := g130) (e := ez_i) rfl (dm_26 L g130 38) (fun y131 g132 => ?_)
        exact fun hR => by cases hR; exact ev_rt 0 rfl
  refine sw_c ?_ ?_
  · refine ev_in 2 (p := u1 = 62) (a := 476) (b := 471) (T := ([some (.ref 943), some (.int u1)], [], (v0 L, g))) rfl ?_ ?_
    · refine ev_oi 1 (as := [.ref 943]) (pc := 475) (Lc := [some (.ref 943), some (.int u1)]) (st := []) (V := v0 L) (g1 := g) (e := ez_i) rfl (dm_43 L g ) (fun y139 g140 => ?_)
      exact fun hR => by cases hR; exact ev_rt 0 rfl
    · refine ev_ov0 2 (as := [.ref 943, .int 63]) (pc := 482) (Lc := [some (.ref 943), some (.int u1)]) (st := []) (V := v0 L) (g1 := g) rfl (dm_42 L g 63) (fun g136 => ?_)
      refine ev_in 2 (p := u1 = 63) (a := 492) (b := 488) (T := ([some (.ref 943), some (.int u1)], [], (v0 L, g136))) rfl ?_ ?_
      · exact fun hR => by cases hR; exact ev_rt 2 rfl
      · refine ev_oi 2 (as := [.ref 943, .int 38]) (pc := 498) (Lc := [some (.ref 943), some (.int u1)]) (st := []) (V := v0 L) (g1 := g136) (e := ez_i) rfl (dm_26 L g136 38) (fun y137 g138 => ?_)
        exact fun hR => by cases hR; exact ev_rt 0 rfl
  refine sw_c ?_ ?_
  · refine ev_in 2 (p := u1 = 62) (a := 476) (b := 471) (T := ([some (.ref 943), some (.int u1)], [], (v0 L, g))) rfl ?_ ?_
    · refine ev_oi 1 (as := [.ref 943]) (pc := 475) (Lc := [some (.ref 943), some (.int u1)]) (st := []) (V := v0 L) (g1 := g) (e := ez_i) rfl (dm_43 L g ) (fun y145 g146 => ?_)
      exact fun hR => by cases hR; exact ev_rt 0 rfl
    · refine ev_ov0 2 (as := [.ref 943, .int 63]) (pc := 482) (Lc := [some (.ref 943), some (.int u1)]) (st := []) (V := v0 L) (g1 := g) rfl (dm_42 L g 63) (fun g142 => ?_)
      refine ev_in 2 (p := u1 = 63) (a := 492) (b := 488) (T := ([some (.ref 943), some (.int u1)], [], (v0 L, g142))) rfl ?_ ?_
      · exact fun hR => by cases hR; exact ev_rt 2 rfl
      · refine ev_oi 2 (as := [.ref 943, .int 38]) (pc := 498) (Lc := [some (.ref 943), some (.int u1)]) (st := []) (V := v0 L) (g1 := g142) (e := ez_i) rfl (dm_26 L g142 38) (fun y143 g144 => ?_)
        exact fun hR => by cases hR; exact ev_rt 0 rfl
  refine sw_c ?_ ?_
  · refine ev_in 2 (p := u1 = 62) (a := 476) (b := 471) (T := ([some (.ref 943), some (.int u1)], [], (v0 L, g))) rfl ?_ ?_
    · refine ev_oi 1 (as := [.ref 943]) (pc := 475) (Lc := [some (.ref 943), some (.int u1)]) (st := []) (V := v0 L) (g1 := g) (e := ez_i) rfl (dm_43 L g ) (fun y151 g152 => ?_)
      exact fun hR => by cases hR; exact ev_rt 0 rfl
    · refine ev_ov0 2 (as := [.ref 943, .int 63]) (pc := 482) (Lc := [some (.ref 943), some (.int u1)]) (st := []) (V := v0 L) (g1 := g) rfl (dm_42 L g 63) (fun g148 => ?_)
      refine ev_in 2 (p := u1 = 63) (a := 492) (b := 488) (T := ([some (.ref 943), some (.int u1)], [], (v0 L, g148))) rfl ?_ ?_
      · exact fun hR => by cases hR; exact ev_rt 2 rfl
      · refine ev_oi 2 (as := [.ref 943, .int 38]) (pc := 498) (Lc := [some (.ref 943), some (.int u1)]) (st := []) (V := v0 L) (g1 := g148) (e := ez_i) rfl (dm_26 L g148 38) (fun y149 g150 => ?_)
        exact fun hR => by cases hR; exact ev_rt 0 rfl
  refine sw_c ?_ ?_
  · refine ev_in 2 (p := u1 = 62) (a := 476) (b := 471) (T := ([some (.ref 943), some (.int u1)], [], (v0 L, g))) rfl ?_ ?_
    · refine ev_oi 1 (as := [.ref 943]) (pc := 475) (Lc := [some (.ref 943), some (.int u1)]) (st := []) (V := v0 L) (g1 := g) (e := ez_i) rfl (dm_43 L g ) (fun y157 g158 => ?_)
      exact fun hR => by cases hR; exact ev_rt 0 rfl
    · refine ev_ov0 2 (as := [.ref 943, .int 63]) (pc := 482) (Lc := [some (.ref 943), some (.int u1)]) (st := []) (V := v0 L) (g1 := g) rfl (dm_42 L g 63) (fun g154 => ?_)
      refine ev_in 2 (p := u1 = 63) (a := 492) (b := 488) (T := ([some (.ref 943), some (.int u1)], [], (v0 L, g154))) rfl ?_ ?_
      · exact fun hR => by cases hR; exact ev_rt 2 rfl
      · refine ev_oi 2 (as := [.ref 943, .int 38]) (pc := 498) (Lc := [some (.ref 943), some (.int u1)]) (st := []) (V := v0 L) (g1 := g154) (e := ez_i) rfl (dm_26 L g154 38) (fun y155 g156 => ?_)
        exact fun hR => by cases hR; exact ev_rt 0 rfl
  refine sw_c ?_ ?_
  · refine ev_in 2 (p := u1 = 62) (a := 476) (b := 471) (T := ([some (.ref 943), some (.int u1)], [], (v0 L, g))) rfl ?_ ?_
    · refine ev_oi 1 (as := [.ref 943]) (pc := 475) (Lc := [some (.ref 943), some (.int u1)]) (st := []) (V := v0 L) (g1 := g) (e := ez_i) rfl (dm_43 L g ) (fun y163 g164 => ?_)
      exact fun hR => by cases hR; exact ev_rt 0 rfl
    · refine ev_ov0 2 (as := [.ref 943, .int 63]) (pc := 482) (Lc := [some (.ref 943), some (.int u1)]) (st := []) (V := v0 L) (g1 := g) rfl (dm_42 L g 63) (fun g160 => ?_)
      refine ev_in 2 (p := u1 = 63) (a := 492) (b := 488) (T := ([some (.ref 943), some (.int u1)], [], (v0 L, g160))) rfl ?_ ?_
      · exact fun hR => by cases hR; exact ev_rt 2 rfl
      · refine ev_oi 2 (as := [.ref 943, .int 38]) (pc := 498) (Lc := [some (.ref 943), some (.int u1)]) (st := []) (V := v0 L) (g1 := g160) (e := ez_i) rfl (dm_26 L g160 38) (fun y161 g162 => ?_)
        exact fun hR => by cases hR; exact ev_rt 0 rfl
  refine sw_c ?_ ?_
  · refine ev_in 2 (p := u1 = 45) (a := 265) (b := 256) (T := ([some (.ref 943), some (.int u1)], [], (v0 L, g))) rfl ?_ ?_
    · refine ev_oi 2 (as := [.ref 943, .int 31]) (pc := 262) (Lc := [some (.ref 943), some (.int u1)]) (st := []) (V := v0 L) (g1 := g) (e := ez_i) rfl (dm_25 L g 31) (fun y165 g166 => ?_)
      exact fun hR => by cases hR; exact ev_rt 1 rfl
    · exact fun hR => by cases hR; exact ev_rt 1 rfl
  refine sw_c ?_ ?_
  · refine ev_in 3 (p := u1 = 45) (a := 279) (b := 274) (T := ([some (.ref 943), some (.int u1)], [.ref 943], (v0 L, g))) rfl ?_ ?_
    · refine ev_jm 1 (t := (281, [some (.ref 943), some (.int u1)], [.int 32, .ref 943], (v0 L, g))) rfl ?_
      exact dj_120_281 L g 32 (some (.ref 943)) (some (.int u1)) _
    · refine ev_jm 0 (t := (281, [some (.ref 943), some (.int u1)], [.int 30, .ref 943], (v0 L, g))) rfl ?_
      exact dj_120_281 L g 30 (some (.ref 943)) (some (.int u1)) _
  refine sw_c ?_ ?_
  · refine ev_if 2 (p := u1 = 62) (a := 296) (b := 291) (T := ([some (.ref 943), some (.int u1)], [], (v0 L, g))) rfl ?_ ?_
    · refine ev_in 3 (p := (am_i g 943 27) = 1) (a := 308) (b := 304) (T := ([some (.ref 943), some (.int u1)], [], (v0 L, g))) rfl ?_ ?_
      · refine ev_ov0 1 (as := [.ref 943]) (pc := 308) (Lc := [some (.ref 943), some (.int u1)]) (st := []) (V := v0 L) (g1 := g) rfl (dm_45 L g ) (fun g168 => ?_)
        exact dj_120_308 L g168 (some (.int u1)) _
      · exact dj_120_308 L g (some (.int u1)) _
    · refine ev_oi 1 (as := [.ref 943]) (pc := 295) (Lc := [some (.ref 943), some (.int u1)]) (st := []) (V := v0 L) (g1 := g) (e := ez_i) rfl (dm_23 L g ) (fun y169 g170 => ?_)
      exact fun hR => by cases hR; exact ev_rt 0 rfl
  refine sw_c ?_ ?_
  · refine ev_oi 4 (as := [.ref 943, .int u1, .int 0, .int 0]) (pc := 320) (Lc := [some (.ref 943), some (.int u1)]) (st := []) (V := v0 L) (g1 := g) (e := ez_i) rfl (dm_27 L g u1 0 0) (fun y171 g172 => ?_)
    exact fun hR => by cases hR; exact ev_rt 0 rfl
  refine sw_c ?_ ?_
  · refine ev_op 1 (as := [.int u1]) (pc := 325) (Lc := [some (.ref 943), some (.int u1)]) (st := []) (h1 := (v0 L, g)) (e := ez_i) rfl (dm_16 L g u1) (fun y173 => ?_)
    refine ev_if 0 (p := y173 = 0) (a := 337) (b := 328) (T := ([some (.ref 943), some (.int u1)], [], (v0 L, g))) rfl ?_ ?_
    · refine ev_in 2 (p := u1 = 63) (a := 352) (b := 343) (T := ([some (.ref 943), some (.int u1)], [], (v0 L, g))) rfl ?_ ?_
      · refine ev_oi 2 (as := [.ref 943, .int 37]) (pc := 349) (Lc := [some (.ref 943), some (.int u1)]) (st := []) (V := v0 L) (g1 := g) (e := ez_i) rfl (dm_25 L g 37) (fun y177 g178 => ?_)
        exact fun hR => by cases hR; exact ev_rt 1 rfl
      · refine ev_oi 1 (as := [.ref 943]) (pc := 356) (Lc := [some (.ref 943), some (.int u1)]) (st := []) (V := v0 L) (g1 := g) (e := ez_i) rfl (dm_23 L g ) (fun y175 g176 => ?_)
        exact fun hR => by cases hR; exact ev_rt 0 rfl
    · refine ev_oi 2 (as := [.ref 943, .int 35]) (pc := 334) (Lc := [some (.ref 943), some (.int u1)]) (st := []) (V := v0 L) (g1 := g) (e := ez_i) rfl (dm_25 L g 35) (fun y179 g180 => ?_)
      exact fun hR => by cases hR; exact ev_rt 1 rfl
  refine sw_c ?_ ?_
  · refine ev_op 1 (as := [.int u1]) (pc := 361) (Lc := [some (.ref 943), some (.int u1)]) (st := []) (h1 := (v0 L, g)) (e := ez_i) rfl (dm_16 L g u1) (fun y181 => ?_)
    refine ev_if 0 (p := y181 = 0) (a := 366) (b := 364) (T := ([some (.ref 943), some (.int u1)], [], (v0 L, g))) rfl ?_ ?_
    · refine ev_in 2 (p := u1 = 63) (a := 381) (b := 372) (T := ([some (.ref 943), some (.int u1)], [], (v0 L, g))) rfl ?_ ?_
      · refine ev_oi 2 (as := [.ref 943, .int 36]) (pc := 378) (Lc := [some (.ref 943), some (.int u1)]) (st := []) (V := v0 L) (g1 := g) (e := ez_i) rfl (dm_25 L g 36) (fun y185 g186 => ?_)
        exact fun hR => by cases hR; exact ev_rt 1 rfl
      · refine ev_oi 2 (as := [.ref 943, .int 38]) (pc := 387) (Lc := [some (.ref 943), some (.int u1)]) (st := []) (V := v0 L) (g1 := g) (e := ez_i) rfl (dm_26 L g 38) (fun y183 g184 => ?_)
        exact fun hR => by cases hR; exact ev_rt 0 rfl
    · exact fun hR => by cases hR; exact ev_rt 1 rfl
  refine sw_c ?_ ?_
  · refine ev_in 2 (p := u1 = 62) (a := 399) (b := 394) (T := ([some (.ref 943), some (.int u1)], [], (v0 L, g))) rfl ?_ ?_
    · refine ev_oi 1 (as := [.ref 943]) (pc := 398) (Lc := [some (.ref 943), some (.int u1)]) (st := []) (V := v0 L) (g1 := g) (e := ez_i) rfl (dm_43 L g ) (fun y193 g194 => ?_)
      exact fun hR => by cases hR; exact ev_rt 0 rfl
    · refine ev_ov0 2 (as := [.ref 943, .int 63]) (pc := 405) (Lc := [some (.ref 943), some (.int u1)]) (st := []) (V := v0 L) (g1 := g) rfl (dm_42 L g 63) (fun g188 => ?_)
      refine ev_in 2 (p := u1 = 63) (a := 420) (b := 411) (T := ([some (.ref 943), some (.int u1)], [], (v0 L, g188))) rfl ?_ ?_
      · refine ev_oi 2 (as := [.ref 943, .int 39]) (pc := 417) (Lc := [some (.ref 943), some (.int u1)]) (st := []) (V := v0 L) (g1 := g188) (e := ez_i) rfl (dm_25 L g188 39) (fun y191 g192 => ?_)
        exact fun hR => by cases hR; exact ev_rt 1 rfl
      · refine ev_oi 2 (as := [.ref 943, .int 38]) (pc := 426) (Lc := [some (.ref 943), some (.int u1)]) (st := []) (V := v0 L) (g1 := g188) (e := ez_i) rfl (dm_26 L g188 38) (fun y189 g190 => ?_)
        exact fun hR => by cases hR; exact ev_rt 0 rfl
  refine sw_c ?_ ?_
  · refine ev_in 2 (p := u1 = 62) (a := 440) (b := 433) (T := ([some (.ref 943), some (.int u1)], [], (v0 L, g))) rfl ?_ ?_
    · refine ev_oi 1 (as := [.ref 943]) (pc := 437) (Lc := [some (.ref 943), some (.int u1)]) (st := []) (V := v0 L) (g1 := g) (e := ez_i) rfl (dm_43 L g ) (fun y197 g198 => ?_)
      exact fun hR => by cases hR; exact ev_rt 1 rfl
    · refine ev_oi 1 (as := [.ref 943]) (pc := 444) (Lc := [some (.ref 943), some (.int u1)]) (st := []) (V := v0 L) (g1 := g) (e := ez_i) rfl (dm_23 L g ) (fun y195 g196 => ?_)
      exact fun hR => by cases hR; exact ev_rt 0 rfl
  refine sw_c ?_ ?_
  · refine ev_in 2 (p := u1 = 63) (a := 458) (b := 451) (T := ([some (.ref 943), some (.int u1)], [], (v0 L, g))) rfl ?_ ?_
    · refine ev_oi 2 (as := [.ref 943, .int 39]) (pc := 457) (Lc := [some (.ref 943), some (.int u1)]) (st := []) (V := v0 L) (g1 := g) (e := ez_i) rfl (dm_25 L g 39) (fun y201 g202 => ?_)
      exact fun hR => by cases hR; exact ev_rt 0 rfl
    · refine ev_ov0 2 (as := [.ref 943, .int u1]) (pc := 463) (Lc := [some (.ref 943), some (.int u1)]) (st := []) (V := v0 L) (g1 := g) rfl (dm_42 L g u1) (fun g200 => ?_)
      exact fun hR => by cases hR; exact ev_rt 1 rfl
  refine sw_n ?_
  refine ev_in 2 (p := u1 = 62) (a := 476) (b := 471) (T := ([some (.ref 943), some (.int u1)], [], (v0 L, g))) rfl ?_ ?_
  · refine ev_oi 1 (as := [.ref 943]) (pc := 475) (Lc := [some (.ref 943), some (.int u1)]) (st := []) (V := v0 L) (g1 := g) (e := ez_i) rfl (dm_43 L g ) (fun y207 g208 => ?_)
    exact fun hR => by cases hR; exact ev_rt 0 rfl
  · refine ev_ov0 2 (as := [.ref 943, .int 63]) (pc := 482) (Lc := [some (.ref 943), some (.int u1)]) (st := []) (V := v0 L) (g1 := g) rfl (dm_42 L g 63) (fun g204 => ?_)
    refine ev_in 2 (p := u1 = 63) (a := 492) (b := 488) (T := ([some (.ref 943), some (.int u1)], [], (v0 L, g204))) rfl ?_ ?_
    · exact fun hR => by cases hR; exact ev_rt 2 rfl
    · refine ev_oi 2 (as := [.ref 943, .int 38]) (pc := 498) (Lc := [some (.ref 943), some (.int u1)]) (st := []) (V := v0 L) (g1 := g204) (e := ez_i) rfl (dm_26 L g204 38) (fun y205 g206 => ?_)
      exact fun hR => by cases hR; exact ev_rt 0 rfl
/-- DeclaredMarkupModel.blank(II)I -/
noncomputable def fm_116 (g : am_G) (u1 : Int32) (u2 : Int32) : Option (Int32 × am_G) := lo_p (fm_16 g u1) fun y1 => if y1 = 0 then lo_i (fm_23 g ) fun y3 g4 => some (y3, g4) else lo_i (fm_25 g u2) fun y5 g6 => some (y5, g6)
theorem dm_116 (L : Nat) (g : am_G) (u1 : Int32) (u2 : Int32) (R : Int32 × am_G) : fm_116 g u1 u2 = some R → ai_ev ap_P 116 (ai_e0 ap_P 116 [.ref 943, .int u1, .int u2] (v0 L, g)) (.inl (ez_i R.1)) (v0 L, R.2) := by
  show _ → ai_ev ap_P 116 (0, [some (.ref 943), some (.int u1), some (.int u2)], [], (v0 L, g)) _ _
  unfold fm_116
  refine ev_op 1 (as := [.int u1]) (pc := 4) (Lc := [some (.ref 943), some (.int u1), some (.int u2)]) (st := []) (h1 := (v0 L, g)) (e := ez_i) rfl (dm_16 L g u1) (fun y1 => ?_)
  refine ev_if 0 (p := y1 = 0) (a := 15) (b := 7) (T := ([some (.ref 943), some (.int u1), some (.int u2)], [], (v0 L, g))) rfl ?_ ?_
  · refine ev_oi 1 (as := [.ref 943]) (pc := 19) (Lc := [some (.ref 943), some (.int u1), some (.int u2)]) (st := []) (V := v0 L) (g1 := g) (e := ez_i) rfl (dm_23 L g ) (fun y3 g4 => ?_)
    exact fun hR => by cases hR; exact ev_rt 0 rfl
  · refine ev_oi 2 (as := [.ref 943, .int u2]) (pc := 12) (Lc := [some (.ref 943), some (.int u1), some (.int u2)]) (st := []) (V := v0 L) (g1 := g) (e := ez_i) rfl (dm_25 L g u2) (fun y5 g6 => ?_)
    exact fun hR => by cases hR; exact ev_rt 1 rfl
noncomputable def fj_118_26  (g : am_G) (u2 : Int32) : Option (Int32 × am_G) := lo_i (fm_25 g u2) fun y1 g2 => some (y1, g2)
theorem dj_118_26 (L : Nat)   (g : am_G) (u2 : Int32) (w1 : Option Value) (R : Int32 × am_G) : fj_118_26  g u2 = some R → ai_ev ap_P 118 (26, [some (.ref 943), w1, some (.int u2)], [], (v0 L, g)) (.inl (ez_i R.1)) (v0 L, R.2) := by
  unfold fj_118_26
  refine ev_oi 2 (as := [.ref 943, .int u2]) (pc := 31) (Lc := [some (.ref 943), none, some (.int u2)]) (st := []) (V := v0 L) (g1 := g) (e := ez_i) rfl (dm_25 L g u2) (fun y1 g2 => ?_)
  exact fun hR => by cases hR; exact ev_rt 1 rfl
/-- DeclaredMarkupModel.quoteAt(II)I -/
noncomputable def fm_118 (g : am_G) (u1 : Int32) (u2 : Int32) : Option (Int32 × am_G) := lo_p (fm_16 g u1) fun y1 => if y1 = 0 then if u1 = 34 then fj_118_26 (am_si g 943 38 u1) u2 else if u1 = 39 then fj_118_26 (am_si g 943 38 u1) u2 else lo_i (fm_23 (am_si g 943 38 u1) ) fun y3 g4 => some (y3, g4) else some (0, g)
theorem dm_118 (L : Nat) (g : am_G) (u1 : Int32) (u2 : Int32) (R : Int32 × am_G) : fm_118 g u1 u2 = some R → ai_ev ap_P 118 (ai_e0 ap_P 118 [.ref 943, .int u1, .int u2] (v0 L, g)) (.inl (ez_i R.1)) (v0 L, R.2) := by
  show _ → ai_ev ap_P 118 (0, [some (.ref 943), some (.int u1), some (.int u2)], [], (v0 L, g)) _ _
  unfold fm_118
  refine ev_op 1 (as := [.int u1]) (pc := 4) (Lc := [some (.ref 943), some (.int u1), some (.int u2)]) (st := []) (h1 := (v0 L, g)) (e := ez_i) rfl (dm_16 L g u1) (fun y1 => ?_)
  refine ev_if 0 (p := y1 = 0) (a := 9) (b := 7) (T := ([some (.ref 943), some (.int u1), some (.int u2)], [], (v0 L, g))) rfl ?_ ?_
  · refine ev_if 5 (p := u1 = 34) (a := 26) (b := 20) (T := ([some (.ref 943), some (.int u1), some (.int u2)], [], (v0 L, (am_si g 943 38 u1)))) rfl ?_ ?_
    · exact dj_118_26 L (am_si g 943 38 u1) u2 (some (.int u1)) _
    · refine ev_in 2 (p := u1 = 39) (a := 34) (b := 26) (T := ([some (.ref 943), some (.int u1), some (.int u2)], [], (v0 L, (am_si g 943 38 u1)))) rfl ?_ ?_
      · exact dj_118_26 L (am_si g 943 38 u1) u2 (some (.int u1)) _
      · refine ev_oi 1 (as := [.ref 943]) (pc := 38) (Lc := [some (.ref 943), some (.int u1), some (.int u2)]) (st := []) (V := v0 L) (g1 := (am_si g 943 38 u1)) (e := ez_i) rfl (dm_23 L (am_si g 943 38 u1) ) (fun y3 g4 => ?_)
        exact fun hR => by cases hR; exact ev_rt 0 rfl
  · exact fun hR => by cases hR; exact ev_rt 1 rfl
noncomputable def fj_119_76  (g : am_G) (t0 : Int32) : Option (Int32 × am_G) := if t0 = 0 then lo_i (fm_21 (am_si g 943 37 2) 12 (am_i g 943 48)) fun y1 g2 => some (y1, g2) else lo_i (fm_25 (am_si g 943 37 2) 18) fun y3 g4 => some (y3, g4)
theorem dj_119_76 (L : Nat)   (g : am_G) (t0 : Int32) (w1 w2 : Option Value) (R : Int32 × am_G) : fj_119_76  g t0 = some R → ai_ev ap_P 119 (76, [some (.ref 943), w1, w2], [.int t0], (v0 L, g)) (.inl (ez_i R.1)) (v0 L, R.2) := by
  unfold fj_119_76
  refine ev_if 5 (p := t0 = 0) (a := 95) (b := 86) (T := ([some (.ref 943), none, some (.int t0)], [], (v0 L, (am_si g 943 37 2)))) rfl ?_ ?_
  · refine ev_oi 4 (as := [.ref 943, .int 12, .int (am_i g 943 48)]) (pc := 105) (Lc := [some (.ref 943), none, some (.int t0)]) (st := []) (V := v0 L) (g1 := (am_si g 943 37 2)) (e := ez_i) rfl (dm_21 L (am_si g 943 37 2) 12 (am_i g 943 48)) (fun y1 g2 => ?_)
    exact fun hR => by cases hR; exact ev_rt 0 rfl
  · refine ev_oi 2 (as := [.ref 943, .int 18]) (pc := 92) (Lc := [some (.ref 943), none, some (.int t0)]) (st := []) (V := v0 L) (g1 := (am_si g 943 37 2)) (e := ez_i) rfl (dm_25 L (am_si g 943 37 2) 18) (fun y3 g4 => ?_)
    exact fun hR => by cases hR; exact ev_rt 1 rfl
noncomputable def fj_119_75  (g : am_G) : Option (Int32 × am_G) := fj_119_76 g 0
theorem dj_119_75 (L : Nat)   (g : am_G) (w1 w2 : Option Value) (R : Int32 × am_G) : fj_119_75  g = some R → ai_ev ap_P 119 (75, [some (.ref 943), w1, w2], [], (v0 L, g)) (.inl (ez_i R.1)) (v0 L, R.2) := by
  unfold fj_119_75
  refine ev_jm 0 (t := (76, [some (.ref 943), none, none], [.int 0], (v0 L, g))) rfl ?_
  exact dj_119_76 L g 0 none none _
noncomputable def fj_119_212  (g : am_G) (t1 : Int32) (t2 : Int32) : Option (Int32 × am_G) := lo_g (ai_in t1 6) (some (0, (am_si (am_si g 956 t1.toNatClampNeg t2) 943 47 ((am_i g 943 47) + 1))))
theorem dj_119_212 (L : Nat)   (g : am_G) (t1 : Int32) (t2 : Int32) (w1 w2 : Option Value) (R : Int32 × am_G) : fj_119_212  g t1 t2 = some R → ai_ev ap_P 119 (212, [some (.ref 943), w1, w2], [.int t2, .int t1, .ref 956], (v0 L, g)) (.inl (ez_i R.1)) (v0 L, R.2) := by
  unfold fj_119_212
  refine ev_gd (c := ai_in t1 6) (fun hc1 => ?_)
  refine ev_jm 0 (t := (213, [some (.ref 943), none, none], [], (v0 L, (am_si g 956 t1.toNatClampNeg t2)))) (ai_gd (c := ai_in t1 6) rfl hc1) ?_
  exact fun hR => by cases hR; exact ev_rt 7 rfl
noncomputable def fj_119_211  (g : am_G) (u1 : Int32) (t1 : Int32) : Option (Int32 × am_G) := fj_119_212 g t1 u1
theorem dj_119_211 (L : Nat)   (g : am_G) (u1 : Int32) (t1 : Int32) (w2 : Option Value) (R : Int32 × am_G) : fj_119_211  g u1 t1 = some R → ai_ev ap_P 119 (211, [some (.ref 943), some (.int u1), w2], [.int t1, .ref 956], (v0 L, g)) (.inl (ez_i R.1)) (v0 L, R.2) := by
  unfold fj_119_211
  refine ev_jm 0 (t := (212, [some (.ref 943), some (.int u1), none], [.int u1, .int t1, .ref 956], (v0 L, g))) rfl ?_
  exact dj_119_212 L g t1 u1 (some (.int u1)) none _
noncomputable def fj_119_165  (g : am_G) (u1 : Int32) (t0 : Int32) : Option (Int32 × am_G) := if t0 = 0 then lo_i (fm_23 g ) fun y1 g2 => some (y1, g2) else if (6 : Int32) ≤ (am_i g 943 47) then some (0, g) else if u1 < 65 then fj_119_211 g u1 (am_i g 943 47) else if (90 : Int32) < u1 then fj_119_211 g u1 (am_i g 943 47) else fj_119_212 g (am_i g 943 47) (u1 + 32)
theorem dj_119_165 (L : Nat)   (g : am_G) (u1 : Int32) (t0 : Int32) (w2 : Option Value) (R : Int32 × am_G) : fj_119_165  g u1 t0 = some R → ai_ev ap_P 119 (165, [some (.ref 943), some (.int u1), w2], [.int t0], (v0 L, g)) (.inl (ez_i R.1)) (v0 L, R.2) := by
  unfold fj_119_165
  refine ev_in 2 (p := t0 = 0) (a := 175) (b := 170) (T := ([some (.ref 943), some (.int u1), some (.int t0)], [], (v0 L, g))) rfl ?_ ?_
  · refine ev_oi 1 (as := [.ref 943]) (pc := 174) (Lc := [some (.ref 943), some (.int u1), some (.int t0)]) (st := []) (V := v0 L) (g1 := g) (e := ez_i) rfl (dm_23 L g ) (fun y1 g2 => ?_)
    exact fun hR => by cases hR; exact ev_rt 0 rfl
  · refine ev_if 3 (p := (6 : Int32) ≤ (am_i g 943 47)) (a := 223) (b := 184) (T := ([some (.ref 943), some (.int u1), some (.int t0)], [], (v0 L, g))) rfl ?_ ?_
    · exact fun hR => by cases hR; exact ev_rt 1 rfl
    · refine ev_if 6 (p := u1 < 65) (a := 211) (b := 198) (T := ([some (.ref 943), some (.int u1), some (.int t0)], [.int (am_i g 943 47), .ref 956], (v0 L, g))) rfl ?_ ?_
      · exact dj_119_211 L g u1 (am_i g 943 47) (some (.int t0)) _
      · refine ev_if 2 (p := (90 : Int32) < u1) (a := 211) (b := 204) (T := ([some (.ref 943), some (.int u1), some (.int t0)], [.int (am_i g 943 47), .ref 956], (v0 L, g))) rfl ?_ ?_
        · exact dj_119_211 L g u1 (am_i g 943 47) (some (.int t0)) _
        · refine ev_jm 3 (t := (212, [some (.ref 943), some (.int u1), some (.int t0)], [.int (u1 + 32), .int (am_i g 943 47), .ref 956], (v0 L, g))) rfl ?_
          exact dj_119_212 L g (am_i g 943 47) (u1 + 32) (some (.int u1)) (some (.int t0)) _
noncomputable def fj_119_160  (g : am_G) (u1 : Int32) : Option (Int32 × am_G) := fj_119_165 g u1 1
theorem dj_119_160 (L : Nat)   (g : am_G) (u1 : Int32) (w2 : Option Value) (R : Int32 × am_G) : fj_119_160  g u1 = some R → ai_ev ap_P 119 (160, [some (.ref 943), some (.int u1), w2], [], (v0 L, g)) (.inl (ez_i R.1)) (v0 L, R.2) := by
  unfold fj_119_160
  refine ev_jm 1 (t := (165, [some (.ref 943), some (.int u1), none], [.int 1], (v0 L, g))) rfl ?_
  exact dj_119_165 L g u1 1 none _
noncomputable def fj_119_142  (g : am_G) (u1 : Int32) : Option (Int32 × am_G) := if u1 = 46 then fj_119_160 g u1 else if u1 = 95 then fj_119_160 g u1 else if u1 = 45 then fj_119_160 g u1 else fj_119_165 g u1 0
theorem dj_119_142 (L : Nat)   (g : am_G) (u1 : Int32) (w2 : Option Value) (R : Int32 × am_G) : fj_119_142  g u1 = some R → ai_ev ap_P 119 (142, [some (.ref 943), some (.int u1), w2], [], (v0 L, g)) (.inl (ez_i R.1)) (v0 L, R.2) := by
  unfold fj_119_142
  refine ev_if 2 (p := u1 = 46) (a := 160) (b := 148) (T := ([some (.ref 943), some (.int u1), none], [], (v0 L, g))) rfl ?_ ?_
  · exact dj_119_160 L g u1 none _
  · refine ev_if 2 (p := u1 = 95) (a := 160) (b := 154) (T := ([some (.ref 943), some (.int u1), none], [], (v0 L, g))) rfl ?_ ?_
    · exact dj_119_160 L g u1 none _
    · refine ev_in 2 (p := u1 = 45) (a := 164) (b := 160) (T := ([some (.ref 943), some (.int u1), none], [], (v0 L, g))) rfl ?_ ?_
      · exact dj_119_160 L g u1 none _
      · refine ev_jm 0 (t := (165, [some (.ref 943), some (.int u1), none], [.int 0], (v0 L, g))) rfl ?_
        exact dj_119_165 L g u1 0 none _
noncomputable def fj_119_130  (g : am_G) (u1 : Int32) : Option (Int32 × am_G) := if u1 < 48 then fj_119_142 g u1 else if u1 ≤ 57 then fj_119_160 g u1 else fj_119_142 g u1
theorem dj_119_130 (L : Nat)   (g : am_G) (u1 : Int32) (w2 : Option Value) (R : Int32 × am_G) : fj_119_130  g u1 = some R → ai_ev ap_P 119 (130, [some (.ref 943), some (.int u1), w2], [], (v0 L, g)) (.inl (ez_i R.1)) (v0 L, R.2) := by
  unfold fj_119_130
  refine ev_if 2 (p := u1 < 48) (a := 142) (b := 136) (T := ([some (.ref 943), some (.int u1), none], [], (v0 L, g))) rfl ?_ ?_
  · exact dj_119_142 L g u1 none _
  · refine ev_if 2 (p := u1 ≤ 57) (a := 160) (b := 142) (T := ([some (.ref 943), some (.int u1), none], [], (v0 L, g))) rfl ?_ ?_
    · exact dj_119_160 L g u1 none _
    · exact dj_119_142 L g u1 none _
noncomputable def fj_119_118  (g : am_G) (u1 : Int32) : Option (Int32 × am_G) := if u1 < 97 then fj_119_130 g u1 else if u1 ≤ 122 then fj_119_160 g u1 else fj_119_130 g u1
theorem dj_119_118 (L : Nat)   (g : am_G) (u1 : Int32) (w2 : Option Value) (R : Int32 × am_G) : fj_119_118  g u1 = some R → ai_ev ap_P 119 (118, [some (.ref 943), some (.int u1), w2], [], (v0 L, g)) (.inl (ez_i R.1)) (v0 L, R.2) := by
  unfold fj_119_118
  refine ev_if 2 (p := u1 < 97) (a := 130) (b := 124) (T := ([some (.ref 943), some (.int u1), none], [], (v0 L, g))) rfl ?_ ?_
  · exact dj_119_130 L g u1 none _
  · refine ev_if 2 (p := u1 ≤ 122) (a := 160) (b := 130) (T := ([some (.ref 943), some (.int u1), none], [], (v0 L, g))) rfl ?_ ?_
    · exact dj_119_160 L g u1 none _
    · exact dj_119_130 L g u1 none _
/-- DeclaredMarkupModel.codingStep(I)I -/
noncomputable def fm_119 (g : am_G) (u1 : Int32) : Option (Int32 × am_G) := if u1 = (am_i g 943 38) then if (am_i g 943 47) = 5 then if (am_i g 956 0) = 117 then if (am_i g 956 1) = 116 then if (am_i g 956 2) = 102 then if (am_i g 956 3) = 45 then if (am_i g 956 4) = 56 then fj_119_76 g 1 else fj_119_75 g else fj_119_75 g else fj_119_75 g else fj_119_75 g else fj_119_75 g else fj_119_75 g else if u1 < 65 then fj_119_118 g u1 else if u1 ≤ 90 then fj_119_160 g u1 else fj_119_118 g u1
theorem dm_119 (L : Nat) (g : am_G) (u1 : Int32) (R : Int32 × am_G) : fm_119 g u1 = some R → ai_ev ap_P 119 (ai_e0 ap_P 119 [.ref 943, .int u1] (v0 L, g)) (.inl (ez_i R.1)) (v0 L, R.2) := by
  show _ → ai_ev ap_P 119 (0, [some (.ref 943), some (.int u1), none], [], (v0 L, g)) _ _
  unfold fm_119
  refine ev_in 3 (p := u1 = (am_i g 943 38)) (a := 106) (b := 8) (T := ([some (.ref 943), some (.int u1), none], [], (v0 L, g))) rfl ?_ ?_
  · refine ev_in 3 (p := (am_i g 943 47) = 5) (a := 75) (b := 16) (T := ([some (.ref 943), some (.int u1), none], [], (v0 L, g))) rfl ?_ ?_
    · refine ev_in 5 (p := (am_i g 956 0) = 117) (a := 75) (b := 27) (T := ([some (.ref 943), some (.int u1), none], [], (v0 L, g))) rfl ?_ ?_
      · refine ev_in 5 (p := (am_i g 956 1) = 116) (a := 75) (b := 38) (T := ([some (.ref 943), some (.int u1), none], [], (v0 L, g))) rfl ?_ ?_
        · refine ev_in 5 (p := (am_i g 956 2) = 102) (a := 75) (b := 49) (T := ([some (.ref 943), some (.int u1), none], [], (v0 L, g))) rfl ?_ ?_
          · refine ev_in 5 (p := (am_i g 956 3) = 45) (a := 75) (b := 60) (T := ([some (.ref 943), some (.int u1), none], [], (v0 L, g))) rfl ?_ ?_
            · refine ev_in 5 (p := (am_i g 956 4) = 56) (a := 75) (b := 71) (T := ([some (.ref 943), some (.int u1), none], [], (v0 L, g))) rfl ?_ ?_
              · refine ev_jm 1 (t := (76, [some (.ref 943), some (.int u1), none], [.int 1], (v0 L, g))) rfl ?_
                exact dj_119_76 L g 1 (some (.int u1)) none _
              · exact dj_119_75 L g (some (.int u1)) none _
            · exact dj_119_75 L g (some (.int u1)) none _
          · exact dj_119_75 L g (some (.int u1)) none _
        · exact dj_119_75 L g (some (.int u1)) none _
      · exact dj_119_75 L g (some (.int u1)) none _
    · exact dj_119_75 L g (some (.int u1)) none _
  · refine ev_if 2 (p := u1 < 65) (a := 118) (b := 112) (T := ([some (.ref 943), some (.int u1), none], [], (v0 L, g))) rfl ?_ ?_
    · exact dj_119_118 L g u1 none _
    · refine ev_if 2 (p := u1 ≤ 90) (a := 160) (b := 118) (T := ([some (.ref 943), some (.int u1), none], [], (v0 L, g))) rfl ?_ ?_
      · exact dj_119_160 L g u1 none _
      · exact dj_119_118 L g u1 none _
noncomputable def fj_117_228  (g : am_G) : Option (Int32 × am_G) := lo_i (fm_23 g ) fun y1 g2 => some (y1, g2)
set_option maxRecDepth 20000 in
theorem dj_117_228 (L : Nat)   (g : am_G) (w1 : Option Value) (R : Int32 × am_G) : fj_117_228  g = some R → ai_ev ap_P 117 (228, [some (.ref 943), w1], [], (v0 L, g)) (.inl (ez_i R.1)) (v0 L, R.2) := by
  unfold fj_117_228
  refine ev_oi 1 (as := [.ref 943]) (pc := 232) (Lc := [some (.ref 943), none]) (st := []) (V := v0 L) (g1 := g) (e := ez_i) rfl (dm_23 L g ) (fun y1 g2 => ?_)
  exact fun hR => by cases hR; exact ev_rt 0 rfl
noncomputable def fj_117_271  (g : am_G) : Option (Int32 × am_G) := lo_i (fm_23 g ) fun y1 g2 => some (y1, g2)
set_option maxRecDepth 20000 in
theorem dj_117_271 (L : Nat)   (g : am_G) (w1 : Option Value) (R : Int32 × am_G) : fj_117_271  g = some R → ai_ev ap_P 117 (271, [some (.ref 943), w1], [], (v0 L, g)) (.inl (ez_i R.1)) (v0 L, R.2) := by
  unfold fj_117_271
  refine ev_oi 1 (as := [.ref 943]) (pc := 275) (Lc := [some (.ref 943), none]) (st := []) (V := v0 L) (g1 := g) (e := ez_i) rfl (dm_23 L g ) (fun y1 g2 => ?_)
  exact fun hR => by cases hR; exact ev_rt 0 rfl
noncomputable def fj_117_379  (g : am_G) (u1 : Int32) : Option (Int32 × am_G) := lo_p (fm_16 g u1) fun y1 => if y1 = 0 then lo_i (fm_23 g ) fun y3 g4 => some (y3, g4) else some (0, g)
set_option maxRecDepth 20000 in
theorem dj_117_379 (L : Nat)   (g : am_G) (u1 : Int32) (R : Int32 × am_G) : fj_117_379  g u1 = some R → ai_ev ap_P 117 (379, [some (.ref 943), some (.int u1)], [], (v0 L, g)) (.inl (ez_i R.1)) (v0 L, R.2) := by
  unfold fj_117_379
  refine ev_op 1 (as := [.int u1]) (pc := 383) (Lc := [some (.ref 943), some (.int u1)]) (st := []) (h1 := (v0 L, g)) (e := ez_i) rfl (dm_16 L g u1) (fun y1 => ?_)
  refine ev_if 0 (p := y1 = 0) (a := 390) (b := 386) (T := ([some (.ref 943), some (.int u1)], [], (v0 L, g))) rfl ?_ ?_
  · refine ev_oi 1 (as := [.ref 943]) (pc := 394) (Lc := [some (.ref 943), some (.int u1)]) (st := []) (V := v0 L) (g1 := g) (e := ez_i) rfl (dm_23 L g ) (fun y3 g4 => ?_)
    exact fun hR => by cases hR; exact ev_rt 0 rfl
  · exact fun hR => by cases hR; exact ev_rt 2 rfl
noncomputable def fj_117_352  (g : am_G) (u1 : Int32) : Option (Int32 × am_G) := if u1 = 115 then if (3 : Int32) ≤ (am_i g 943 37) then fj_117_379 g u1 else lo_i (fm_34 g 690542830042565 10 0 25) fun y1 g2 => some (y1, g2) else fj_117_379 g u1
set_option maxRecDepth 20000 in
theorem dj_117_352 (L : Nat)   (g : am_G) (u1 : Int32) (R : Int32 × am_G) : fj_117_352  g u1 = some R → ai_ev ap_P 117 (352, [some (.ref 943), some (.int u1)], [], (v0 L, g)) (.inl (ez_i R.1)) (v0 L, R.2) := by
  unfold fj_117_352
  refine ev_in 2 (p := u1 = 115) (a := 379) (b := 358) (T := ([some (.ref 943), some (.int u1)], [], (v0 L, g))) rfl ?_ ?_
  · refine ev_if 3 (p := (3 : Int32) ≤ (am_i g 943 37)) (a := 379) (b := 366) (T := ([some (.ref 943), some (.int u1)], [], (v0 L, g))) rfl ?_ ?_
    · exact dj_117_379 L g u1 _
    · refine ev_oi 5 (as := [.ref 943, .long 690542830042565, .int 10, .int 0, .int 25]) (pc := 378) (Lc := [some (.ref 943), some (.int u1)]) (st := []) (V := v0 L) (g1 := g) (e := ez_i) rfl (dm_34 L g 690542830042565 10 0 25) (fun y1 g2 => ?_)
      exact fun hR => by cases hR; exact ev_rt 0 rfl
  · exact dj_117_379 L g u1 _
noncomputable def fj_117_471  (g : am_G) : Option (Int32 × am_G) := lo_i (fm_26 g 23) fun y1 g2 => some (y1, g2)
set_option maxRecDepth 20000 in
theorem dj_117_471 (L : Nat)   (g : am_G) (w1 : Option Value) (R : Int32 × am_G) : fj_117_471  g = some R → ai_ev ap_P 117 (471, [some (.ref 943), w1], [], (v0 L, g)) (.inl (ez_i R.1)) (v0 L, R.2) := by
  unfold fj_117_471
  refine ev_oi 2 (as := [.ref 943, .int 23]) (pc := 477) (Lc := [some (.ref 943), none]) (st := []) (V := v0 L) (g1 := g) (e := ez_i) rfl (dm_26 L g 23) (fun y1 g2 => ?_)
  exact fun hR => by cases hR; exact ev_rt 1 rfl
noncomputable def fj_117_480  (g : am_G) : Option (Int32 × am_G) := lo_i (fm_23 g ) fun y1 g2 => some (y1, g2)
set_option maxRecDepth 20000 in
theorem dj_117_480 (L : Nat)   (g : am_G) (w1 : Option Value) (R : Int32 × am_G) : fj_117_480  g = some R → ai_ev ap_P 117 (480, [some (.ref 943), w1], [], (v0 L, g)) (.inl (ez_i R.1)) (v0 L, R.2) := by
  unfold fj_117_480
  refine ev_oi 1 (as := [.ref 943]) (pc := 484) (Lc := [some (.ref 943), none]) (st := []) (V := v0 L) (g1 := g) (e := ez_i) rfl (dm_23 L g ) (fun y1 g2 => ?_)
  exact fun hR => by cases hR; exact ev_rt 0 rfl
noncomputable def fj_117_459  (g : am_G) (u1 : Int32) : Option (Int32 × am_G) := if u1 < 97 then fj_117_480 g else if (122 : Int32) < u1 then fj_117_480 g else fj_117_471 g
set_option maxRecDepth 20000 in
theorem dj_117_459 (L : Nat)   (g : am_G) (u1 : Int32) (R : Int32 × am_G) : fj_117_459  g u1 = some R → ai_ev ap_P 117 (459, [some (.ref 943), some (.int u1)], [], (v0 L, g)) (.inl (ez_i R.1)) (v0 L, R.2) := by
  unfold fj_117_459
  refine ev_if 2 (p := u1 < 97) (a := 480) (b := 465) (T := ([some (.ref 943), some (.int u1)], [], (v0 L, g))) rfl ?_ ?_
  · exact dj_117_480 L g (some (.int u1)) _
  · refine ev_if 2 (p := (122 : Int32) < u1) (a := 480) (b := 471) (T := ([some (.ref 943), some (.int u1)], [], (v0 L, g))) rfl ?_ ?_
    · exact dj_117_480 L g (some (.int u1)) _
    · exact dj_117_471 L g (some (.int u1)) _
/-- DeclaredMarkupModel.declarationStep(I)I -/
noncomputable def fm_117 (g : am_G) (u1 : Int32) : Option (Int32 × am_G) := if (am_i g 943 26) = 10 then lo_i (fm_116 g u1 11) fun y1 g2 => some (y1, g2) else if (am_i g 943 26) = 11 then lo_p (fm_16 g u1) fun y3 => if y3 = 0 then lo_i (fm_34 g 23809598958 7 0 12) fun y5 g6 => some (y5, g6) else some (0, g) else if (am_i g 943 26) = 12 then lo_p (fm_16 g u1) fun y7 => if y7 = 0 then if u1 = 61 then lo_i (fm_25 g 13) fun y11 g12 => some (y11, g12) else lo_i (fm_23 g ) fun y9 g10 => some (y9, g10) else some (0, g) else if (am_i g 943 26) = 13 then lo_i (fm_118 g u1 14) fun y13 g14 => some (y13, g14) else if (am_i g 943 26) = 14 then if u1 = 49 then lo_i (fm_25 g 15) fun y17 g18 => some (y17, g18) else lo_i (fm_23 g ) fun y15 g16 => some (y15, g16) else if (am_i g 943 26) = 15 then if u1 = 46 then lo_i (fm_25 g 16) fun y21 g22 => some (y21, g22) else lo_i (fm_23 g ) fun y19 g20 => some (y19, g20) else if (am_i g 943 26) = 16 then if u1 < 48 then fj_117_228 g else if (57 : Int32) < u1 then fj_117_228 g else lo_i (fm_25 g 17) fun y23 g24 => some (y23, g24) else if (am_i g 943 26) = 17 then if u1 = (am_i g 943 38) then lo_i (fm_25 (am_si g 943 37 1) 18) fun y25 g26 => some (y25, g26) else if u1 < 48 then fj_117_271 (am_si g 943 37 1) else if (57 : Int32) < u1 then fj_117_271 (am_si g 943 37 1) else some (0, (am_si g 943 37 1)) else if (am_i g 943 26) = 18 then lo_p (fm_16 g u1) fun y27 => if y27 = 0 then if u1 = 63 then lo_i (fm_25 g 29) fun y31 g32 => some (y31, g32) else lo_i (fm_23 g ) fun y29 g30 => some (y29, g30) else lo_i (fm_25 g 19) fun y33 g34 => some (y33, g34) else if (am_i g 943 26) = 19 then if u1 = 63 then lo_i (fm_25 g 29) fun y37 g38 => some (y37, g38) else if u1 = 101 then if (am_i g 943 37) = 1 then lo_i (fm_34 g 186947610055 8 0 20) fun y35 g36 => some (y35, g36) else fj_117_352 g u1 else fj_117_352 g u1 else if (am_i g 943 26) = 20 then lo_p (fm_16 g u1) fun y39 => if y39 = 0 then if u1 = 61 then lo_i (fm_25 g 21) fun y43 g44 => some (y43, g44) else lo_i (fm_23 g ) fun y41 g42 => some (y41, g42) else some (0, g) else if (am_i g 943 26) = 21 then lo_i (fm_118 g u1 22) fun y45 g46 => some (y45, g46) else if (am_i g 943 26) = 22 then if u1 < 65 then fj_117_459 (am_si (am_si g 943 48 (am_i g 943 30)) 943 47 0) u1 else if u1 ≤ 90 then fj_117_471 (am_si (am_si g 943 48 (am_i g 943 30)) 943 47 0) else fj_117_459 (am_si (am_si g 943 48 (am_i g 943 30)) 943 47 0) u1 else if (am_i g 943 26) = 23 then lo_i (fm_119 g u1) fun y47 g48 => some (y47, g48) else if (am_i g 943 26) = 24 then if u1 = 62 then lo_i (fm_25 g 0) fun y51 g52 => some (y51, g52) else lo_i (fm_23 g ) fun y49 g50 => some (y49, g50) else if (am_i g 943 26) = 25 then lo_p (fm_16 g u1) fun y53 => if y53 = 0 then if u1 = 61 then lo_i (fm_25 g 26) fun y57 g58 => some (y57, g58) else lo_i (fm_23 g ) fun y55 g56 => some (y55, g56) else some (0, g) else if (am_i g 943 26) = 26 then lo_i (fm_118 g u1 27) fun y59 g60 => some (y59, g60) else if (am_i g 943 26) = 27 then if u1 = 121 then lo_i (fm_34 g 25779 3 0 28) fun y65 g66 => some (y65, g66) else if u1 = 110 then lo_i (fm_34 g 463 2 0 28) fun y63 g64 => some (y63, g64) else lo_i (fm_23 g ) fun y61 g62 => some (y61, g62) else if (am_i g 943 26) = 28 then if u1 = (am_i g 943 38) then lo_i (fm_25 (am_si g 943 37 3) 18) fun y69 g70 => some (y69, g70) else lo_i (fm_23 (am_si g 943 37 3) ) fun y67 g68 => some (y67, g68) else if u1 = 62 then lo_i (fm_25 g 0) fun y73 g74 => some (y73, g74) else lo_i (fm_23 g ) fun y71 g72 => some (y71, g72)
set_option maxRecDepth 20000 in
theorem dm_117 (L : Nat) (g : am_G) (u1 : Int32) (R : Int32 × am_G) : fm_117 g u1 = some R → ai_ev ap_P 117 (ai_e0 ap_P 117 [.ref 943, .int u1] (v0 L, g)) (.inl (ez_i R.1)) (v0 L, R.2) := by
  show _ → ai_ev ap_P 117 (0, [some (.ref 943), some (.int u1)], [], (v0 L, g)) _ _
  unfold fm_117
  refine ev_sw 2 (ps := [(10, 96), (11, 104), (12, 128), (13, 159), (14, 167), (15, 187), (16, 207), (17, 233), (18, 276), (19, 312), (20, 395), (21, 426), (22, 434), (23, 485), (24, 602), (25, 491), (26, 522), (27, 530), (28, 575)]) (d := 602) (x := (am_i g 943 26)) (T := ([some (.ref 943), some (.int u1)], [], (v0 L, g))) rfl ?_
  refine sw_c ?_ ?_
  · refine ev_oi 3 (as := [.ref 943, .int u1, .int 11]) (pc := 103) (Lc := [some (.ref 943), some (.int u1)]) (st := []) (V := v0 L) (g1 := g) (e := ez_i) rfl (dm_116 L g u1 11) (fun y1 g2 => ?_)
    exact fun hR => by cases hR; exact ev_rt 0 rfl
  refine sw_c ?_ ?_
  · refine ev_op 1 (as := [.int u1]) (pc := 108) (Lc := [some (.ref 943), some (.int u1)]) (st := []) (h1 := (v0 L, g)) (e := ez_i) rfl (dm_16 L g u1) (fun y3 => ?_)
    refine ev_if 0 (p := y3 = 0) (a := 115) (b := 111) (T := ([some (.ref 943), some (.int u1)], [], (v0 L, g))) rfl ?_ ?_
    · refine ev_oi 5 (as := [.ref 943, .long 23809598958, .int 7, .int 0, .int 12]) (pc := 127) (Lc := [some (.ref 943), some (.int u1)]) (st := []) (V := v0 L) (g1 := g) (e := ez_i) rfl (dm_34 L g 23809598958 7 0 12) (fun y5 g6 => ?_)
      exact fun hR => by cases hR; exact ev_rt 0 rfl
    · exact fun hR => by cases hR; exact ev_rt 2 rfl
  refine sw_c ?_ ?_
  · refine ev_op 1 (as := [.int u1]) (pc := 132) (Lc := [some (.ref 943), some (.int u1)]) (st := []) (h1 := (v0 L, g)) (e := ez_i) rfl (dm_16 L g u1) (fun y7 => ?_)
    refine ev_if 0 (p := y7 = 0) (a := 139) (b := 135) (T := ([some (.ref 943), some (.int u1)], [], (v0 L, g))) rfl ?_ ?_
    · refine ev_in 2 (p := u1 = 61) (a := 154) (b := 145) (T := ([some (.ref 943), some (.int u1)], [], (v0 L, g))) rfl ?_ ?_
      · refine ev_oi 2 (as := [.ref 943, .int 13]) (pc := 151) (Lc := [some (.ref 943), some (.int u1)]) (st := []) (V := v0 L) (g1 := g) (e := ez_i) rfl (dm_25 L g 13) (fun y11 g12 => ?_)
        exact fun hR => by cases hR; exact ev_rt 1 rfl
      · refine ev_oi 1 (as := [.ref 943]) (pc := 158) (Lc := [some (.ref 943), some (.int u1)]) (st := []) (V := v0 L) (g1 := g) (e := ez_i) rfl (dm_23 L g ) (fun y9 g10 => ?_)
        exact fun hR => by cases hR; exact ev_rt 0 rfl
    · exact fun hR => by cases hR; exact ev_rt 2 rfl
  refine sw_c ?_ ?_
  · refine ev_oi 3 (as := [.ref 943, .int u1, .int 14]) (pc := 166) (Lc := [some (.ref 943), some (.int u1)]) (st := []) (V := v0 L) (g1 := g) (e := ez_i) rfl (dm_118 L g u1 14) (fun y13 g14 => ?_)
    exact fun hR => by cases hR; exact ev_rt 0 rfl
  refine sw_c ?_ ?_
  · refine ev_in 2 (p := u1 = 49) (a := 182) (b := 173) (T := ([some (.ref 943), some (.int u1)], [], (v0 L, g))) rfl ?_ ?_
    · refine ev_oi 2 (as := [.ref 943, .int 15]) (pc := 179) (Lc := [some (.ref 943), some (.int u1)]) (st := []) (V := v0 L) (g1 := g) (e := ez_i) rfl (dm_25 L g 15) (fun y17 g18 => ?_)
      exact fun hR => by cases hR; exact ev_rt 1 rfl
    · refine ev_oi 1 (as := [.ref 943]) (pc := 186) (Lc := [some (.ref 943), some (.int u1)]) (st := []) (V := v0 L) (g1 := g) (e := ez_i) rfl (dm_23 L g ) (fun y15 g16 => ?_)
      exact fun hR => by cases hR; exact ev_rt 0 rfl
  refine sw_c ?_ ?_
  · refine ev_in 2 (p := u1 = 46) (a := 202) (b := 193) (T := ([some (.ref 943), some (.int u1)], [], (v0 L, g))) rfl ?_ ?_
    · refine ev_oi 2 (as := [.ref 943, .int 16]) (pc := 199) (Lc := [some (.ref 943), some (.int u1)]) (st := []) (V := v0 L) (g1 := g) (e := ez_i) rfl (dm_25 L g 16) (fun y21 g22 => ?_)
      exact fun hR => by cases hR; exact ev_rt 1 rfl
    · refine ev_oi 1 (as := [.ref 943]) (pc := 206) (Lc := [some (.ref 943), some (.int u1)]) (st := []) (V := v0 L) (g1 := g) (e := ez_i) rfl (dm_23 L g ) (fun y19 g20 => ?_)
      exact fun hR => by cases hR; exact ev_rt 0 rfl
  refine sw_c ?_ ?_
  · refine ev_if 2 (p := u1 < 48) (a := 228) (b := 213) (T := ([some (.ref 943), some (.int u1)], [], (v0 L, g))) rfl ?_ ?_
    · exact dj_117_228 L g (some (.int u1)) _
    · refine ev_if 2 (p := (57 : Int32) < u1) (a := 228) (b := 219) (T := ([some (.ref 943), some (.int u1)], [], (v0 L, g))) rfl ?_ ?_
      · exact dj_117_228 L g (some (.int u1)) _
      · refine ev_oi 2 (as := [.ref 943, .int 17]) (pc := 225) (Lc := [some (.ref 943), some (.int u1)]) (st := []) (V := v0 L) (g1 := g) (e := ez_i) rfl (dm_25 L g 17) (fun y23 g24 => ?_)
        exact fun hR => by cases hR; exact ev_rt 1 rfl
  refine sw_c ?_ ?_
  · refine ev_in 6 (p := u1 = (am_i g 943 38)) (a := 255) (b := 246) (T := ([some (.ref 943), some (.int u1)], [], (v0 L, (am_si g 943 37 1)))) rfl ?_ ?_
    · refine ev_oi 2 (as := [.ref 943, .int 18]) (pc := 252) (Lc := [some (.ref 943), some (.int u1)]) (st := []) (V := v0 L) (g1 := (am_si g 943 37 1)) (e := ez_i) rfl (dm_25 L (am_si g 943 37 1) 18) (fun y25 g26 => ?_)
      exact fun hR => by cases hR; exact ev_rt 1 rfl
    · refine ev_if 2 (p := u1 < 48) (a := 271) (b := 261) (T := ([some (.ref 943), some (.int u1)], [], (v0 L, (am_si g 943 37 1)))) rfl ?_ ?_
      · exact dj_117_271 L (am_si g 943 37 1) (some (.int u1)) _
      · refine ev_if 2 (p := (57 : Int32) < u1) (a := 271) (b := 267) (T := ([some (.ref 943), some (.int u1)], [], (v0 L, (am_si g 943 37 1)))) rfl ?_ ?_
        · exact dj_117_271 L (am_si g 943 37 1) (some (.int u1)) _
        · exact fun hR => by cases hR; exact ev_rt 2 rfl
  refine sw_c ?_ ?_
  · refine ev_op 1 (as := [.int u1]) (pc := 280) (Lc := [some (.ref 943), some (.int u1)]) (st := []) (h1 := (v0 L, g)) (e := ez_i) rfl (dm_16 L g u1) (fun y27 => ?_)
    refine ev_if 0 (p := y27 = 0) (a := 292) (b := 283) (T := ([some (.ref 943), some (.int u1)], [], (v0 L, g))) rfl ?_ ?_
    · refine ev_in 2 (p := u1 = 63) (a := 307) (b := 298) (T := ([some (.ref 943), some (.int u1)], [], (v0 L, g))) rfl ?_ ?_
      · refine ev_oi 2 (as := [.ref 943, .int 29]) (pc := 304) (Lc := [some (.ref 943), some (.int u1)]) (st := []) (V := v0 L) (g1 := g) (e := ez_i) rfl (dm_25 L g 29) (fun y31 g32 => ?_)
        exact fun hR => by cases hR; exact ev_rt 1 rfl
      · refine ev_oi 1 (as := [.ref 943]) (pc := 311) (Lc := [some (.ref 943), some (.int u1)]) (st := []) (V := v0 L) (g1 := g) (e := ez_i) rfl (dm_23 L g ) (fun y29 g30 => ?_)
        exact fun hR => by cases hR; exact ev_rt 0 rfl
    · refine ev_oi 2 (as := [.ref 943, .int 19]) (pc := 289) (Lc := [some (.ref 943), some (.int u1)]) (st := []) (V := v0 L) (g1 := g) (e := ez_i) rfl (dm_25 L g 19) (fun y33 g34 => ?_)
      exact fun hR => by cases hR; exact ev_rt 1 rfl
  refine sw_c ?_ ?_
  · refine ev_in 2 (p := u1 = 63) (a := 325) (b := 318) (T := ([some (.ref 943), some (.int u1)], [], (v0 L, g))) rfl ?_ ?_
    · refine ev_oi 2 (as := [.ref 943, .int 29]) (pc := 324) (Lc := [some (.ref 943), some (.int u1)]) (st := []) (V := v0 L) (g1 := g) (e := ez_i) rfl (dm_25 L g 29) (fun y37 g38 => ?_)
      exact fun hR => by cases hR; exact ev_rt 0 rfl
    · refine ev_in 2 (p := u1 = 101) (a := 352) (b := 331) (T := ([some (.ref 943), some (.int u1)], [], (v0 L, g))) rfl ?_ ?_
      · refine ev_in 3 (p := (am_i g 943 37) = 1) (a := 352) (b := 339) (T := ([some (.ref 943), some (.int u1)], [], (v0 L, g))) rfl ?_ ?_
        · refine ev_oi 5 (as := [.ref 943, .long 186947610055, .int 8, .int 0, .int 20]) (pc := 351) (Lc := [some (.ref 943), some (.int u1)]) (st := []) (V := v0 L) (g1 := g) (e := ez_i) rfl (dm_34 L g 186947610055 8 0 20) (fun y35 g36 => ?_)
          exact fun hR => by cases hR; exact ev_rt 0 rfl
        · exact dj_117_352 L g u1 _
      · exact dj_117_352 L g u1 _
  refine sw_c ?_ ?_
  · refine ev_op 1 (as := [.int u1]) (pc := 399) (Lc := [some (.ref 943), some (.int u1)]) (st := []) (h1 := (v0 L, g)) (e := ez_i) rfl (dm_16 L g u1) (fun y39 => ?_)
    refine ev_if 0 (p := y39 = 0) (a := 406) (b := 402) (T := ([some (.ref 943), some (.int u1)], [], (v0 L, g))) rfl ?_ ?_
    · refine ev_in 2 (p := u1 = 61) (a := 421) (b := 412) (T := ([some (.ref 943), some (.int u1)], [], (v0 L, g))) rfl ?_ ?_
      · refine ev_oi 2 (as := [.ref 943, .int 21]) (pc := 418) (Lc := [some (.ref 943), some (.int u1)]) (st := []) (V := v0 L) (g1 := g) (e := ez_i) rfl (dm_25 L g 21) (fun y43 g44 => ?_)
        exact fun hR => by cases hR; exact ev_rt 1 rfl
      · refine ev_oi 1 (as := [.ref 943]) (pc := 425) (Lc := [some (.ref 943), some (.int u1)]) (st := []) (V := v0 L) (g1 := g) (e := ez_i) rfl (dm_23 L g ) (fun y41 g42 => ?_)
        exact fun hR => by cases hR; exact ev_rt 0 rfl
    · exact fun hR => by cases hR; exact ev_rt 2 rfl
  refine sw_c ?_ ?_
  · refine ev_oi 3 (as := [.ref 943, .int u1, .int 22]) (pc := 433) (Lc := [some (.ref 943), some (.int u1)]) (st := []) (V := v0 L) (g1 := g) (e := ez_i) rfl (dm_118 L g u1 22) (fun y45 g46 => ?_)
    exact fun hR => by cases hR; exact ev_rt 0 rfl
  refine sw_c ?_ ?_
  · refine ev_if 9 (p := u1 < 65) (a := 459) (b := 453) (T := ([some (.ref 943), some (.int u1)], [], (v0 L, (am_si (am_si g 943 48 (am_i g 943 30)) 943 47 0)))) rfl ?_ ?_
    · exact dj_117_459 L (am_si (am_si g 943 48 (am_i g 943 30)) 943 47 0) u1 _
    · refine ev_if 2 (p := u1 ≤ 90) (a := 471) (b := 459) (T := ([some (.ref 943), some (.int u1)], [], (v0 L, (am_si (am_si g 943 48 (am_i g 943 30)) 943 47 0)))) rfl ?_ ?_
      · exact dj_117_471 L (am_si (am_si g 943 48 (am_i g 943 30)) 943 47 0) (some (.int u1)) _
      · exact dj_117_459 L (am_si (am_si g 943 48 (am_i g 943 30)) 943 47 0) u1 _
  refine sw_c ?_ ?_
  · refine ev_oi 2 (as := [.ref 943, .int u1]) (pc := 490) (Lc := [some (.ref 943), some (.int u1)]) (st := []) (V := v0 L) (g1 := g) (e := ez_i) rfl (dm_119 L g u1) (fun y47 g48 => ?_)
    exact fun hR => by cases hR; exact ev_rt 0 rfl
  refine sw_c ?_ ?_
  · refine ev_in 2 (p := u1 = 62) (a := 616) (b := 608) (T := ([some (.ref 943), some (.int u1)], [], (v0 L, g))) rfl ?_ ?_
    · refine ev_oi 2 (as := [.ref 943, .int 0]) (pc := 613) (Lc := [some (.ref 943), some (.int u1)]) (st := []) (V := v0 L) (g1 := g) (e := ez_i) rfl (dm_25 L g 0) (fun y51 g52 => ?_)
      exact fun hR => by cases hR; exact ev_rt 1 rfl
    · refine ev_oi 1 (as := [.ref 943]) (pc := 620) (Lc := [some (.ref 943), some (.int u1)]) (st := []) (V := v0 L) (g1 := g) (e := ez_i) rfl (dm_23 L g ) (fun y49 g50 => ?_)
      exact fun hR => by cases hR; exact ev_rt 0 rfl
  refine sw_c ?_ ?_
  · refine ev_op 1 (as := [.int u1]) (pc := 495) (Lc := [some (.ref 943), some (.int u1)]) (st := []) (h1 := (v0 L, g)) (e := ez_i) rfl (dm_16 L g u1) (fun y53 => ?_)
    refine ev_if 0 (p := y53 = 0) (a := 502) (b := 498) (T := ([some (.ref 943), some (.int u1)], [], (v0 L, g))) rfl ?_ ?_
    · refine ev_in 2 (p := u1 = 61) (a := 517) (b := 508) (T := ([some (.ref 943), some (.int u1)], [], (v0 L, g))) rfl ?_ ?_
      · refine ev_oi 2 (as := [.ref 943, .int 26]) (pc := 514) (Lc := [some (.ref 943), some (.int u1)]) (st := []) (V := v0 L) (g1 := g) (e := ez_i) rfl (dm_25 L g 26) (fun y57 g58 => ?_)
        exact fun hR => by cases hR; exact ev_rt 1 rfl
      · refine ev_oi 1 (as := [.ref 943]) (pc := 521) (Lc := [some (.ref 943), some (.int u1)]) (st := []) (V := v0 L) (g1 := g) (e := ez_i) rfl (dm_23 L g ) (fun y55 g56 => ?_)
        exact fun hR => by cases hR; exact ev_rt 0 rfl
    · exact fun hR => by cases hR; exact ev_rt 2 rfl
  refine sw_c ?_ ?_
  · refine ev_oi 3 (as := [.ref 943, .int u1, .int 27]) (pc := 529) (Lc := [some (.ref 943), some (.int u1)]) (st := []) (V := v0 L) (g1 := g) (e := ez_i) rfl (dm_118 L g u1 27) (fun y59 g60 => ?_)
    exact fun hR => by cases hR; exact ev_rt 0 rfl
  refine sw_c ?_ ?_
  · refine ev_in 2 (p := u1 = 121) (a := 550) (b := 536) (T := ([some (.ref 943), some (.int u1)], [], (v0 L, g))) rfl ?_ ?_
    · refine ev_oi 5 (as := [.ref 943, .long 25779, .int 3, .int 0, .int 28]) (pc := 547) (Lc := [some (.ref 943), some (.int u1)]) (st := []) (V := v0 L) (g1 := g) (e := ez_i) rfl (dm_34 L g 25779 3 0 28) (fun y65 g66 => ?_)
      exact fun hR => by cases hR; exact ev_rt 1 rfl
    · refine ev_in 2 (p := u1 = 110) (a := 570) (b := 556) (T := ([some (.ref 943), some (.int u1)], [], (v0 L, g))) rfl ?_ ?_
      · refine ev_oi 5 (as := [.ref 943, .long 463, .int 2, .int 0, .int 28]) (pc := 567) (Lc := [some (.ref 943), some (.int u1)]) (st := []) (V := v0 L) (g1 := g) (e := ez_i) rfl (dm_34 L g 463 2 0 28) (fun y63 g64 => ?_)
        exact fun hR => by cases hR; exact ev_rt 1 rfl
      · refine ev_oi 1 (as := [.ref 943]) (pc := 574) (Lc := [some (.ref 943), some (.int u1)]) (st := []) (V := v0 L) (g1 := g) (e := ez_i) rfl (dm_23 L g ) (fun y61 g62 => ?_)
        exact fun hR => by cases hR; exact ev_rt 0 rfl
  refine sw_c ?_ ?_
  · refine ev_in 6 (p := u1 = (am_i g 943 38)) (a := 597) (b := 588) (T := ([some (.ref 943), some (.int u1)], [], (v0 L, (am_si g 943 37 3)))) rfl ?_ ?_
    · refine ev_oi 2 (as := [.ref 943, .int 18]) (pc := 594) (Lc := [some (.ref 943), some (.int u1)]) (st := []) (V := v0 L) (g1 := (am_si g 943 37 3)) (e := ez_i) rfl (dm_25 L (am_si g 943 37 3) 18) (fun y69 g70 => ?_)
      exact fun hR => by cases hR; exact ev_rt 1 rfl
    · refine ev_oi 1 (as := [.ref 943]) (pc := 601) (Lc := [some (.ref 943), some (.int u1)]) (st := []) (V := v0 L) (g1 := (am_si g 943 37 3)) (e := ez_i) rfl (dm_23 L (am_si g 943 37 3) ) (fun y67 g68 => ?_)
      exact fun hR => by cases hR; exact ev_rt 0 rfl
  refine sw_n ?_
  refine ev_in 2 (p := u1 = 62) (a := 616) (b := 608) (T := ([some (.ref 943), some (.int u1)], [], (v0 L, g))) rfl ?_ ?_
  · refine ev_oi 2 (as := [.ref 943, .int 0]) (pc := 613) (Lc := [some (.ref 943), some (.int u1)]) (st := []) (V := v0 L) (g1 := g) (e := ez_i) rfl (dm_25 L g 0) (fun y73 g74 => ?_)
    exact fun hR => by cases hR; exact ev_rt 1 rfl
  · refine ev_oi 1 (as := [.ref 943]) (pc := 620) (Lc := [some (.ref 943), some (.int u1)]) (st := []) (V := v0 L) (g1 := g) (e := ez_i) rfl (dm_23 L g ) (fun y71 g72 => ?_)
    exact fun hR => by cases hR; exact ev_rt 0 rfl
/-- DeclaredMarkupModel.subsetStep(I)I -/
noncomputable def fm_114 (g : am_G) (u1 : Int32) : Option (Int32 × am_G) := lo_p (fm_16 g u1) fun y1 => if y1 = 0 then if u1 = 60 then lo_i (fm_25 g 1) fun y11 g12 => some (y11, g12) else if u1 = 37 then lo_i (fm_25 (am_si g 943 42 (am_i g 943 30)) 46) fun y9 g10 => some (y9, g10) else if u1 = 93 then if (am_i g 943 9) ≤ 0 then lo_i (fm_25 (am_si g 943 27 0) 44) fun y3 g4 => some (y3, g4) else lo_i (fm_21 g 13 0) fun y5 g6 => some (y5, g6) else lo_i (fm_23 g ) fun y7 g8 => some (y7, g8) else some (0, g)
theorem dm_114 (L : Nat) (g : am_G) (u1 : Int32) (R : Int32 × am_G) : fm_114 g u1 = some R → ai_ev ap_P 114 (ai_e0 ap_P 114 [.ref 943, .int u1] (v0 L, g)) (.inl (ez_i R.1)) (v0 L, R.2) := by
  show _ → ai_ev ap_P 114 (0, [some (.ref 943), some (.int u1)], [], (v0 L, g)) _ _
  unfold fm_114
  refine ev_op 1 (as := [.int u1]) (pc := 4) (Lc := [some (.ref 943), some (.int u1)]) (st := []) (h1 := (v0 L, g)) (e := ez_i) rfl (dm_16 L g u1) (fun y1 => ?_)
  refine ev_if 0 (p := y1 = 0) (a := 9) (b := 7) (T := ([some (.ref 943), some (.int u1)], [], (v0 L, g))) rfl ?_ ?_
  · refine ev_in 2 (p := u1 = 60) (a := 21) (b := 15) (T := ([some (.ref 943), some (.int u1)], [], (v0 L, g))) rfl ?_ ?_
    · refine ev_oi 2 (as := [.ref 943, .int 1]) (pc := 20) (Lc := [some (.ref 943), some (.int u1)]) (st := []) (V := v0 L) (g1 := g) (e := ez_i) rfl (dm_25 L g 1) (fun y11 g12 => ?_)
      exact fun hR => by cases hR; exact ev_rt 0 rfl
    · refine ev_in 2 (p := u1 = 37) (a := 42) (b := 27) (T := ([some (.ref 943), some (.int u1)], [], (v0 L, g))) rfl ?_ ?_
      · refine ev_oi 6 (as := [.ref 943, .int 46]) (pc := 41) (Lc := [some (.ref 943), some (.int u1)]) (st := []) (V := v0 L) (g1 := (am_si g 943 42 (am_i g 943 30))) (e := ez_i) rfl (dm_25 L (am_si g 943 42 (am_i g 943 30)) 46) (fun y9 g10 => ?_)
        exact fun hR => by cases hR; exact ev_rt 0 rfl
      · refine ev_if 2 (p := u1 = 93) (a := 53) (b := 48) (T := ([some (.ref 943), some (.int u1)], [], (v0 L, g))) rfl ?_ ?_
        · refine ev_if 2 (p := (am_i g 943 9) ≤ 0) (a := 68) (b := 60) (T := ([some (.ref 943), some (.int u1)], [], (v0 L, g))) rfl ?_ ?_
          · refine ev_oi 5 (as := [.ref 943, .int 44]) (pc := 79) (Lc := [some (.ref 943), some (.int u1)]) (st := []) (V := v0 L) (g1 := (am_si g 943 27 0)) (e := ez_i) rfl (dm_25 L (am_si g 943 27 0) 44) (fun y3 g4 => ?_)
            exact fun hR => by cases hR; exact ev_rt 0 rfl
          · refine ev_oi 3 (as := [.ref 943, .int 13, .int 0]) (pc := 67) (Lc := [some (.ref 943), some (.int u1)]) (st := []) (V := v0 L) (g1 := g) (e := ez_i) rfl (dm_21 L g 13 0) (fun y5 g6 => ?_)
            exact fun hR => by cases hR; exact ev_rt 0 rfl
        · refine ev_oi 1 (as := [.ref 943]) (pc := 52) (Lc := [some (.ref 943), some (.int u1)]) (st := []) (V := v0 L) (g1 := g) (e := ez_i) rfl (dm_23 L g ) (fun y7 g8 => ?_)
          exact fun hR => by cases hR; exact ev_rt 0 rfl
  · exact fun hR => by cases hR; exact ev_rt 1 rfl
noncomputable def fj_102_251  (g : am_G) (t1 : Int32) : Option (Int32 × am_G) := lo_i (fm_25 g t1) fun y1 g2 => some (y1, g2)
set_option maxRecDepth 20000 in
theorem dj_102_251 (L : Nat)   (g : am_G) (t1 : Int32) (w0 w1 w2 w3 w4 : Option Value) (R : Int32 × am_G) : fj_102_251  g t1 = some R → ai_ev ap_P 102 (251, [w0, w1, w2, w3, w4], [.int t1, .ref 943], (v0 L, g)) (.inl (ez_i R.1)) (v0 L, R.2) := by
  unfold fj_102_251
  refine ev_oi 0 (as := [.ref 943, .int t1]) (pc := 254) (Lc := [none, none, none, none, none]) (st := []) (V := v0 L) (g1 := g) (e := ez_i) rfl (dm_25 L g t1) (fun y1 g2 => ?_)
  exact fun hR => by cases hR; exact ev_rt 0 rfl
noncomputable def fb_102_180 (k180 : (am_G × Int32 × Int32 × Int32) → Option (Int32 × am_G)) (g : am_G) (u1 : Int32) (u2 : Int32) (u4 : Int32) : Option (Int32 × am_G) := if u4 < 0 then if u2 = 0 then fj_102_251 (am_si g 943 43 0) 50 else if u2 = 1 then fj_102_251 (am_si g 943 43 0) 58 else fj_102_251 (am_si g 943 43 0) 45 else lo_g (ai_in u1 40) (lo_g (ai_in ((am_i g 987 u1.toNatClampNeg) + u4) 15000) (lo_g (ai_in (am_i g 943 8) 9000) (k180 ((am_si (am_si g 947 ((am_i g 943 8)).toNatClampNeg (am_i g 989 (((am_i g 987 u1.toNatClampNeg) + u4)).toNatClampNeg)) 943 8 ((am_i g 943 8) + 1)), u1, u2, (u4 + (-1))))))
set_option maxRecDepth 20000 in
theorem db_102_180 (L : Nat) {k180 : (am_G × Int32 × Int32 × Int32) → Option (Int32 × am_G)} (hk180 : ∀ (x : am_G × Int32 × Int32 × Int32) (w3 : Option Value) (R : Int32 × am_G), k180 x = some R → ai_ev ap_P 102 (180, [some (.ref 943), some (.int x.2.1), some (.int x.2.2.1), w3, some (.int x.2.2.2)], [], (v0 L, x.1)) (.inl (ez_i R.1)) (v0 L, R.2)) (g : am_G) (u1 : Int32) (u2 : Int32) (u4 : Int32) (w3 : Option Value) (R : Int32 × am_G) : fb_102_180 k180 g u1 u2 u4 = some R → ai_ev ap_P 102 (180, [some (.ref 943), some (.int u1), some (.int u2), w3, some (.int u4)], [], (v0 L, g)) (.inl (ez_i R.1)) (v0 L, R.2) := by
  unfold fb_102_180
  refine ev_if 1 (p := u4 < 0) (a := 224) (b := 185) (T := ([some (.ref 943), some (.int u1), some (.int u2), none, some (.int u4)], [], (v0 L, g))) rfl ?_ ?_
  · refine ev_in 5 (p := u2 = 0) (a := 239) (b := 234) (T := ([some (.ref 943), some (.int u1), some (.int u2), none, some (.int u4)], [.ref 943], (v0 L, (am_si g 943 43 0)))) rfl ?_ ?_
    · refine ev_jm 1 (t := (251, [some (.ref 943), some (.int u1), some (.int u2), none, some (.int u4)], [.int 50, .ref 943], (v0 L, (am_si g 943 43 0)))) rfl ?_
      exact dj_102_251 L (am_si g 943 43 0) 50 (some (.ref 943)) (some (.int u1)) (some (.int u2)) none (some (.int u4)) _
    · refine ev_in 2 (p := u2 = 1) (a := 249) (b := 244) (T := ([some (.ref 943), some (.int u1), some (.int u2), none, some (.int u4)], [.ref 943], (v0 L, (am_si g 943 43 0)))) rfl ?_ ?_
      · refine ev_jm 1 (t := (251, [some (.ref 943), some (.int u1), some (.int u2), none, some (.int u4)], [.int 58, .ref 943], (v0 L, (am_si g 943 43 0)))) rfl ?_
        exact dj_102_251 L (am_si g 943 43 0) 58 (some (.ref 943)) (some (.int u1)) (some (.int u2)) none (some (.int u4)) _
      · refine ev_jm 0 (t := (251, [some (.ref 943), some (.int u1), some (.int u2), none, some (.int u4)], [.int 45, .ref 943], (v0 L, (am_si g 943 43 0)))) rfl ?_
        exact dj_102_251 L (am_si g 943 43 0) 45 (some (.ref 943)) (some (.int u1)) (some (.int u2)) none (some (.int u4)) _
  · refine ev_gd (c := ai_in u1 40) (fun hc1 => ?_)
    refine ev_jm 9 (t := (203, [some (.ref 943), some (.int u1), some (.int u2), none, some (.int u4)], [.int (am_i g 987 u1.toNatClampNeg), .ref 989, .int (am_i g 943 8), .ref 947], (v0 L, g))) (ai_gd (c := ai_in u1 40) rfl hc1) ?_
    refine ev_gd (c := ai_in ((am_i g 987 u1.toNatClampNeg) + u4) 15000) (fun hc2 => ?_)
    refine ev_jm 2 (t := (207, [some (.ref 943), some (.int u1), some (.int u2), none, some (.int u4)], [.int (am_i g 989 (((am_i g 987 u1.toNatClampNeg) + u4)).toNatClampNeg), .int (am_i g 943 8), .ref 947], (v0 L, g))) (ai_gd (c := ai_in ((am_i g 987 u1.toNatClampNeg) + u4) 15000) rfl hc2) ?_
    refine ev_gd (c := ai_in (am_i g 943 8) 9000) (fun hc3 => ?_)
    refine ev_jm 0 (t := (208, [some (.ref 943), some (.int u1), some (.int u2), none, some (.int u4)], [], (v0 L, (am_si g 947 ((am_i g 943 8)).toNatClampNeg (am_i g 989 (((am_i g 987 u1.toNatClampNeg) + u4)).toNatClampNeg))))) (ai_gd (c := ai_in (am_i g 943 8) 9000) rfl hc3) ?_
    refine ev_jm 7 (t := (180, [some (.ref 943), some (.int u1), some (.int u2), none, some (.int (u4 + (-1)))], [], (v0 L, (am_si (am_si g 947 ((am_i g 943 8)).toNatClampNeg (am_i g 989 (((am_i g 987 u1.toNatClampNeg) + u4)).toNatClampNeg)) 943 8 ((am_i g 943 8) + 1))))) rfl ?_
    exact hk180 ((am_si (am_si g 947 ((am_i g 943 8)).toNatClampNeg (am_i g 989 (((am_i g 987 u1.toNatClampNeg) + u4)).toNatClampNeg)) 943 8 ((am_i g 943 8) + 1)), u1, u2, (u4 + (-1))) none _
noncomputable def fh_102_180  (x : am_G × Int32 × Int32 × Int32) : Option (Int32 × am_G) := lo_it (fun k x => fb_102_180 k x.1 x.2.1 x.2.2.1 x.2.2.2) nf_F x
set_option maxRecDepth 20000 in
theorem dh_102_180 (L : Nat)   (x : am_G × Int32 × Int32 × Int32) (w3 : Option Value) (R : Int32 × am_G) : fh_102_180  x = some R → ai_ev ap_P 102 (180, [some (.ref 943), some (.int x.2.1), some (.int x.2.2.1), w3, some (.int x.2.2.2)], [], (v0 L, x.1)) (.inl (ez_i R.1)) (v0 L, R.2) :=
  fun hr => lo_ev (E := fun x R => ∀ (w3 : Option Value), ai_ev ap_P 102 (180, [some (.ref 943), some (.int x.2.1), some (.int x.2.2.1), w3, some (.int x.2.2.2)], [], (v0 L, x.1)) (.inl (ez_i R.1)) (v0 L, R.2)) (fun k hk x R hr => fun w3 => db_102_180 L (fun x w3 R hr => hk x R hr w3) x.1 x.2.1 x.2.2.1 x.2.2.2 w3 R hr) nf_F x R hr w3
noncomputable def fj_102_107  (g : am_G) (u1 : Int32) (u2 : Int32) : Option (Int32 × am_G) := lo_g (ai_in (am_i g 943 9) 16) (lo_g (ai_in (am_i g 943 8) 9000) (lo_g (ai_in u1 40) (lo_l ((am_i g 988 u1.toNatClampNeg) - 1) fun x4 => fh_102_180 ((am_si (am_si (am_si (am_si (am_si (am_si g 950 ((am_i g 943 9)).toNatClampNeg u1) 948 ((am_i g 943 9)).toNatClampNeg u2) 949 ((am_i g 943 9)).toNatClampNeg (am_i g 943 106)) 943 9 ((am_i g 943 9) + 1)) 947 ((am_i g 943 8)).toNatClampNeg (-1)) 943 8 ((am_i g 943 8) + 1)), u1, u2, x4))))
set_option maxRecDepth 20000 in
theorem dj_102_107 (L : Nat)   (g : am_G) (u1 : Int32) (u2 : Int32) (w3 w4 : Option Value) (R : Int32 × am_G) : fj_102_107  g u1 u2 = some R → ai_ev ap_P 102 (107, [some (.ref 943), some (.int u1), some (.int u2), w3, w4], [], (v0 L, g)) (.inl (ez_i R.1)) (v0 L, R.2) := by
  unfold fj_102_107
  refine ev_gd (c := ai_in (am_i g 943 9) 16) (fun hc1 => ?_)
  refine ev_jm 5 (t := (117, [some (.ref 943), some (.int u1), some (.int u2), none, none], [], (v0 L, (am_si g 950 ((am_i g 943 9)).toNatClampNeg u1)))) (ai_gd (c := ai_in (am_i g 943 9) 16) rfl hc1) ?_
  refine ev_jm 5 (t := (127, [some (.ref 943), some (.int u1), some (.int u2), none, none], [], (v0 L, (am_si (am_si g 950 ((am_i g 943 9)).toNatClampNeg u1) 948 ((am_i g 943 9)).toNatClampNeg u2)))) (ai_gd (c := ai_in (am_i g 943 9) 16) rfl hc1) ?_
  refine ev_jm 6 (t := (140, [some (.ref 943), some (.int u1), some (.int u2), none, none], [], (v0 L, (am_si (am_si (am_si g 950 ((am_i g 943 9)).toNatClampNeg u1) 948 ((am_i g 943 9)).toNatClampNeg u2) 949 ((am_i g 943 9)).toNatClampNeg (am_i g 943 106))))) (ai_gd (c := ai_in (am_i g 943 9) 16) rfl hc1) ?_
  refine ev_gd (c := ai_in (am_i g 943 8) 9000) (fun hc2 => ?_)
  refine ev_jm 11 (t := (160, [some (.ref 943), some (.int u1), some (.int u2), none, none], [], (v0 L, (am_si (am_si (am_si (am_si (am_si g 950 ((am_i g 943 9)).toNatClampNeg u1) 948 ((am_i g 943 9)).toNatClampNeg u2) 949 ((am_i g 943 9)).toNatClampNeg (am_i g 943 106)) 943 9 ((am_i g 943 9) + 1)) 947 ((am_i g 943 8)).toNatClampNeg (-1))))) (ai_gd (c := ai_in (am_i g 943 8) 9000) rfl hc2) ?_
  refine ev_gd (c := ai_in u1 40) (fun hc3 => ?_)
  refine ev_jm 9 (t := (176, [some (.ref 943), some (.int u1), some (.int u2), none, none], [.int (am_i g 988 u1.toNatClampNeg)], (v0 L, (am_si (am_si (am_si (am_si (am_si (am_si g 950 ((am_i g 943 9)).toNatClampNeg u1) 948 ((am_i g 943 9)).toNatClampNeg u2) 949 ((am_i g 943 9)).toNatClampNeg (am_i g 943 106)) 943 9 ((am_i g 943 9) + 1)) 947 ((am_i g 943 8)).toNatClampNeg (-1)) 943 8 ((am_i g 943 8) + 1))))) (ai_gd (c := ai_in u1 40) rfl hc3) ?_
  refine ev_jm 1 (t := (178, [some (.ref 943), some (.int u1), some (.int u2), none, none], [.int ((am_i g 988 u1.toNatClampNeg) - 1)], (v0 L, (am_si (am_si (am_si (am_si (am_si (am_si g 950 ((am_i g 943 9)).toNatClampNeg u1) 948 ((am_i g 943 9)).toNatClampNeg u2) 949 ((am_i g 943 9)).toNatClampNeg (am_i g 943 106)) 943 9 ((am_i g 943 9) + 1)) 947 ((am_i g 943 8)).toNatClampNeg (-1)) 943 8 ((am_i g 943 8) + 1))))) rfl ?_
  refine lo_e (S := fun (x4 : Int32) => (178, [some (.ref 943), some (.int u1), some (.int u2), none, none], [.int x4], (v0 L, (am_si (am_si (am_si (am_si (am_si (am_si g 950 ((am_i g 943 9)).toNatClampNeg u1) 948 ((am_i g 943 9)).toNatClampNeg u2) 949 ((am_i g 943 9)).toNatClampNeg (am_i g 943 106)) 943 9 ((am_i g 943 9) + 1)) 947 ((am_i g 943 8)).toNatClampNeg (-1)) 943 8 ((am_i g 943 8) + 1))))) (fun x4 => ?_)
  refine ev_jm 0 (t := (180, [some (.ref 943), some (.int u1), some (.int u2), none, some (.int x4)], [], (v0 L, (am_si (am_si (am_si (am_si (am_si (am_si g 950 ((am_i g 943 9)).toNatClampNeg u1) 948 ((am_i g 943 9)).toNatClampNeg u2) 949 ((am_i g 943 9)).toNatClampNeg (am_i g 943 106)) 943 9 ((am_i g 943 9) + 1)) 947 ((am_i g 943 8)).toNatClampNeg (-1)) 943 8 ((am_i g 943 8) + 1))))) rfl ?_
  exact dh_102_180 L ((am_si (am_si (am_si (am_si (am_si (am_si g 950 ((am_i g 943 9)).toNatClampNeg u1) 948 ((am_i g 943 9)).toNatClampNeg u2) 949 ((am_i g 943 9)).toNatClampNeg (am_i g 943 106)) 943 9 ((am_i g 943 9) + 1)) 947 ((am_i g 943 8)).toNatClampNeg (-1)) 943 8 ((am_i g 943 8) + 1)), u1, u2, x4) none _
noncomputable def fb_102_3 (k3 : (am_G × Int32 × Int32 × Int32 × Int32) → Option (Int32 × am_G)) (g : am_G) (u1 : Int32) (u2 : Int32) (u3 : Int32) (u4 : Int32) : Option (Int32 × am_G) := if (am_i g 943 9) ≤ u4 then if (am_i g 943 9) = 16 then lo_i (fm_22 g 9 u3) fun y4 g5 => some (y4, g5) else lo_g (ai_in u1 40) (if ((am_i g 943 14) + (am_i g 988 u1.toNatClampNeg)) ≤ (am_i g 943 15) then if (am_i g 943 9) = 0 then fj_102_107 (am_si (am_si g 943 14 ((am_i g 943 14) + (am_i g 988 u1.toNatClampNeg))) 943 13 u3) u1 u2 else fj_102_107 (am_si g 943 14 ((am_i g 943 14) + (am_i g 988 u1.toNatClampNeg))) u1 u2 else lo_i (fm_21 g 14 u3) fun y2 g3 => some (y2, g3)) else lo_g (ai_in u4 16) (if (am_i g 950 u4.toNatClampNeg) = u1 then lo_i (fm_21 g 6 u3) fun y7 g8 => some (y7, g8) else k3 (g, u1, u2, u3, (u4 + 1)))
set_option maxRecDepth 20000 in
theorem db_102_3 (L : Nat) {k3 : (am_G × Int32 × Int32 × Int32 × Int32) → Option (Int32 × am_G)} (hk3 : ∀ (x : am_G × Int32 × Int32 × Int32 × Int32) (R : Int32 × am_G), k3 x = some R → ai_ev ap_P 102 (3, [some (.ref 943), some (.int x.2.1), some (.int x.2.2.1), some (.int x.2.2.2.1), some (.int x.2.2.2.2)], [], (v0 L, x.1)) (.inl (ez_i R.1)) (v0 L, R.2)) (g : am_G) (u1 : Int32) (u2 : Int32) (u3 : Int32) (u4 : Int32) (R : Int32 × am_G) : fb_102_3 k3 g u1 u2 u3 u4 = some R → ai_ev ap_P 102 (3, [some (.ref 943), some (.int u1), some (.int u2), some (.int u3), some (.int u4)], [], (v0 L, g)) (.inl (ez_i R.1)) (v0 L, R.2) := by
  unfold fb_102_3
  refine ev_if 3 (p := (am_i g 943 9) ≤ u4) (a := 37) (b := 12) (T := ([some (.ref 943), some (.int u1), some (.int u2), some (.int u3), some (.int u4)], [], (v0 L, g))) rfl ?_ ?_
  · refine ev_in 3 (p := (am_i g 943 9) = 16) (a := 54) (b := 46) (T := ([some (.ref 943), some (.int u1), some (.int u2), some (.int u3), some (.int u4)], [], (v0 L, g))) rfl ?_ ?_
    · refine ev_oi 3 (as := [.ref 943, .int 9, .int u3]) (pc := 53) (Lc := [some (.ref 943), some (.int u1), some (.int u2), some (.int u3), some (.int u4)]) (st := []) (V := v0 L) (g1 := g) (e := ez_i) rfl (dm_22 L g 9 u3) (fun y4 g5 => ?_)
      exact fun hR => by cases hR; exact ev_rt 0 rfl
    · refine ev_gd (c := ai_in u1 40) (fun hc1 => ?_)
      refine ev_jm 5 (t := (64, [some (.ref 943), some (.int u1), some (.int u2), some (.int u3), some (.int u4)], [.int (am_i g 988 u1.toNatClampNeg), .int (am_i g 943 14)], (v0 L, g))) (ai_gd (c := ai_in u1 40) rfl hc1) ?_
      refine ev_if 3 (p := ((am_i g 943 14) + (am_i g 988 u1.toNatClampNeg)) ≤ (am_i g 943 15)) (a := 80) (b := 72) (T := ([some (.ref 943), some (.int u1), some (.int u2), some (.int u3), some (.int u4)], [], (v0 L, g))) rfl ?_ ?_
      · refine ev_jm 6 (t := (91, [some (.ref 943), some (.int u1), some (.int u2), some (.int u3), some (.int u4)], [.int (am_i g 988 u1.toNatClampNeg), .int (am_i g 943 14), .ref 943], (v0 L, g))) (ai_gd (c := ai_in u1 40) rfl hc1) ?_
        refine ev_in 4 (p := (am_i g 943 9) = 0) (a := 107) (b := 102) (T := ([some (.ref 943), some (.int u1), some (.int u2), some (.int u3), some (.int u4)], [], (v0 L, (am_si g 943 14 ((am_i g 943 14) + (am_i g 988 u1.toNatClampNeg)))))) rfl ?_ ?_
        · refine ev_jm 2 (t := (107, [some (.ref 943), some (.int u1), some (.int u2), some (.int u3), some (.int u4)], [], (v0 L, (am_si (am_si g 943 14 ((am_i g 943 14) + (am_i g 988 u1.toNatClampNeg))) 943 13 u3)))) rfl ?_
          exact dj_102_107 L (am_si (am_si g 943 14 ((am_i g 943 14) + (am_i g 988 u1.toNatClampNeg))) 943 13 u3) u1 u2 (some (.int u3)) (some (.int u4)) _
        · exact dj_102_107 L (am_si g 943 14 ((am_i g 943 14) + (am_i g 988 u1.toNatClampNeg))) u1 u2 (some (.int u3)) (some (.int u4)) _
      · refine ev_oi 3 (as := [.ref 943, .int 14, .int u3]) (pc := 79) (Lc := [some (.ref 943), some (.int u1), some (.int u2), some (.int u3), some (.int u4)]) (st := []) (V := v0 L) (g1 := g) (e := ez_i) rfl (dm_21 L g 14 u3) (fun y2 g3 => ?_)
        exact fun hR => by cases hR; exact ev_rt 0 rfl
  · refine ev_gd (c := ai_in u4 16) (fun hc6 => ?_)
    refine ev_jm 3 (t := (19, [some (.ref 943), some (.int u1), some (.int u2), some (.int u3), some (.int u4)], [.int (am_i g 950 u4.toNatClampNeg)], (v0 L, g))) (ai_gd (c := ai_in u4 16) rfl hc6) ?_
    refine ev_in 1 (p := (am_i g 950 u4.toNatClampNeg) = u1) (a := 31) (b := 23) (T := ([some (.ref 943), some (.int u1), some (.int u2), some (.int u3), some (.int u4)], [], (v0 L, g))) rfl ?_ ?_
    · refine ev_oi 3 (as := [.ref 943, .int 6, .int u3]) (pc := 30) (Lc := [some (.ref 943), some (.int u1), some (.int u2), some (.int u3), some (.int u4)]) (st := []) (V := v0 L) (g1 := g) (e := ez_i) rfl (dm_21 L g 6 u3) (fun y7 g8 => ?_)
      exact fun hR => by cases hR; exact ev_rt 0 rfl
    · refine ev_jm 1 (t := (3, [some (.ref 943), some (.int u1), some (.int u2), some (.int u3), some (.int (u4 + 1))], [], (v0 L, g))) rfl ?_
      exact hk3 (g, u1, u2, u3, (u4 + 1)) _
noncomputable def fh_102_3  (x : am_G × Int32 × Int32 × Int32 × Int32) : Option (Int32 × am_G) := lo_it (fun k x => fb_102_3 k x.1 x.2.1 x.2.2.1 x.2.2.2.1 x.2.2.2.2) nf_F x
set_option maxRecDepth 20000 in
theorem dh_102_3 (L : Nat)   (x : am_G × Int32 × Int32 × Int32 × Int32) (R : Int32 × am_G) : fh_102_3  x = some R → ai_ev ap_P 102 (3, [some (.ref 943), some (.int x.2.1), some (.int x.2.2.1), some (.int x.2.2.2.1), some (.int x.2.2.2.2)], [], (v0 L, x.1)) (.inl (ez_i R.1)) (v0 L, R.2) :=
  fun hr => lo_ev (E := fun x R => ai_ev ap_P 102 (3, [some (.ref 943), some (.int x.2.1), some (.int x.2.2.1), some (.int x.2.2.2.1), some (.int x.2.2.2.2)], [], (v0 L, x.1)) (.inl (ez_i R.1)) (v0 L, R.2)) (fun k hk x R hr => db_102_3 L hk x.1 x.2.1 x.2.2.1 x.2.2.2.1 x.2.2.2.2  R hr) nf_F x R hr
/-- DeclaredMarkupModel.enter(III)I -/
noncomputable def fm_102 (g : am_G) (u1 : Int32) (u2 : Int32) (u3 : Int32) : Option (Int32 × am_G) := fh_102_3 (g, u1, u2, u3, 0)
set_option maxRecDepth 20000 in
theorem dm_102 (L : Nat) (g : am_G) (u1 : Int32) (u2 : Int32) (u3 : Int32) (R : Int32 × am_G) : fm_102 g u1 u2 u3 = some R → ai_ev ap_P 102 (ai_e0 ap_P 102 [.ref 943, .int u1, .int u2, .int u3] (v0 L, g)) (.inl (ez_i R.1)) (v0 L, R.2) := by
  show _ → ai_ev ap_P 102 (0, [some (.ref 943), some (.int u1), some (.int u2), some (.int u3), none], [], (v0 L, g)) _ _
  unfold fm_102
  refine ev_jm 1 (t := (3, [some (.ref 943), some (.int u1), some (.int u2), some (.int u3), some (.int 0)], [], (v0 L, g))) rfl ?_
  exact dh_102_3 L (g, u1, u2, u3, 0) _
/-- DeclaredMarkupModel.doctypeStep(I)I -/
noncomputable def fm_121 (g : am_G) (u1 : Int32) : Option (Int32 × am_G) := if (am_i g 943 26) = 40 then lo_i (fm_116 g u1 41) fun y1 g2 => some (y1, g2) else if (am_i g 943 26) = 41 then lo_p (fm_16 g u1) fun y3 => if y3 = 0 then lo_i (fm_27 g u1 5 0) fun y5 g6 => some (y5, g6) else some (0, g) else if (am_i g 943 26) = 42 then lo_p (fm_16 g u1) fun y7 => if y7 = 0 then lo_i (fm_26 g 48) fun y9 g10 => some (y9, g10) else lo_i (fm_25 g 43) fun y11 g12 => some (y11, g12) else if (am_i g 943 26) = 43 then if u1 = 83 then lo_i (fm_34 g 664391853 6 1 7) fun y19 g20 => some (y19, g20) else if u1 = 80 then lo_i (fm_34 g 558969123 6 1 7) fun y17 g18 => some (y17, g18) else lo_p (fm_16 g u1) fun y13 => if y13 = 0 then lo_i (fm_26 g 48) fun y15 g16 => some (y15, g16) else some (0, g) else if (am_i g 943 26) = 44 then lo_p (fm_16 g u1) fun y21 => if y21 = 0 then if u1 = 62 then lo_i (fm_25 (am_si g 943 28 1) 0) fun y25 g26 => some (y25, g26) else lo_i (fm_23 (am_si g 943 28 1) ) fun y23 g24 => some (y23, g24) else some (0, g) else if (am_i g 943 26) = 45 then lo_i (fm_114 g u1) fun y27 g28 => some (y27, g28) else if (am_i g 943 26) = 46 then lo_i (fm_27 g u1 6 0) fun y29 g30 => some (y29, g30) else if (am_i g 943 26) = 47 then if u1 = 59 then lo_p (fm_99 g (am_i g 943 72) 1) fun y31 => if (0 : Int32) ≤ y31 then lo_i (fm_102 g y31 2 (am_i g 943 42)) fun y33 g34 => some (y33, g34) else lo_i (fm_21 g 5 (am_i g 943 42)) fun y35 g36 => some (y35, g36) else lo_i (fm_23 g ) fun y37 g38 => some (y37, g38) else if u1 = 91 then lo_i (fm_25 (am_si g 943 27 2) 45) fun y41 g42 => some (y41, g42) else lo_i (fm_26 g 44) fun y39 g40 => some (y39, g40)
theorem dm_121 (L : Nat) (g : am_G) (u1 : Int32) (R : Int32 × am_G) : fm_121 g u1 = some R → ai_ev ap_P 121 (ai_e0 ap_P 121 [.ref 943, .int u1] (v0 L, g)) (.inl (ez_i R.1)) (v0 L, R.2) := by
  show _ → ai_ev ap_P 121 (0, [some (.ref 943), some (.int u1), none], [], (v0 L, g)) _ _
  unfold fm_121
  refine ev_sw 2 (ps := [(40, 52), (41, 60), (42, 79), (43, 102), (44, 158), (45, 191), (46, 197), (47, 206)]) (d := 254) (x := (am_i g 943 26)) (T := ([some (.ref 943), some (.int u1), none], [], (v0 L, g))) rfl ?_
  refine sw_c ?_ ?_
  · refine ev_oi 3 (as := [.ref 943, .int u1, .int 41]) (pc := 59) (Lc := [some (.ref 943), some (.int u1), none]) (st := []) (V := v0 L) (g1 := g) (e := ez_i) rfl (dm_116 L g u1 41) (fun y1 g2 => ?_)
    exact fun hR => by cases hR; exact ev_rt 0 rfl
  refine sw_c ?_ ?_
  · refine ev_op 1 (as := [.int u1]) (pc := 64) (Lc := [some (.ref 943), some (.int u1), none]) (st := []) (h1 := (v0 L, g)) (e := ez_i) rfl (dm_16 L g u1) (fun y3 => ?_)
    refine ev_if 0 (p := y3 = 0) (a := 71) (b := 67) (T := ([some (.ref 943), some (.int u1), none], [], (v0 L, g))) rfl ?_ ?_
    · refine ev_oi 4 (as := [.ref 943, .int u1, .int 5, .int 0]) (pc := 78) (Lc := [some (.ref 943), some (.int u1), none]) (st := []) (V := v0 L) (g1 := g) (e := ez_i) rfl (dm_27 L g u1 5 0) (fun y5 g6 => ?_)
      exact fun hR => by cases hR; exact ev_rt 0 rfl
    · exact fun hR => by cases hR; exact ev_rt 2 rfl
  refine sw_c ?_ ?_
  · refine ev_op 1 (as := [.int u1]) (pc := 83) (Lc := [some (.ref 943), some (.int u1), none]) (st := []) (h1 := (v0 L, g)) (e := ez_i) rfl (dm_16 L g u1) (fun y7 => ?_)
    refine ev_if 0 (p := y7 = 0) (a := 95) (b := 86) (T := ([some (.ref 943), some (.int u1), none], [], (v0 L, g))) rfl ?_ ?_
    · refine ev_oi 2 (as := [.ref 943, .int 48]) (pc := 101) (Lc := [some (.ref 943), some (.int u1), none]) (st := []) (V := v0 L) (g1 := g) (e := ez_i) rfl (dm_26 L g 48) (fun y9 g10 => ?_)
      exact fun hR => by cases hR; exact ev_rt 0 rfl
    · refine ev_oi 2 (as := [.ref 943, .int 43]) (pc := 92) (Lc := [some (.ref 943), some (.int u1), none]) (st := []) (V := v0 L) (g1 := g) (e := ez_i) rfl (dm_25 L g 43) (fun y11 g12 => ?_)
      exact fun hR => by cases hR; exact ev_rt 1 rfl
  refine sw_c ?_ ?_
  · refine ev_in 2 (p := u1 = 83) (a := 121) (b := 108) (T := ([some (.ref 943), some (.int u1), none], [], (v0 L, g))) rfl ?_ ?_
    · refine ev_oi 5 (as := [.ref 943, .long 664391853, .int 6, .int 1, .int 7]) (pc := 120) (Lc := [some (.ref 943), some (.int u1), none]) (st := []) (V := v0 L) (g1 := g) (e := ez_i) rfl (dm_34 L g 664391853 6 1 7) (fun y19 g20 => ?_)
      exact fun hR => by cases hR; exact ev_rt 0 rfl
    · refine ev_in 2 (p := u1 = 80) (a := 140) (b := 127) (T := ([some (.ref 943), some (.int u1), none], [], (v0 L, g))) rfl ?_ ?_
      · refine ev_oi 5 (as := [.ref 943, .long 558969123, .int 6, .int 1, .int 7]) (pc := 139) (Lc := [some (.ref 943), some (.int u1), none]) (st := []) (V := v0 L) (g1 := g) (e := ez_i) rfl (dm_34 L g 558969123 6 1 7) (fun y17 g18 => ?_)
        exact fun hR => by cases hR; exact ev_rt 0 rfl
      · refine ev_op 1 (as := [.int u1]) (pc := 144) (Lc := [some (.ref 943), some (.int u1), none]) (st := []) (h1 := (v0 L, g)) (e := ez_i) rfl (dm_16 L g u1) (fun y13 => ?_)
        refine ev_if 0 (p := y13 = 0) (a := 151) (b := 147) (T := ([some (.ref 943), some (.int u1), none], [], (v0 L, g))) rfl ?_ ?_
        · refine ev_oi 2 (as := [.ref 943, .int 48]) (pc := 157) (Lc := [some (.ref 943), some (.int u1), none]) (st := []) (V := v0 L) (g1 := g) (e := ez_i) rfl (dm_26 L g 48) (fun y15 g16 => ?_)
          exact fun hR => by cases hR; exact ev_rt 0 rfl
        · exact fun hR => by cases hR; exact ev_rt 2 rfl
  refine sw_c ?_ ?_
  · refine ev_op 1 (as := [.int u1]) (pc := 162) (Lc := [some (.ref 943), some (.int u1), none]) (st := []) (h1 := (v0 L, g)) (e := ez_i) rfl (dm_16 L g u1) (fun y21 => ?_)
    refine ev_if 0 (p := y21 = 0) (a := 167) (b := 165) (T := ([some (.ref 943), some (.int u1), none], [], (v0 L, g))) rfl ?_ ?_
    · refine ev_in 5 (p := u1 = 62) (a := 186) (b := 178) (T := ([some (.ref 943), some (.int u1), none], [], (v0 L, (am_si g 943 28 1)))) rfl ?_ ?_
      · refine ev_oi 2 (as := [.ref 943, .int 0]) (pc := 183) (Lc := [some (.ref 943), some (.int u1), none]) (st := []) (V := v0 L) (g1 := (am_si g 943 28 1)) (e := ez_i) rfl (dm_25 L (am_si g 943 28 1) 0) (fun y25 g26 => ?_)
        exact fun hR => by cases hR; exact ev_rt 1 rfl
      · refine ev_oi 1 (as := [.ref 943]) (pc := 190) (Lc := [some (.ref 943), some (.int u1), none]) (st := []) (V := v0 L) (g1 := (am_si g 943 28 1)) (e := ez_i) rfl (dm_23 L (am_si g 943 28 1) ) (fun y23 g24 => ?_)
        exact fun hR => by cases hR; exact ev_rt 0 rfl
    · exact fun hR => by cases hR; exact ev_rt 1 rfl
  refine sw_c ?_ ?_
  · refine ev_oi 2 (as := [.ref 943, .int u1]) (pc := 196) (Lc := [some (.ref 943), some (.int u1), none]) (st := []) (V := v0 L) (g1 := g) (e := ez_i) rfl (dm_114 L g u1) (fun y27 g28 => ?_)
    exact fun hR => by cases hR; exact ev_rt 0 rfl
  refine sw_c ?_ ?_
  · refine ev_oi 4 (as := [.ref 943, .int u1, .int 6, .int 0]) (pc := 205) (Lc := [some (.ref 943), some (.int u1), none]) (st := []) (V := v0 L) (g1 := g) (e := ez_i) rfl (dm_27 L g u1 6 0) (fun y29 g30 => ?_)
    exact fun hR => by cases hR; exact ev_rt 0 rfl
  refine sw_c ?_ ?_
  · refine ev_if 2 (p := u1 = 59) (a := 217) (b := 212) (T := ([some (.ref 943), some (.int u1), none], [], (v0 L, g))) rfl ?_ ?_
    · refine ev_op 4 (as := [.ref 943, .int (am_i g 943 72), .int 1]) (pc := 226) (Lc := [some (.ref 943), some (.int u1), none]) (st := []) (h1 := (v0 L, g)) (e := ez_i) rfl (dm_99 L g (am_i g 943 72) 1) (fun y31 => ?_)
      refine ev_if 2 (p := (0 : Int32) ≤ y31) (a := 243) (b := 231) (T := ([some (.ref 943), some (.int u1), some (.int y31)], [], (v0 L, g))) rfl ?_ ?_
      · refine ev_oi 5 (as := [.ref 943, .int y31, .int 2, .int (am_i g 943 42)]) (pc := 253) (Lc := [some (.ref 943), some (.int u1), some (.int y31)]) (st := []) (V := v0 L) (g1 := g) (e := ez_i) rfl (dm_102 L g y31 2 (am_i g 943 42)) (fun y33 g34 => ?_)
        exact fun hR => by cases hR; exact ev_rt 0 rfl
      · refine ev_oi 4 (as := [.ref 943, .int 5, .int (am_i g 943 42)]) (pc := 240) (Lc := [some (.ref 943), some (.int u1), some (.int y31)]) (st := []) (V := v0 L) (g1 := g) (e := ez_i) rfl (dm_21 L g 5 (am_i g 943 42)) (fun y35 g36 => ?_)
        exact fun hR => by cases hR; exact ev_rt 1 rfl
    · refine ev_oi 1 (as := [.ref 943]) (pc := 216) (Lc := [some (.ref 943), some (.int u1), none]) (st := []) (V := v0 L) (g1 := g) (e := ez_i) rfl (dm_23 L g ) (fun y37 g38 => ?_)
      exact fun hR => by cases hR; exact ev_rt 0 rfl
  refine sw_n ?_
  refine ev_in 2 (p := u1 = 91) (a := 272) (b := 260) (T := ([some (.ref 943), some (.int u1), none], [], (v0 L, g))) rfl ?_ ?_
  · refine ev_oi 5 (as := [.ref 943, .int 45]) (pc := 271) (Lc := [some (.ref 943), some (.int u1), none]) (st := []) (V := v0 L) (g1 := (am_si g 943 27 2)) (e := ez_i) rfl (dm_25 L (am_si g 943 27 2) 45) (fun y41 g42 => ?_)
    exact fun hR => by cases hR; exact ev_rt 0 rfl
  · refine ev_oi 2 (as := [.ref 943, .int 44]) (pc := 278) (Lc := [some (.ref 943), some (.int u1), none]) (st := []) (V := v0 L) (g1 := g) (e := ez_i) rfl (dm_26 L g 44) (fun y39 g40 => ?_)
    exact fun hR => by cases hR; exact ev_rt 0 rfl
noncomputable def fj_52_70  (g : am_G) (t0 : Int32) : Option (am_G) := if t0 = 0 then lo_p (fm_24 g 2) fun g2 => some g2 else some g
theorem dj_52_70 (L : Nat)   (g : am_G) (t0 : Int32) (w1 w2 w3 : Option Value) (R : am_G) : fj_52_70  g t0 = some R → ai_ev ap_P 52 (70, [some (.ref 943), w1, w2, w3], [.int t0], (v0 L, g)) (.inl none) (v0 L, R) := by
  unfold fj_52_70
  refine ev_in 2 (p := t0 = 0) (a := 80) (b := 75) (T := ([some (.ref 943), none, none, some (.int t0)], [], (v0 L, g))) rfl ?_ ?_
  · refine ev_ov0 2 (as := [.ref 943, .int 2]) (pc := 80) (Lc := [some (.ref 943), none, none, some (.int t0)]) (st := []) (V := v0 L) (g1 := g) rfl (dm_24 L g 2) (fun g2 => ?_)
    exact fun hR => by cases hR; exact ev_rt 0 rfl
  · exact fun hR => by cases hR; exact ev_rt 0 rfl
/-- DeclaredMarkupModel.noteEnd()V -/
noncomputable def fm_52 (g : am_G)  : Option (am_G) := lo_l ((am_i g 943 106) - 1) fun x1 => lo_g (ai_in x1 40) (lo_l (am_i g 992 x1.toNatClampNeg) fun x3 => if x3 < 0 then some g else lo_g (ai_in x3 40) (if (am_i g 958 x3.toNatClampNeg) = 3 then if (am_i g 994 x1.toNatClampNeg) = 0 then fj_52_70 g (am_i g 963 x3.toNatClampNeg) else if (lg_cmp ((am_j g 993 x1.toNatClampNeg) &&& (am_j g 962 x3.toNatClampNeg)) 0) = 0 then fj_52_70 g 0 else fj_52_70 g 1 else some g))
theorem dm_52 (L : Nat) (g : am_G)  (R : am_G) : fm_52 g  = some R → ai_ev ap_P 52 (ai_e0 ap_P 52 [.ref 943] (v0 L, g)) (.inl none) (v0 L, R) := by
  show _ → ai_ev ap_P 52 (0, [some (.ref 943), none, none, none], [], (v0 L, g)) _ _
  unfold fm_52
  refine ev_jm 3 (t := (6, [some (.ref 943), none, none, none], [.int ((am_i g 943 106) - 1)], (v0 L, g))) rfl ?_
  refine lo_e (S := fun (x1 : Int32) => (6, [some (.ref 943), none, none, none], [.int x1], (v0 L, g))) (fun x1 => ?_)
  refine ev_gd (c := ai_in x1 40) (fun hc2 => ?_)
  refine ev_jm 4 (t := (13, [some (.ref 943), some (.int x1), none, none], [.int (am_i g 992 x1.toNatClampNeg)], (v0 L, g))) (ai_gd (c := ai_in x1 40) rfl hc2) ?_
  refine lo_e (S := fun (x3 : Int32) => (13, [some (.ref 943), some (.int x1), none, none], [.int x3], (v0 L, g))) (fun x3 => ?_)
  refine ev_if 2 (p := x3 < 0) (a := 28) (b := 18) (T := ([some (.ref 943), some (.int x1), some (.int x3), none], [], (v0 L, g))) rfl ?_ ?_
  · exact fun hR => by cases hR; exact ev_rt 0 rfl
  · refine ev_gd (c := ai_in x3 40) (fun hc4 => ?_)
    refine ev_jm 3 (t := (24, [some (.ref 943), some (.int x1), some (.int x3), none], [.int (am_i g 958 x3.toNatClampNeg)], (v0 L, g))) (ai_gd (c := ai_in x3 40) rfl hc4) ?_
    refine ev_if 1 (p := (am_i g 958 x3.toNatClampNeg) = 3) (a := 29) (b := 28) (T := ([some (.ref 943), some (.int x1), some (.int x3), none], [], (v0 L, g))) rfl ?_ ?_
    · refine ev_jm 3 (t := (35, [some (.ref 943), some (.int x1), some (.int x3), none], [.int (am_i g 994 x1.toNatClampNeg)], (v0 L, g))) (ai_gd (c := ai_in x1 40) rfl hc2) ?_
      refine ev_if 0 (p := (am_i g 994 x1.toNatClampNeg) = 0) (a := 64) (b := 38) (T := ([some (.ref 943), some (.int x1), some (.int x3), none], [], (v0 L, g))) rfl ?_ ?_
      · refine ev_jm 3 (t := (70, [some (.ref 943), some (.int x1), some (.int x3), none], [.int (am_i g 963 x3.toNatClampNeg)], (v0 L, g))) (ai_gd (c := ai_in x3 40) rfl hc4) ?_
        exact dj_52_70 L g (am_i g 963 x3.toNatClampNeg) (some (.int x1)) (some (.int x3)) none _
      · refine ev_jm 3 (t := (44, [some (.ref 943), some (.int x1), some (.int x3), none], [.long (am_j g 993 x1.toNatClampNeg)], (v0 L, g))) (ai_gd (c := ai_in x1 40) rfl hc2) ?_
        refine ev_jm 3 (t := (50, [some (.ref 943), some (.int x1), some (.int x3), none], [.long (am_j g 962 x3.toNatClampNeg), .long (am_j g 993 x1.toNatClampNeg)], (v0 L, g))) (ai_gd (c := ai_in x3 40) rfl hc4) ?_
        refine ev_if 3 (p := (lg_cmp ((am_j g 993 x1.toNatClampNeg) &&& (am_j g 962 x3.toNatClampNeg)) 0) = 0) (a := 60) (b := 56) (T := ([some (.ref 943), some (.int x1), some (.int x3), none], [], (v0 L, g))) rfl ?_ ?_
        · refine ev_jm 1 (t := (70, [some (.ref 943), some (.int x1), some (.int x3), none], [.int 0], (v0 L, g))) rfl ?_
          exact dj_52_70 L g 0 (some (.int x1)) (some (.int x3)) none _
        · refine ev_jm 1 (t := (70, [some (.ref 943), some (.int x1), some (.int x3), none], [.int 1], (v0 L, g))) rfl ?_
          exact dj_52_70 L g 1 (some (.int x1)) (some (.int x3)) none _
    · exact fun hR => by cases hR; exact ev_rt 0 rfl
noncomputable def fj_98_62  (g : am_G) : Option (Int32 × am_G) := lo_i (fm_44 g ) fun y1 g2 => some (y1, g2)
theorem dj_98_62 (L : Nat)   (g : am_G) (R : Int32 × am_G) : fj_98_62  g = some R → ai_ev ap_P 98 (62, [some (.ref 943)], [], (v0 L, g)) (.inl (ez_i R.1)) (v0 L, R.2) := by
  unfold fj_98_62
  refine ev_oi 1 (as := [.ref 943]) (pc := 66) (Lc := [some (.ref 943)]) (st := []) (V := v0 L) (g1 := g) (e := ez_i) rfl (dm_44 L g ) (fun y1 g2 => ?_)
  exact fun hR => by cases hR; exact ev_rt 0 rfl
/-- DeclaredMarkupModel.ended()I -/
noncomputable def fm_98 (g : am_G)  : Option (Int32 × am_G) := lo_p (fm_52 g ) fun g2 => lo_p (fm_39 g2 ) fun g4 => lo_p (fm_36 g4 41) fun g6 => lo_g (ai_in ((am_i g6 943 106) - 1) 40) (lo_p (fm_38 g6 (am_i g6 991 (((am_i g6 943 106) - 1)).toNatClampNeg)) fun g9 => lo_p (fm_36 g9 10) fun g11 => if ((am_i g11 943 106) - 1) = 0 then fj_98_62 (am_si (am_si (am_si g11 943 106 ((am_i g11 943 106) - 1)) 943 27 0) 943 28 2) else fj_98_62 (am_si g11 943 106 ((am_i g11 943 106) - 1)))
theorem dm_98 (L : Nat) (g : am_G)  (R : Int32 × am_G) : fm_98 g  = some R → ai_ev ap_P 98 (ai_e0 ap_P 98 [.ref 943] (v0 L, g)) (.inl (ez_i R.1)) (v0 L, R.2) := by
  show _ → ai_ev ap_P 98 (0, [some (.ref 943)], [], (v0 L, g)) _ _
  unfold fm_98
  refine ev_ov0 1 (as := [.ref 943]) (pc := 4) (Lc := [some (.ref 943)]) (st := []) (V := v0 L) (g1 := g) rfl (dm_52 L g ) (fun g2 => ?_)
  refine ev_ov0 1 (as := [.ref 943]) (pc := 8) (Lc := [some (.ref 943)]) (st := []) (V := v0 L) (g1 := g2) rfl (dm_39 L g2 ) (fun g4 => ?_)
  refine ev_ov0 2 (as := [.ref 943, .int 41]) (pc := 14) (Lc := [some (.ref 943)]) (st := []) (V := v0 L) (g1 := g4) rfl (dm_36 L g4 41) (fun g6 => ?_)
  refine ev_gd (c := ai_in ((am_i g6 943 106) - 1) 40) (fun hc7 => ?_)
  refine ev_jm 7 (t := (26, [some (.ref 943)], [.int (am_i g6 991 (((am_i g6 943 106) - 1)).toNatClampNeg), .ref 943], (v0 L, g6))) (ai_gd (c := ai_in ((am_i g6 943 106) - 1) 40) rfl hc7) ?_
  refine ev_ov0 0 (as := [.ref 943, .int (am_i g6 991 (((am_i g6 943 106) - 1)).toNatClampNeg)]) (pc := 29) (Lc := [some (.ref 943)]) (st := []) (V := v0 L) (g1 := g6) rfl (dm_38 L g6 (am_i g6 991 (((am_i g6 943 106) - 1)).toNatClampNeg)) (fun g9 => ?_)
  refine ev_ov0 2 (as := [.ref 943, .int 10]) (pc := 35) (Lc := [some (.ref 943)]) (st := []) (V := v0 L) (g1 := g9) rfl (dm_36 L g9 10) (fun g11 => ?_)
  refine ev_in 8 (p := ((am_i g11 943 106) - 1) = 0) (a := 62) (b := 52) (T := ([some (.ref 943)], [], (v0 L, (am_si g11 943 106 ((am_i g11 943 106) - 1))))) rfl ?_ ?_
  · refine ev_jm 5 (t := (62, [some (.ref 943)], [], (v0 L, (am_si (am_si (am_si g11 943 106 ((am_i g11 943 106) - 1)) 943 27 0) 943 28 2)))) rfl ?_
    exact dj_98_62 L (am_si (am_si (am_si g11 943 106 ((am_i g11 943 106) - 1)) 943 27 0) 943 28 2) _
  · exact dj_98_62 L (am_si g11 943 106 ((am_i g11 943 106) - 1)) _
noncomputable def fb_89_12 (k12 : (am_G × Int32 × Int32) → Option (am_G)) (g : am_G) (u1 : Int32) (u2 : Int32) : Option (am_G) := if (am_i g 943 125) ≤ u2 then some g else lo_g (ai_in u1 24) (lo_g (ai_in ((am_i g 997 u1.toNatClampNeg) + u2) 9600) (lo_g (ai_in u2 400) (k12 ((am_si g 1001 u2.toNatClampNeg (am_i g 1000 (((am_i g 997 u1.toNatClampNeg) + u2)).toNatClampNeg)), u1, (u2 + 1)))))
theorem db_89_12 (L : Nat) {k12 : (am_G × Int32 × Int32) → Option (am_G)} (hk12 : ∀ (x : am_G × Int32 × Int32) (R : am_G), k12 x = some R → ai_ev ap_P 89 (12, [some (.ref 943), some (.int x.2.1), some (.int x.2.2)], [], (v0 L, x.1)) (.inl none) (v0 L, R)) (g : am_G) (u1 : Int32) (u2 : Int32) (R : am_G) : fb_89_12 k12 g u1 u2 = some R → ai_ev ap_P 89 (12, [some (.ref 943), some (.int u1), some (.int u2)], [], (v0 L, g)) (.inl none) (v0 L, R) := by
  unfold fb_89_12
  refine ev_if 3 (p := (am_i g 943 125) ≤ u2) (a := 45) (b := 20) (T := ([some (.ref 943), some (.int u1), some (.int u2)], [], (v0 L, g))) rfl ?_ ?_
  · exact fun hR => by cases hR; exact ev_rt 0 rfl
  · refine ev_gd (c := ai_in u1 24) (fun hc1 => ?_)
    refine ev_jm 8 (t := (35, [some (.ref 943), some (.int u1), some (.int u2)], [.int (am_i g 997 u1.toNatClampNeg), .ref 1000, .int u2, .ref 1001], (v0 L, g))) (ai_gd (c := ai_in u1 24) rfl hc1) ?_
    refine ev_gd (c := ai_in ((am_i g 997 u1.toNatClampNeg) + u2) 9600) (fun hc2 => ?_)
    refine ev_jm 2 (t := (38, [some (.ref 943), some (.int u1), some (.int u2)], [.int (am_i g 1000 (((am_i g 997 u1.toNatClampNeg) + u2)).toNatClampNeg), .int u2, .ref 1001], (v0 L, g))) (ai_gd (c := ai_in ((am_i g 997 u1.toNatClampNeg) + u2) 9600) rfl hc2) ?_
    refine ev_gd (c := ai_in u2 400) (fun hc3 => ?_)
    refine ev_jm 0 (t := (39, [some (.ref 943), some (.int u1), some (.int u2)], [], (v0 L, (am_si g 1001 u2.toNatClampNeg (am_i g 1000 (((am_i g 997 u1.toNatClampNeg) + u2)).toNatClampNeg))))) (ai_gd (c := ai_in u2 400) rfl hc3) ?_
    refine ev_jm 1 (t := (12, [some (.ref 943), some (.int u1), some (.int (u2 + 1))], [], (v0 L, (am_si g 1001 u2.toNatClampNeg (am_i g 1000 (((am_i g 997 u1.toNatClampNeg) + u2)).toNatClampNeg))))) rfl ?_
    exact hk12 ((am_si g 1001 u2.toNatClampNeg (am_i g 1000 (((am_i g 997 u1.toNatClampNeg) + u2)).toNatClampNeg)), u1, (u2 + 1)) _
noncomputable def fh_89_12  (x : am_G × Int32 × Int32) : Option (am_G) := lo_it (fun k x => fb_89_12 k x.1 x.2.1 x.2.2) nf_F x
theorem dh_89_12 (L : Nat)   (x : am_G × Int32 × Int32) (R : am_G) : fh_89_12  x = some R → ai_ev ap_P 89 (12, [some (.ref 943), some (.int x.2.1), some (.int x.2.2)], [], (v0 L, x.1)) (.inl none) (v0 L, R) :=
  fun hr => lo_ev (E := fun x R => ai_ev ap_P 89 (12, [some (.ref 943), some (.int x.2.1), some (.int x.2.2)], [], (v0 L, x.1)) (.inl none) (v0 L, R)) (fun k hk x R hr => db_89_12 L hk x.1 x.2.1 x.2.2  R hr) nf_F x R hr
/-- DeclaredMarkupModel.load(I)V -/
noncomputable def fm_89 (g : am_G) (u1 : Int32) : Option (am_G) := lo_g (ai_in u1 24) (fh_89_12 ((am_si g 943 125 (am_i g 998 u1.toNatClampNeg)), u1, 0))
theorem dm_89 (L : Nat) (g : am_G) (u1 : Int32) (R : am_G) : fm_89 g u1 = some R → ai_ev ap_P 89 (ai_e0 ap_P 89 [.ref 943, .int u1] (v0 L, g)) (.inl none) (v0 L, R) := by
  show _ → ai_ev ap_P 89 (0, [some (.ref 943), some (.int u1), none], [], (v0 L, g)) _ _
  unfold fm_89
  refine ev_gd (c := ai_in u1 24) (fun hc1 => ?_)
  refine ev_jm 4 (t := (7, [some (.ref 943), some (.int u1), none], [.int (am_i g 998 u1.toNatClampNeg), .ref 943], (v0 L, g))) (ai_gd (c := ai_in u1 24) rfl hc1) ?_
  refine ev_jm 2 (t := (12, [some (.ref 943), some (.int u1), some (.int 0)], [], (v0 L, (am_si g 943 125 (am_i g 998 u1.toNatClampNeg))))) rfl ?_
  exact dh_89_12 L ((am_si g 943 125 (am_i g 998 u1.toNatClampNeg)), u1, 0) _
noncomputable def fj_77_62 (k4 : (am_G × Int32 × Int32) → Option (am_G)) (g : am_G) (u1 : Int32) (u2 : Int32) : Option (am_G) := lo_g (ai_in u2 400) (lo_g (ai_in u1 400) (lo_l (u1 + 1) fun x3 => k4 ((am_si g 1001 u1.toNatClampNeg (am_i g 1001 u2.toNatClampNeg)), x3, (u2 + 1))))
theorem dj_77_62 (L : Nat) {k4 : (am_G × Int32 × Int32) → Option (am_G)} (hk4 : ∀ (x : am_G × Int32 × Int32) (w3 w4 : Option Value) (R : am_G), k4 x = some R → ai_ev ap_P 77 (4, [some (.ref 943), some (.int x.2.1), some (.int x.2.2), w3, w4], [], (v0 L, x.1)) (.inl none) (v0 L, R)) (g : am_G) (u1 : Int32) (u2 : Int32) (w3 w4 : Option Value) (R : am_G) : fj_77_62 k4 g u1 u2 = some R → ai_ev ap_P 77 (62, [some (.ref 943), some (.int u1), some (.int u2), w3, w4], [], (v0 L, g)) (.inl none) (v0 L, R) := by
  unfold fj_77_62
  refine ev_gd (c := ai_in u2 400) (fun hc1 => ?_)
  refine ev_jm 6 (t := (73, [some (.ref 943), some (.int u1), some (.int u2), none, none], [.int (am_i g 1001 u2.toNatClampNeg), .int u1, .ref 1001], (v0 L, g))) (ai_gd (c := ai_in u2 400) rfl hc1) ?_
  refine ev_gd (c := ai_in u1 400) (fun hc2 => ?_)
  refine ev_jm 0 (t := (74, [some (.ref 943), some (.int u1), some (.int u2), none, none], [], (v0 L, (am_si g 1001 u1.toNatClampNeg (am_i g 1001 u2.toNatClampNeg))))) (ai_gd (c := ai_in u1 400) rfl hc2) ?_
  refine ev_jm 2 (t := (77, [some (.ref 943), some (.int u1), some (.int u2), none, none], [.int (u1 + 1)], (v0 L, (am_si g 1001 u1.toNatClampNeg (am_i g 1001 u2.toNatClampNeg))))) rfl ?_
  refine lo_e (S := fun (x3 : Int32) => (77, [some (.ref 943), some (.int u1), some (.int u2), none, none], [.int x3], (v0 L, (am_si g 1001 u1.toNatClampNeg (am_i g 1001 u2.toNatClampNeg))))) (fun x3 => ?_)
  refine ev_jm 2 (t := (4, [some (.ref 943), some (.int x3), some (.int (u2 + 1)), none, none], [], (v0 L, (am_si g 1001 u1.toNatClampNeg (am_i g 1001 u2.toNatClampNeg))))) rfl ?_
  exact hk4 ((am_si g 1001 u1.toNatClampNeg (am_i g 1001 u2.toNatClampNeg)), x3, (u2 + 1)) none none _
noncomputable def fj_77_51 (k4 : (am_G × Int32 × Int32) → Option (am_G)) (g : am_G) (u1 : Int32) (u2 : Int32) (u3 : Int32) (t0 : Int32) : Option (am_G) := if u3 = 0 then fj_77_62 k4 g u1 u2 else if t0 = 0 then fj_77_62 k4 g u1 u2 else k4 (g, u1, (u2 + 1))
theorem dj_77_51 (L : Nat) {k4 : (am_G × Int32 × Int32) → Option (am_G)} (hk4 : ∀ (x : am_G × Int32 × Int32) (w3 w4 : Option Value) (R : am_G), k4 x = some R → ai_ev ap_P 77 (4, [some (.ref 943), some (.int x.2.1), some (.int x.2.2), w3, w4], [], (v0 L, x.1)) (.inl none) (v0 L, R)) (g : am_G) (u1 : Int32) (u2 : Int32) (u3 : Int32) (t0 : Int32) (w4 : Option Value) (R : am_G) : fj_77_51 k4 g u1 u2 u3 t0 = some R → ai_ev ap_P 77 (51, [some (.ref 943), some (.int u1), some (.int u2), some (.int u3), w4], [.int t0], (v0 L, g)) (.inl none) (v0 L, R) := by
  unfold fj_77_51
  refine ev_if 2 (p := u3 = 0) (a := 62) (b := 57) (T := ([some (.ref 943), some (.int u1), some (.int u2), some (.int u3), some (.int t0)], [], (v0 L, g))) rfl ?_ ?_
  · exact dj_77_62 L hk4 g u1 u2 (some (.int u3)) (some (.int t0)) _
  · refine ev_in 1 (p := t0 = 0) (a := 78) (b := 62) (T := ([some (.ref 943), some (.int u1), some (.int u2), some (.int u3), some (.int t0)], [], (v0 L, g))) rfl ?_ ?_
    · exact dj_77_62 L hk4 g u1 u2 (some (.int u3)) (some (.int t0)) _
    · refine ev_jm 1 (t := (4, [some (.ref 943), some (.int u1), some (.int (u2 + 1)), none, none], [], (v0 L, g))) rfl ?_
      exact hk4 (g, u1, (u2 + 1)) none none _
noncomputable def fj_77_46 (k4 : (am_G × Int32 × Int32) → Option (am_G)) (g : am_G) (u1 : Int32) (u2 : Int32) (u3 : Int32) : Option (am_G) := fj_77_51 k4 g u1 u2 u3 1
theorem dj_77_46 (L : Nat) {k4 : (am_G × Int32 × Int32) → Option (am_G)} (hk4 : ∀ (x : am_G × Int32 × Int32) (w3 w4 : Option Value) (R : am_G), k4 x = some R → ai_ev ap_P 77 (4, [some (.ref 943), some (.int x.2.1), some (.int x.2.2), w3, w4], [], (v0 L, x.1)) (.inl none) (v0 L, R)) (g : am_G) (u1 : Int32) (u2 : Int32) (u3 : Int32) (w4 : Option Value) (R : am_G) : fj_77_46 k4 g u1 u2 u3 = some R → ai_ev ap_P 77 (46, [some (.ref 943), some (.int u1), some (.int u2), some (.int u3), w4], [], (v0 L, g)) (.inl none) (v0 L, R) := by
  unfold fj_77_46
  refine ev_jm 1 (t := (51, [some (.ref 943), some (.int u1), some (.int u2), some (.int u3), none], [.int 1], (v0 L, g))) rfl ?_
  exact dj_77_51 L hk4 g u1 u2 u3 1 none _
noncomputable def fj_77_28 (k4 : (am_G × Int32 × Int32) → Option (am_G)) (g : am_G) (u1 : Int32) (u2 : Int32) (t0 : Int32) : Option (am_G) := if u1 = 0 then fj_77_46 k4 g u1 u2 t0 else lo_g (ai_in (u1 - 1) 400) (if (am_i g 1001 ((u1 - 1)).toNatClampNeg) = 32 then fj_77_46 k4 g u1 u2 t0 else fj_77_51 k4 g u1 u2 t0 0)
theorem dj_77_28 (L : Nat) {k4 : (am_G × Int32 × Int32) → Option (am_G)} (hk4 : ∀ (x : am_G × Int32 × Int32) (w3 w4 : Option Value) (R : am_G), k4 x = some R → ai_ev ap_P 77 (4, [some (.ref 943), some (.int x.2.1), some (.int x.2.2), w3, w4], [], (v0 L, x.1)) (.inl none) (v0 L, R)) (g : am_G) (u1 : Int32) (u2 : Int32) (t0 : Int32) (w3 w4 : Option Value) (R : am_G) : fj_77_28 k4 g u1 u2 t0 = some R → ai_ev ap_P 77 (28, [some (.ref 943), some (.int u1), some (.int u2), w3, w4], [.int t0], (v0 L, g)) (.inl none) (v0 L, R) := by
  unfold fj_77_28
  refine ev_if 2 (p := u1 = 0) (a := 46) (b := 33) (T := ([some (.ref 943), some (.int u1), some (.int u2), some (.int t0), none], [], (v0 L, g))) rfl ?_ ?_
  · exact dj_77_46 L hk4 g u1 u2 t0 none _
  · refine ev_gd (c := ai_in (u1 - 1) 400) (fun hc1 => ?_)
    refine ev_jm 5 (t := (41, [some (.ref 943), some (.int u1), some (.int u2), some (.int t0), none], [.int (am_i g 1001 ((u1 - 1)).toNatClampNeg)], (v0 L, g))) (ai_gd (c := ai_in (u1 - 1) 400) rfl hc1) ?_
    refine ev_in 1 (p := (am_i g 1001 ((u1 - 1)).toNatClampNeg) = 32) (a := 50) (b := 46) (T := ([some (.ref 943), some (.int u1), some (.int u2), some (.int t0), none], [], (v0 L, g))) rfl ?_ ?_
    · exact dj_77_46 L hk4 g u1 u2 t0 none _
    · refine ev_jm 0 (t := (51, [some (.ref 943), some (.int u1), some (.int u2), some (.int t0), none], [.int 0], (v0 L, g))) rfl ?_
      exact dj_77_51 L hk4 g u1 u2 t0 0 none _
noncomputable def fj_77_109  (g : am_G) (t1 : Int32) : Option (am_G) := some (am_si g 943 125 t1)
theorem dj_77_109 (L : Nat)   (g : am_G) (t1 : Int32) (w0 w1 w2 w3 w4 : Option Value) (R : am_G) : fj_77_109  g t1 = some R → ai_ev ap_P 77 (109, [w0, w1, w2, w3, w4], [.int t1, .ref 943], (v0 L, g)) (.inl none) (v0 L, R) := by
  unfold fj_77_109
  exact fun hR => by cases hR; exact ev_rt 1 rfl
noncomputable def fj_77_108  (g : am_G) (u1 : Int32) : Option (am_G) := fj_77_109 g u1
theorem dj_77_108 (L : Nat)   (g : am_G) (u1 : Int32) (w0 w2 w3 w4 : Option Value) (R : am_G) : fj_77_108  g u1 = some R → ai_ev ap_P 77 (108, [w0, some (.int u1), w2, w3, w4], [.ref 943], (v0 L, g)) (.inl none) (v0 L, R) := by
  unfold fj_77_108
  refine ev_jm 0 (t := (109, [none, some (.int u1), none, none, none], [.int u1, .ref 943], (v0 L, g))) rfl ?_
  exact dj_77_109 L g u1 none (some (.int u1)) none none none _
noncomputable def fb_77_4 (k4 : (am_G × Int32 × Int32) → Option (am_G)) (g : am_G) (u1 : Int32) (u2 : Int32) : Option (am_G) := if (am_i g 943 125) ≤ u2 then if u1 ≤ 0 then fj_77_108 g u1 else lo_g (ai_in (u1 - 1) 400) (if (am_i g 1001 ((u1 - 1)).toNatClampNeg) = 32 then fj_77_109 g (u1 - 1) else fj_77_108 g u1) else lo_g (ai_in u2 400) (if (am_i g 1001 u2.toNatClampNeg) = 32 then fj_77_28 k4 g u1 u2 1 else fj_77_28 k4 g u1 u2 0)
theorem db_77_4 (L : Nat) {k4 : (am_G × Int32 × Int32) → Option (am_G)} (hk4 : ∀ (x : am_G × Int32 × Int32) (w3 w4 : Option Value) (R : am_G), k4 x = some R → ai_ev ap_P 77 (4, [some (.ref 943), some (.int x.2.1), some (.int x.2.2), w3, w4], [], (v0 L, x.1)) (.inl none) (v0 L, R)) (g : am_G) (u1 : Int32) (u2 : Int32) (w3 w4 : Option Value) (R : am_G) : fb_77_4 k4 g u1 u2 = some R → ai_ev ap_P 77 (4, [some (.ref 943), some (.int u1), some (.int u2), w3, w4], [], (v0 L, g)) (.inl none) (v0 L, R) := by
  unfold fb_77_4
  refine ev_if 3 (p := (am_i g 943 125) ≤ u2) (a := 84) (b := 12) (T := ([some (.ref 943), some (.int u1), some (.int u2), none, none], [], (v0 L, g))) rfl ?_ ?_
  · refine ev_if 2 (p := u1 ≤ 0) (a := 108) (b := 89) (T := ([some (.ref 943), some (.int u1), some (.int u2), none, none], [.ref 943], (v0 L, g))) rfl ?_ ?_
    · exact dj_77_108 L g u1 (some (.ref 943)) (some (.int u2)) none none _
    · refine ev_gd (c := ai_in (u1 - 1) 400) (fun hc1 => ?_)
      refine ev_jm 5 (t := (97, [some (.ref 943), some (.int u1), some (.int u2), none, none], [.int (am_i g 1001 ((u1 - 1)).toNatClampNeg), .ref 943], (v0 L, g))) (ai_gd (c := ai_in (u1 - 1) 400) rfl hc1) ?_
      refine ev_in 1 (p := (am_i g 1001 ((u1 - 1)).toNatClampNeg) = 32) (a := 108) (b := 102) (T := ([some (.ref 943), some (.int u1), some (.int u2), none, none], [.ref 943], (v0 L, g))) rfl ?_ ?_
      · refine ev_jm 3 (t := (109, [some (.ref 943), some (.int u1), some (.int u2), none, none], [.int (u1 - 1), .ref 943], (v0 L, g))) rfl ?_
        exact dj_77_109 L g (u1 - 1) (some (.ref 943)) (some (.int u1)) (some (.int u2)) none none _
      · exact dj_77_108 L g u1 (some (.ref 943)) (some (.int u2)) none none _
  · refine ev_gd (c := ai_in u2 400) (fun hc2 => ?_)
    refine ev_jm 3 (t := (18, [some (.ref 943), some (.int u1), some (.int u2), none, none], [.int (am_i g 1001 u2.toNatClampNeg)], (v0 L, g))) (ai_gd (c := ai_in u2 400) rfl hc2) ?_
    refine ev_in 1 (p := (am_i g 1001 u2.toNatClampNeg) = 32) (a := 27) (b := 23) (T := ([some (.ref 943), some (.int u1), some (.int u2), none, none], [], (v0 L, g))) rfl ?_ ?_
    · refine ev_jm 1 (t := (28, [some (.ref 943), some (.int u1), some (.int u2), none, none], [.int 1], (v0 L, g))) rfl ?_
      exact dj_77_28 L hk4 g u1 u2 1 none none _
    · refine ev_jm 0 (t := (28, [some (.ref 943), some (.int u1), some (.int u2), none, none], [.int 0], (v0 L, g))) rfl ?_
      exact dj_77_28 L hk4 g u1 u2 0 none none _
noncomputable def fh_77_4  (x : am_G × Int32 × Int32) : Option (am_G) := lo_it (fun k x => fb_77_4 k x.1 x.2.1 x.2.2) nf_F x
theorem dh_77_4 (L : Nat)   (x : am_G × Int32 × Int32) (w3 w4 : Option Value) (R : am_G) : fh_77_4  x = some R → ai_ev ap_P 77 (4, [some (.ref 943), some (.int x.2.1), some (.int x.2.2), w3, w4], [], (v0 L, x.1)) (.inl none) (v0 L, R) :=
  fun hr => lo_ev (E := fun x R => ∀ (w3 w4 : Option Value), ai_ev ap_P 77 (4, [some (.ref 943), some (.int x.2.1), some (.int x.2.2), w3, w4], [], (v0 L, x.1)) (.inl none) (v0 L, R)) (fun k hk x R hr => fun w3 w4 => db_77_4 L (fun x w3 w4 R hr => hk x R hr w3 w4) x.1 x.2.1 x.2.2 w3 w4 R hr) nf_F x R hr w3 w4
/-- DeclaredMarkupModel.normalise()V -/
noncomputable def fm_77 (g : am_G)  : Option (am_G) := fh_77_4 (g, 0, 0)
theorem dm_77 (L : Nat) (g : am_G)  (R : am_G) : fm_77 g  = some R → ai_ev ap_P 77 (ai_e0 ap_P 77 [.ref 943] (v0 L, g)) (.inl none) (v0 L, R) := by
  show _ → ai_ev ap_P 77 (0, [some (.ref 943), none, none, none, none], [], (v0 L, g)) _ _
  unfold fm_77
  refine ev_jm 3 (t := (4, [some (.ref 943), some (.int 0), some (.int 0), none, none], [], (v0 L, g))) rfl ?_
  exact dh_77_4 L (g, 0, 0) none none _
noncomputable def fb_91_4 (g : am_G) (k4 : (Int32 × Int32 × Int32) → Option (Int32)) (u1 : Int32) (u2 : Int32) (u3 : Int32) : Option (Int32) := if (am_i g 943 117) ≤ u3 then some (vp_nar .boolean u2) else if u2 = 0 then lo_g (ai_in u3 24) (if (am_i g 996 u3.toNatClampNeg) = u1 then k4 (u1, 1, (u3 + 1)) else k4 (u1, 0, (u3 + 1))) else k4 (u1, 1, (u3 + 1))
theorem db_91_4 (L : Nat) (g : am_G) {k4 : (Int32 × Int32 × Int32) → Option (Int32)} (hk4 : ∀ (x : Int32 × Int32 × Int32) (R : Int32), k4 x = some R → ai_ev ap_P 91 (4, [some (.ref 943), some (.int x.1), some (.int x.2.1), some (.int x.2.2)], [], (v0 L, g)) (.inl (ez_i R)) (v0 L, g)) (u1 : Int32) (u2 : Int32) (u3 : Int32) (R : Int32) : fb_91_4 g k4 u1 u2 u3 = some R → ai_ev ap_P 91 (4, [some (.ref 943), some (.int u1), some (.int u2), some (.int u3)], [], (v0 L, g)) (.inl (ez_i R)) (v0 L, g) := by
  unfold fb_91_4
  refine ev_if 3 (p := (am_i g 943 117) ≤ u3) (a := 38) (b := 12) (T := ([some (.ref 943), some (.int u1), some (.int u2), some (.int u3)], [], (v0 L, g))) rfl ?_ ?_
  · exact fun hR => by cases hR; exact ev_rt 1 rfl
  · refine ev_in 1 (p := u2 = 0) (a := 26) (b := 16) (T := ([some (.ref 943), some (.int u1), some (.int u2), some (.int u3)], [], (v0 L, g))) rfl ?_ ?_
    · refine ev_gd (c := ai_in u3 24) (fun hc1 => ?_)
      refine ev_jm 3 (t := (22, [some (.ref 943), some (.int u1), some (.int u2), some (.int u3)], [.int (am_i g 996 u3.toNatClampNeg)], (v0 L, g))) (ai_gd (c := ai_in u3 24) rfl hc1) ?_
      refine ev_in 1 (p := (am_i g 996 u3.toNatClampNeg) = u1) (a := 30) (b := 26) (T := ([some (.ref 943), some (.int u1), some (.int u2), some (.int u3)], [], (v0 L, g))) rfl ?_ ?_
      · refine ev_jm 4 (t := (4, [some (.ref 943), some (.int u1), some (.int 1), some (.int (u3 + 1))], [], (v0 L, g))) rfl ?_
        exact hk4 (u1, 1, (u3 + 1)) _
      · refine ev_jm 3 (t := (4, [some (.ref 943), some (.int u1), some (.int 0), some (.int (u3 + 1))], [], (v0 L, g))) rfl ?_
        exact hk4 (u1, 0, (u3 + 1)) _
    · refine ev_jm 4 (t := (4, [some (.ref 943), some (.int u1), some (.int 1), some (.int (u3 + 1))], [], (v0 L, g))) rfl ?_
      exact hk4 (u1, 1, (u3 + 1)) _
noncomputable def fh_91_4 (g : am_G)  (x : Int32 × Int32 × Int32) : Option (Int32) := lo_it (fun k x => fb_91_4 g k x.1 x.2.1 x.2.2) nf_F x
theorem dh_91_4 (L : Nat) (g : am_G)   (x : Int32 × Int32 × Int32) (R : Int32) : fh_91_4 g  x = some R → ai_ev ap_P 91 (4, [some (.ref 943), some (.int x.1), some (.int x.2.1), some (.int x.2.2)], [], (v0 L, g)) (.inl (ez_i R)) (v0 L, g) :=
  fun hr => lo_ev (E := fun x R => ai_ev ap_P 91 (4, [some (.ref 943), some (.int x.1), some (.int x.2.1), some (.int x.2.2)], [], (v0 L, g)) (.inl (ez_i R)) (v0 L, g)) (fun k hk x R hr => db_91_4 L g hk x.1 x.2.1 x.2.2  R hr) nf_F x R hr
/-- DeclaredMarkupModel.hasAttribute(I)Z -/
noncomputable def fm_91 (g : am_G) (u1 : Int32) : Option (Int32) := fh_91_4 g (u1, 0, 0)
theorem dm_91 (L : Nat) (g : am_G) (u1 : Int32) (R : Int32) : fm_91 g u1 = some R → ai_ev ap_P 91 (ai_e0 ap_P 91 [.ref 943, .int u1] (v0 L, g)) (.inl (ez_i R)) (v0 L, g) := by
  show _ → ai_ev ap_P 91 (0, [some (.ref 943), some (.int u1), none, none], [], (v0 L, g)) _ _
  unfold fm_91
  refine ev_jm 3 (t := (4, [some (.ref 943), some (.int u1), some (.int 0), some (.int 0)], [], (v0 L, g))) rfl ?_
  exact dh_91_4 L g (u1, 0, 0) _
/-- DeclaredMarkupModel.defaultAt(I)I -/
noncomputable def fm_75 (g : am_G) (u1 : Int32) : Option (Int32) := if (16000 : Int32) ≤ u1 then lo_g (ai_in (u1 - 16000) 16000) (some (am_i g 984 ((u1 - 16000)).toNatClampNeg)) else lo_g (ai_in u1 16000) (some (am_i g 983 u1.toNatClampNeg))
theorem dm_75 (L : Nat) (g : am_G) (u1 : Int32) (R : Int32) : fm_75 g u1 = some R → ai_ev ap_P 75 (ai_e0 ap_P 75 [.ref 943, .int u1] (v0 L, g)) (.inl (ez_i R)) (v0 L, g) := by
  show _ → ai_ev ap_P 75 (0, [some (.ref 943), some (.int u1)], [], (v0 L, g)) _ _
  unfold fm_75
  refine ev_if 2 (p := (16000 : Int32) ≤ u1) (a := 16) (b := 7) (T := ([some (.ref 943), some (.int u1)], [], (v0 L, g))) rfl ?_ ?_
  · refine ev_gd (c := ai_in (u1 - 16000) 16000) (fun hc1 => ?_)
    refine ev_jm 5 (t := (26, [some (.ref 943), some (.int u1)], [.int (am_i g 984 ((u1 - 16000)).toNatClampNeg)], (v0 L, g))) (ai_gd (c := ai_in (u1 - 16000) 16000) rfl hc1) ?_
    exact fun hR => by cases hR; exact ev_rt 0 rfl
  · refine ev_gd (c := ai_in u1 16000) (fun hc2 => ?_)
    refine ev_jm 3 (t := (13, [some (.ref 943), some (.int u1)], [.int (am_i g 983 u1.toNatClampNeg)], (v0 L, g))) (ai_gd (c := ai_in u1 16000) rfl hc2) ?_
    exact fun hR => by cases hR; exact ev_rt 1 rfl
noncomputable def fb_90_64 (k10 : (am_G × Int32) → Option (am_G)) (k64 : (am_G × Int32 × Int32) → Option (am_G)) (g : am_G) (u1 : Int32) (u3 : Int32) : Option (am_G) := if (am_i g 943 125) ≤ u3 then lo_g (ai_in u1 24) (k10 ((am_si g 998 u1.toNatClampNeg (am_i g 943 125)), (u1 + 1))) else lo_g (ai_in u1 24) (lo_g (ai_in u3 400) (lo_g (ai_in ((am_i g 997 u1.toNatClampNeg) + u3) 9600) (k64 ((am_si g 1000 (((am_i g 997 u1.toNatClampNeg) + u3)).toNatClampNeg (am_i g 1001 u3.toNatClampNeg)), u1, (u3 + 1)))))
set_option maxRecDepth 20000 in
theorem db_90_64 (L : Nat) {k10 : (am_G × Int32) → Option (am_G)} {k64 : (am_G × Int32 × Int32) → Option (am_G)} (hk10 : ∀ (x : am_G × Int32) (w2 w3 : Option Value) (R : am_G), k10 x = some R → ai_ev ap_P 90 (10, [some (.ref 943), some (.int x.2), w2, w3], [], (v0 L, x.1)) (.inl none) (v0 L, R)) (hk64 : ∀ (x : am_G × Int32 × Int32) (w2 : Option Value) (R : am_G), k64 x = some R → ai_ev ap_P 90 (64, [some (.ref 943), some (.int x.2.1), w2, some (.int x.2.2)], [], (v0 L, x.1)) (.inl none) (v0 L, R)) (g : am_G) (u1 : Int32) (u3 : Int32) (w2 : Option Value) (R : am_G) : fb_90_64 k10 k64 g u1 u3 = some R → ai_ev ap_P 90 (64, [some (.ref 943), some (.int u1), w2, some (.int u3)], [], (v0 L, g)) (.inl none) (v0 L, R) := by
  unfold fb_90_64
  refine ev_if 3 (p := (am_i g 943 125) ≤ u3) (a := 97) (b := 72) (T := ([some (.ref 943), some (.int u1), none, some (.int u3)], [], (v0 L, g))) rfl ?_ ?_
  · refine ev_gd (c := ai_in u1 24) (fun hc1 => ?_)
    refine ev_jm 5 (t := (107, [some (.ref 943), some (.int u1), none, some (.int u3)], [], (v0 L, (am_si g 998 u1.toNatClampNeg (am_i g 943 125))))) (ai_gd (c := ai_in u1 24) rfl hc1) ?_
    refine ev_jm 1 (t := (10, [some (.ref 943), some (.int (u1 + 1)), none, none], [], (v0 L, (am_si g 998 u1.toNatClampNeg (am_i g 943 125))))) rfl ?_
    exact hk10 ((am_si g 998 u1.toNatClampNeg (am_i g 943 125)), (u1 + 1)) none none _
  · refine ev_gd (c := ai_in u1 24) (fun hc2 => ?_)
    refine ev_jm 5 (t := (82, [some (.ref 943), some (.int u1), none, some (.int u3)], [.int (am_i g 997 u1.toNatClampNeg), .ref 1000], (v0 L, g))) (ai_gd (c := ai_in u1 24) rfl hc2) ?_
    refine ev_gd (c := ai_in u3 400) (fun hc3 => ?_)
    refine ev_jm 5 (t := (90, [some (.ref 943), some (.int u1), none, some (.int u3)], [.int (am_i g 1001 u3.toNatClampNeg), .int ((am_i g 997 u1.toNatClampNeg) + u3), .ref 1000], (v0 L, g))) (ai_gd (c := ai_in u3 400) rfl hc3) ?_
    refine ev_gd (c := ai_in ((am_i g 997 u1.toNatClampNeg) + u3) 9600) (fun hc4 => ?_)
    refine ev_jm 0 (t := (91, [some (.ref 943), some (.int u1), none, some (.int u3)], [], (v0 L, (am_si g 1000 (((am_i g 997 u1.toNatClampNeg) + u3)).toNatClampNeg (am_i g 1001 u3.toNatClampNeg))))) (ai_gd (c := ai_in ((am_i g 997 u1.toNatClampNeg) + u3) 9600) rfl hc4) ?_
    refine ev_jm 1 (t := (64, [some (.ref 943), some (.int u1), none, some (.int (u3 + 1))], [], (v0 L, (am_si g 1000 (((am_i g 997 u1.toNatClampNeg) + u3)).toNatClampNeg (am_i g 1001 u3.toNatClampNeg))))) rfl ?_
    exact hk64 ((am_si g 1000 (((am_i g 997 u1.toNatClampNeg) + u3)).toNatClampNeg (am_i g 1001 u3.toNatClampNeg)), u1, (u3 + 1)) none _
noncomputable def fh_90_64 (k10 : (am_G × Int32) → Option (am_G)) (x : am_G × Int32 × Int32) : Option (am_G) := lo_it (fun k x => fb_90_64 k10 k x.1 x.2.1 x.2.2) nf_F x
set_option maxRecDepth 20000 in
theorem dh_90_64 (L : Nat) {k10 : (am_G × Int32) → Option (am_G)} (hk10 : ∀ (x : am_G × Int32) (w2 w3 : Option Value) (R : am_G), k10 x = some R → ai_ev ap_P 90 (10, [some (.ref 943), some (.int x.2), w2, w3], [], (v0 L, x.1)) (.inl none) (v0 L, R)) (x : am_G × Int32 × Int32) (w2 : Option Value) (R : am_G) : fh_90_64 k10 x = some R → ai_ev ap_P 90 (64, [some (.ref 943), some (.int x.2.1), w2, some (.int x.2.2)], [], (v0 L, x.1)) (.inl none) (v0 L, R) :=
  fun hr => lo_ev (E := fun x R => ∀ (w2 : Option Value), ai_ev ap_P 90 (64, [some (.ref 943), some (.int x.2.1), w2, some (.int x.2.2)], [], (v0 L, x.1)) (.inl none) (v0 L, R)) (fun k hk x R hr => fun w2 => db_90_64 L hk10 (fun x w2 R hr => hk x R hr w2) x.1 x.2.1 x.2.2 w2 R hr) nf_F x R hr w2
noncomputable def fb_90_214 (k115 : (am_G × Int32) → Option (am_G)) (k214 : (am_G × Int32 × Int32) → Option (am_G)) (g : am_G) (u1 : Int32) (u2 : Int32) : Option (am_G) := lo_g (ai_in u1 80) (if (am_i g 979 u1.toNatClampNeg) ≤ u2 then k115 ((am_si (am_si g 943 123 ((am_i g 943 123) + (am_i g 979 u1.toNatClampNeg))) 943 116 ((am_i g 943 116) + 1)), (u1 + 1)) else lo_p (fm_75 g ((am_i g 978 u1.toNatClampNeg) + u2)) fun y2 => lo_g (ai_in ((am_i g 943 123) + u2) 9600) (k214 ((am_si g 1000 (((am_i g 943 123) + u2)).toNatClampNeg y2), u1, (u2 + 1))))
set_option maxRecDepth 20000 in
theorem db_90_214 (L : Nat) {k115 : (am_G × Int32) → Option (am_G)} {k214 : (am_G × Int32 × Int32) → Option (am_G)} (hk115 : ∀ (x : am_G × Int32) (w2 w3 : Option Value) (R : am_G), k115 x = some R → ai_ev ap_P 90 (115, [some (.ref 943), some (.int x.2), w2, w3], [], (v0 L, x.1)) (.inl none) (v0 L, R)) (hk214 : ∀ (x : am_G × Int32 × Int32) (w3 : Option Value) (R : am_G), k214 x = some R → ai_ev ap_P 90 (214, [some (.ref 943), some (.int x.2.1), some (.int x.2.2), w3], [], (v0 L, x.1)) (.inl none) (v0 L, R)) (g : am_G) (u1 : Int32) (u2 : Int32) (w3 : Option Value) (R : am_G) : fb_90_214 k115 k214 g u1 u2 = some R → ai_ev ap_P 90 (214, [some (.ref 943), some (.int u1), some (.int u2), w3], [], (v0 L, g)) (.inl none) (v0 L, R) := by
  unfold fb_90_214
  refine ev_gd (c := ai_in u1 80) (fun hc1 => ?_)
  refine ev_jm 4 (t := (221, [some (.ref 943), some (.int u1), some (.int u2), none], [.int (am_i g 979 u1.toNatClampNeg), .int u2], (v0 L, g))) (ai_gd (c := ai_in u1 80) rfl hc1) ?_
  refine ev_if 0 (p := (am_i g 979 u1.toNatClampNeg) ≤ u2) (a := 253) (b := 224) (T := ([some (.ref 943), some (.int u1), some (.int u2), none], [], (v0 L, g))) rfl ?_ ?_
  · refine ev_jm 6 (t := (264, [some (.ref 943), some (.int u1), some (.int u2), none], [.int (am_i g 979 u1.toNatClampNeg), .int (am_i g 943 123), .ref 943], (v0 L, g))) (ai_gd (c := ai_in u1 80) rfl hc1) ?_
    refine ev_jm 9 (t := (115, [some (.ref 943), some (.int (u1 + 1)), none, none], [], (v0 L, (am_si (am_si g 943 123 ((am_i g 943 123) + (am_i g 979 u1.toNatClampNeg))) 943 116 ((am_i g 943 116) + 1))))) rfl ?_
    exact hk115 ((am_si (am_si g 943 123 ((am_i g 943 123) + (am_i g 979 u1.toNatClampNeg))) 943 116 ((am_i g 943 116) + 1)), (u1 + 1)) none none _
  · refine ev_jm 10 (t := (241, [some (.ref 943), some (.int u1), some (.int u2), none], [.int (am_i g 978 u1.toNatClampNeg), .ref 943, .int ((am_i g 943 123) + u2), .ref 1000], (v0 L, g))) (ai_gd (c := ai_in u1 80) rfl hc1) ?_
    refine ev_op 2 (as := [.ref 943, .int ((am_i g 978 u1.toNatClampNeg) + u2)]) (pc := 246) (Lc := [some (.ref 943), some (.int u1), some (.int u2), none]) (st := [.int ((am_i g 943 123) + u2), .ref 1000]) (h1 := (v0 L, g)) (e := ez_i) rfl (dm_75 L g ((am_i g 978 u1.toNatClampNeg) + u2)) (fun y2 => ?_)
    refine ev_gd (c := ai_in ((am_i g 943 123) + u2) 9600) (fun hc4 => ?_)
    refine ev_jm 0 (t := (247, [some (.ref 943), some (.int u1), some (.int u2), none], [], (v0 L, (am_si g 1000 (((am_i g 943 123) + u2)).toNatClampNeg y2)))) (ai_gd (c := ai_in ((am_i g 943 123) + u2) 9600) rfl hc4) ?_
    refine ev_jm 1 (t := (214, [some (.ref 943), some (.int u1), some (.int (u2 + 1)), none], [], (v0 L, (am_si g 1000 (((am_i g 943 123) + u2)).toNatClampNeg y2)))) rfl ?_
    exact hk214 ((am_si g 1000 (((am_i g 943 123) + u2)).toNatClampNeg y2), u1, (u2 + 1)) none _
noncomputable def fh_90_214 (k115 : (am_G × Int32) → Option (am_G)) (x : am_G × Int32 × Int32) : Option (am_G) := lo_it (fun k x => fb_90_214 k115 k x.1 x.2.1 x.2.2) nf_F x
set_option maxRecDepth 20000 in
theorem dh_90_214 (L : Nat) {k115 : (am_G × Int32) → Option (am_G)} (hk115 : ∀ (x : am_G × Int32) (w2 w3 : Option Value) (R : am_G), k115 x = some R → ai_ev ap_P 90 (115, [some (.ref 943), some (.int x.2), w2, w3], [], (v0 L, x.1)) (.inl none) (v0 L, R)) (x : am_G × Int32 × Int32) (w3 : Option Value) (R : am_G) : fh_90_214 k115 x = some R → ai_ev ap_P 90 (214, [some (.ref 943), some (.int x.2.1), some (.int x.2.2), w3], [], (v0 L, x.1)) (.inl none) (v0 L, R) :=
  fun hr => lo_ev (E := fun x R => ∀ (w3 : Option Value), ai_ev ap_P 90 (214, [some (.ref 943), some (.int x.2.1), some (.int x.2.2), w3], [], (v0 L, x.1)) (.inl none) (v0 L, R)) (fun k hk x R hr => fun w3 => db_90_214 L hk115 (fun x w3 R hr => hk x R hr w3) x.1 x.2.1 x.2.2 w3 R hr) nf_F x R hr w3
noncomputable def fb_90_115 (k115 : (am_G × Int32) → Option (am_G)) (g : am_G) (u1 : Int32) : Option (am_G) := if (am_i g 943 77) ≤ u1 then some g else lo_g (ai_in u1 80) (if (am_i g 974 u1.toNatClampNeg) = (am_i g 943 113) then if (am_i g 977 u1.toNatClampNeg) ≤ 1 then k115 (g, (u1 + 1)) else lo_p (fm_91 g (am_i g 975 u1.toNatClampNeg)) fun y2 => if y2 = 0 then lo_g (ai_in (am_i g 943 116) 24) (fh_90_214 k115 ((am_si (am_si (am_si (am_si g 996 ((am_i g 943 116)).toNatClampNeg (am_i g 975 u1.toNatClampNeg)) 999 ((am_i g 943 116)).toNatClampNeg u1) 997 ((am_i g 943 116)).toNatClampNeg (am_i g 943 123)) 998 ((am_i g 943 116)).toNatClampNeg (am_i g 979 u1.toNatClampNeg)), u1, 0)) else k115 (g, (u1 + 1)) else k115 (g, (u1 + 1)))
set_option maxRecDepth 20000 in
theorem db_90_115 (L : Nat) {k115 : (am_G × Int32) → Option (am_G)} (hk115 : ∀ (x : am_G × Int32) (w2 w3 : Option Value) (R : am_G), k115 x = some R → ai_ev ap_P 90 (115, [some (.ref 943), some (.int x.2), w2, w3], [], (v0 L, x.1)) (.inl none) (v0 L, R)) (g : am_G) (u1 : Int32) (w2 w3 : Option Value) (R : am_G) : fb_90_115 k115 g u1 = some R → ai_ev ap_P 90 (115, [some (.ref 943), some (.int u1), w2, w3], [], (v0 L, g)) (.inl none) (v0 L, R) := by
  unfold fb_90_115
  refine ev_if 3 (p := (am_i g 943 77) ≤ u1) (a := 284) (b := 123) (T := ([some (.ref 943), some (.int u1), none, none], [], (v0 L, g))) rfl ?_ ?_
  · exact fun hR => by cases hR; exact ev_rt 0 rfl
  · refine ev_gd (c := ai_in u1 80) (fun hc1 => ?_)
    refine ev_jm 3 (t := (129, [some (.ref 943), some (.int u1), none, none], [.int (am_i g 974 u1.toNatClampNeg)], (v0 L, g))) (ai_gd (c := ai_in u1 80) rfl hc1) ?_
    refine ev_in 2 (p := (am_i g 974 u1.toNatClampNeg) = (am_i g 943 113)) (a := 278) (b := 136) (T := ([some (.ref 943), some (.int u1), none, none], [], (v0 L, g))) rfl ?_ ?_
    · refine ev_jm 3 (t := (142, [some (.ref 943), some (.int u1), none, none], [.int (am_i g 977 u1.toNatClampNeg)], (v0 L, g))) (ai_gd (c := ai_in u1 80) rfl hc1) ?_
      refine ev_if 1 (p := (am_i g 977 u1.toNatClampNeg) ≤ 1) (a := 278) (b := 146) (T := ([some (.ref 943), some (.int u1), none, none], [], (v0 L, g))) rfl ?_ ?_
      · refine ev_jm 1 (t := (115, [some (.ref 943), some (.int (u1 + 1)), none, none], [], (v0 L, g))) rfl ?_
        exact hk115 (g, (u1 + 1)) none none _
      · refine ev_jm 4 (t := (153, [some (.ref 943), some (.int u1), none, none], [.int (am_i g 975 u1.toNatClampNeg), .ref 943], (v0 L, g))) (ai_gd (c := ai_in u1 80) rfl hc1) ?_
        refine ev_op 0 (as := [.ref 943, .int (am_i g 975 u1.toNatClampNeg)]) (pc := 156) (Lc := [some (.ref 943), some (.int u1), none, none]) (st := []) (h1 := (v0 L, g)) (e := ez_i) rfl (dm_91 L g (am_i g 975 u1.toNatClampNeg)) (fun y2 => ?_)
        refine ev_in 0 (p := y2 = 0) (a := 278) (b := 159) (T := ([some (.ref 943), some (.int u1), none, none], [], (v0 L, g))) rfl ?_ ?_
        · refine ev_jm 7 (t := (173, [some (.ref 943), some (.int u1), none, none], [.int (am_i g 975 u1.toNatClampNeg), .int (am_i g 943 116), .ref 996], (v0 L, g))) (ai_gd (c := ai_in u1 80) rfl hc1) ?_
          refine ev_gd (c := ai_in (am_i g 943 116) 24) (fun hc4 => ?_)
          refine ev_jm 0 (t := (174, [some (.ref 943), some (.int u1), none, none], [], (v0 L, (am_si g 996 ((am_i g 943 116)).toNatClampNeg (am_i g 975 u1.toNatClampNeg))))) (ai_gd (c := ai_in (am_i g 943 116) 24) rfl hc4) ?_
          refine ev_jm 5 (t := (184, [some (.ref 943), some (.int u1), none, none], [], (v0 L, (am_si (am_si g 996 ((am_i g 943 116)).toNatClampNeg (am_i g 975 u1.toNatClampNeg)) 999 ((am_i g 943 116)).toNatClampNeg u1)))) (ai_gd (c := ai_in (am_i g 943 116) 24) rfl hc4) ?_
          refine ev_jm 6 (t := (197, [some (.ref 943), some (.int u1), none, none], [], (v0 L, (am_si (am_si (am_si g 996 ((am_i g 943 116)).toNatClampNeg (am_i g 975 u1.toNatClampNeg)) 999 ((am_i g 943 116)).toNatClampNeg u1) 997 ((am_i g 943 116)).toNatClampNeg (am_i g 943 123))))) (ai_gd (c := ai_in (am_i g 943 116) 24) rfl hc4) ?_
          refine ev_jm 7 (t := (211, [some (.ref 943), some (.int u1), none, none], [.int (am_i g 979 u1.toNatClampNeg), .int (am_i g 943 116), .ref 998], (v0 L, (am_si (am_si (am_si g 996 ((am_i g 943 116)).toNatClampNeg (am_i g 975 u1.toNatClampNeg)) 999 ((am_i g 943 116)).toNatClampNeg u1) 997 ((am_i g 943 116)).toNatClampNeg (am_i g 943 123))))) (ai_gd (c := ai_in u1 80) rfl hc1) ?_
          refine ev_jm 0 (t := (212, [some (.ref 943), some (.int u1), none, none], [], (v0 L, (am_si (am_si (am_si (am_si g 996 ((am_i g 943 116)).toNatClampNeg (am_i g 975 u1.toNatClampNeg)) 999 ((am_i g 943 116)).toNatClampNeg u1) 997 ((am_i g 943 116)).toNatClampNeg (am_i g 943 123)) 998 ((am_i g 943 116)).toNatClampNeg (am_i g 979 u1.toNatClampNeg))))) (ai_gd (c := ai_in (am_i g 943 116) 24) rfl hc4) ?_
          refine ev_jm 1 (t := (214, [some (.ref 943), some (.int u1), some (.int 0), none], [], (v0 L, (am_si (am_si (am_si (am_si g 996 ((am_i g 943 116)).toNatClampNeg (am_i g 975 u1.toNatClampNeg)) 999 ((am_i g 943 116)).toNatClampNeg u1) 997 ((am_i g 943 116)).toNatClampNeg (am_i g 943 123)) 998 ((am_i g 943 116)).toNatClampNeg (am_i g 979 u1.toNatClampNeg))))) rfl ?_
          exact dh_90_214 L hk115 ((am_si (am_si (am_si (am_si g 996 ((am_i g 943 116)).toNatClampNeg (am_i g 975 u1.toNatClampNeg)) 999 ((am_i g 943 116)).toNatClampNeg u1) 997 ((am_i g 943 116)).toNatClampNeg (am_i g 943 123)) 998 ((am_i g 943 116)).toNatClampNeg (am_i g 979 u1.toNatClampNeg)), u1, 0) none _
        · refine ev_jm 1 (t := (115, [some (.ref 943), some (.int (u1 + 1)), none, none], [], (v0 L, g))) rfl ?_
          exact hk115 (g, (u1 + 1)) none none _
    · refine ev_jm 1 (t := (115, [some (.ref 943), some (.int (u1 + 1)), none, none], [], (v0 L, g))) rfl ?_
      exact hk115 (g, (u1 + 1)) none none _
noncomputable def fh_90_115  (x : am_G × Int32) : Option (am_G) := lo_it (fun k x => fb_90_115 k x.1 x.2) nf_F x
set_option maxRecDepth 20000 in
theorem dh_90_115 (L : Nat)   (x : am_G × Int32) (w2 w3 : Option Value) (R : am_G) : fh_90_115  x = some R → ai_ev ap_P 90 (115, [some (.ref 943), some (.int x.2), w2, w3], [], (v0 L, x.1)) (.inl none) (v0 L, R) :=
  fun hr => lo_ev (E := fun x R => ∀ (w2 w3 : Option Value), ai_ev ap_P 90 (115, [some (.ref 943), some (.int x.2), w2, w3], [], (v0 L, x.1)) (.inl none) (v0 L, R)) (fun k hk x R hr => fun w2 w3 => db_90_115 L (fun x w2 w3 R hr => hk x R hr w2 w3) x.1 x.2 w2 w3 R hr) nf_F x R hr w2 w3
noncomputable def fb_90_10 (k10 : (am_G × Int32) → Option (am_G)) (g : am_G) (u1 : Int32) : Option (am_G) := if (am_i g 943 117) ≤ u1 then fh_90_115 (g, 0) else lo_g (ai_in u1 24) (lo_p (fm_71 g (am_i g 943 113) (am_i g 996 u1.toNatClampNeg)) fun y2 => if y2 < 0 then k10 ((am_si g 999 u1.toNatClampNeg y2), (u1 + 1)) else lo_g (ai_in y2 80) (if (am_i g 976 y2.toNatClampNeg) ≤ 0 then k10 ((am_si g 999 u1.toNatClampNeg y2), (u1 + 1)) else lo_p (fm_89 (am_si g 999 u1.toNatClampNeg y2) u1) fun g6 => lo_p (fm_77 g6 ) fun g8 => fh_90_64 k10 (g8, u1, 0)))
set_option maxRecDepth 20000 in
theorem db_90_10 (L : Nat) {k10 : (am_G × Int32) → Option (am_G)} (hk10 : ∀ (x : am_G × Int32) (w2 w3 : Option Value) (R : am_G), k10 x = some R → ai_ev ap_P 90 (10, [some (.ref 943), some (.int x.2), w2, w3], [], (v0 L, x.1)) (.inl none) (v0 L, R)) (g : am_G) (u1 : Int32) (w2 w3 : Option Value) (R : am_G) : fb_90_10 k10 g u1 = some R → ai_ev ap_P 90 (10, [some (.ref 943), some (.int u1), w2, w3], [], (v0 L, g)) (.inl none) (v0 L, R) := by
  unfold fb_90_10
  refine ev_if 3 (p := (am_i g 943 117) ≤ u1) (a := 113) (b := 18) (T := ([some (.ref 943), some (.int u1), none, none], [], (v0 L, g))) rfl ?_ ?_
  · refine ev_jm 1 (t := (115, [some (.ref 943), some (.int 0), none, none], [], (v0 L, g))) rfl ?_
    exact dh_90_115 L (g, 0) none none _
  · refine ev_gd (c := ai_in u1 24) (fun hc1 => ?_)
    refine ev_jm 6 (t := (29, [some (.ref 943), some (.int u1), none, none], [.int (am_i g 996 u1.toNatClampNeg), .int (am_i g 943 113), .ref 943], (v0 L, g))) (ai_gd (c := ai_in u1 24) rfl hc1) ?_
    refine ev_op 0 (as := [.ref 943, .int (am_i g 943 113), .int (am_i g 996 u1.toNatClampNeg)]) (pc := 32) (Lc := [some (.ref 943), some (.int u1), none, none]) (st := []) (h1 := (v0 L, g)) (e := ez_i) rfl (dm_71 L g (am_i g 943 113) (am_i g 996 u1.toNatClampNeg)) (fun y2 => ?_)
    refine ev_jm 5 (t := (40, [some (.ref 943), some (.int u1), some (.int y2), none], [], (v0 L, (am_si g 999 u1.toNatClampNeg y2)))) (ai_gd (c := ai_in u1 24) rfl hc1) ?_
    refine ev_if 1 (p := y2 < 0) (a := 107) (b := 44) (T := ([some (.ref 943), some (.int u1), some (.int y2), none], [], (v0 L, (am_si g 999 u1.toNatClampNeg y2)))) rfl ?_ ?_
    · refine ev_jm 1 (t := (10, [some (.ref 943), some (.int (u1 + 1)), none, none], [], (v0 L, (am_si g 999 u1.toNatClampNeg y2)))) rfl ?_
      exact hk10 ((am_si g 999 u1.toNatClampNeg y2), (u1 + 1)) none none _
    · refine ev_gd (c := ai_in y2 80) (fun hc4 => ?_)
      refine ev_jm 3 (t := (50, [some (.ref 943), some (.int u1), some (.int y2), none], [.int (am_i g 976 y2.toNatClampNeg)], (v0 L, (am_si g 999 u1.toNatClampNeg y2)))) (ai_gd (c := ai_in y2 80) rfl hc4) ?_
      refine ev_if 0 (p := (am_i g 976 y2.toNatClampNeg) ≤ 0) (a := 107) (b := 53) (T := ([some (.ref 943), some (.int u1), some (.int y2), none], [], (v0 L, (am_si g 999 u1.toNatClampNeg y2)))) rfl ?_ ?_
      · refine ev_jm 1 (t := (10, [some (.ref 943), some (.int (u1 + 1)), none, none], [], (v0 L, (am_si g 999 u1.toNatClampNeg y2)))) rfl ?_
        exact hk10 ((am_si g 999 u1.toNatClampNeg y2), (u1 + 1)) none none _
      · refine ev_ov0 2 (as := [.ref 943, .int u1]) (pc := 58) (Lc := [some (.ref 943), some (.int u1), some (.int y2), none]) (st := []) (V := v0 L) (g1 := (am_si g 999 u1.toNatClampNeg y2)) rfl (dm_89 L (am_si g 999 u1.toNatClampNeg y2) u1) (fun g6 => ?_)
        refine ev_ov0 1 (as := [.ref 943]) (pc := 62) (Lc := [some (.ref 943), some (.int u1), some (.int y2), none]) (st := []) (V := v0 L) (g1 := g6) rfl (dm_77 L g6 ) (fun g8 => ?_)
        refine ev_jm 1 (t := (64, [some (.ref 943), some (.int u1), some (.int y2), some (.int 0)], [], (v0 L, g8))) rfl ?_
        exact dh_90_64 L hk10 (g8, u1, 0) (some (.int y2)) _
noncomputable def fh_90_10  (x : am_G × Int32) : Option (am_G) := lo_it (fun k x => fb_90_10 k x.1 x.2) nf_F x
set_option maxRecDepth 20000 in
theorem dh_90_10 (L : Nat)   (x : am_G × Int32) (w2 w3 : Option Value) (R : am_G) : fh_90_10  x = some R → ai_ev ap_P 90 (10, [some (.ref 943), some (.int x.2), w2, w3], [], (v0 L, x.1)) (.inl none) (v0 L, R) :=
  fun hr => lo_ev (E := fun x R => ∀ (w2 w3 : Option Value), ai_ev ap_P 90 (10, [some (.ref 943), some (.int x.2), w2, w3], [], (v0 L, x.1)) (.inl none) (v0 L, R)) (fun k hk x R hr => fun w2 w3 => db_90_10 L (fun x w2 w3 R hr => hk x R hr w2 w3) x.1 x.2 w2 w3 R hr) nf_F x R hr w2 w3
/-- DeclaredMarkupModel.complete()V -/
noncomputable def fm_90 (g : am_G)  : Option (am_G) := fh_90_10 ((am_si g 943 117 (am_i g 943 116)), 0)
set_option maxRecDepth 20000 in
theorem dm_90 (L : Nat) (g : am_G)  (R : am_G) : fm_90 g  = some R → ai_ev ap_P 90 (ai_e0 ap_P 90 [.ref 943] (v0 L, g)) (.inl none) (v0 L, R) := by
  show _ → ai_ev ap_P 90 (0, [some (.ref 943), none, none, none], [], (v0 L, g)) _ _
  unfold fm_90
  refine ev_jm 5 (t := (10, [some (.ref 943), some (.int 0), none, none], [], (v0 L, (am_si g 943 117 (am_i g 943 116))))) rfl ?_
  exact dh_90_10 L ((am_si g 943 117 (am_i g 943 116)), 0) none none _
