/-- DeclaredMarkup$Processor.isEndNext()Z -/
noncomputable def fm_266 (g : am_G)  : Option (Int32 × am_G) := lo_p (fm_177 g ) fun g2 => lo_p (fm_240 g2 62) fun y3 => lo_g (ai_in (am_i g2 39 4) 17) (some ((vp_nar .boolean y3), (am_si g2 42 ((am_i g2 39 4)).toNatClampNeg ((am_i g2 42 ((am_i g2 39 4)).toNatClampNeg) - 1))))
theorem dm_266 (L : Nat) (g : am_G)  (R : Int32 × am_G) : fm_266 g  = some R → ai_ev ap_P 266 (ai_e0 ap_P 266 [.ref 33] (v0 L, g)) (.inl (ez_i R.1)) (v0 L, R.2) := by
  show _ → ai_ev ap_P 266 (0, [some (.ref 33), none], [], (v0 L, g)) _ _
  unfold fm_266
  refine ev_ov0 2 (as := [.ref 39]) (pc := 7) (Lc := [some (.ref 33), none]) (st := []) (V := v0 L) (g1 := g) rfl (dm_177 L g ) (fun g2 => ?_)
  refine ev_op 2 (as := [.ref 33, .int 62]) (pc := 13) (Lc := [some (.ref 33), none]) (st := []) (h1 := (v0 L, g2)) (e := ez_i) rfl (dm_240 L g2 62) (fun y3 => ?_)
  refine ev_gd (c := ai_in (am_i g2 39 4) 17) (fun hc5 => ?_)
  refine ev_jm 8 (t := (30, [some (.ref 33), some (.int y3)], [.int (am_i g2 42 ((am_i g2 39 4)).toNatClampNeg), .int (am_i g2 39 4), .ref 42], (v0 L, g2))) (ai_gd (c := ai_in (am_i g2 39 4) 17) rfl hc5) ?_
  refine ev_jm 2 (t := (33, [some (.ref 33), some (.int y3)], [], (v0 L, (am_si g2 42 ((am_i g2 39 4)).toNatClampNeg ((am_i g2 42 ((am_i g2 39 4)).toNatClampNeg) - 1))))) (ai_gd (c := ai_in (am_i g2 39 4) 17) rfl hc5) ?_
  exact fun hR => by cases hR; exact ev_rt 1 rfl
noncomputable def fj_265_288 (k219 : (am_G × Int32 × Int32) → Option ((Unit ⊕ Nat) × am_G)) (g : am_G) (u1 : Int32) (u5 : Int32) : Option ((Unit ⊕ Nat) × am_G) := lo_p (fm_177 g ) fun g2 => k219 (g2, u1, u5)
theorem dj_265_288 (L : Nat) {k219 : (am_G × Int32 × Int32) → Option ((Unit ⊕ Nat) × am_G)} (hk219 : ∀ (x : am_G × Int32 × Int32) (w2 w3 w4 : Option Value) (R : (Unit ⊕ Nat) × am_G), k219 x = some R → ai_ev ap_P 265 (219, [some (.ref 33), some (.int x.2.1), w2, w3, w4, some (.int x.2.2)], [], (v0 L, x.1)) (oz_r ez_v R.1) (v0 L, R.2)) (g : am_G) (u1 : Int32) (u5 : Int32) (w2 w3 w4 : Option Value) (R : (Unit ⊕ Nat) × am_G) : fj_265_288 k219 g u1 u5 = some R → ai_ev ap_P 265 (288, [some (.ref 33), some (.int u1), w2, w3, w4, some (.int u5)], [], (v0 L, g)) (oz_r ez_v R.1) (v0 L, R.2) := by
  unfold fj_265_288
  refine ev_ov0 2 (as := [.ref 39]) (pc := 295) (Lc := [some (.ref 33), some (.int u1), none, none, none, some (.int u5)]) (st := []) (V := v0 L) (g1 := g) rfl (dm_177 L g ) (fun g2 => ?_)
  refine ev_jm 0 (t := (219, [some (.ref 33), some (.int u1), none, none, none, some (.int u5)], [], (v0 L, g2))) rfl ?_
  exact hk219 (g2, u1, u5) none none none _
noncomputable def fj_265_270 (k219 : (am_G × Int32 × Int32) → Option ((Unit ⊕ Nat) × am_G)) (g : am_G) (u1 : Int32) : Option ((Unit ⊕ Nat) × am_G) := if u1 = 0 then fj_265_288 k219 g u1 1 else lo_p (fm_176 g ) fun y1 => lo_p (fm_268 g y1) fun g4 => fj_265_288 k219 g4 u1 1
theorem dj_265_270 (L : Nat) {k219 : (am_G × Int32 × Int32) → Option ((Unit ⊕ Nat) × am_G)} (hk219 : ∀ (x : am_G × Int32 × Int32) (w2 w3 w4 : Option Value) (R : (Unit ⊕ Nat) × am_G), k219 x = some R → ai_ev ap_P 265 (219, [some (.ref 33), some (.int x.2.1), w2, w3, w4, some (.int x.2.2)], [], (v0 L, x.1)) (oz_r ez_v R.1) (v0 L, R.2)) (g : am_G) (u1 : Int32) (w2 w3 w4 w5 : Option Value) (R : (Unit ⊕ Nat) × am_G) : fj_265_270 k219 g u1 = some R → ai_ev ap_P 265 (270, [some (.ref 33), some (.int u1), w2, w3, w4, w5], [], (v0 L, g)) (oz_r ez_v R.1) (v0 L, R.2) := by
  unfold fj_265_270
  refine ev_if 3 (p := u1 = 0) (a := 288) (b := 277) (T := ([some (.ref 33), some (.int u1), none, none, none, some (.int 1)], [], (v0 L, g))) rfl ?_ ?_
  · exact dj_265_288 L hk219 g u1 1 none none none _
  · refine ev_op 3 (as := [.ref 39]) (pc := 285) (Lc := [some (.ref 33), some (.int u1), none, none, none, some (.int 1)]) (st := [.ref 33]) (h1 := (v0 L, g)) (e := ez_i) rfl (dm_176 L g ) (fun y1 => ?_)
    refine ev_ov0 0 (as := [.ref 33, .int y1]) (pc := 288) (Lc := [some (.ref 33), some (.int u1), none, none, none, some (.int 1)]) (st := []) (V := v0 L) (g1 := g) rfl (dm_268 L g y1) (fun g4 => ?_)
    exact dj_265_288 L hk219 g4 u1 1 none none none _
noncomputable def fj_265_252 (k219 : (am_G × Int32 × Int32) → Option ((Unit ⊕ Nat) × am_G)) (g : am_G) (u1 : Int32) (u5 : Int32) (t1 : Int32) : Option ((Unit ⊕ Nat) × am_G) := lo_t (fm_238 g t1) fun y1 g2 => if u1 = 0 then fj_265_270 k219 g2 u1 else if u5 = 0 then lo_p (fm_268 g2 32) fun g4 => fj_265_270 k219 g4 u1 else fj_265_270 k219 g2 u1
theorem dj_265_252 (L : Nat) {k219 : (am_G × Int32 × Int32) → Option ((Unit ⊕ Nat) × am_G)} (hk219 : ∀ (x : am_G × Int32 × Int32) (w2 w3 w4 : Option Value) (R : (Unit ⊕ Nat) × am_G), k219 x = some R → ai_ev ap_P 265 (219, [some (.ref 33), some (.int x.2.1), w2, w3, w4, some (.int x.2.2)], [], (v0 L, x.1)) (oz_r ez_v R.1) (v0 L, R.2)) (g : am_G) (u1 : Int32) (u5 : Int32) (t1 : Int32) (w2 w3 w4 : Option Value) (R : (Unit ⊕ Nat) × am_G) : fj_265_252 k219 g u1 u5 t1 = some R → ai_ev ap_P 265 (252, [some (.ref 33), some (.int u1), w2, w3, w4, some (.int u5)], [.int t1, .ref 33], (v0 L, g)) (oz_r ez_v R.1) (v0 L, R.2) := by
  unfold fj_265_252
  refine ev_ot 0 (as := [.ref 33, .int t1]) (pc := 255) (Lc := [some (.ref 33), some (.int u1), none, none, none, some (.int u5)]) (st := []) (V := v0 L) (g1 := g) (e := ez_v) rfl (dm_238 L g t1) (fun _ => rfl) (fun y1 g2 => ?_)
  refine ev_if 1 (p := u1 = 0) (a := 270) (b := 259) (T := ([some (.ref 33), some (.int u1), none, none, none, some (.int u5)], [], (v0 L, g2))) rfl ?_ ?_
  · exact dj_265_270 L hk219 g2 u1 none none none (some (.int u5)) _
  · refine ev_in 1 (p := u5 = 0) (a := 270) (b := 264) (T := ([some (.ref 33), some (.int u1), none, none, none, some (.int u5)], [], (v0 L, g2))) rfl ?_ ?_
    · refine ev_ov0 2 (as := [.ref 33, .int 32]) (pc := 270) (Lc := [some (.ref 33), some (.int u1), none, none, none, some (.int u5)]) (st := []) (V := v0 L) (g1 := g2) rfl (dm_268 L g2 32) (fun g4 => ?_)
      exact dj_265_270 L hk219 g4 u1 none none none (some (.int u5)) _
    · exact dj_265_270 L hk219 g2 u1 none none none (some (.int u5)) _
noncomputable def fj_265_235 (k219 : (am_G × Int32 × Int32) → Option ((Unit ⊕ Nat) × am_G)) (g : am_G) (u1 : Int32) (u5 : Int32) : Option ((Unit ⊕ Nat) × am_G) := lo_p (fm_176 g ) fun y1 => if y1 = (-1) then fj_265_252 k219 g u1 u5 0 else fj_265_252 k219 g u1 u5 1
theorem dj_265_235 (L : Nat) {k219 : (am_G × Int32 × Int32) → Option ((Unit ⊕ Nat) × am_G)} (hk219 : ∀ (x : am_G × Int32 × Int32) (w2 w3 w4 : Option Value) (R : (Unit ⊕ Nat) × am_G), k219 x = some R → ai_ev ap_P 265 (219, [some (.ref 33), some (.int x.2.1), w2, w3, w4, some (.int x.2.2)], [], (v0 L, x.1)) (oz_r ez_v R.1) (v0 L, R.2)) (g : am_G) (u1 : Int32) (u5 : Int32) (w2 w3 w4 : Option Value) (R : (Unit ⊕ Nat) × am_G) : fj_265_235 k219 g u1 u5 = some R → ai_ev ap_P 265 (235, [some (.ref 33), some (.int u1), w2, w3, w4, some (.int u5)], [], (v0 L, g)) (oz_r ez_v R.1) (v0 L, R.2) := by
  unfold fj_265_235
  refine ev_op 3 (as := [.ref 39]) (pc := 243) (Lc := [some (.ref 33), some (.int u1), none, none, none, some (.int u5)]) (st := [.ref 33]) (h1 := (v0 L, g)) (e := ez_i) rfl (dm_176 L g ) (fun y1 => ?_)
  refine ev_if 1 (p := y1 = (-1)) (a := 251) (b := 247) (T := ([some (.ref 33), some (.int u1), none, none, none, some (.int u5)], [.ref 33], (v0 L, g))) rfl ?_ ?_
  · refine ev_jm 0 (t := (252, [some (.ref 33), some (.int u1), none, none, none, some (.int u5)], [.int 0, .ref 33], (v0 L, g))) rfl ?_
    exact dj_265_252 L hk219 g u1 u5 0 none none none _
  · refine ev_jm 1 (t := (252, [some (.ref 33), some (.int u1), none, none, none, some (.int u5)], [.int 1, .ref 33], (v0 L, g))) rfl ?_
    exact dj_265_252 L hk219 g u1 u5 1 none none none _
noncomputable def fb_265_219 (k219 : (am_G × Int32 × Int32) → Option ((Unit ⊕ Nat) × am_G)) (g : am_G) (u1 : Int32) (u5 : Int32) : Option ((Unit ⊕ Nat) × am_G) := lo_p (fm_240 g 63) fun y1 => if y1 = 0 then fj_265_235 k219 g u1 u5 else lo_i (fm_266 g ) fun y3 g4 => if y3 = 0 then fj_265_235 k219 g4 u1 u5 else lo_p (fm_177 g4 ) fun g6 => lo_p (fm_177 g6 ) fun g8 => if u1 = 0 then some (.inl (), g8) else lo_p (fm_193 g8 ) fun g10 => some (.inl (), g10)
theorem db_265_219 (L : Nat) {k219 : (am_G × Int32 × Int32) → Option ((Unit ⊕ Nat) × am_G)} (hk219 : ∀ (x : am_G × Int32 × Int32) (w2 w3 w4 : Option Value) (R : (Unit ⊕ Nat) × am_G), k219 x = some R → ai_ev ap_P 265 (219, [some (.ref 33), some (.int x.2.1), w2, w3, w4, some (.int x.2.2)], [], (v0 L, x.1)) (oz_r ez_v R.1) (v0 L, R.2)) (g : am_G) (u1 : Int32) (u5 : Int32) (w2 w3 w4 : Option Value) (R : (Unit ⊕ Nat) × am_G) : fb_265_219 k219 g u1 u5 = some R → ai_ev ap_P 265 (219, [some (.ref 33), some (.int u1), w2, w3, w4, some (.int u5)], [], (v0 L, g)) (oz_r ez_v R.1) (v0 L, R.2) := by
  unfold fb_265_219
  refine ev_op 2 (as := [.ref 33, .int 63]) (pc := 225) (Lc := [some (.ref 33), some (.int u1), none, none, none, some (.int u5)]) (st := []) (h1 := (v0 L, g)) (e := ez_i) rfl (dm_240 L g 63) (fun y1 => ?_)
  refine ev_if 0 (p := y1 = 0) (a := 235) (b := 228) (T := ([some (.ref 33), some (.int u1), none, none, none, some (.int u5)], [], (v0 L, g))) rfl ?_ ?_
  · exact dj_265_235 L hk219 g u1 u5 none none none _
  · refine ev_oi 1 (as := [.ref 33]) (pc := 232) (Lc := [some (.ref 33), some (.int u1), none, none, none, some (.int u5)]) (st := []) (V := v0 L) (g1 := g) (e := ez_i) rfl (dm_266 L g ) (fun y3 g4 => ?_)
    refine ev_in 0 (p := y3 = 0) (a := 298) (b := 235) (T := ([some (.ref 33), some (.int u1), none, none, none, some (.int u5)], [], (v0 L, g4))) rfl ?_ ?_
    · exact dj_265_235 L hk219 g4 u1 u5 none none none _
    · refine ev_ov0 2 (as := [.ref 39]) (pc := 305) (Lc := [some (.ref 33), some (.int u1), none, none, none, some (.int u5)]) (st := []) (V := v0 L) (g1 := g4) rfl (dm_177 L g4 ) (fun g6 => ?_)
      refine ev_ov0 2 (as := [.ref 39]) (pc := 312) (Lc := [some (.ref 33), some (.int u1), none, none, none, some (.int u5)]) (st := []) (V := v0 L) (g1 := g6) rfl (dm_177 L g6 ) (fun g8 => ?_)
      refine ev_if 1 (p := u1 = 0) (a := 323) (b := 316) (T := ([some (.ref 33), some (.int u1), none, none, none, some (.int u5)], [], (v0 L, g8))) rfl ?_ ?_
      · exact fun hR => by cases hR; exact ev_rt 0 rfl
      · refine ev_ov0 2 (as := [.ref 872]) (pc := 323) (Lc := [some (.ref 33), some (.int u1), none, none, none, some (.int u5)]) (st := []) (V := v0 L) (g1 := g8) rfl (dm_193 L g8 ) (fun g10 => ?_)
        exact fun hR => by cases hR; exact ev_rt 0 rfl
noncomputable def fh_265_219  (x : am_G × Int32 × Int32) : Option ((Unit ⊕ Nat) × am_G) := lo_it (fun k x => fb_265_219 k x.1 x.2.1 x.2.2) nf_F x
theorem dh_265_219 (L : Nat)   (x : am_G × Int32 × Int32) (w2 w3 w4 : Option Value) (R : (Unit ⊕ Nat) × am_G) : fh_265_219  x = some R → ai_ev ap_P 265 (219, [some (.ref 33), some (.int x.2.1), w2, w3, w4, some (.int x.2.2)], [], (v0 L, x.1)) (oz_r ez_v R.1) (v0 L, R.2) :=
  fun hr => lo_ev (E := fun x R => ∀ (w2 w3 w4 : Option Value), ai_ev ap_P 265 (219, [some (.ref 33), some (.int x.2.1), w2, w3, w4, some (.int x.2.2)], [], (v0 L, x.1)) (oz_r ez_v R.1) (v0 L, R.2)) (fun k hk x R hr => fun w2 w3 w4 => db_265_219 L (fun x w2 w3 w4 R hr => hk x R hr w2 w3 w4) x.1 x.2.1 x.2.2 w2 w3 w4 R hr) nf_F x R hr w2 w3 w4
noncomputable def fj_265_184  (g : am_G) (u1 : Int32) : Option ((Unit ⊕ Nat) × am_G) := lo_i (fm_242 g ) fun y1 g2 => if y1 = 0 then lo_p (fm_177 g2 ) fun g4 => lo_t (fm_244 g4 62) fun y5 g6 => if u1 = 0 then some (.inl (), g6) else lo_p (fm_193 g6 ) fun g8 => some (.inl (), g8) else fh_265_219 (g2, u1, 0)
theorem dj_265_184 (L : Nat)   (g : am_G) (u1 : Int32) (w2 w3 w4 w5 : Option Value) (R : (Unit ⊕ Nat) × am_G) : fj_265_184  g u1 = some R → ai_ev ap_P 265 (184, [some (.ref 33), some (.int u1), w2, w3, w4, w5], [], (v0 L, g)) (oz_r ez_v R.1) (v0 L, R.2) := by
  unfold fj_265_184
  refine ev_oi 1 (as := [.ref 33]) (pc := 188) (Lc := [some (.ref 33), some (.int u1), none, none, none, none]) (st := []) (V := v0 L) (g1 := g) (e := ez_i) rfl (dm_242 L g ) (fun y1 g2 => ?_)
  refine ev_in 0 (p := y1 = 0) (a := 216) (b := 191) (T := ([some (.ref 33), some (.int u1), none, none, none, none], [], (v0 L, g2))) rfl ?_ ?_
  · refine ev_ov0 2 (as := [.ref 39]) (pc := 198) (Lc := [some (.ref 33), some (.int u1), none, none, none, none]) (st := []) (V := v0 L) (g1 := g2) rfl (dm_177 L g2 ) (fun g4 => ?_)
    refine ev_ot 2 (as := [.ref 33, .int 62]) (pc := 204) (Lc := [some (.ref 33), some (.int u1), none, none, none, none]) (st := []) (V := v0 L) (g1 := g4) (e := ez_v) rfl (dm_244 L g4 62) (fun _ => rfl) (fun y5 g6 => ?_)
    refine ev_if 1 (p := u1 = 0) (a := 215) (b := 208) (T := ([some (.ref 33), some (.int u1), none, none, none, none], [], (v0 L, g6))) rfl ?_ ?_
    · exact fun hR => by cases hR; exact ev_rt 0 rfl
    · refine ev_ov0 2 (as := [.ref 872]) (pc := 215) (Lc := [some (.ref 33), some (.int u1), none, none, none, none]) (st := []) (V := v0 L) (g1 := g6) rfl (dm_193 L g6 ) (fun g8 => ?_)
      exact fun hR => by cases hR; exact ev_rt 0 rfl
  · refine ev_jm 1 (t := (219, [some (.ref 33), some (.int u1), none, none, none, some (.int 0)], [], (v0 L, g2))) rfl ?_
    exact dh_265_219 L (g2, u1, 0) none none none _
noncomputable def fj_265_168  (g : am_G) (u1 : Int32) (u4 : Int32) (t1 : Int32) : Option ((Unit ⊕ Nat) × am_G) := lo_t (fm_238 g t1) fun y1 g2 => if u1 = 0 then fj_265_184 g2 u1 else lo_p (fm_267 g2 14 u4) fun g4 => fj_265_184 g4 u1
theorem dj_265_168 (L : Nat)   (g : am_G) (u1 : Int32) (u4 : Int32) (t1 : Int32) (w2 w3 w5 : Option Value) (R : (Unit ⊕ Nat) × am_G) : fj_265_168  g u1 u4 t1 = some R → ai_ev ap_P 265 (168, [some (.ref 33), some (.int u1), w2, w3, some (.int u4), w5], [.int t1, .ref 33], (v0 L, g)) (oz_r ez_v R.1) (v0 L, R.2) := by
  unfold fj_265_168
  refine ev_ot 0 (as := [.ref 33, .int t1]) (pc := 171) (Lc := [some (.ref 33), some (.int u1), none, none, some (.int u4), none]) (st := []) (V := v0 L) (g1 := g) (e := ez_v) rfl (dm_238 L g t1) (fun _ => rfl) (fun y1 g2 => ?_)
  refine ev_if 1 (p := u1 = 0) (a := 184) (b := 175) (T := ([some (.ref 33), some (.int u1), none, none, some (.int u4), none], [], (v0 L, g2))) rfl ?_ ?_
  · exact dj_265_184 L g2 u1 none none (some (.int u4)) none _
  · refine ev_ov0 3 (as := [.ref 33, .ref 14, .int u4]) (pc := 184) (Lc := [some (.ref 33), some (.int u1), none, none, some (.int u4), none]) (st := []) (V := v0 L) (g1 := g2) rfl (dm_267 L g2 14 u4) (fun g4 => ?_)
    exact dj_265_184 L g4 u1 none none (some (.int u4)) none _
noncomputable def fj_265_163  (g : am_G) (u1 : Int32) (u4 : Int32) : Option ((Unit ⊕ Nat) × am_G) := fj_265_168 g u1 u4 1
theorem dj_265_163 (L : Nat)   (g : am_G) (u1 : Int32) (u4 : Int32) (w2 w3 w5 : Option Value) (R : (Unit ⊕ Nat) × am_G) : fj_265_163  g u1 u4 = some R → ai_ev ap_P 265 (163, [some (.ref 33), some (.int u1), w2, w3, some (.int u4), w5], [.ref 33], (v0 L, g)) (oz_r ez_v R.1) (v0 L, R.2) := by
  unfold fj_265_163
  refine ev_jm 1 (t := (168, [some (.ref 33), some (.int u1), none, none, some (.int u4), none], [.int 1, .ref 33], (v0 L, g))) rfl ?_
  exact dj_265_168 L g u1 u4 1 none none none _
noncomputable def fj_265_107  (g : am_G) (u1 : Int32) (u2 : Int32) (t0 : Int32) : Option ((Unit ⊕ Nat) × am_G) := if t0 = 0 then lo_p (fm_230 g ) fun y1 => if y1 = 0 then lo_i (fm_234 g ) fun y3 g4 => lo_p (fm_240 g4 63) fun y5 => if y5 = 0 then lo_p (fm_241 g4 ) fun y7 => if y7 = 0 then fj_265_168 g4 u1 y3 0 else fj_265_163 g4 u1 y3 else fj_265_163 g4 u1 y3 else lo_i (fm_237 g 1 u2) fun y9 g10 => lo_g (Nat.ble 1008 y9 && Nat.blt y9 (am_sz g10)) (some (.inr y9, g10)) else lo_i (fm_236 g 11 u2) fun y11 g12 => lo_g (Nat.ble 1008 y11 && Nat.blt y11 (am_sz g12)) (some (.inr y11, g12))
theorem dj_265_107 (L : Nat)   (g : am_G) (u1 : Int32) (u2 : Int32) (t0 : Int32) (w3 w4 w5 : Option Value) (R : (Unit ⊕ Nat) × am_G) : fj_265_107  g u1 u2 t0 = some R → ai_ev ap_P 265 (107, [some (.ref 33), some (.int u1), some (.int u2), w3, w4, w5], [.int t0], (v0 L, g)) (oz_r ez_v R.1) (v0 L, R.2) := by
  unfold fj_265_107
  refine ev_if 2 (p := t0 = 0) (a := 120) (b := 112) (T := ([some (.ref 33), some (.int u1), some (.int u2), some (.int t0), none, none], [], (v0 L, g))) rfl ?_ ?_
  · refine ev_op 2 (as := [.ref 43]) (pc := 127) (Lc := [some (.ref 33), some (.int u1), some (.int u2), some (.int t0), none, none]) (st := []) (h1 := (v0 L, g)) (e := ez_i) rfl (dm_230 L g ) (fun y1 => ?_)
    refine ev_if 0 (p := y1 = 0) (a := 137) (b := 130) (T := ([some (.ref 33), some (.int u1), some (.int u2), some (.int t0), none, none], [], (v0 L, g))) rfl ?_ ?_
    · refine ev_oi 2 (as := [.ref 43]) (pc := 144) (Lc := [some (.ref 33), some (.int u1), some (.int u2), some (.int t0), none, none]) (st := []) (V := v0 L) (g1 := g) (e := ez_i) rfl (dm_234 L g ) (fun y3 g4 => ?_)
      refine ev_op 4 (as := [.ref 33, .int 63]) (pc := 153) (Lc := [some (.ref 33), some (.int u1), some (.int u2), some (.int t0), some (.int y3), none]) (st := [.ref 33]) (h1 := (v0 L, g4)) (e := ez_i) rfl (dm_240 L g4 63) (fun y5 => ?_)
      refine ev_in 0 (p := y5 = 0) (a := 163) (b := 156) (T := ([some (.ref 33), some (.int u1), some (.int u2), some (.int t0), some (.int y3), none], [.ref 33], (v0 L, g4))) rfl ?_ ?_
      · refine ev_op 1 (as := [.ref 33]) (pc := 160) (Lc := [some (.ref 33), some (.int u1), some (.int u2), some (.int t0), some (.int y3), none]) (st := [.ref 33]) (h1 := (v0 L, g4)) (e := ez_i) rfl (dm_241 L g4 ) (fun y7 => ?_)
        refine ev_if 0 (p := y7 = 0) (a := 167) (b := 163) (T := ([some (.ref 33), some (.int u1), some (.int u2), some (.int t0), some (.int y3), none], [.ref 33], (v0 L, g4))) rfl ?_ ?_
        · refine ev_jm 0 (t := (168, [some (.ref 33), some (.int u1), some (.int u2), some (.int t0), some (.int y3), none], [.int 0, .ref 33], (v0 L, g4))) rfl ?_
          exact dj_265_168 L g4 u1 y3 0 (some (.int u2)) (some (.int t0)) none _
        · exact dj_265_163 L g4 u1 y3 (some (.int u2)) (some (.int t0)) none _
      · exact dj_265_163 L g4 u1 y3 (some (.int u2)) (some (.int t0)) none _
    · refine ev_oi 3 (as := [.ref 33, .int 1, .int u2]) (pc := 136) (Lc := [some (.ref 33), some (.int u1), some (.int u2), some (.int t0), none, none]) (st := []) (V := v0 L) (g1 := g) (e := ez_a) rfl (dm_237 L g 1 u2) (fun y9 g10 => ?_)
      exact ev_at 0 (a := y9) (g1 := g10) rfl
  · refine ev_oi 3 (as := [.ref 33, .int 11, .int u2]) (pc := 119) (Lc := [some (.ref 33), some (.int u1), some (.int u2), some (.int t0), none, none]) (st := []) (V := v0 L) (g1 := g) (e := ez_a) rfl (dm_236 L g 11 u2) (fun y11 g12 => ?_)
    exact ev_at 0 (a := y11) (g1 := g12) rfl
noncomputable def fj_265_106  (g : am_G) (u1 : Int32) (u2 : Int32) : Option ((Unit ⊕ Nat) × am_G) := fj_265_107 g u1 u2 0
theorem dj_265_106 (L : Nat)   (g : am_G) (u1 : Int32) (u2 : Int32) (w3 w4 w5 : Option Value) (R : (Unit ⊕ Nat) × am_G) : fj_265_106  g u1 u2 = some R → ai_ev ap_P 265 (106, [some (.ref 33), some (.int u1), some (.int u2), w3, w4, w5], [], (v0 L, g)) (oz_r ez_v R.1) (v0 L, R.2) := by
  unfold fj_265_106
  refine ev_jm 0 (t := (107, [some (.ref 33), some (.int u1), some (.int u2), none, none, none], [.int 0], (v0 L, g))) rfl ?_
  exact dj_265_107 L g u1 u2 0 none none none _
/-- DeclaredMarkup$Processor.instruction(Z)V -/
noncomputable def fm_265 (g : am_G) (u1 : Int32) : Option ((Unit ⊕ Nat) × am_G) := lo_t (fm_244 g 63) fun y1 g2 => lo_p (fm_178 g2 ) fun y3 => lo_t (fm_248 g2 ) fun y5 g6 => if (am_i g6 43 7) = 3 then lo_g (ai_in (am_i g6 43 6) 14600) (lo_p (fm_261 g6 (am_i g6 44 ((am_i g6 43 6)).toNatClampNeg)) fun y8 => if y8 = 120 then lo_g (ai_in ((am_i g6 43 6) + 1) 14600) (lo_p (fm_261 g6 (am_i g6 44 (((am_i g6 43 6) + 1)).toNatClampNeg)) fun y11 => if y11 = 109 then lo_g (ai_in ((am_i g6 43 6) + 2) 14600) (lo_p (fm_261 g6 (am_i g6 44 (((am_i g6 43 6) + 2)).toNatClampNeg)) fun y14 => if y14 = 108 then fj_265_107 g6 u1 y3 1 else fj_265_106 g6 u1 y3) else fj_265_106 g6 u1 y3) else fj_265_106 g6 u1 y3) else fj_265_106 g6 u1 y3
theorem dm_265 (L : Nat) (g : am_G) (u1 : Int32) (R : (Unit ⊕ Nat) × am_G) : fm_265 g u1 = some R → ai_ev ap_P 265 (ai_e0 ap_P 265 [.ref 33, .int u1] (v0 L, g)) (oz_r ez_v R.1) (v0 L, R.2) := by
  show _ → ai_ev ap_P 265 (0, [some (.ref 33), some (.int u1), none, none, none, none], [], (v0 L, g)) _ _
  unfold fm_265
  refine ev_ot 2 (as := [.ref 33, .int 63]) (pc := 6) (Lc := [some (.ref 33), some (.int u1), none, none, none, none]) (st := []) (V := v0 L) (g1 := g) (e := ez_v) rfl (dm_244 L g 63) (fun _ => rfl) (fun y1 g2 => ?_)
  refine ev_op 2 (as := [.ref 39]) (pc := 13) (Lc := [some (.ref 33), some (.int u1), none, none, none, none]) (st := []) (h1 := (v0 L, g2)) (e := ez_i) rfl (dm_178 L g2 ) (fun y3 => ?_)
  refine ev_ot 2 (as := [.ref 33]) (pc := 18) (Lc := [some (.ref 33), some (.int u1), some (.int y3), none, none, none]) (st := []) (V := v0 L) (g1 := g2) (e := ez_v) rfl (dm_248 L g2 ) (fun _ => rfl) (fun y5 g6 => ?_)
  refine ev_in 4 (p := (am_i g6 43 7) = 3) (a := 106) (b := 29) (T := ([some (.ref 33), some (.int u1), some (.int y3), none, none, none], [], (v0 L, g6))) rfl ?_ ?_
  · refine ev_gd (c := ai_in (am_i g6 43 6) 14600) (fun hc7 => ?_)
    refine ev_jm 6 (t := (44, [some (.ref 33), some (.int u1), some (.int y3), none, none, none], [.int (am_i g6 44 ((am_i g6 43 6)).toNatClampNeg)], (v0 L, g6))) (ai_gd (c := ai_in (am_i g6 43 6) 14600) rfl hc7) ?_
    refine ev_op 0 (as := [.int (am_i g6 44 ((am_i g6 43 6)).toNatClampNeg)]) (pc := 47) (Lc := [some (.ref 33), some (.int u1), some (.int y3), none, none, none]) (st := []) (h1 := (v0 L, g6)) (e := ez_i) rfl (dm_261 L g6 (am_i g6 44 ((am_i g6 43 6)).toNatClampNeg)) (fun y8 => ?_)
    refine ev_in 1 (p := y8 = 120) (a := 106) (b := 52) (T := ([some (.ref 33), some (.int u1), some (.int y3), none, none, none], [], (v0 L, g6))) rfl ?_ ?_
    · refine ev_gd (c := ai_in ((am_i g6 43 6) + 1) 14600) (fun hc10 => ?_)
      refine ev_jm 8 (t := (69, [some (.ref 33), some (.int u1), some (.int y3), none, none, none], [.int (am_i g6 44 (((am_i g6 43 6) + 1)).toNatClampNeg)], (v0 L, g6))) (ai_gd (c := ai_in ((am_i g6 43 6) + 1) 14600) rfl hc10) ?_
      refine ev_op 0 (as := [.int (am_i g6 44 (((am_i g6 43 6) + 1)).toNatClampNeg)]) (pc := 72) (Lc := [some (.ref 33), some (.int u1), some (.int y3), none, none, none]) (st := []) (h1 := (v0 L, g6)) (e := ez_i) rfl (dm_261 L g6 (am_i g6 44 (((am_i g6 43 6) + 1)).toNatClampNeg)) (fun y11 => ?_)
      refine ev_in 1 (p := y11 = 109) (a := 106) (b := 77) (T := ([some (.ref 33), some (.int u1), some (.int y3), none, none, none], [], (v0 L, g6))) rfl ?_ ?_
      · refine ev_gd (c := ai_in ((am_i g6 43 6) + 2) 14600) (fun hc13 => ?_)
        refine ev_jm 8 (t := (94, [some (.ref 33), some (.int u1), some (.int y3), none, none, none], [.int (am_i g6 44 (((am_i g6 43 6) + 2)).toNatClampNeg)], (v0 L, g6))) (ai_gd (c := ai_in ((am_i g6 43 6) + 2) 14600) rfl hc13) ?_
        refine ev_op 0 (as := [.int (am_i g6 44 (((am_i g6 43 6) + 2)).toNatClampNeg)]) (pc := 97) (Lc := [some (.ref 33), some (.int u1), some (.int y3), none, none, none]) (st := []) (h1 := (v0 L, g6)) (e := ez_i) rfl (dm_261 L g6 (am_i g6 44 (((am_i g6 43 6) + 2)).toNatClampNeg)) (fun y14 => ?_)
        refine ev_in 1 (p := y14 = 108) (a := 106) (b := 102) (T := ([some (.ref 33), some (.int u1), some (.int y3), none, none, none], [], (v0 L, g6))) rfl ?_ ?_
        · refine ev_jm 1 (t := (107, [some (.ref 33), some (.int u1), some (.int y3), none, none, none], [.int 1], (v0 L, g6))) rfl ?_
          exact dj_265_107 L g6 u1 y3 1 none none none _
        · exact dj_265_106 L g6 u1 y3 none none none _
      · exact dj_265_106 L g6 u1 y3 none none none _
    · exact dj_265_106 L g6 u1 y3 none none none _
  · exact dj_265_106 L g6 u1 y3 none none none _
/-- DeclaredMarkup$Processor.name()I -/
noncomputable def fm_247 (g : am_G)  : Option ((Int32 ⊕ Nat) × am_G) := lo_p (fm_178 g ) fun y1 => lo_t (fm_248 g ) fun y3 g4 => lo_p (fm_230 g4 ) fun y5 => if y5 = 0 then lo_i (fm_234 g4 ) fun y7 g8 => some (.inl y7, g8) else lo_i (fm_237 g4 1 y1) fun y9 g10 => lo_g (Nat.ble 1008 y9 && Nat.blt y9 (am_sz g10)) (some (.inr y9, g10))
theorem dm_247 (L : Nat) (g : am_G)  (R : (Int32 ⊕ Nat) × am_G) : fm_247 g  = some R → ai_ev ap_P 247 (ai_e0 ap_P 247 [.ref 33] (v0 L, g)) (oz_r ez_i R.1) (v0 L, R.2) := by
  show _ → ai_ev ap_P 247 (0, [some (.ref 33), none], [], (v0 L, g)) _ _
  unfold fm_247
  refine ev_op 2 (as := [.ref 39]) (pc := 7) (Lc := [some (.ref 33), none]) (st := []) (h1 := (v0 L, g)) (e := ez_i) rfl (dm_178 L g ) (fun y1 => ?_)
  refine ev_ot 2 (as := [.ref 33]) (pc := 12) (Lc := [some (.ref 33), some (.int y1)]) (st := []) (V := v0 L) (g1 := g) (e := ez_v) rfl (dm_248 L g ) (fun _ => rfl) (fun y3 g4 => ?_)
  refine ev_op 2 (as := [.ref 43]) (pc := 19) (Lc := [some (.ref 33), some (.int y1)]) (st := []) (h1 := (v0 L, g4)) (e := ez_i) rfl (dm_230 L g4 ) (fun y5 => ?_)
  refine ev_if 0 (p := y5 = 0) (a := 29) (b := 22) (T := ([some (.ref 33), some (.int y1)], [], (v0 L, g4))) rfl ?_ ?_
  · refine ev_oi 2 (as := [.ref 43]) (pc := 36) (Lc := [some (.ref 33), some (.int y1)]) (st := []) (V := v0 L) (g1 := g4) (e := ez_i) rfl (dm_234 L g4 ) (fun y7 g8 => ?_)
    exact fun hR => by cases hR; exact ev_rt 0 rfl
  · refine ev_oi 3 (as := [.ref 33, .int 1, .int y1]) (pc := 28) (Lc := [some (.ref 33), some (.int y1)]) (st := []) (V := v0 L) (g1 := g4) (e := ez_a) rfl (dm_237 L g4 1 y1) (fun y9 g10 => ?_)
    exact ev_at 0 (a := y9) (g1 := g10) rfl
noncomputable def fb_163_2 (g : am_G) (k2 : (Int32 × Int32) → Option (Int32)) (u1 : Int32) (u2 : Int32) : Option (Int32) := if (am_i g 49 5) ≤ u2 then some (-1) else lo_g (ai_in u2 40) (lo_g (Nat.beq (v0_kd (55 + 18 * u2.toNatClampNeg)) 8) (if (am_i g (55 + 18 * u2.toNatClampNeg) 0) = u1 then some u2 else k2 (u1, (u2 + 1))))
theorem db_163_2 (L : Nat) (g : am_G) {k2 : (Int32 × Int32) → Option (Int32)} (hk2 : ∀ (x : Int32 × Int32) (R : Int32), k2 x = some R → ai_ev ap_P 163 (2, [some (.ref 49), some (.int x.1), some (.int x.2)], [], (v0 L, g)) (.inl (ez_i R)) (v0 L, g)) (u1 : Int32) (u2 : Int32) (R : Int32) : fb_163_2 g k2 u1 u2 = some R → ai_ev ap_P 163 (2, [some (.ref 49), some (.int u1), some (.int u2)], [], (v0 L, g)) (.inl (ez_i R)) (v0 L, g) := by
  unfold fb_163_2
  refine ev_if 3 (p := (am_i g 49 5) ≤ u2) (a := 31) (b := 10) (T := ([some (.ref 49), some (.int u1), some (.int u2)], [], (v0 L, g))) rfl ?_ ?_
  · exact fun hR => by cases hR; exact ev_rt 1 rfl
  · refine ev_gd (c := ai_in u2 40) (fun hc1 => ?_)
    refine ev_fr (S := fun (o : Option Nat) => (16, [some (.ref 49), some (.int u1), some (.int u2)], [am_v o], (v0 L, g))) 3 (e := v0_fr 50 u2.toNatClampNeg) (q := (55 + 18 * u2.toNatClampNeg)) (ai_gd (c := ai_in u2 40) rfl hc1) (fr_50 hc1) ?_
    refine ev_gd (c := Nat.beq (v0_kd (55 + 18 * u2.toNatClampNeg)) 8) (fun hc2 => ?_)
    refine ev_jm 0 (t := (19, [some (.ref 49), some (.int u1), some (.int u2)], [.int (am_i g (55 + 18 * u2.toNatClampNeg) 0)], (v0 L, g))) (ai_gd (c := Nat.beq (v0_kd (55 + 18 * u2.toNatClampNeg)) 8) rfl hc2) ?_
    refine ev_in 1 (p := (am_i g (55 + 18 * u2.toNatClampNeg) 0) = u1) (a := 25) (b := 23) (T := ([some (.ref 49), some (.int u1), some (.int u2)], [], (v0 L, g))) rfl ?_ ?_
    · exact fun hR => by cases hR; exact ev_rt 1 rfl
    · refine ev_jm 1 (t := (2, [some (.ref 49), some (.int u1), some (.int (u2 + 1))], [], (v0 L, g))) rfl ?_
      exact hk2 (u1, (u2 + 1)) _
noncomputable def fh_163_2 (g : am_G)  (x : Int32 × Int32) : Option (Int32) := lo_it (fun k x => fb_163_2 g k x.1 x.2) nf_F x
theorem dh_163_2 (L : Nat) (g : am_G)   (x : Int32 × Int32) (R : Int32) : fh_163_2 g  x = some R → ai_ev ap_P 163 (2, [some (.ref 49), some (.int x.1), some (.int x.2)], [], (v0 L, g)) (.inl (ez_i R)) (v0 L, g) :=
  fun hr => lo_ev (E := fun x R => ai_ev ap_P 163 (2, [some (.ref 49), some (.int x.1), some (.int x.2)], [], (v0 L, g)) (.inl (ez_i R)) (v0 L, g)) (fun k hk x R hr => db_163_2 L g hk x.1 x.2  R hr) nf_F x R hr
/-- DeclaredMarkup$Declared.element(I)I -/
noncomputable def fm_163 (g : am_G) (u1 : Int32) : Option (Int32) := fh_163_2 g (u1, 0)
theorem dm_163 (L : Nat) (g : am_G) (u1 : Int32) (R : Int32) : fm_163 g u1 = some R → ai_ev ap_P 163 (ai_e0 ap_P 163 [.ref 49, .int u1] (v0 L, g)) (.inl (ez_i R)) (v0 L, g) := by
  show _ → ai_ev ap_P 163 (0, [some (.ref 49), some (.int u1), none], [], (v0 L, g)) _ _
  unfold fm_163
  refine ev_jm 1 (t := (2, [some (.ref 49), some (.int u1), some (.int 0)], [], (v0 L, g))) rfl ?_
  exact dh_163_2 L g (u1, 0) _
/-- DeclaredMarkup$Processor.breaks(I)V -/
noncomputable def fm_239 (g : am_G) (u1 : Int32) : Option (am_G) := some (am_si g 33 14 ((am_i g 33 14) ||| (1 <<< (u1 &&& 31))))
theorem dm_239 (L : Nat) (g : am_G) (u1 : Int32) (R : am_G) : fm_239 g u1 = some R → ai_ev ap_P 239 (ai_e0 ap_P 239 [.ref 33, .int u1] (v0 L, g)) (.inl none) (v0 L, R) := by
  show _ → ai_ev ap_P 239 (0, [some (.ref 33), some (.int u1)], [], (v0 L, g)) _ _
  unfold fm_239
  exact fun hR => by cases hR; exact ev_rt 8 rfl
/-- DeclaredMarkup$Processor.openDecl()LDeclaredMarkup$ElementDecl; -/
noncomputable def fm_279 (g : am_G)  : Option (Option Nat) := lo_g (ai_in ((am_i g 33 24) - 1) 40) (if (am_i g 876 (((am_i g 33 24) - 1)).toNatClampNeg) = (-1) then some none else lo_g (ai_in (am_i g 876 (((am_i g 33 24) - 1)).toNatClampNeg) 40) (some (some (55 + 18 * ((am_i g 876 (((am_i g 33 24) - 1)).toNatClampNeg)).toNatClampNeg))))
theorem dm_279 (L : Nat) (g : am_G)  (R : Option Nat) : fm_279 g  = some R → ai_ev ap_P 279 (ai_e0 ap_P 279 [.ref 33] (v0 L, g)) (.inl (ez_o R)) (v0 L, g) := by
  show _ → ai_ev ap_P 279 (0, [some (.ref 33)], [], (v0 L, g)) _ _
  unfold fm_279
  refine ev_gd (c := ai_in ((am_i g 33 24) - 1) 40) (fun hc1 => ?_)
  refine ev_jm 6 (t := (11, [some (.ref 33)], [.int (am_i g 876 (((am_i g 33 24) - 1)).toNatClampNeg)], (v0 L, g))) (ai_gd (c := ai_in ((am_i g 33 24) - 1) 40) rfl hc1) ?_
  refine ev_in 1 (p := (am_i g 876 (((am_i g 33 24) - 1)).toNatClampNeg) = (-1)) (a := 19) (b := 15) (T := ([some (.ref 33)], [], (v0 L, g))) rfl ?_ ?_
  · exact fun hR => by cases hR; exact ev_rt 2 rfl
  · refine ev_jm 9 (t := (37, [some (.ref 33)], [.int (am_i g 876 (((am_i g 33 24) - 1)).toNatClampNeg), .ref 50], (v0 L, g))) (ai_gd (c := ai_in ((am_i g 33 24) - 1) 40) rfl hc1) ?_
    refine ev_gd (c := ai_in (am_i g 876 (((am_i g 33 24) - 1)).toNatClampNeg) 40) (fun hc2 => ?_)
    refine ev_fr (S := fun (o : Option Nat) => (38, [some (.ref 33)], [am_v o], (v0 L, g))) 0 (e := v0_fr 50 ((am_i g 876 (((am_i g 33 24) - 1)).toNatClampNeg)).toNatClampNeg) (q := (55 + 18 * ((am_i g 876 (((am_i g 33 24) - 1)).toNatClampNeg)).toNatClampNeg)) (ai_gd (c := ai_in (am_i g 876 (((am_i g 33 24) - 1)).toNatClampNeg) 40) rfl hc2) (fr_50 hc2) ?_
    exact fun hR => by cases hR; exact ev_rt 0 rfl
noncomputable def fb_282_4 (g : am_G) (k4 : (Nat × Int32 × Int32 × Int32) → Option (Int32)) (u0 : Nat) (u1 : Int32) (u2 : Int32) (u3 : Int32) : Option (Int32) := lo_g (Nat.beq (v0_kd u0) 8) (lo_m (v0_fr u0 2) (none) fun o2 => lo_g (Nat.beq (v0_kd o2) 9) (if (am_i g o2 3) ≤ u3 then some (vp_nar .boolean u2) else if u2 = 0 then lo_m (v0_fr u0 2) (none) fun o4 => lo_g (Nat.beq (v0_kd o4) 9) (lo_m (v0_fr o4 0) (none) fun o6 => lo_g (vk_in o6 101 u3) (if (am_i g o6 u3.toNatClampNeg) = u1 then k4 (u0, u1, 1, (u3 + 1)) else k4 (u0, u1, 0, (u3 + 1)))) else k4 (u0, u1, 1, (u3 + 1))))
theorem db_282_4 (L : Nat) (g : am_G) {k4 : (Nat × Int32 × Int32 × Int32) → Option (Int32)} (hk4 : ∀ (x : Nat × Int32 × Int32 × Int32) (R : Int32), k4 x = some R → ai_ev ap_P 282 (4, [some (.ref x.1), some (.int x.2.1), some (.int x.2.2.1), some (.int x.2.2.2)], [], (v0 L, g)) (.inl (ez_i R)) (v0 L, g)) (u0 : Nat) (u1 : Int32) (u2 : Int32) (u3 : Int32) (R : Int32) : fb_282_4 g k4 u0 u1 u2 u3 = some R → ai_ev ap_P 282 (4, [some (.ref u0), some (.int u1), some (.int u2), some (.int u3)], [], (v0 L, g)) (.inl (ez_i R)) (v0 L, g) := by
  unfold fb_282_4
  refine ev_gd (c := Nat.beq (v0_kd u0) 8) (fun hc1 => ?_)
  refine ev_jm 2 (t := (9, [some (.ref u0), some (.int u1), some (.int u2), some (.int u3)], [am_v (v0_fr u0 2), .int u3], (v0 L, g))) (ai_gd (c := Nat.beq (v0_kd u0) 8) rfl hc1) ?_
  refine ev_om (S := fun (o : Option Nat) => (9, [some (.ref u0), some (.int u1), some (.int u2), some (.int u3)], [am_v o, .int u3], (v0 L, g))) ?_ (fun o2 => ?_)
  · exact fun hR => nomatch hR
  · refine ev_gd (c := Nat.beq (v0_kd o2) 9) (fun hc3 => ?_)
    refine ev_jm 0 (t := (12, [some (.ref u0), some (.int u1), some (.int u2), some (.int u3)], [.int (am_i g o2 3), .int u3], (v0 L, g))) (ai_gd (c := Nat.beq (v0_kd o2) 9) rfl hc3) ?_
    refine ev_if 0 (p := (am_i g o2 3) ≤ u3) (a := 44) (b := 15) (T := ([some (.ref u0), some (.int u1), some (.int u2), some (.int u3)], [], (v0 L, g))) rfl ?_ ?_
    · exact fun hR => by cases hR; exact ev_rt 1 rfl
    · refine ev_in 1 (p := u2 = 0) (a := 32) (b := 19) (T := ([some (.ref u0), some (.int u1), some (.int u2), some (.int u3)], [], (v0 L, g))) rfl ?_ ?_
      · refine ev_jm 1 (t := (23, [some (.ref u0), some (.int u1), some (.int u2), some (.int u3)], [am_v (v0_fr u0 2)], (v0 L, g))) (ai_gd (c := Nat.beq (v0_kd u0) 8) rfl hc1) ?_
        refine ev_om (S := fun (o : Option Nat) => (23, [some (.ref u0), some (.int u1), some (.int u2), some (.int u3)], [am_v o], (v0 L, g))) ?_ (fun o4 => ?_)
        · exact fun hR => nomatch hR
        · refine ev_gd (c := Nat.beq (v0_kd o4) 9) (fun hc5 => ?_)
          refine ev_jm 0 (t := (26, [some (.ref u0), some (.int u1), some (.int u2), some (.int u3)], [am_v (v0_fr o4 0)], (v0 L, g))) (ai_gd (c := Nat.beq (v0_kd o4) 9) rfl hc5) ?_
          refine ev_om (S := fun (o : Option Nat) => (26, [some (.ref u0), some (.int u1), some (.int u2), some (.int u3)], [am_v o], (v0 L, g))) ?_ (fun o6 => ?_)
          · exact fun hR => nomatch hR
          · refine ev_gd (c := vk_in o6 101 u3) (fun hc7 => ?_)
            refine ev_jm 1 (t := (28, [some (.ref u0), some (.int u1), some (.int u2), some (.int u3)], [.int (am_i g o6 u3.toNatClampNeg)], (v0 L, g))) (ai_gd (c := Nat.beq (v0_kd o6) 101 && ai_in u3 (v0_ln L o6)) rfl (vk_ld hc7)) ?_
            refine ev_in 1 (p := (am_i g o6 u3.toNatClampNeg) = u1) (a := 36) (b := 32) (T := ([some (.ref u0), some (.int u1), some (.int u2), some (.int u3)], [], (v0 L, g))) rfl ?_ ?_
            · refine ev_jm 4 (t := (4, [some (.ref u0), some (.int u1), some (.int 1), some (.int (u3 + 1))], [], (v0 L, g))) rfl ?_
              exact hk4 (u0, u1, 1, (u3 + 1)) _
            · refine ev_jm 3 (t := (4, [some (.ref u0), some (.int u1), some (.int 0), some (.int (u3 + 1))], [], (v0 L, g))) rfl ?_
              exact hk4 (u0, u1, 0, (u3 + 1)) _
      · refine ev_jm 4 (t := (4, [some (.ref u0), some (.int u1), some (.int 1), some (.int (u3 + 1))], [], (v0 L, g))) rfl ?_
        exact hk4 (u0, u1, 1, (u3 + 1)) _
noncomputable def fh_282_4 (g : am_G)  (x : Nat × Int32 × Int32 × Int32) : Option (Int32) := lo_it (fun k x => fb_282_4 g k x.1 x.2.1 x.2.2.1 x.2.2.2) nf_F x
theorem dh_282_4 (L : Nat) (g : am_G)   (x : Nat × Int32 × Int32 × Int32) (R : Int32) : fh_282_4 g  x = some R → ai_ev ap_P 282 (4, [some (.ref x.1), some (.int x.2.1), some (.int x.2.2.1), some (.int x.2.2.2)], [], (v0 L, g)) (.inl (ez_i R)) (v0 L, g) :=
  fun hr => lo_ev (E := fun x R => ai_ev ap_P 282 (4, [some (.ref x.1), some (.int x.2.1), some (.int x.2.2.1), some (.int x.2.2.2)], [], (v0 L, g)) (.inl (ez_i R)) (v0 L, g)) (fun k hk x R hr => db_282_4 L g hk x.1 x.2.1 x.2.2.1 x.2.2.2  R hr) nf_F x R hr
/-- DeclaredMarkup$Processor.isNamed(LDeclaredMarkup$ElementDecl;I)Z -/
noncomputable def fm_282 (g : am_G) (u0 : Nat) (u1 : Int32) : Option (Int32) := fh_282_4 g (u0, u1, 0, 0)
theorem dm_282 (L : Nat) (g : am_G) (u0 : Nat) (u1 : Int32) (R : Int32) : fm_282 g u0 u1 = some R → ai_ev ap_P 282 (ai_e0 ap_P 282 [.ref u0, .int u1] (v0 L, g)) (.inl (ez_i R)) (v0 L, g) := by
  show _ → ai_ev ap_P 282 (0, [some (.ref u0), some (.int u1), none, none], [], (v0 L, g)) _ _
  unfold fm_282
  refine ev_jm 3 (t := (4, [some (.ref u0), some (.int u1), some (.int 0), some (.int 0)], [], (v0 L, g))) rfl ?_
  exact dh_282_4 L g (u0, u1, 0, 0) _
noncomputable def fj_331_62 (g : am_G)  (u0 : Int32) (u1 : Int32) : Option (Int32) := if u0 ≤ 4 then some (u1 + (u0.toUInt32 >>> ((1 : Int32).toUInt32 &&& Int32.toUInt32 31)).toInt32) else lo_l ((u0.toUInt32 >>> ((2 : Int32).toUInt32 &&& Int32.toUInt32 31)).toInt32) fun x1 => some ((u1 + 2) + (x1.toUInt32 >>> ((1 : Int32).toUInt32 &&& Int32.toUInt32 31)).toInt32)
theorem dj_331_62 (L : Nat) (g : am_G)   (u0 : Int32) (u1 : Int32) (R : Int32) : fj_331_62 g  u0 u1 = some R → ai_ev ap_P 331 (62, [some (.int u0), some (.int u1)], [], (v0 L, g)) (.inl (ez_i R)) (v0 L, g) := by
  unfold fj_331_62
  refine ev_if 2 (p := u0 ≤ 4) (a := 74) (b := 67) (T := ([some (.int u0), some (.int u1)], [], (v0 L, g))) rfl ?_ ?_
  · exact fun hR => by cases hR; exact ev_rt 5 rfl
  · refine ev_jm 3 (t := (73, [some (.int u0), some (.int (u1 + 2))], [.int (u0.toUInt32 >>> ((2 : Int32).toUInt32 &&& Int32.toUInt32 31)).toInt32], (v0 L, g))) rfl ?_
    refine lo_e (S := fun (x1 : Int32) => (73, [some (.int u0), some (.int (u1 + 2))], [.int x1], (v0 L, g))) (fun x1 => ?_)
    exact fun hR => by cases hR; exact ev_rt 6 rfl
noncomputable def fj_331_49 (g : am_G)  (u0 : Int32) (u1 : Int32) : Option (Int32) := if u0 ≤ 16 then fj_331_62 g u0 u1 else lo_l ((u0.toUInt32 >>> ((4 : Int32).toUInt32 &&& Int32.toUInt32 31)).toInt32) fun x1 => fj_331_62 g x1 (u1 + 4)
theorem dj_331_49 (L : Nat) (g : am_G)   (u0 : Int32) (u1 : Int32) (R : Int32) : fj_331_49 g  u0 u1 = some R → ai_ev ap_P 331 (49, [some (.int u0), some (.int u1)], [], (v0 L, g)) (.inl (ez_i R)) (v0 L, g) := by
  unfold fj_331_49
  refine ev_if 2 (p := u0 ≤ 16) (a := 62) (b := 55) (T := ([some (.int u0), some (.int u1)], [], (v0 L, g))) rfl ?_ ?_
  · exact dj_331_62 L g u0 u1 _
  · refine ev_jm 3 (t := (61, [some (.int u0), some (.int (u1 + 4))], [.int (u0.toUInt32 >>> ((4 : Int32).toUInt32 &&& Int32.toUInt32 31)).toInt32], (v0 L, g))) rfl ?_
    refine lo_e (S := fun (x1 : Int32) => (61, [some (.int u0), some (.int (u1 + 4))], [.int x1], (v0 L, g))) (fun x1 => ?_)
    refine ev_jm 0 (t := (62, [some (.int x1), some (.int (u1 + 4))], [], (v0 L, g))) rfl ?_
    exact dj_331_62 L g x1 (u1 + 4) _
noncomputable def fj_331_34 (g : am_G)  (u0 : Int32) (u1 : Int32) : Option (Int32) := if u0 ≤ 256 then fj_331_49 g u0 u1 else lo_l ((u0.toUInt32 >>> ((8 : Int32).toUInt32 &&& Int32.toUInt32 31)).toInt32) fun x1 => fj_331_49 g x1 (u1 + 8)
theorem dj_331_34 (L : Nat) (g : am_G)   (u0 : Int32) (u1 : Int32) (R : Int32) : fj_331_34 g  u0 u1 = some R → ai_ev ap_P 331 (34, [some (.int u0), some (.int u1)], [], (v0 L, g)) (.inl (ez_i R)) (v0 L, g) := by
  unfold fj_331_34
  refine ev_if 2 (p := u0 ≤ 256) (a := 49) (b := 41) (T := ([some (.int u0), some (.int u1)], [], (v0 L, g))) rfl ?_ ?_
  · exact dj_331_49 L g u0 u1 _
  · refine ev_jm 3 (t := (48, [some (.int u0), some (.int (u1 + 8))], [.int (u0.toUInt32 >>> ((8 : Int32).toUInt32 &&& Int32.toUInt32 31)).toInt32], (v0 L, g))) rfl ?_
    refine lo_e (S := fun (x1 : Int32) => (48, [some (.int u0), some (.int (u1 + 8))], [.int x1], (v0 L, g))) (fun x1 => ?_)
    refine ev_jm 0 (t := (49, [some (.int x1), some (.int (u1 + 8))], [], (v0 L, g))) rfl ?_
    exact dj_331_49 L g x1 (u1 + 8) _
/-- java/lang/Integer.numberOfTrailingZeros(I)I -/
noncomputable def fm_331 (g : am_G) (u0 : Int32) : Option (Int32) := lo_l ((u0 ^^^ (-1)) &&& (u0 - 1)) fun x1 => if (0 : Int32) < x1 then if x1 ≤ 65536 then fj_331_34 g x1 1 else lo_l ((x1.toUInt32 >>> ((16 : Int32).toUInt32 &&& Int32.toUInt32 31)).toInt32) fun x2 => fj_331_34 g x2 (1 + 16) else some (x1 &&& 32)
theorem dm_331 (L : Nat) (g : am_G) (u0 : Int32) (R : Int32) : fm_331 g u0 = some R → ai_ev ap_P 331 (ai_e0 ap_P 331 [.int u0] (v0 L, g)) (.inl (ez_i R)) (v0 L, g) := by
  show _ → ai_ev ap_P 331 (0, [some (.int u0), none], [], (v0 L, g)) _ _
  unfold fm_331
  refine ev_jm 6 (t := (7, [some (.int u0), none], [.int ((u0 ^^^ (-1)) &&& (u0 - 1))], (v0 L, g))) rfl ?_
  refine lo_e (S := fun (x1 : Int32) => (7, [some (.int u0), none], [.int x1], (v0 L, g))) (fun x1 => ?_)
  refine ev_if 2 (p := (0 : Int32) < x1) (a := 17) (b := 12) (T := ([some (.int x1), none], [], (v0 L, g))) rfl ?_ ?_
  · refine ev_if 4 (p := x1 ≤ 65536) (a := 34) (b := 26) (T := ([some (.int x1), some (.int 1)], [], (v0 L, g))) rfl ?_ ?_
    · exact dj_331_34 L g x1 1 _
    · refine ev_jm 3 (t := (33, [some (.int x1), some (.int (1 + 16))], [.int (x1.toUInt32 >>> ((16 : Int32).toUInt32 &&& Int32.toUInt32 31)).toInt32], (v0 L, g))) rfl ?_
      refine lo_e (S := fun (x2 : Int32) => (33, [some (.int x1), some (.int (1 + 16))], [.int x2], (v0 L, g))) (fun x2 => ?_)
      refine ev_jm 0 (t := (34, [some (.int x2), some (.int (1 + 16))], [], (v0 L, g))) rfl ?_
      exact dj_331_34 L g x2 (1 + 16) _
  · exact fun hR => by cases hR; exact ev_rt 3 rfl
/-- java/lang/Long.numberOfTrailingZeros(J)I -/
noncomputable def fm_333 (g : am_G) (u0 : Int64) : Option (Int32) := lo_l u0.toInt32 fun x1 => if x1 = 0 then lo_p (fm_331 g (((u0.toUInt64 >>> ((32 : Int32).toInt64.toUInt64 &&& Int64.toUInt64 63)).toInt64).toInt32)) fun y4 => some (32 + y4) else lo_p (fm_331 g x1) fun y2 => some y2
theorem dm_333 (L : Nat) (g : am_G) (u0 : Int64) (R : Int32) : fm_333 g u0 = some R → ai_ev ap_P 333 (ai_e0 ap_P 333 [.long u0] (v0 L, g)) (.inl (ez_i R)) (v0 L, g) := by
  show _ → ai_ev ap_P 333 (0, [some (.long u0), none, none], [], (v0 L, g)) _ _
  unfold fm_333
  refine ev_jm 1 (t := (2, [some (.long u0), none, none], [.int u0.toInt32], (v0 L, g))) rfl ?_
  refine lo_e (S := fun (x1 : Int32) => (2, [some (.long u0), none, none], [.int x1], (v0 L, g))) (fun x1 => ?_)
  refine ev_in 2 (p := x1 = 0) (a := 21) (b := 7) (T := ([some (.long u0), none, some (.int x1)], [], (v0 L, g))) rfl ?_ ?_
  · refine ev_op 5 (as := [.int ((u0.toUInt64 >>> ((32 : Int32).toInt64.toUInt64 &&& Int64.toUInt64 63)).toInt64).toInt32]) (pc := 17) (Lc := [some (.long u0), none, some (.int x1)]) (st := [.int 32]) (h1 := (v0 L, g)) (e := ez_i) rfl (dm_331 L g (((u0.toUInt64 >>> ((32 : Int32).toInt64.toUInt64 &&& Int64.toUInt64 63)).toInt64).toInt32)) (fun y4 => ?_)
    exact fun hR => by cases hR; exact ev_rt 2 rfl
  · refine ev_op 1 (as := [.int x1]) (pc := 25) (Lc := [some (.long u0), none, some (.int x1)]) (st := []) (h1 := (v0 L, g)) (e := ez_i) rfl (dm_331 L g x1) (fun y2 => ?_)
    exact fun hR => by cases hR; exact ev_rt 0 rfl
noncomputable def fb_223_22 (g : am_G) (k22 : (Nat × Int64 × Int64) → Option (Int64)) (u0 : Nat) (u1 : Int64) (u3 : Int64) : Option (Int64) := if (lg_cmp u3 0) = 0 then some u1 else lo_g (Nat.beq (v0_kd u0) 15) (lo_m (am_r g u0 0) (none) fun o2 => lo_g (Nat.beq (v0_kd o2) 9) (lo_m (v0_fr o2 1) (none) fun o4 => lo_p (fm_333 g u3) fun y5 => lo_g (vk_in o4 105 y5) (lo_l (u1 ||| (am_j g o4 y5.toNatClampNeg)) fun x8 => lo_l (u3 &&& (u3 - 1)) fun x9 => k22 (u0, x8, x9))))
theorem db_223_22 (L : Nat) (g : am_G) {k22 : (Nat × Int64 × Int64) → Option (Int64)} (hk22 : ∀ (x : Nat × Int64 × Int64) (w2 w4 : Option Value) (R : Int64), k22 x = some R → ai_ev ap_P 223 (22, [some (.ref x.1), some (.long x.2.1), w2, some (.long x.2.2), w4], [], (v0 L, g)) (.inl (ez_j R)) (v0 L, g)) (u0 : Nat) (u1 : Int64) (u3 : Int64) (w2 w4 : Option Value) (R : Int64) : fb_223_22 g k22 u0 u1 u3 = some R → ai_ev ap_P 223 (22, [some (.ref u0), some (.long u1), w2, some (.long u3), w4], [], (v0 L, g)) (.inl (ez_j R)) (v0 L, g) := by
  unfold fb_223_22
  refine ev_if 3 (p := (lg_cmp u3 0) = 0) (a := 52) (b := 28) (T := ([some (.ref u0), some (.long u1), none, some (.long u3), none], [], (v0 L, g))) rfl ?_ ?_
  · exact fun hR => by cases hR; exact ev_rt 1 rfl
  · refine ev_gd (c := Nat.beq (v0_kd u0) 15) (fun hc1 => ?_)
    refine ev_jm 2 (t := (33, [some (.ref u0), some (.long u1), none, some (.long u3), none], [am_v (am_r g u0 0), .long u1], (v0 L, g))) (ai_gd (c := Nat.beq (v0_kd u0) 15) rfl hc1) ?_
    refine ev_om (S := fun (o : Option Nat) => (33, [some (.ref u0), some (.long u1), none, some (.long u3), none], [am_v o, .long u1], (v0 L, g))) ?_ (fun o2 => ?_)
    · exact fun hR => nomatch hR
    · refine ev_gd (c := Nat.beq (v0_kd o2) 9) (fun hc3 => ?_)
      refine ev_jm 0 (t := (36, [some (.ref u0), some (.long u1), none, some (.long u3), none], [am_v (v0_fr o2 1), .long u1], (v0 L, g))) (ai_gd (c := Nat.beq (v0_kd o2) 9) rfl hc3) ?_
      refine ev_om (S := fun (o : Option Nat) => (36, [some (.ref u0), some (.long u1), none, some (.long u3), none], [am_v o, .long u1], (v0 L, g))) ?_ (fun o4 => ?_)
      · exact fun hR => nomatch hR
      · refine ev_op 1 (as := [.long u3]) (pc := 40) (Lc := [some (.ref u0), some (.long u1), none, some (.long u3), none]) (st := [.ref o4, .long u1]) (h1 := (v0 L, g)) (e := ez_i) rfl (dm_333 L g u3) (fun y5 => ?_)
        refine ev_gd (c := vk_in o4 105 y5) (fun hc7 => ?_)
        refine ev_jm 0 (t := (41, [some (.ref u0), some (.long u1), none, some (.long u3), none], [.long (am_j g o4 y5.toNatClampNeg), .long u1], (v0 L, g))) (ai_gd (c := Nat.beq (v0_kd o4) 105 && ai_in y5 (v0_ln L o4)) rfl (vk_ld hc7)) ?_
        refine ev_jm 0 (t := (42, [some (.ref u0), some (.long u1), none, some (.long u3), none], [.long (u1 ||| (am_j g o4 y5.toNatClampNeg))], (v0 L, g))) rfl ?_
        refine lo_e (S := fun (x8 : Int64) => (42, [some (.ref u0), some (.long u1), none, some (.long u3), none], [.long x8], (v0 L, g))) (fun x8 => ?_)
        refine ev_jm 5 (t := (48, [some (.ref u0), some (.long x8), none, some (.long u3), none], [.long (u3 &&& (u3 - 1))], (v0 L, g))) rfl ?_
        refine lo_e (S := fun (x9 : Int64) => (48, [some (.ref u0), some (.long x8), none, some (.long u3), none], [.long x9], (v0 L, g))) (fun x9 => ?_)
        refine ev_jm 1 (t := (22, [some (.ref u0), some (.long x8), none, some (.long x9), none], [], (v0 L, g))) rfl ?_
        exact hk22 (u0, x8, x9) none none _
noncomputable def fh_223_22 (g : am_G)  (x : Nat × Int64 × Int64) : Option (Int64) := lo_it (fun k x => fb_223_22 g k x.1 x.2.1 x.2.2) nf_F x
theorem dh_223_22 (L : Nat) (g : am_G)   (x : Nat × Int64 × Int64) (w2 w4 : Option Value) (R : Int64) : fh_223_22 g  x = some R → ai_ev ap_P 223 (22, [some (.ref x.1), some (.long x.2.1), w2, some (.long x.2.2), w4], [], (v0 L, g)) (.inl (ez_j R)) (v0 L, g) :=
  fun hr => lo_ev (E := fun x R => ∀ (w2 w4 : Option Value), ai_ev ap_P 223 (22, [some (.ref x.1), some (.long x.2.1), w2, some (.long x.2.2), w4], [], (v0 L, g)) (.inl (ez_j R)) (v0 L, g)) (fun k hk x R hr => fun w2 w4 => db_223_22 L g (fun x w2 w4 R hr => hk x R hr w2 w4) x.1 x.2.1 x.2.2 w2 w4 R hr) nf_F x R hr w2 w4
/-- DeclaredMarkup$ModelRun.ahead()J -/
noncomputable def fm_223 (g : am_G) (u0 : Nat) : Option (Int64) := lo_g (Nat.beq (v0_kd u0) 15) (if (am_i g u0 2) = 0 then lo_m (am_r g u0 0) (none) fun o3 => lo_g (Nat.beq (v0_kd o3) 9) (some (am_j g o3 6)) else lo_l (am_j g u0 1) fun x2 => fh_223_22 g (u0, 0, x2))
theorem dm_223 (L : Nat) (g : am_G) (u0 : Nat) (R : Int64) : fm_223 g u0 = some R → ai_ev ap_P 223 (ai_e0 ap_P 223 [.ref u0] (v0 L, g)) (.inl (ez_j R)) (v0 L, g) := by
  show _ → ai_ev ap_P 223 (0, [some (.ref u0), none, none, none, none], [], (v0 L, g)) _ _
  unfold fm_223
  refine ev_gd (c := Nat.beq (v0_kd u0) 15) (fun hc1 => ?_)
  refine ev_jm 1 (t := (4, [some (.ref u0), none, none, none, none], [.int (am_i g u0 2)], (v0 L, g))) (ai_gd (c := Nat.beq (v0_kd u0) 15) rfl hc1) ?_
  refine ev_in 0 (p := (am_i g u0 2) = 0) (a := 15) (b := 7) (T := ([some (.ref u0), none, none, none, none], [], (v0 L, g))) rfl ?_ ?_
  · refine ev_jm 1 (t := (11, [some (.ref u0), none, none, none, none], [am_v (am_r g u0 0)], (v0 L, g))) (ai_gd (c := Nat.beq (v0_kd u0) 15) rfl hc1) ?_
    refine ev_om (S := fun (o : Option Nat) => (11, [some (.ref u0), none, none, none, none], [am_v o], (v0 L, g))) ?_ (fun o3 => ?_)
    · exact fun hR => nomatch hR
    · refine ev_gd (c := Nat.beq (v0_kd o3) 9) (fun hc4 => ?_)
      refine ev_jm 0 (t := (14, [some (.ref u0), none, none, none, none], [.long (am_j g o3 6)], (v0 L, g))) (ai_gd (c := Nat.beq (v0_kd o3) 9) rfl hc4) ?_
      exact fun hR => by cases hR; exact ev_rt 0 rfl
  · refine ev_jm 3 (t := (21, [some (.ref u0), some (.long 0), none, none, none], [.long (am_j g u0 1)], (v0 L, g))) (ai_gd (c := Nat.beq (v0_kd u0) 15) rfl hc1) ?_
    refine lo_e (S := fun (x2 : Int64) => (21, [some (.ref u0), some (.long 0), none, none, none], [.long x2], (v0 L, g))) (fun x2 => ?_)
    refine ev_jm 0 (t := (22, [some (.ref u0), some (.long 0), none, some (.long x2), none], [], (v0 L, g))) rfl ?_
    exact dh_223_22 L g (u0, 0, x2) none none _
noncomputable def fj_217_41 (g : am_G) (k6 : (Nat × Int32 × Int64 × Int64) → Option (Int64)) (u0 : Nat) (u3 : Int32) (u6 : Int64) (t0 : Int64) (t1 : Int64) : Option (Int64) := lo_l (t0 ||| t1) fun x1 => lo_l (u6 &&& (u6 - 1)) fun x2 => k6 (u0, u3, x1, x2)
theorem dj_217_41 (L : Nat) (g : am_G) {k6 : (Nat × Int32 × Int64 × Int64) → Option (Int64)} (hk6 : ∀ (x : Nat × Int32 × Int64 × Int64) (w1 w2 w5 w7 w8 : Option Value) (R : Int64), k6 x = some R → ai_ev ap_P 217 (6, [some (.ref x.1), w1, w2, some (.int x.2.1), some (.long x.2.2.1), w5, some (.long x.2.2.2), w7, w8], [], (v0 L, g)) (.inl (ez_j R)) (v0 L, g)) (u0 : Nat) (u3 : Int32) (u6 : Int64) (t0 : Int64) (t1 : Int64) (w1 w2 w4 w5 w7 w8 : Option Value) (R : Int64) : fj_217_41 g k6 u0 u3 u6 t0 t1 = some R → ai_ev ap_P 217 (41, [some (.ref u0), w1, w2, some (.int u3), w4, w5, some (.long u6), w7, w8], [.long t1, .long t0], (v0 L, g)) (.inl (ez_j R)) (v0 L, g) := by
  unfold fj_217_41
  refine ev_jm 0 (t := (42, [some (.ref u0), none, none, some (.int u3), none, none, some (.long u6), none, none], [.long (t0 ||| t1)], (v0 L, g))) rfl ?_
  refine lo_e (S := fun (x1 : Int64) => (42, [some (.ref u0), none, none, some (.int u3), none, none, some (.long u6), none, none], [.long x1], (v0 L, g))) (fun x1 => ?_)
  refine ev_jm 5 (t := (51, [some (.ref u0), none, none, some (.int u3), some (.long x1), none, some (.long u6), none, none], [.long (u6 &&& (u6 - 1))], (v0 L, g))) rfl ?_
  refine lo_e (S := fun (x2 : Int64) => (51, [some (.ref u0), none, none, some (.int u3), some (.long x1), none, some (.long u6), none, none], [.long x2], (v0 L, g))) (fun x2 => ?_)
  refine ev_jm 1 (t := (6, [some (.ref u0), none, none, some (.int u3), some (.long x1), none, some (.long x2), none, none], [], (v0 L, g))) rfl ?_
  exact hk6 (u0, u3, x1, x2) none none none none none _
noncomputable def fb_217_6 (g : am_G) (k6 : (Nat × Int32 × Int64 × Int64) → Option (Int64)) (u0 : Nat) (u3 : Int32) (u4 : Int64) (u6 : Int64) : Option (Int64) := if (lg_cmp u6 0) = 0 then some u4 else lo_p (fm_333 g u6) fun y1 => lo_g (Nat.beq (v0_kd u0) 9) (lo_m (v0_fr u0 0) (none) fun o4 => lo_g (vk_in o4 101 y1) (if (am_i g o4 y1.toNatClampNeg) = u3 then fj_217_41 g k6 u0 u3 u6 u4 (1 <<< (y1.toInt64 &&& 63)) else fj_217_41 g k6 u0 u3 u6 u4 0))
theorem db_217_6 (L : Nat) (g : am_G) {k6 : (Nat × Int32 × Int64 × Int64) → Option (Int64)} (hk6 : ∀ (x : Nat × Int32 × Int64 × Int64) (w1 w2 w5 w7 w8 : Option Value) (R : Int64), k6 x = some R → ai_ev ap_P 217 (6, [some (.ref x.1), w1, w2, some (.int x.2.1), some (.long x.2.2.1), w5, some (.long x.2.2.2), w7, w8], [], (v0 L, g)) (.inl (ez_j R)) (v0 L, g)) (u0 : Nat) (u3 : Int32) (u4 : Int64) (u6 : Int64) (w1 w2 w5 w7 w8 : Option Value) (R : Int64) : fb_217_6 g k6 u0 u3 u4 u6 = some R → ai_ev ap_P 217 (6, [some (.ref u0), w1, w2, some (.int u3), some (.long u4), w5, some (.long u6), w7, w8], [], (v0 L, g)) (.inl (ez_j R)) (v0 L, g) := by
  unfold fb_217_6
  refine ev_if 3 (p := (lg_cmp u6 0) = 0) (a := 56) (b := 13) (T := ([some (.ref u0), none, none, some (.int u3), some (.long u4), none, some (.long u6), none, none], [], (v0 L, g))) rfl ?_ ?_
  · exact fun hR => by cases hR; exact ev_rt 1 rfl
  · refine ev_op 1 (as := [.long u6]) (pc := 18) (Lc := [some (.ref u0), none, none, some (.int u3), some (.long u4), none, some (.long u6), none, none]) (st := []) (h1 := (v0 L, g)) (e := ez_i) rfl (dm_333 L g u6) (fun y1 => ?_)
    refine ev_gd (c := Nat.beq (v0_kd u0) 9) (fun hc3 => ?_)
    refine ev_jm 3 (t := (26, [some (.ref u0), none, none, some (.int u3), some (.long u4), none, some (.long u6), none, some (.int y1)], [am_v (v0_fr u0 0), .long u4], (v0 L, g))) (ai_gd (c := Nat.beq (v0_kd u0) 9) rfl hc3) ?_
    refine ev_om (S := fun (o : Option Nat) => (26, [some (.ref u0), none, none, some (.int u3), some (.long u4), none, some (.long u6), none, some (.int y1)], [am_v o, .long u4], (v0 L, g))) ?_ (fun o4 => ?_)
    · exact fun hR => nomatch hR
    · refine ev_gd (c := vk_in o4 101 y1) (fun hc5 => ?_)
      refine ev_jm 1 (t := (29, [some (.ref u0), none, none, some (.int u3), some (.long u4), none, some (.long u6), none, some (.int y1)], [.int (am_i g o4 y1.toNatClampNeg), .long u4], (v0 L, g))) (ai_gd (c := Nat.beq (v0_kd o4) 101 && ai_in y1 (v0_ln L o4)) rfl (vk_ld hc5)) ?_
      refine ev_in 1 (p := (am_i g o4 y1.toNatClampNeg) = u3) (a := 40) (b := 33) (T := ([some (.ref u0), none, none, some (.int u3), some (.long u4), none, some (.long u6), none, some (.int y1)], [.long u4], (v0 L, g))) rfl ?_ ?_
      · refine ev_jm 3 (t := (41, [some (.ref u0), none, none, some (.int u3), some (.long u4), none, some (.long u6), none, some (.int y1)], [.long (1 <<< (y1.toInt64 &&& 63)), .long u4], (v0 L, g))) rfl ?_
        exact dj_217_41 L g hk6 u0 u3 u6 u4 (1 <<< (y1.toInt64 &&& 63)) none none (some (.long u4)) none none (some (.int y1)) _
      · refine ev_jm 0 (t := (41, [some (.ref u0), none, none, some (.int u3), some (.long u4), none, some (.long u6), none, some (.int y1)], [.long 0, .long u4], (v0 L, g))) rfl ?_
        exact dj_217_41 L g hk6 u0 u3 u6 u4 0 none none (some (.long u4)) none none (some (.int y1)) _
noncomputable def fh_217_6 (g : am_G)  (x : Nat × Int32 × Int64 × Int64) : Option (Int64) := lo_it (fun k x => fb_217_6 g k x.1 x.2.1 x.2.2.1 x.2.2.2) nf_F x
theorem dh_217_6 (L : Nat) (g : am_G)   (x : Nat × Int32 × Int64 × Int64) (w1 w2 w5 w7 w8 : Option Value) (R : Int64) : fh_217_6 g  x = some R → ai_ev ap_P 217 (6, [some (.ref x.1), w1, w2, some (.int x.2.1), some (.long x.2.2.1), w5, some (.long x.2.2.2), w7, w8], [], (v0 L, g)) (.inl (ez_j R)) (v0 L, g) :=
  fun hr => lo_ev (E := fun x R => ∀ (w1 w2 w5 w7 w8 : Option Value), ai_ev ap_P 217 (6, [some (.ref x.1), w1, w2, some (.int x.2.1), some (.long x.2.2.1), w5, some (.long x.2.2.2), w7, w8], [], (v0 L, g)) (.inl (ez_j R)) (v0 L, g)) (fun k hk x R hr => fun w1 w2 w5 w7 w8 => db_217_6 L g (fun x w1 w2 w5 w7 w8 R hr => hk x R hr w1 w2 w5 w7 w8) x.1 x.2.1 x.2.2.1 x.2.2.2 w1 w2 w5 w7 w8 R hr) nf_F x R hr w1 w2 w5 w7 w8
/-- DeclaredMarkup$Model.named(JI)J -/
noncomputable def fm_217 (g : am_G) (u0 : Nat) (u1 : Int64) (u3 : Int32) : Option (Int64) := fh_217_6 g (u0, u3, 0, u1)
theorem dm_217 (L : Nat) (g : am_G) (u0 : Nat) (u1 : Int64) (u3 : Int32) (R : Int64) : fm_217 g u0 u1 u3 = some R → ai_ev ap_P 217 (ai_e0 ap_P 217 [.ref u0, .long u1, .int u3] (v0 L, g)) (.inl (ez_j R)) (v0 L, g) := by
  show _ → ai_ev ap_P 217 (0, [some (.ref u0), some (.long u1), none, some (.int u3), none, none, none, none, none], [], (v0 L, g)) _ _
  unfold fm_217
  refine ev_jm 3 (t := (6, [some (.ref u0), some (.long u1), none, some (.int u3), some (.long 0), none, some (.long u1), none, none], [], (v0 L, g))) rfl ?_
  exact dh_217_6 L g (u0, u3, 0, u1) (some (.long u1)) none none none none _
/-- DeclaredMarkup$ModelRun.come(I)Z -/
noncomputable def fm_224 (g : am_G) (u0 : Nat) (u1 : Int32) : Option (Int32 × am_G) := lo_g (Nat.beq (v0_kd u0) 15) (lo_m (am_r g u0 0) (none) fun o2 => lo_p (fm_223 g u0) fun y3 => lo_g (Nat.beq (v0_kd o2) 9) (lo_p (fm_217 g o2 y3 u1) fun y5 => if (lg_cmp y5 0) = 0 then some (0, g) else lo_g ((Nat.beq (v0_kd u0) 15 && Nat.ble 32 u0)) (some (1, (am_si (am_sj g u0 1 y5) u0 2 ((am_i g u0 2) + 1))))))
theorem dm_224 (L : Nat) (g : am_G) (u0 : Nat) (u1 : Int32) (R : Int32 × am_G) : fm_224 g u0 u1 = some R → ai_ev ap_P 224 (ai_e0 ap_P 224 [.ref u0, .int u1] (v0 L, g)) (.inl (ez_i R.1)) (v0 L, R.2) := by
  show _ → ai_ev ap_P 224 (0, [some (.ref u0), some (.int u1), none, none], [], (v0 L, g)) _ _
  unfold fm_224
  refine ev_gd (c := Nat.beq (v0_kd u0) 15) (fun hc1 => ?_)
  refine ev_jm 1 (t := (4, [some (.ref u0), some (.int u1), none, none], [am_v (am_r g u0 0)], (v0 L, g))) (ai_gd (c := Nat.beq (v0_kd u0) 15) rfl hc1) ?_
  refine ev_om (S := fun (o : Option Nat) => (4, [some (.ref u0), some (.int u1), none, none], [am_v o], (v0 L, g))) ?_ (fun o2 => ?_)
  · exact fun hR => nomatch hR
  · refine ev_op 1 (as := [.ref u0]) (pc := 8) (Lc := [some (.ref u0), some (.int u1), none, none]) (st := [.ref o2]) (h1 := (v0 L, g)) (e := ez_j) (ai_gd (c := Nat.beq (v0_kd u0) 15 && true) rfl (ai_ct hc1)) (dm_223 L g u0) (fun y3 => ?_)
    refine ev_gd (c := Nat.beq (v0_kd o2) 9) (fun hc7 => ?_)
    refine ev_op 1 (as := [.ref o2, .long y3, .int u1]) (pc := 12) (Lc := [some (.ref u0), some (.int u1), none, none]) (st := []) (h1 := (v0 L, g)) (e := ez_j) (ai_gd (c := Nat.beq (v0_kd o2) 9 && true) rfl (ai_ct hc7)) (dm_217 L g o2 y3 u1) (fun y5 => ?_)
    refine ev_in 4 (p := (lg_cmp y5 0) = 0) (a := 21) (b := 19) (T := ([some (.ref u0), some (.int u1), some (.long y5), none], [], (v0 L, g))) rfl ?_ ?_
    · exact fun hR => by cases hR; exact ev_rt 1 rfl
    · refine ev_gd (c := (Nat.beq (v0_kd u0) 15 && Nat.ble 32 u0)) (fun hc8 => ?_)
      refine ev_jm 2 (t := (26, [some (.ref u0), some (.int u1), some (.long y5), none], [], (v0 L, (am_sj g u0 1 y5)))) (ai_gd (c := (Nat.beq (v0_kd u0) 15 && Nat.ble 32 u0)) rfl hc8) ?_
      refine ev_jm 2 (t := (31, [some (.ref u0), some (.int u1), some (.long y5), none], [.int (am_i g u0 2), .ref u0], (v0 L, (am_sj g u0 1 y5)))) (ai_gd (c := Nat.beq (v0_kd u0) 15) rfl hc1) ?_
      refine ev_jm 2 (t := (36, [some (.ref u0), some (.int u1), some (.long y5), none], [], (v0 L, (am_si (am_sj g u0 1 y5) u0 2 ((am_i g u0 2) + 1))))) (ai_gd (c := (Nat.beq (v0_kd u0) 15 && Nat.ble 32 u0)) rfl hc8) ?_
      exact fun hR => by cases hR; exact ev_rt 1 rfl
noncomputable def fj_281_47  (g : am_G) (u1 : Int32) (u2 : Nat) : Option (am_G) := lo_g (Nat.beq (v0_kd u2) 8) (if (am_i g u2 1) = 4 then lo_g (ai_in ((am_i g 33 24) - 1) 40) (if (am_i g 878 (((am_i g 33 24) - 1)).toNatClampNeg) = 0 then lo_g (Nat.beq (v0_kd (903 + (((am_i g 33 24) - 1)).toNatClampNeg)) 15) (lo_i (fm_224 g (903 + (((am_i g 33 24) - 1)).toNatClampNeg) u1) fun y3 g4 => if y3 = 0 then lo_g (ai_in ((am_i g4 33 24) - 1) 40) (lo_p (fm_239 (am_si g4 878 (((am_i g4 33 24) - 1)).toNatClampNeg 1) 2) fun g8 => some g8) else some g4) else some g) else some g)
theorem dj_281_47 (L : Nat)   (g : am_G) (u1 : Int32) (u2 : Nat) (R : am_G) : fj_281_47  g u1 u2 = some R → ai_ev ap_P 281 (47, [some (.ref 33), some (.int u1), some (.ref u2)], [], (v0 L, g)) (.inl none) (v0 L, R) := by
  unfold fj_281_47
  refine ev_gd (c := Nat.beq (v0_kd u2) 8) (fun hc1 => ?_)
  refine ev_jm 1 (t := (51, [some (.ref 33), some (.int u1), some (.ref u2)], [.int (am_i g u2 1)], (v0 L, g))) (ai_gd (c := Nat.beq (v0_kd u2) 8) rfl hc1) ?_
  refine ev_in 1 (p := (am_i g u2 1) = 4) (a := 87) (b := 55) (T := ([some (.ref 33), some (.int u1), some (.ref u2)], [], (v0 L, g))) rfl ?_ ?_
  · refine ev_gd (c := ai_in ((am_i g 33 24) - 1) 40) (fun hc2 => ?_)
    refine ev_jm 6 (t := (66, [some (.ref 33), some (.int u1), some (.ref u2)], [.int (am_i g 878 (((am_i g 33 24) - 1)).toNatClampNeg)], (v0 L, g))) (ai_gd (c := ai_in ((am_i g 33 24) - 1) 40) rfl hc2) ?_
    refine ev_in 0 (p := (am_i g 878 (((am_i g 33 24) - 1)).toNatClampNeg) = 0) (a := 87) (b := 69) (T := ([some (.ref 33), some (.int u1), some (.ref u2)], [], (v0 L, g))) rfl ?_ ?_
    · refine ev_fr (S := fun (o : Option Nat) => (80, [some (.ref 33), some (.int u1), some (.ref u2)], [am_v o], (v0 L, g))) 6 (e := v0_fr 879 (((am_i g 33 24) - 1)).toNatClampNeg) (q := (903 + (((am_i g 33 24) - 1)).toNatClampNeg)) (ai_gd (c := ai_in ((am_i g 33 24) - 1) 40) rfl hc2) (fr_879 hc2) ?_
      refine ev_gd (c := Nat.beq (v0_kd (903 + (((am_i g 33 24) - 1)).toNatClampNeg)) 15) (fun hc5 => ?_)
      refine ev_oi 1 (as := [.ref (903 + (((am_i g 33 24) - 1)).toNatClampNeg), .int u1]) (pc := 84) (Lc := [some (.ref 33), some (.int u1), some (.ref u2)]) (st := []) (V := v0 L) (g1 := g) (e := ez_i) (ai_gd (c := Nat.beq (v0_kd (903 + (((am_i g 33 24) - 1)).toNatClampNeg)) 15 && true) rfl (ai_ct hc5)) (dm_224 L g (903 + (((am_i g 33 24) - 1)).toNatClampNeg) u1) (fun y3 g4 => ?_)
      refine ev_if 0 (p := y3 = 0) (a := 88) (b := 87) (T := ([some (.ref 33), some (.int u1), some (.ref u2)], [], (v0 L, g4))) rfl ?_ ?_
      · refine ev_gd (c := ai_in ((am_i g4 33 24) - 1) 40) (fun hc6 => ?_)
        refine ev_jm 7 (t := (100, [some (.ref 33), some (.int u1), some (.ref u2)], [], (v0 L, (am_si g4 878 (((am_i g4 33 24) - 1)).toNatClampNeg 1)))) (ai_gd (c := ai_in ((am_i g4 33 24) - 1) 40) rfl hc6) ?_
        refine ev_ov0 2 (as := [.ref 33, .int 2]) (pc := 105) (Lc := [some (.ref 33), some (.int u1), some (.ref u2)]) (st := []) (V := v0 L) (g1 := (am_si g4 878 (((am_i g4 33 24) - 1)).toNatClampNeg 1)) rfl (dm_239 L (am_si g4 878 (((am_i g4 33 24) - 1)).toNatClampNeg 1) 2) (fun g8 => ?_)
        exact fun hR => by cases hR; exact ev_rt 0 rfl
      · exact fun hR => by cases hR; exact ev_rt 0 rfl
    · exact fun hR => by cases hR; exact ev_rt 0 rfl
  · exact fun hR => by cases hR; exact ev_rt 0 rfl
noncomputable def fj_281_42  (g : am_G) (u1 : Int32) (u2 : Nat) : Option (am_G) := lo_p (fm_239 g 2) fun g2 => fj_281_47 g2 u1 u2
theorem dj_281_42 (L : Nat)   (g : am_G) (u1 : Int32) (u2 : Nat) (R : am_G) : fj_281_42  g u1 u2 = some R → ai_ev ap_P 281 (42, [some (.ref 33), some (.int u1), some (.ref u2)], [], (v0 L, g)) (.inl none) (v0 L, R) := by
  unfold fj_281_42
  refine ev_ov0 2 (as := [.ref 33, .int 2]) (pc := 47) (Lc := [some (.ref 33), some (.int u1), some (.ref u2)]) (st := []) (V := v0 L) (g1 := g) rfl (dm_239 L g 2) (fun g2 => ?_)
  exact dj_281_47 L g2 u1 u2 _
/-- DeclaredMarkup$Processor.child(I)V -/
noncomputable def fm_281 (g : am_G) (u1 : Int32) : Option (am_G) := lo_p (fm_279 g ) fun y1 => lo_m y1 (some g) fun o3 => lo_g (Nat.beq (v0_kd o3) 8) (if (am_i g o3 1) = 2 then some g else if (am_i g o3 1) = 1 then fj_281_42 g u1 o3 else if (am_i g o3 1) = 3 then lo_p (fm_282 g o3 u1) fun y5 => if y5 = 0 then fj_281_42 g u1 o3 else fj_281_47 g u1 o3 else fj_281_47 g u1 o3)
theorem dm_281 (L : Nat) (g : am_G) (u1 : Int32) (R : am_G) : fm_281 g u1 = some R → ai_ev ap_P 281 (ai_e0 ap_P 281 [.ref 33, .int u1] (v0 L, g)) (.inl none) (v0 L, R) := by
  show _ → ai_ev ap_P 281 (0, [some (.ref 33), some (.int u1), none], [], (v0 L, g)) _ _
  unfold fm_281
  refine ev_op 1 (as := [.ref 33]) (pc := 4) (Lc := [some (.ref 33), some (.int u1), none]) (st := []) (h1 := (v0 L, g)) (e := ez_o) rfl (dm_279 L g ) (fun y1 => ?_)
  refine ev_om (S := fun (o : Option Nat) => (4, [some (.ref 33), some (.int u1), none], [am_v o], (v0 L, g))) ?_ (fun o3 => ?_)
  · exact fun hR => by cases hR; exact ev_rt 3 rfl
  · refine ev_gd (c := Nat.beq (v0_kd o3) 8) (fun hc4 => ?_)
    refine ev_jm 4 (t := (13, [some (.ref 33), some (.int u1), some (.ref o3)], [.int (am_i g o3 1)], (v0 L, g))) (ai_gd (c := Nat.beq (v0_kd o3) 8) rfl hc4) ?_
    refine ev_in 1 (p := (am_i g o3 1) = 2) (a := 18) (b := 17) (T := ([some (.ref 33), some (.int u1), some (.ref o3)], [], (v0 L, g))) rfl ?_ ?_
    · exact fun hR => by cases hR; exact ev_rt 0 rfl
    · refine ev_jm 1 (t := (22, [some (.ref 33), some (.int u1), some (.ref o3)], [.int (am_i g o3 1)], (v0 L, g))) (ai_gd (c := Nat.beq (v0_kd o3) 8) rfl hc4) ?_
      refine ev_if 1 (p := (am_i g o3 1) = 1) (a := 42) (b := 26) (T := ([some (.ref 33), some (.int u1), some (.ref o3)], [], (v0 L, g))) rfl ?_ ?_
      · exact dj_281_42 L g u1 o3 _
      · refine ev_jm 1 (t := (30, [some (.ref 33), some (.int u1), some (.ref o3)], [.int (am_i g o3 1)], (v0 L, g))) (ai_gd (c := Nat.beq (v0_kd o3) 8) rfl hc4) ?_
        refine ev_in 1 (p := (am_i g o3 1) = 3) (a := 47) (b := 34) (T := ([some (.ref 33), some (.int u1), some (.ref o3)], [], (v0 L, g))) rfl ?_ ?_
        · refine ev_op 2 (as := [.ref o3, .int u1]) (pc := 39) (Lc := [some (.ref 33), some (.int u1), some (.ref o3)]) (st := []) (h1 := (v0 L, g)) (e := ez_i) rfl (dm_282 L g o3 u1) (fun y5 => ?_)
          refine ev_in 0 (p := y5 = 0) (a := 47) (b := 42) (T := ([some (.ref 33), some (.int u1), some (.ref o3)], [], (v0 L, g))) rfl ?_ ?_
          · exact dj_281_42 L g u1 o3 _
          · exact dj_281_47 L g u1 o3 _
        · exact dj_281_47 L g u1 o3 _
/-- DeclaredMarkup$Feed.leave()V -/
noncomputable def fm_180 (g : am_G)  : Option (am_G) := lo_g (ai_in (am_i g 39 4) 17) (lo_m (am_r g 40 ((am_i g 39 4)).toNatClampNeg) (none) fun o2 => lo_g (Nat.beq (v0_kd o2) 12) (lo_m (v0_fr o2 3) (none) fun o4 => lo_g (vk_iw o4 104 (am_i g 41 ((am_i g 39 4)).toNatClampNeg)) (some (am_si (am_si g o4 ((am_i g 41 ((am_i g 39 4)).toNatClampNeg)).toNatClampNeg 0) 39 4 ((am_i (am_si g o4 ((am_i g 41 ((am_i g 39 4)).toNatClampNeg)).toNatClampNeg 0) 39 4) - 1)))))
theorem dm_180 (L : Nat) (g : am_G)  (R : am_G) : fm_180 g  = some R → ai_ev ap_P 180 (ai_e0 ap_P 180 [.ref 39] (v0 L, g)) (.inl none) (v0 L, R) := by
  show _ → ai_ev ap_P 180 (0, [some (.ref 39)], [], (v0 L, g)) _ _
  unfold fm_180
  refine ev_gd (c := ai_in (am_i g 39 4) 17) (fun hc1 => ?_)
  refine ev_jm 4 (t := (9, [some (.ref 39)], [am_v (am_r g 40 ((am_i g 39 4)).toNatClampNeg)], (v0 L, g))) (ai_gd (c := ai_in (am_i g 39 4) 17) rfl hc1) ?_
  refine ev_om (S := fun (o : Option Nat) => (9, [some (.ref 39)], [am_v o], (v0 L, g))) ?_ (fun o2 => ?_)
  · exact fun hR => nomatch hR
  · refine ev_gd (c := Nat.beq (v0_kd o2) 12) (fun hc3 => ?_)
    refine ev_jm 0 (t := (12, [some (.ref 39)], [am_v (v0_fr o2 3)], (v0 L, g))) (ai_gd (c := Nat.beq (v0_kd o2) 12) rfl hc3) ?_
    refine ev_om (S := fun (o : Option Nat) => (12, [some (.ref 39)], [am_v o], (v0 L, g))) ?_ (fun o4 => ?_)
    · exact fun hR => nomatch hR
    · refine ev_jm 4 (t := (21, [some (.ref 39)], [.int (am_i g 41 ((am_i g 39 4)).toNatClampNeg), .ref o4], (v0 L, g))) (ai_gd (c := ai_in (am_i g 39 4) 17) rfl hc1) ?_
      refine ev_gd (c := vk_iw o4 104 (am_i g 41 ((am_i g 39 4)).toNatClampNeg)) (fun hc5 => ?_)
      refine ev_jm 1 (t := (23, [some (.ref 39)], [], (v0 L, (am_si g o4 ((am_i g 41 ((am_i g 39 4)).toNatClampNeg)).toNatClampNeg 0)))) (ai_gd (c := (Nat.beq (v0_kd o4) 104 && Nat.ble 32 o4) && ai_in (am_i g 41 ((am_i g 39 4)).toNatClampNeg) (v0_ln L o4)) rfl (vk_st hc5)) ?_
      exact fun hR => by cases hR; exact ev_rt 6 rfl
noncomputable def fj_270_19 (g : am_G)  (u1 : Int32) : Option (Int32) := if u1 < 65 then some 0 else if (70 : Int32) < u1 then some 0 else some 1
theorem dj_270_19 (L : Nat) (g : am_G)   (u1 : Int32) (w0 : Option Value) (R : Int32) : fj_270_19 g  u1 = some R → ai_ev ap_P 270 (19, [w0, some (.int u1)], [], (v0 L, g)) (.inl (ez_i R)) (v0 L, g) := by
  unfold fj_270_19
  refine ev_if 2 (p := u1 < 65) (a := 35) (b := 25) (T := ([none, some (.int u1)], [], (v0 L, g))) rfl ?_ ?_
  · exact fun hR => by cases hR; exact ev_rt 1 rfl
  · refine ev_if 2 (p := (70 : Int32) < u1) (a := 35) (b := 31) (T := ([none, some (.int u1)], [], (v0 L, g))) rfl ?_ ?_
    · exact fun hR => by cases hR; exact ev_rt 1 rfl
    · exact fun hR => by cases hR; exact ev_rt 2 rfl
/-- DeclaredMarkup$Processor.isHex(I)Z -/
noncomputable def fm_270 (g : am_G) (u1 : Int32) : Option (Int32) := lo_p (fm_259 g u1) fun y1 => if y1 = 0 then if u1 < 97 then fj_270_19 g u1 else if u1 ≤ 102 then some 1 else fj_270_19 g u1 else some 1
theorem dm_270 (L : Nat) (g : am_G) (u1 : Int32) (R : Int32) : fm_270 g u1 = some R → ai_ev ap_P 270 (ai_e0 ap_P 270 [.ref 33, .int u1] (v0 L, g)) (.inl (ez_i R)) (v0 L, g) := by
  show _ → ai_ev ap_P 270 (0, [some (.ref 33), some (.int u1)], [], (v0 L, g)) _ _
  unfold fm_270
  refine ev_op 1 (as := [.int u1]) (pc := 4) (Lc := [some (.ref 33), some (.int u1)]) (st := []) (h1 := (v0 L, g)) (e := ez_i) rfl (dm_259 L g u1) (fun y1 => ?_)
  refine ev_in 0 (p := y1 = 0) (a := 31) (b := 7) (T := ([some (.ref 33), some (.int u1)], [], (v0 L, g))) rfl ?_ ?_
  · refine ev_if 2 (p := u1 < 97) (a := 19) (b := 13) (T := ([some (.ref 33), some (.int u1)], [], (v0 L, g))) rfl ?_ ?_
    · exact dj_270_19 L g u1 (some (.ref 33)) _
    · refine ev_if 2 (p := u1 ≤ 102) (a := 31) (b := 19) (T := ([some (.ref 33), some (.int u1)], [], (v0 L, g))) rfl ?_ ?_
      · exact fun hR => by cases hR; exact ev_rt 2 rfl
      · exact dj_270_19 L g u1 (some (.ref 33)) _
  · exact fun hR => by cases hR; exact ev_rt 2 rfl
/-- DeclaredMarkup$Processor.digit(I)I -/
noncomputable def fm_271 (g : am_G) (u0 : Int32) : Option (Int32) := if (57 : Int32) < u0 then lo_p (fm_261 g u0) fun y1 => some ((y1 - 97) + 10) else some (u0 - 48)
theorem dm_271 (L : Nat) (g : am_G) (u0 : Int32) (R : Int32) : fm_271 g u0 = some R → ai_ev ap_P 271 (ai_e0 ap_P 271 [.int u0] (v0 L, g)) (.inl (ez_i R)) (v0 L, g) := by
  show _ → ai_ev ap_P 271 (0, [some (.int u0)], [], (v0 L, g)) _ _
  unfold fm_271
  refine ev_if 2 (p := (57 : Int32) < u0) (a := 13) (b := 6) (T := ([some (.int u0)], [], (v0 L, g))) rfl ?_ ?_
  · refine ev_op 1 (as := [.int u0]) (pc := 17) (Lc := [some (.int u0)]) (st := []) (h1 := (v0 L, g)) (e := ez_i) rfl (dm_261 L g u0) (fun y1 => ?_)
    exact fun hR => by cases hR; exact ev_rt 4 rfl
  · exact fun hR => by cases hR; exact ev_rt 4 rfl
/-- java/lang/Math.min(II)I -/
noncomputable def fm_334 (g : am_G) (u0 : Int32) (u1 : Int32) : Option (Int32) := if u1 < u0 then some u1 else some u0
theorem dm_334 (L : Nat) (g : am_G) (u0 : Int32) (u1 : Int32) (R : Int32) : fm_334 g u0 u1 = some R → ai_ev ap_P 334 (ai_e0 ap_P 334 [.int u0, .int u1] (v0 L, g)) (.inl (ez_i R)) (v0 L, g) := by
  show _ → ai_ev ap_P 334 (0, [some (.int u0), some (.int u1)], [], (v0 L, g)) _ _
  unfold fm_334
  refine ev_if 2 (p := u1 < u0) (a := 9) (b := 5) (T := ([some (.int u0), some (.int u1)], [], (v0 L, g))) rfl ?_ ?_
  · exact fun hR => by cases hR; exact ev_rt 1 rfl
  · exact fun hR => by cases hR; exact ev_rt 2 rfl
noncomputable def fj_272_101 (k52 : (am_G × Int32 × Int32 × Int32) → Option ((Int32 ⊕ Nat) × am_G)) (g : am_G) (u1 : Int32) (u2 : Int32) (t0 : Int32) (t1 : Int32) (t2 : Int32) : Option ((Int32 ⊕ Nat) × am_G) := lo_p (fm_176 g ) fun y1 => lo_p (fm_271 g y1) fun y3 => lo_p (fm_334 g t0 ((t1 * t2) + y3)) fun y5 => lo_p (fm_177 g ) fun g8 => k52 (g8, u1, u2, y5)
theorem dj_272_101 (L : Nat) {k52 : (am_G × Int32 × Int32 × Int32) → Option ((Int32 ⊕ Nat) × am_G)} (hk52 : ∀ (x : am_G × Int32 × Int32 × Int32) (R : (Int32 ⊕ Nat) × am_G), k52 x = some R → ai_ev ap_P 272 (52, [some (.ref 33), some (.int x.2.1), some (.int x.2.2.1), some (.int x.2.2.2)], [], (v0 L, x.1)) (oz_r ez_i R.1) (v0 L, R.2)) (g : am_G) (u1 : Int32) (u2 : Int32) (t0 : Int32) (t1 : Int32) (t2 : Int32) (w3 : Option Value) (R : (Int32 ⊕ Nat) × am_G) : fj_272_101 k52 g u1 u2 t0 t1 t2 = some R → ai_ev ap_P 272 (101, [some (.ref 33), some (.int u1), some (.int u2), w3], [.int t2, .int t1, .int t0], (v0 L, g)) (oz_r ez_i R.1) (v0 L, R.2) := by
  unfold fj_272_101
  refine ev_op 3 (as := [.ref 39]) (pc := 109) (Lc := [some (.ref 33), some (.int u1), some (.int u2), none]) (st := [.int (t1 * t2), .int t0]) (h1 := (v0 L, g)) (e := ez_i) rfl (dm_176 L g ) (fun y1 => ?_)
  refine ev_op 0 (as := [.int y1]) (pc := 112) (Lc := [some (.ref 33), some (.int u1), some (.int u2), none]) (st := [.int (t1 * t2), .int t0]) (h1 := (v0 L, g)) (e := ez_i) rfl (dm_271 L g y1) (fun y3 => ?_)
  refine ev_op 1 (as := [.int t0, .int ((t1 * t2) + y3)]) (pc := 116) (Lc := [some (.ref 33), some (.int u1), some (.int u2), none]) (st := []) (h1 := (v0 L, g)) (e := ez_i) rfl (dm_334 L g t0 ((t1 * t2) + y3)) (fun y5 => ?_)
  refine ev_ov0 3 (as := [.ref 39]) (pc := 124) (Lc := [some (.ref 33), some (.int u1), some (.int u2), some (.int y5)]) (st := []) (V := v0 L) (g1 := g) rfl (dm_177 L g ) (fun g8 => ?_)
  refine ev_jm 0 (t := (52, [some (.ref 33), some (.int u1), some (.int u2), some (.int y5)], [], (v0 L, g8))) rfl ?_
  exact hk52 (g8, u1, u2, y5) _
noncomputable def fj_272_86 (k52 : (am_G × Int32 × Int32 × Int32) → Option ((Int32 ⊕ Nat) × am_G)) (g : am_G) (u1 : Int32) (u2 : Int32) (u3 : Int32) : Option ((Int32 ⊕ Nat) × am_G) := if u2 = 0 then fj_272_101 k52 g u1 u2 1114112 u3 10 else fj_272_101 k52 g u1 u2 1114112 u3 16
theorem dj_272_86 (L : Nat) {k52 : (am_G × Int32 × Int32 × Int32) → Option ((Int32 ⊕ Nat) × am_G)} (hk52 : ∀ (x : am_G × Int32 × Int32 × Int32) (R : (Int32 ⊕ Nat) × am_G), k52 x = some R → ai_ev ap_P 272 (52, [some (.ref 33), some (.int x.2.1), some (.int x.2.2.1), some (.int x.2.2.2)], [], (v0 L, x.1)) (oz_r ez_i R.1) (v0 L, R.2)) (g : am_G) (u1 : Int32) (u2 : Int32) (u3 : Int32) (R : (Int32 ⊕ Nat) × am_G) : fj_272_86 k52 g u1 u2 u3 = some R → ai_ev ap_P 272 (86, [some (.ref 33), some (.int u1), some (.int u2), some (.int u3)], [], (v0 L, g)) (oz_r ez_i R.1) (v0 L, R.2) := by
  unfold fj_272_86
  refine ev_if 3 (p := u2 = 0) (a := 99) (b := 94) (T := ([some (.ref 33), some (.int u1), some (.int u2), some (.int u3)], [.int u3, .int 1114112], (v0 L, g))) rfl ?_ ?_
  · refine ev_jm 0 (t := (101, [some (.ref 33), some (.int u1), some (.int u2), some (.int u3)], [.int 10, .int u3, .int 1114112], (v0 L, g))) rfl ?_
    exact dj_272_101 L hk52 g u1 u2 1114112 u3 10 (some (.int u3)) _
  · refine ev_jm 1 (t := (101, [some (.ref 33), some (.int u1), some (.int u2), some (.int u3)], [.int 16, .int u3, .int 1114112], (v0 L, g))) rfl ?_
    exact dj_272_101 L hk52 g u1 u2 1114112 u3 16 (some (.int u3)) _
noncomputable def fj_272_127  (g : am_G) (u1 : Int32) (u3 : Int32) : Option ((Int32 ⊕ Nat) × am_G) := lo_t (fm_244 g 59) fun y1 g2 => lo_p (fm_184 g2 u3) fun y3 => if y3 = 0 then lo_i (fm_236 g2 8 u1) fun y5 g6 => lo_g (Nat.ble 1008 y5 && Nat.blt y5 (am_sz g6)) (some (.inr y5, g6)) else some (.inl u3, g2)
theorem dj_272_127 (L : Nat)   (g : am_G) (u1 : Int32) (u3 : Int32) (w2 : Option Value) (R : (Int32 ⊕ Nat) × am_G) : fj_272_127  g u1 u3 = some R → ai_ev ap_P 272 (127, [some (.ref 33), some (.int u1), w2, some (.int u3)], [], (v0 L, g)) (oz_r ez_i R.1) (v0 L, R.2) := by
  unfold fj_272_127
  refine ev_ot 2 (as := [.ref 33, .int 59]) (pc := 133) (Lc := [some (.ref 33), some (.int u1), none, some (.int u3)]) (st := []) (V := v0 L) (g1 := g) (e := ez_v) rfl (dm_244 L g 59) (fun _ => rfl) (fun y1 g2 => ?_)
  refine ev_op 1 (as := [.int u3]) (pc := 137) (Lc := [some (.ref 33), some (.int u1), none, some (.int u3)]) (st := []) (h1 := (v0 L, g2)) (e := ez_i) rfl (dm_184 L g2 u3) (fun y3 => ?_)
  refine ev_in 0 (p := y3 = 0) (a := 148) (b := 140) (T := ([some (.ref 33), some (.int u1), none, some (.int u3)], [], (v0 L, g2))) rfl ?_ ?_
  · refine ev_oi 3 (as := [.ref 33, .int 8, .int u1]) (pc := 147) (Lc := [some (.ref 33), some (.int u1), none, some (.int u3)]) (st := []) (V := v0 L) (g1 := g2) (e := ez_a) rfl (dm_236 L g2 8 u1) (fun y5 g6 => ?_)
    exact ev_at 0 (a := y5) (g1 := g6) rfl
  · exact fun hR => by cases hR; exact ev_rt 1 rfl
noncomputable def fb_272_52 (k52 : (am_G × Int32 × Int32 × Int32) → Option ((Int32 ⊕ Nat) × am_G)) (g : am_G) (u1 : Int32) (u2 : Int32) (u3 : Int32) : Option ((Int32 ⊕ Nat) × am_G) := if u2 = 0 then lo_p (fm_176 g ) fun y1 => lo_p (fm_259 g y1) fun y3 => if y3 = 0 then fj_272_127 g u1 u3 else fj_272_86 k52 g u1 u2 u3 else lo_p (fm_176 g ) fun y5 => lo_p (fm_270 g y5) fun y7 => if y7 = 0 then fj_272_127 g u1 u3 else fj_272_86 k52 g u1 u2 u3
theorem db_272_52 (L : Nat) {k52 : (am_G × Int32 × Int32 × Int32) → Option ((Int32 ⊕ Nat) × am_G)} (hk52 : ∀ (x : am_G × Int32 × Int32 × Int32) (R : (Int32 ⊕ Nat) × am_G), k52 x = some R → ai_ev ap_P 272 (52, [some (.ref 33), some (.int x.2.1), some (.int x.2.2.1), some (.int x.2.2.2)], [], (v0 L, x.1)) (oz_r ez_i R.1) (v0 L, R.2)) (g : am_G) (u1 : Int32) (u2 : Int32) (u3 : Int32) (R : (Int32 ⊕ Nat) × am_G) : fb_272_52 k52 g u1 u2 u3 = some R → ai_ev ap_P 272 (52, [some (.ref 33), some (.int u1), some (.int u2), some (.int u3)], [], (v0 L, g)) (oz_r ez_i R.1) (v0 L, R.2) := by
  unfold fb_272_52
  refine ev_if 1 (p := u2 = 0) (a := 73) (b := 56) (T := ([some (.ref 33), some (.int u1), some (.int u2), some (.int u3)], [], (v0 L, g))) rfl ?_ ?_
  · refine ev_op 2 (as := [.ref 39]) (pc := 80) (Lc := [some (.ref 33), some (.int u1), some (.int u2), some (.int u3)]) (st := []) (h1 := (v0 L, g)) (e := ez_i) rfl (dm_176 L g ) (fun y1 => ?_)
    refine ev_op 0 (as := [.int y1]) (pc := 83) (Lc := [some (.ref 33), some (.int u1), some (.int u2), some (.int u3)]) (st := []) (h1 := (v0 L, g)) (e := ez_i) rfl (dm_259 L g y1) (fun y3 => ?_)
    refine ev_if 0 (p := y3 = 0) (a := 127) (b := 86) (T := ([some (.ref 33), some (.int u1), some (.int u2), some (.int u3)], [], (v0 L, g))) rfl ?_ ?_
    · exact dj_272_127 L g u1 u3 (some (.int u2)) _
    · exact dj_272_86 L hk52 g u1 u2 u3 _
  · refine ev_op 3 (as := [.ref 39]) (pc := 64) (Lc := [some (.ref 33), some (.int u1), some (.int u2), some (.int u3)]) (st := [.ref 33]) (h1 := (v0 L, g)) (e := ez_i) rfl (dm_176 L g ) (fun y5 => ?_)
    refine ev_op 0 (as := [.ref 33, .int y5]) (pc := 67) (Lc := [some (.ref 33), some (.int u1), some (.int u2), some (.int u3)]) (st := []) (h1 := (v0 L, g)) (e := ez_i) rfl (dm_270 L g y5) (fun y7 => ?_)
    refine ev_if 0 (p := y7 = 0) (a := 127) (b := 70) (T := ([some (.ref 33), some (.int u1), some (.int u2), some (.int u3)], [], (v0 L, g))) rfl ?_ ?_
    · exact dj_272_127 L g u1 u3 (some (.int u2)) _
    · refine ev_jm 0 (t := (86, [some (.ref 33), some (.int u1), some (.int u2), some (.int u3)], [], (v0 L, g))) rfl ?_
      exact dj_272_86 L hk52 g u1 u2 u3 _
noncomputable def fh_272_52  (x : am_G × Int32 × Int32 × Int32) : Option ((Int32 ⊕ Nat) × am_G) := lo_it (fun k x => fb_272_52 k x.1 x.2.1 x.2.2.1 x.2.2.2) nf_F x
theorem dh_272_52 (L : Nat)   (x : am_G × Int32 × Int32 × Int32) (R : (Int32 ⊕ Nat) × am_G) : fh_272_52  x = some R → ai_ev ap_P 272 (52, [some (.ref 33), some (.int x.2.1), some (.int x.2.2.1), some (.int x.2.2.2)], [], (v0 L, x.1)) (oz_r ez_i R.1) (v0 L, R.2) :=
  fun hr => lo_ev (E := fun x R => ai_ev ap_P 272 (52, [some (.ref 33), some (.int x.2.1), some (.int x.2.2.1), some (.int x.2.2.2)], [], (v0 L, x.1)) (oz_r ez_i R.1) (v0 L, R.2)) (fun k hk x R hr => db_272_52 L hk x.1 x.2.1 x.2.2.1 x.2.2.2  R hr) nf_F x R hr
noncomputable def fj_272_47  (g : am_G) (u1 : Int32) (u2 : Int32) (t1 : Int32) : Option ((Int32 ⊕ Nat) × am_G) := lo_t (fm_238 g t1) fun y1 g2 => fh_272_52 (g2, u1, u2, 0)
theorem dj_272_47 (L : Nat)   (g : am_G) (u1 : Int32) (u2 : Int32) (t1 : Int32) (w3 : Option Value) (R : (Int32 ⊕ Nat) × am_G) : fj_272_47  g u1 u2 t1 = some R → ai_ev ap_P 272 (47, [some (.ref 33), some (.int u1), some (.int u2), w3], [.int t1, .ref 33], (v0 L, g)) (oz_r ez_i R.1) (v0 L, R.2) := by
  unfold fj_272_47
  refine ev_ot 0 (as := [.ref 33, .int t1]) (pc := 50) (Lc := [some (.ref 33), some (.int u1), some (.int u2), none]) (st := []) (V := v0 L) (g1 := g) (e := ez_v) rfl (dm_238 L g t1) (fun _ => rfl) (fun y1 g2 => ?_)
  refine ev_jm 1 (t := (52, [some (.ref 33), some (.int u1), some (.int u2), some (.int 0)], [], (v0 L, g2))) rfl ?_
  exact dh_272_52 L (g2, u1, u2, 0) _
noncomputable def fj_272_18  (g : am_G) (u1 : Int32) (u2 : Int32) : Option ((Int32 ⊕ Nat) × am_G) := if u2 = 0 then lo_p (fm_176 g ) fun y1 => lo_p (fm_259 g y1) fun y3 => fj_272_47 g u1 u2 y3 else lo_p (fm_176 g ) fun y5 => lo_p (fm_270 g y5) fun y7 => fj_272_47 g u1 u2 y7
theorem dj_272_18 (L : Nat)   (g : am_G) (u1 : Int32) (u2 : Int32) (w3 : Option Value) (R : (Int32 ⊕ Nat) × am_G) : fj_272_18  g u1 u2 = some R → ai_ev ap_P 272 (18, [some (.ref 33), some (.int u1), some (.int u2), w3], [], (v0 L, g)) (oz_r ez_i R.1) (v0 L, R.2) := by
  unfold fj_272_18
  refine ev_if 2 (p := u2 = 0) (a := 37) (b := 23) (T := ([some (.ref 33), some (.int u1), some (.int u2), none], [.ref 33], (v0 L, g))) rfl ?_ ?_
  · refine ev_op 2 (as := [.ref 39]) (pc := 44) (Lc := [some (.ref 33), some (.int u1), some (.int u2), none]) (st := [.ref 33]) (h1 := (v0 L, g)) (e := ez_i) rfl (dm_176 L g ) (fun y1 => ?_)
    refine ev_op 0 (as := [.int y1]) (pc := 47) (Lc := [some (.ref 33), some (.int u1), some (.int u2), none]) (st := [.ref 33]) (h1 := (v0 L, g)) (e := ez_i) rfl (dm_259 L g y1) (fun y3 => ?_)
    exact dj_272_47 L g u1 u2 y3 none _
  · refine ev_op 3 (as := [.ref 39]) (pc := 31) (Lc := [some (.ref 33), some (.int u1), some (.int u2), none]) (st := [.ref 33, .ref 33]) (h1 := (v0 L, g)) (e := ez_i) rfl (dm_176 L g ) (fun y5 => ?_)
    refine ev_op 0 (as := [.ref 33, .int y5]) (pc := 34) (Lc := [some (.ref 33), some (.int u1), some (.int u2), none]) (st := [.ref 33]) (h1 := (v0 L, g)) (e := ez_i) rfl (dm_270 L g y5) (fun y7 => ?_)
    refine ev_jm 0 (t := (47, [some (.ref 33), some (.int u1), some (.int u2), none], [.int y7, .ref 33], (v0 L, g))) rfl ?_
    exact dj_272_47 L g u1 u2 y7 none _
/-- DeclaredMarkup$Processor.number(I)I -/
noncomputable def fm_272 (g : am_G) (u1 : Int32) : Option ((Int32 ⊕ Nat) × am_G) := lo_p (fm_240 g 120) fun y1 => if y1 = 0 then fj_272_18 g u1 y1 else lo_p (fm_177 g ) fun g4 => fj_272_18 g4 u1 y1
theorem dm_272 (L : Nat) (g : am_G) (u1 : Int32) (R : (Int32 ⊕ Nat) × am_G) : fm_272 g u1 = some R → ai_ev ap_P 272 (ai_e0 ap_P 272 [.ref 33, .int u1] (v0 L, g)) (oz_r ez_i R.1) (v0 L, R.2) := by
  show _ → ai_ev ap_P 272 (0, [some (.ref 33), some (.int u1), none, none], [], (v0 L, g)) _ _
  unfold fm_272
  refine ev_op 2 (as := [.ref 33, .int 120]) (pc := 6) (Lc := [some (.ref 33), some (.int u1), none, none]) (st := []) (h1 := (v0 L, g)) (e := ez_i) rfl (dm_240 L g 120) (fun y1 => ?_)
  refine ev_if 2 (p := y1 = 0) (a := 18) (b := 11) (T := ([some (.ref 33), some (.int u1), some (.int y1), none], [], (v0 L, g))) rfl ?_ ?_
  · exact dj_272_18 L g u1 y1 none _
  · refine ev_ov0 2 (as := [.ref 39]) (pc := 18) (Lc := [some (.ref 33), some (.int u1), some (.int y1), none]) (st := []) (V := v0 L) (g1 := g) rfl (dm_177 L g ) (fun g4 => ?_)
    exact dj_272_18 L g4 u1 y1 none _
noncomputable def fj_273_83 (g : am_G)  (u1 : Int64) : Option (Int32) := if (lg_cmp u1 27764) = 0 then some 60 else if (lg_cmp u1 26484) = 0 then some 62 else if (lg_cmp u1 6385008) = 0 then some 38 else if (lg_cmp u1 1634758515) = 0 then some 39 else if (lg_cmp u1 1903521652) = 0 then some 34 else some (-1)
theorem dj_273_83 (L : Nat) (g : am_G)   (u1 : Int64) (w0 w2 w3 : Option Value) (R : Int32) : fj_273_83 g  u1 = some R → ai_ev ap_P 273 (83, [w0, some (.long u1), w2, w3], [], (v0 L, g)) (.inl (ez_i R)) (v0 L, g) := by
  unfold fj_273_83
  refine ev_in 3 (p := (lg_cmp u1 27764) = 0) (a := 96) (b := 91) (T := ([none, some (.long u1), none, none], [], (v0 L, g))) rfl ?_ ?_
  · exact fun hR => by cases hR; exact ev_rt 2 rfl
  · refine ev_in 3 (p := (lg_cmp u1 26484) = 0) (a := 109) (b := 104) (T := ([none, some (.long u1), none, none], [], (v0 L, g))) rfl ?_ ?_
    · exact fun hR => by cases hR; exact ev_rt 2 rfl
    · refine ev_in 3 (p := (lg_cmp u1 6385008) = 0) (a := 122) (b := 117) (T := ([none, some (.long u1), none, none], [], (v0 L, g))) rfl ?_ ?_
      · exact fun hR => by cases hR; exact ev_rt 2 rfl
      · refine ev_in 3 (p := (lg_cmp u1 1634758515) = 0) (a := 135) (b := 130) (T := ([none, some (.long u1), none, none], [], (v0 L, g))) rfl ?_ ?_
        · exact fun hR => by cases hR; exact ev_rt 2 rfl
        · refine ev_in 3 (p := (lg_cmp u1 1903521652) = 0) (a := 148) (b := 143) (T := ([none, some (.long u1), none, none], [], (v0 L, g))) rfl ?_ ?_
          · exact fun hR => by cases hR; exact ev_rt 2 rfl
          · exact fun hR => by cases hR; exact ev_rt 1 rfl
noncomputable def fb_273_4 (g : am_G) (k4 : (Int64 × Int32) → Option (Int32)) (u1 : Int64) (u3 : Int32) : Option (Int32) := if (am_i g 43 7) ≤ u3 then fj_273_83 g u1 else if (5 : Int32) ≤ (am_i g 43 7) then fj_273_83 g u1 else lo_g (ai_in ((am_i g 43 6) + u3) 14600) (if (128 : Int32) ≤ (am_i g 44 (((am_i g 43 6) + u3)).toNatClampNeg) then lo_l ((u1 <<< ((8 : Int32).toInt64 &&& 63)) ||| (1 : Int32).toInt64) fun x2 => k4 (x2, (u3 + 1)) else lo_l ((u1 <<< ((8 : Int32).toInt64 &&& 63)) ||| (am_i g 44 (((am_i g 43 6) + u3)).toNatClampNeg).toInt64) fun x3 => k4 (x3, (u3 + 1)))
theorem db_273_4 (L : Nat) (g : am_G) {k4 : (Int64 × Int32) → Option (Int32)} (hk4 : ∀ (x : Int64 × Int32) (w2 : Option Value) (R : Int32), k4 x = some R → ai_ev ap_P 273 (4, [some (.ref 33), some (.long x.1), w2, some (.int x.2)], [], (v0 L, g)) (.inl (ez_i R)) (v0 L, g)) (u1 : Int64) (u3 : Int32) (w2 : Option Value) (R : Int32) : fb_273_4 g k4 u1 u3 = some R → ai_ev ap_P 273 (4, [some (.ref 33), some (.long u1), w2, some (.int u3)], [], (v0 L, g)) (.inl (ez_i R)) (v0 L, g) := by
  unfold fb_273_4
  refine ev_if 4 (p := (am_i g 43 7) ≤ u3) (a := 83) (b := 15) (T := ([some (.ref 33), some (.long u1), none, some (.int u3)], [], (v0 L, g))) rfl ?_ ?_
  · exact dj_273_83 L g u1 (some (.ref 33)) none (some (.int u3)) _
  · refine ev_if 4 (p := (5 : Int32) ≤ (am_i g 43 7)) (a := 83) (b := 26) (T := ([some (.ref 33), some (.long u1), none, some (.int u3)], [], (v0 L, g))) rfl ?_ ?_
    · exact dj_273_83 L g u1 (some (.ref 33)) none (some (.int u3)) _
    · refine ev_gd (c := ai_in ((am_i g 43 6) + u3) 14600) (fun hc1 => ?_)
      refine ev_jm 11 (t := (47, [some (.ref 33), some (.long u1), none, some (.int u3)], [.int (am_i g 44 (((am_i g 43 6) + u3)).toNatClampNeg), .long (u1 <<< ((8 : Int32).toInt64 &&& 63))], (v0 L, g))) (ai_gd (c := ai_in ((am_i g 43 6) + u3) 14600) rfl hc1) ?_
      refine ev_if 1 (p := (128 : Int32) ≤ (am_i g 44 (((am_i g 43 6) + u3)).toNatClampNeg)) (a := 73) (b := 53) (T := ([some (.ref 33), some (.long u1), none, some (.int u3)], [.long (u1 <<< ((8 : Int32).toInt64 &&& 63))], (v0 L, g))) rfl ?_ ?_
      · refine ev_jm 2 (t := (76, [some (.ref 33), none, none, some (.int u3)], [.long ((u1 <<< ((8 : Int32).toInt64 &&& 63)) ||| (1 : Int32).toInt64)], (v0 L, g))) rfl ?_
        refine lo_e (S := fun (x2 : Int64) => (76, [some (.ref 33), none, none, some (.int u3)], [.long x2], (v0 L, g))) (fun x2 => ?_)
        refine ev_jm 2 (t := (4, [some (.ref 33), some (.long x2), none, some (.int (u3 + 1))], [], (v0 L, g))) rfl ?_
        exact hk4 (x2, (u3 + 1)) none _
      · refine ev_jm 8 (t := (70, [some (.ref 33), some (.long u1), none, some (.int u3)], [.int (am_i g 44 (((am_i g 43 6) + u3)).toNatClampNeg), .long (u1 <<< ((8 : Int32).toInt64 &&& 63))], (v0 L, g))) (ai_gd (c := ai_in ((am_i g 43 6) + u3) 14600) rfl hc1) ?_
        refine ev_jm 2 (t := (76, [some (.ref 33), none, none, some (.int u3)], [.long ((u1 <<< ((8 : Int32).toInt64 &&& 63)) ||| (am_i g 44 (((am_i g 43 6) + u3)).toNatClampNeg).toInt64)], (v0 L, g))) rfl ?_
        refine lo_e (S := fun (x3 : Int64) => (76, [some (.ref 33), none, none, some (.int u3)], [.long x3], (v0 L, g))) (fun x3 => ?_)
        refine ev_jm 2 (t := (4, [some (.ref 33), some (.long x3), none, some (.int (u3 + 1))], [], (v0 L, g))) rfl ?_
        exact hk4 (x3, (u3 + 1)) none _
noncomputable def fh_273_4 (g : am_G)  (x : Int64 × Int32) : Option (Int32) := lo_it (fun k x => fb_273_4 g k x.1 x.2) nf_F x
theorem dh_273_4 (L : Nat) (g : am_G)   (x : Int64 × Int32) (w2 : Option Value) (R : Int32) : fh_273_4 g  x = some R → ai_ev ap_P 273 (4, [some (.ref 33), some (.long x.1), w2, some (.int x.2)], [], (v0 L, g)) (.inl (ez_i R)) (v0 L, g) :=
  fun hr => lo_ev (E := fun x R => ∀ (w2 : Option Value), ai_ev ap_P 273 (4, [some (.ref 33), some (.long x.1), w2, some (.int x.2)], [], (v0 L, g)) (.inl (ez_i R)) (v0 L, g)) (fun k hk x R hr => fun w2 => db_273_4 L g (fun x w2 R hr => hk x R hr w2) x.1 x.2 w2 R hr) nf_F x R hr w2
/-- DeclaredMarkup$Processor.builtIn()I -/
noncomputable def fm_273 (g : am_G)  : Option (Int32) := fh_273_4 g (0, 0)
theorem dm_273 (L : Nat) (g : am_G)  (R : Int32) : fm_273 g  = some R → ai_ev ap_P 273 (ai_e0 ap_P 273 [.ref 33] (v0 L, g)) (.inl (ez_i R)) (v0 L, g) := by
  show _ → ai_ev ap_P 273 (0, [some (.ref 33), none, none, none], [], (v0 L, g)) _ _
  unfold fm_273
  refine ev_jm 3 (t := (4, [some (.ref 33), some (.long 0), none, some (.int 0)], [], (v0 L, g))) rfl ?_
  exact dh_273_4 L g (0, 0) none _
noncomputable def fj_172_26 (g : am_G)  (u0 : Nat) (u2 : Int32) : Option (Int32) := lo_g (Nat.beq (v0_kd u0) 12) (if (am_i g u0 5) ≤ u2 then some (-1) else some u2)
theorem dj_172_26 (L : Nat) (g : am_G)   (u0 : Nat) (u2 : Int32) (w1 : Option Value) (R : Int32) : fj_172_26 g  u0 u2 = some R → ai_ev ap_P 172 (26, [some (.ref u0), w1, some (.int u2)], [], (v0 L, g)) (.inl (ez_i R)) (v0 L, g) := by
  unfold fj_172_26
  refine ev_gd (c := Nat.beq (v0_kd u0) 12) (fun hc1 => ?_)
  refine ev_jm 2 (t := (31, [some (.ref u0), none, some (.int u2)], [.int (am_i g u0 5), .int u2], (v0 L, g))) (ai_gd (c := Nat.beq (v0_kd u0) 12) rfl hc1) ?_
  refine ev_if 0 (p := (am_i g u0 5) ≤ u2) (a := 38) (b := 34) (T := ([some (.ref u0), none, some (.int u2)], [], (v0 L, g))) rfl ?_ ?_
  · exact fun hR => by cases hR; exact ev_rt 1 rfl
  · exact fun hR => by cases hR; exact ev_rt 2 rfl
noncomputable def fb_172_2 (g : am_G) (k2 : (Nat × Int32 × Int32) → Option (Int32)) (u0 : Nat) (u1 : Int32) (u2 : Int32) : Option (Int32) := lo_g (Nat.beq (v0_kd u0) 12) (if (am_i g u0 5) ≤ u2 then fj_172_26 g u0 u2 else lo_m (v0_fr u0 0) (none) fun o2 => lo_g (vk_in o2 101 u2) (if (am_i g o2 u2.toNatClampNeg) = u1 then fj_172_26 g u0 u2 else k2 (u0, u1, (u2 + 1))))
theorem db_172_2 (L : Nat) (g : am_G) {k2 : (Nat × Int32 × Int32) → Option (Int32)} (hk2 : ∀ (x : Nat × Int32 × Int32) (R : Int32), k2 x = some R → ai_ev ap_P 172 (2, [some (.ref x.1), some (.int x.2.1), some (.int x.2.2)], [], (v0 L, g)) (.inl (ez_i R)) (v0 L, g)) (u0 : Nat) (u1 : Int32) (u2 : Int32) (R : Int32) : fb_172_2 g k2 u0 u1 u2 = some R → ai_ev ap_P 172 (2, [some (.ref u0), some (.int u1), some (.int u2)], [], (v0 L, g)) (.inl (ez_i R)) (v0 L, g) := by
  unfold fb_172_2
  refine ev_gd (c := Nat.beq (v0_kd u0) 12) (fun hc1 => ?_)
  refine ev_jm 2 (t := (7, [some (.ref u0), some (.int u1), some (.int u2)], [.int (am_i g u0 5), .int u2], (v0 L, g))) (ai_gd (c := Nat.beq (v0_kd u0) 12) rfl hc1) ?_
  refine ev_if 0 (p := (am_i g u0 5) ≤ u2) (a := 26) (b := 10) (T := ([some (.ref u0), some (.int u1), some (.int u2)], [], (v0 L, g))) rfl ?_ ?_
  · exact dj_172_26 L g u0 u2 (some (.int u1)) _
  · refine ev_jm 1 (t := (14, [some (.ref u0), some (.int u1), some (.int u2)], [am_v (v0_fr u0 0)], (v0 L, g))) (ai_gd (c := Nat.beq (v0_kd u0) 12) rfl hc1) ?_
    refine ev_om (S := fun (o : Option Nat) => (14, [some (.ref u0), some (.int u1), some (.int u2)], [am_v o], (v0 L, g))) ?_ (fun o2 => ?_)
    · exact fun hR => nomatch hR
    · refine ev_gd (c := vk_in o2 101 u2) (fun hc3 => ?_)
      refine ev_jm 1 (t := (16, [some (.ref u0), some (.int u1), some (.int u2)], [.int (am_i g o2 u2.toNatClampNeg)], (v0 L, g))) (ai_gd (c := Nat.beq (v0_kd o2) 101 && ai_in u2 (v0_ln L o2)) rfl (vk_ld hc3)) ?_
      refine ev_if 1 (p := (am_i g o2 u2.toNatClampNeg) = u1) (a := 26) (b := 20) (T := ([some (.ref u0), some (.int u1), some (.int u2)], [], (v0 L, g))) rfl ?_ ?_
      · exact dj_172_26 L g u0 u2 (some (.int u1)) _
      · refine ev_jm 1 (t := (2, [some (.ref u0), some (.int u1), some (.int (u2 + 1))], [], (v0 L, g))) rfl ?_
        exact hk2 (u0, u1, (u2 + 1)) _
noncomputable def fh_172_2 (g : am_G)  (x : Nat × Int32 × Int32) : Option (Int32) := lo_it (fun k x => fb_172_2 g k x.1 x.2.1 x.2.2) nf_F x
theorem dh_172_2 (L : Nat) (g : am_G)   (x : Nat × Int32 × Int32) (R : Int32) : fh_172_2 g  x = some R → ai_ev ap_P 172 (2, [some (.ref x.1), some (.int x.2.1), some (.int x.2.2)], [], (v0 L, g)) (.inl (ez_i R)) (v0 L, g) :=
  fun hr => lo_ev (E := fun x R => ai_ev ap_P 172 (2, [some (.ref x.1), some (.int x.2.1), some (.int x.2.2)], [], (v0 L, g)) (.inl (ez_i R)) (v0 L, g)) (fun k hk x R hr => db_172_2 L g hk x.1 x.2.1 x.2.2  R hr) nf_F x R hr
/-- DeclaredMarkup$EntityTable.find(I)I -/
noncomputable def fm_172 (g : am_G) (u0 : Nat) (u1 : Int32) : Option (Int32) := fh_172_2 g (u0, u1, 0)
theorem dm_172 (L : Nat) (g : am_G) (u0 : Nat) (u1 : Int32) (R : Int32) : fm_172 g u0 u1 = some R → ai_ev ap_P 172 (ai_e0 ap_P 172 [.ref u0, .int u1] (v0 L, g)) (.inl (ez_i R)) (v0 L, g) := by
  show _ → ai_ev ap_P 172 (0, [some (.ref u0), some (.int u1), none], [], (v0 L, g)) _ _
  unfold fm_172
  refine ev_jm 1 (t := (2, [some (.ref u0), some (.int u1), some (.int 0)], [], (v0 L, g))) rfl ?_
  exact dh_172_2 L g (u0, u1, 0) _
noncomputable def fj_179_12  (g : am_G) (u1 : Nat) (u2 : Int32) : Option (am_G) := lo_g (Nat.beq (v0_kd u1) 12) (lo_m (v0_fr u1 2) (none) fun o2 => lo_g (vk_in o2 101 u2) (lo_m (v0_fr u1 3) (none) fun o4 => lo_g (vk_iw o4 104 u2) (lo_g (((Nat.beq (v0_kd u1) 12) && (Nat.ble 32 u1 && ai_in ((am_i (am_si (am_si g 39 6 ((am_i g 39 6) + (am_i g o2 u2.toNatClampNeg))) o4 u2.toNatClampNeg 1) 39 4) + 1) 17))) (lo_g (ai_in ((am_i (am_si (am_si g 39 6 ((am_i g 39 6) + (am_i g o2 u2.toNatClampNeg))) o4 u2.toNatClampNeg 1) 39 4) + 1) 17) (some (am_si (am_si (am_sr (am_si (am_si (am_si g 39 6 ((am_i g 39 6) + (am_i g o2 u2.toNatClampNeg))) o4 u2.toNatClampNeg 1) 39 4 ((am_i (am_si (am_si g 39 6 ((am_i g 39 6) + (am_i g o2 u2.toNatClampNeg))) o4 u2.toNatClampNeg 1) 39 4) + 1)) 40 (((am_i (am_si (am_si g 39 6 ((am_i g 39 6) + (am_i g o2 u2.toNatClampNeg))) o4 u2.toNatClampNeg 1) 39 4) + 1)).toNatClampNeg (some u1)) 41 (((am_i (am_si (am_si g 39 6 ((am_i g 39 6) + (am_i g o2 u2.toNatClampNeg))) o4 u2.toNatClampNeg 1) 39 4) + 1)).toNatClampNeg u2) 42 (((am_i (am_si (am_si g 39 6 ((am_i g 39 6) + (am_i g o2 u2.toNatClampNeg))) o4 u2.toNatClampNeg 1) 39 4) + 1)).toNatClampNeg 0))))))
theorem dj_179_12 (L : Nat)   (g : am_G) (u1 : Nat) (u2 : Int32) (w3 : Option Value) (R : am_G) : fj_179_12  g u1 u2 = some R → ai_ev ap_P 179 (12, [some (.ref 39), some (.ref u1), some (.int u2), w3], [], (v0 L, g)) (.inl none) (v0 L, R) := by
  unfold fj_179_12
  refine ev_gd (c := Nat.beq (v0_kd u1) 12) (fun hc1 => ?_)
  refine ev_jm 4 (t := (21, [some (.ref 39), some (.ref u1), some (.int u2), none], [am_v (v0_fr u1 2), .int (am_i g 39 6), .ref 39], (v0 L, g))) (ai_gd (c := Nat.beq (v0_kd u1) 12) rfl hc1) ?_
  refine ev_om (S := fun (o : Option Nat) => (21, [some (.ref 39), some (.ref u1), some (.int u2), none], [am_v o, .int (am_i g 39 6), .ref 39], (v0 L, g))) ?_ (fun o2 => ?_)
  · exact fun hR => nomatch hR
  · refine ev_gd (c := vk_in o2 101 u2) (fun hc3 => ?_)
    refine ev_jm 1 (t := (23, [some (.ref 39), some (.ref u1), some (.int u2), none], [.int (am_i g o2 u2.toNatClampNeg), .int (am_i g 39 6), .ref 39], (v0 L, g))) (ai_gd (c := Nat.beq (v0_kd o2) 101 && ai_in u2 (v0_ln L o2)) rfl (vk_ld hc3)) ?_
    refine ev_jm 3 (t := (31, [some (.ref 39), some (.ref u1), some (.int u2), none], [am_v (v0_fr u1 3)], (v0 L, (am_si g 39 6 ((am_i g 39 6) + (am_i g o2 u2.toNatClampNeg)))))) (ai_gd (c := Nat.beq (v0_kd u1) 12) rfl hc1) ?_
    refine ev_om (S := fun (o : Option Nat) => (31, [some (.ref 39), some (.ref u1), some (.int u2), none], [am_v o], (v0 L, (am_si g 39 6 ((am_i g 39 6) + (am_i g o2 u2.toNatClampNeg)))))) ?_ (fun o4 => ?_)
    · exact fun hR => nomatch hR
    · refine ev_gd (c := vk_iw o4 104 u2) (fun hc5 => ?_)
      refine ev_jm 2 (t := (34, [some (.ref 39), some (.ref u1), some (.int u2), none], [], (v0 L, (am_si (am_si g 39 6 ((am_i g 39 6) + (am_i g o2 u2.toNatClampNeg))) o4 u2.toNatClampNeg 1)))) (ai_gd (c := (Nat.beq (v0_kd o4) 104 && Nat.ble 32 o4) && ai_in u2 (v0_ln L o4)) rfl (vk_st hc5)) ?_
      refine ev_gd (c := ((Nat.beq (v0_kd u1) 12) && (Nat.ble 32 u1 && ai_in ((am_i (am_si (am_si g 39 6 ((am_i g 39 6) + (am_i g o2 u2.toNatClampNeg))) o4 u2.toNatClampNeg 1) 39 4) + 1) 17))) (fun hc6 => ?_)
      refine ev_jm 11 (t := (54, [some (.ref 39), some (.ref u1), some (.int u2), none], [], (v0 L, (am_sr (am_si (am_si (am_si g 39 6 ((am_i g 39 6) + (am_i g o2 u2.toNatClampNeg))) o4 u2.toNatClampNeg 1) 39 4 ((am_i (am_si (am_si g 39 6 ((am_i g 39 6) + (am_i g o2 u2.toNatClampNeg))) o4 u2.toNatClampNeg 1) 39 4) + 1)) 40 (((am_i (am_si (am_si g 39 6 ((am_i g 39 6) + (am_i g o2 u2.toNatClampNeg))) o4 u2.toNatClampNeg 1) 39 4) + 1)).toNatClampNeg (some u1))))) (ai_gd (c := ((Nat.beq (v0_kd u1) 12) && (Nat.ble 32 u1 && ai_in ((am_i (am_si (am_si g 39 6 ((am_i g 39 6) + (am_i g o2 u2.toNatClampNeg))) o4 u2.toNatClampNeg 1) 39 4) + 1) 17))) rfl hc6) ?_
      refine ev_gd (c := ai_in ((am_i (am_si (am_si g 39 6 ((am_i g 39 6) + (am_i g o2 u2.toNatClampNeg))) o4 u2.toNatClampNeg 1) 39 4) + 1) 17) (fun hc7 => ?_)
      refine ev_jm 5 (t := (64, [some (.ref 39), some (.ref u1), some (.int u2), none], [], (v0 L, (am_si (am_sr (am_si (am_si (am_si g 39 6 ((am_i g 39 6) + (am_i g o2 u2.toNatClampNeg))) o4 u2.toNatClampNeg 1) 39 4 ((am_i (am_si (am_si g 39 6 ((am_i g 39 6) + (am_i g o2 u2.toNatClampNeg))) o4 u2.toNatClampNeg 1) 39 4) + 1)) 40 (((am_i (am_si (am_si g 39 6 ((am_i g 39 6) + (am_i g o2 u2.toNatClampNeg))) o4 u2.toNatClampNeg 1) 39 4) + 1)).toNatClampNeg (some u1)) 41 (((am_i (am_si (am_si g 39 6 ((am_i g 39 6) + (am_i g o2 u2.toNatClampNeg))) o4 u2.toNatClampNeg 1) 39 4) + 1)).toNatClampNeg u2)))) (ai_gd (c := ai_in ((am_i (am_si (am_si g 39 6 ((am_i g 39 6) + (am_i g o2 u2.toNatClampNeg))) o4 u2.toNatClampNeg 1) 39 4) + 1) 17) rfl hc7) ?_
      refine ev_jm 5 (t := (74, [some (.ref 39), some (.ref u1), some (.int u2), none], [], (v0 L, (am_si (am_si (am_sr (am_si (am_si (am_si g 39 6 ((am_i g 39 6) + (am_i g o2 u2.toNatClampNeg))) o4 u2.toNatClampNeg 1) 39 4 ((am_i (am_si (am_si g 39 6 ((am_i g 39 6) + (am_i g o2 u2.toNatClampNeg))) o4 u2.toNatClampNeg 1) 39 4) + 1)) 40 (((am_i (am_si (am_si g 39 6 ((am_i g 39 6) + (am_i g o2 u2.toNatClampNeg))) o4 u2.toNatClampNeg 1) 39 4) + 1)).toNatClampNeg (some u1)) 41 (((am_i (am_si (am_si g 39 6 ((am_i g 39 6) + (am_i g o2 u2.toNatClampNeg))) o4 u2.toNatClampNeg 1) 39 4) + 1)).toNatClampNeg u2) 42 (((am_i (am_si (am_si g 39 6 ((am_i g 39 6) + (am_i g o2 u2.toNatClampNeg))) o4 u2.toNatClampNeg 1) 39 4) + 1)).toNatClampNeg 0)))) (ai_gd (c := ai_in ((am_i (am_si (am_si g 39 6 ((am_i g 39 6) + (am_i g o2 u2.toNatClampNeg))) o4 u2.toNatClampNeg 1) 39 4) + 1) 17) rfl hc7) ?_
      exact fun hR => by cases hR; exact ev_rt 0 rfl
/-- DeclaredMarkup$Feed.enter(LDeclaredMarkup$EntityTable;II)V -/
noncomputable def fm_179 (g : am_G) (u1 : Nat) (u2 : Int32) (u3 : Int32) : Option (am_G) := if (am_i g 39 4) = 0 then fj_179_12 (am_si g 39 5 u3) u1 u2 else fj_179_12 g u1 u2
theorem dm_179 (L : Nat) (g : am_G) (u1 : Nat) (u2 : Int32) (u3 : Int32) (R : am_G) : fm_179 g u1 u2 u3 = some R → ai_ev ap_P 179 (ai_e0 ap_P 179 [.ref 39, .ref u1, .int u2, .int u3] (v0 L, g)) (.inl none) (v0 L, R) := by
  show _ → ai_ev ap_P 179 (0, [some (.ref 39), some (.ref u1), some (.int u2), some (.int u3)], [], (v0 L, g)) _ _
  unfold fm_179
  refine ev_in 2 (p := (am_i g 39 4) = 0) (a := 12) (b := 7) (T := ([some (.ref 39), some (.ref u1), some (.int u2), some (.int u3)], [], (v0 L, g))) rfl ?_ ?_
  · refine ev_jm 2 (t := (12, [some (.ref 39), some (.ref u1), some (.int u2), some (.int u3)], [], (v0 L, (am_si g 39 5 u3)))) rfl ?_
    exact dj_179_12 L (am_si g 39 5 u3) u1 u2 (some (.int u3)) _
  · exact dj_179_12 L g u1 u2 (some (.int u3)) _
noncomputable def fj_275_14  (g : am_G) (u1 : Nat) (u3 : Int32) (t0 : Int32) : Option ((Unit ⊕ Nat) × am_G) := if t0 = (-1) then lo_i (fm_236 g 5 u3) fun y14 g15 => lo_g (Nat.ble 1008 y14 && Nat.blt y14 (am_sz g15)) (some (.inr y14, g15)) else lo_g (Nat.beq (v0_kd u1) 12) (lo_m (v0_fr u1 3) (none) fun o2 => lo_g (vk_in o2 104 t0) (if (am_i g o2 t0.toNatClampNeg) = 0 then if (am_i g 39 4) = 16 then lo_i (fm_237 g 9 u3) fun y10 g11 => lo_g (Nat.ble 1008 y10 && Nat.blt y10 (am_sz g11)) (some (.inr y10, g11)) else lo_m (v0_fr u1 2) (none) fun o4 => lo_g (vk_in o4 101 t0) (if ((am_i g 39 6) + (am_i g o4 t0.toNatClampNeg)) ≤ (am_i g 33 10) then lo_p (fm_179 g u1 t0 u3) fun g7 => some (.inl (), g7) else lo_i (fm_236 g 14 u3) fun y8 g9 => lo_g (Nat.ble 1008 y8 && Nat.blt y8 (am_sz g9)) (some (.inr y8, g9))) else lo_i (fm_236 g 6 u3) fun y12 g13 => lo_g (Nat.ble 1008 y12 && Nat.blt y12 (am_sz g13)) (some (.inr y12, g13))))
theorem dj_275_14 (L : Nat)   (g : am_G) (u1 : Nat) (u3 : Int32) (t0 : Int32) (w2 w4 : Option Value) (R : (Unit ⊕ Nat) × am_G) : fj_275_14  g u1 u3 t0 = some R → ai_ev ap_P 275 (14, [some (.ref 33), some (.ref u1), w2, some (.int u3), w4], [.int t0], (v0 L, g)) (oz_r ez_v R.1) (v0 L, R.2) := by
  unfold fj_275_14
  refine ev_in 3 (p := t0 = (-1)) (a := 29) (b := 22) (T := ([some (.ref 33), some (.ref u1), none, some (.int u3), some (.int t0)], [], (v0 L, g))) rfl ?_ ?_
  · refine ev_oi 3 (as := [.ref 33, .int 5, .int u3]) (pc := 28) (Lc := [some (.ref 33), some (.ref u1), none, some (.int u3), some (.int t0)]) (st := []) (V := v0 L) (g1 := g) (e := ez_a) rfl (dm_236 L g 5 u3) (fun y14 g15 => ?_)
    exact ev_at 0 (a := y14) (g1 := g15) rfl
  · refine ev_gd (c := Nat.beq (v0_kd u1) 12) (fun hc1 => ?_)
    refine ev_jm 1 (t := (33, [some (.ref 33), some (.ref u1), none, some (.int u3), some (.int t0)], [am_v (v0_fr u1 3)], (v0 L, g))) (ai_gd (c := Nat.beq (v0_kd u1) 12) rfl hc1) ?_
    refine ev_om (S := fun (o : Option Nat) => (33, [some (.ref 33), some (.ref u1), none, some (.int u3), some (.int t0)], [am_v o], (v0 L, g))) ?_ (fun o2 => ?_)
    · exact fun hR => nomatch hR
    · refine ev_gd (c := vk_in o2 104 t0) (fun hc3 => ?_)
      refine ev_jm 1 (t := (36, [some (.ref 33), some (.ref u1), none, some (.int u3), some (.int t0)], [.int (am_i g o2 t0.toNatClampNeg)], (v0 L, g))) (ai_gd (c := Nat.beq (v0_kd o2) 104 && ai_in t0 (v0_ln L o2)) rfl (vk_ld hc3)) ?_
      refine ev_if 0 (p := (am_i g o2 t0.toNatClampNeg) = 0) (a := 47) (b := 39) (T := ([some (.ref 33), some (.ref u1), none, some (.int u3), some (.int t0)], [], (v0 L, g))) rfl ?_ ?_
      · refine ev_in 4 (p := (am_i g 39 4) = 16) (a := 67) (b := 59) (T := ([some (.ref 33), some (.ref u1), none, some (.int u3), some (.int t0)], [], (v0 L, g))) rfl ?_ ?_
        · refine ev_oi 3 (as := [.ref 33, .int 9, .int u3]) (pc := 66) (Lc := [some (.ref 33), some (.ref u1), none, some (.int u3), some (.int t0)]) (st := []) (V := v0 L) (g1 := g) (e := ez_a) rfl (dm_237 L g 9 u3) (fun y10 g11 => ?_)
          exact ev_at 0 (a := y10) (g1 := g11) rfl
        · refine ev_jm 4 (t := (78, [some (.ref 33), some (.ref u1), none, some (.int u3), some (.int t0)], [am_v (v0_fr u1 2), .int (am_i g 39 6)], (v0 L, g))) (ai_gd (c := Nat.beq (v0_kd u1) 12) rfl hc1) ?_
          refine ev_om (S := fun (o : Option Nat) => (78, [some (.ref 33), some (.ref u1), none, some (.int u3), some (.int t0)], [am_v o, .int (am_i g 39 6)], (v0 L, g))) ?_ (fun o4 => ?_)
          · exact fun hR => nomatch hR
          · refine ev_gd (c := vk_in o4 101 t0) (fun hc5 => ?_)
            refine ev_jm 1 (t := (81, [some (.ref 33), some (.ref u1), none, some (.int u3), some (.int t0)], [.int (am_i g o4 t0.toNatClampNeg), .int (am_i g 39 6)], (v0 L, g))) (ai_gd (c := Nat.beq (v0_kd o4) 101 && ai_in t0 (v0_ln L o4)) rfl (vk_ld hc5)) ?_
            refine ev_if 3 (p := ((am_i g 39 6) + (am_i g o4 t0.toNatClampNeg)) ≤ (am_i g 33 10)) (a := 97) (b := 89) (T := ([some (.ref 33), some (.ref u1), none, some (.int u3), some (.int t0)], [], (v0 L, g))) rfl ?_ ?_
            · refine ev_ov0 5 (as := [.ref 39, .ref u1, .int t0, .int u3]) (pc := 108) (Lc := [some (.ref 33), some (.ref u1), none, some (.int u3), some (.int t0)]) (st := []) (V := v0 L) (g1 := g) rfl (dm_179 L g u1 t0 u3) (fun g7 => ?_)
              exact fun hR => by cases hR; exact ev_rt 0 rfl
            · refine ev_oi 3 (as := [.ref 33, .int 14, .int u3]) (pc := 96) (Lc := [some (.ref 33), some (.ref u1), none, some (.int u3), some (.int t0)]) (st := []) (V := v0 L) (g1 := g) (e := ez_a) rfl (dm_236 L g 14 u3) (fun y8 g9 => ?_)
              exact ev_at 0 (a := y8) (g1 := g9) rfl
      · refine ev_oi 3 (as := [.ref 33, .int 6, .int u3]) (pc := 46) (Lc := [some (.ref 33), some (.ref u1), none, some (.int u3), some (.int t0)]) (st := []) (V := v0 L) (g1 := g) (e := ez_a) rfl (dm_236 L g 6 u3) (fun y12 g13 => ?_)
        exact ev_at 0 (a := y12) (g1 := g13) rfl
/-- DeclaredMarkup$Processor.enter(LDeclaredMarkup$EntityTable;II)V -/
noncomputable def fm_275 (g : am_G) (u1 : Nat) (u2 : Int32) (u3 : Int32) : Option ((Unit ⊕ Nat) × am_G) := if u2 = (-1) then fj_275_14 g u1 u3 (-1) else lo_g (Nat.beq (v0_kd u1) 12) (lo_p (fm_172 g u1 u2) fun y1 => fj_275_14 g u1 u3 y1)
theorem dm_275 (L : Nat) (g : am_G) (u1 : Nat) (u2 : Int32) (u3 : Int32) (R : (Unit ⊕ Nat) × am_G) : fm_275 g u1 u2 u3 = some R → ai_ev ap_P 275 (ai_e0 ap_P 275 [.ref 33, .ref u1, .int u2, .int u3] (v0 L, g)) (oz_r ez_v R.1) (v0 L, R.2) := by
  show _ → ai_ev ap_P 275 (0, [some (.ref 33), some (.ref u1), some (.int u2), some (.int u3), none], [], (v0 L, g)) _ _
  unfold fm_275
  refine ev_in 2 (p := u2 = (-1)) (a := 9) (b := 5) (T := ([some (.ref 33), some (.ref u1), some (.int u2), some (.int u3), none], [], (v0 L, g))) rfl ?_ ?_
  · refine ev_jm 1 (t := (14, [some (.ref 33), some (.ref u1), some (.int u2), some (.int u3), none], [.int (-1)], (v0 L, g))) rfl ?_
    exact dj_275_14 L g u1 u3 (-1) (some (.int u2)) none _
  · refine ev_gd (c := Nat.beq (v0_kd u1) 12) (fun hc3 => ?_)
    refine ev_op 2 (as := [.ref u1, .int u2]) (pc := 14) (Lc := [some (.ref 33), some (.ref u1), some (.int u2), some (.int u3), none]) (st := []) (h1 := (v0 L, g)) (e := ez_i) (ai_gd (c := Nat.beq (v0_kd u1) 12 && true) rfl (ai_ct hc3)) (dm_172 L g u1 u2) (fun y1 => ?_)
    exact dj_275_14 L g u1 u3 y1 (some (.int u2)) none _
/-- DeclaredMarkup$Processor.reference()I -/
noncomputable def fm_274 (g : am_G)  : Option ((Int32 ⊕ Nat) × am_G) := lo_p (fm_178 g ) fun y1 => lo_p (fm_177 g ) fun g4 => lo_p (fm_240 g4 35) fun y5 => if y5 = 0 then lo_t (fm_248 g4 ) fun y7 g8 => lo_p (fm_273 g8 ) fun y9 => lo_p (fm_233 g8 ) fun y11 => lo_t (fm_244 g8 59) fun y13 g14 => if y9 = (-1) then lo_t (fm_275 g14 855 y11 y1) fun y15 g16 => some (.inl (-1), g16) else some (.inl y9, g14) else lo_p (fm_177 g4 ) fun g18 => lo_t (fm_272 g18 y1) fun y19 g20 => some (.inl y19, g20)
theorem dm_274 (L : Nat) (g : am_G)  (R : (Int32 ⊕ Nat) × am_G) : fm_274 g  = some R → ai_ev ap_P 274 (ai_e0 ap_P 274 [.ref 33] (v0 L, g)) (oz_r ez_i R.1) (v0 L, R.2) := by
  show _ → ai_ev ap_P 274 (0, [some (.ref 33), none, none, none], [], (v0 L, g)) _ _
  unfold fm_274
  refine ev_op 2 (as := [.ref 39]) (pc := 7) (Lc := [some (.ref 33), none, none, none]) (st := []) (h1 := (v0 L, g)) (e := ez_i) rfl (dm_178 L g ) (fun y1 => ?_)
  refine ev_ov0 3 (as := [.ref 39]) (pc := 15) (Lc := [some (.ref 33), some (.int y1), none, none]) (st := []) (V := v0 L) (g1 := g) rfl (dm_177 L g ) (fun g4 => ?_)
  refine ev_op 2 (as := [.ref 33, .int 35]) (pc := 21) (Lc := [some (.ref 33), some (.int y1), none, none]) (st := []) (h1 := (v0 L, g4)) (e := ez_i) rfl (dm_240 L g4 35) (fun y5 => ?_)
  refine ev_if 0 (p := y5 = 0) (a := 37) (b := 24) (T := ([some (.ref 33), some (.int y1), none, none], [], (v0 L, g4))) rfl ?_ ?_
  · refine ev_ot 1 (as := [.ref 33]) (pc := 41) (Lc := [some (.ref 33), some (.int y1), none, none]) (st := []) (V := v0 L) (g1 := g4) (e := ez_v) rfl (dm_248 L g4 ) (fun _ => rfl) (fun y7 g8 => ?_)
    refine ev_op 1 (as := [.ref 33]) (pc := 45) (Lc := [some (.ref 33), some (.int y1), none, none]) (st := []) (h1 := (v0 L, g8)) (e := ez_i) rfl (dm_273 L g8 ) (fun y9 => ?_)
    refine ev_op 3 (as := [.ref 43]) (pc := 53) (Lc := [some (.ref 33), some (.int y1), some (.int y9), none]) (st := []) (h1 := (v0 L, g8)) (e := ez_i) rfl (dm_233 L g8 ) (fun y11 => ?_)
    refine ev_ot 3 (as := [.ref 33, .int 59]) (pc := 60) (Lc := [some (.ref 33), some (.int y1), some (.int y9), some (.int y11)]) (st := []) (V := v0 L) (g1 := g8) (e := ez_v) rfl (dm_244 L g8 59) (fun _ => rfl) (fun y13 g14 => ?_)
    refine ev_if 2 (p := y9 = (-1)) (a := 67) (b := 65) (T := ([some (.ref 33), some (.int y1), some (.int y9), some (.int y11)], [], (v0 L, g14))) rfl ?_ ?_
    · refine ev_ot 5 (as := [.ref 33, .ref 855, .int y11, .int y1]) (pc := 77) (Lc := [some (.ref 33), some (.int y1), some (.int y9), some (.int y11)]) (st := []) (V := v0 L) (g1 := g14) (e := ez_v) rfl (dm_275 L g14 855 y11 y1) (fun _ => rfl) (fun y15 g16 => ?_)
      exact fun hR => by cases hR; exact ev_rt 1 rfl
    · exact fun hR => by cases hR; exact ev_rt 1 rfl
  · refine ev_ov0 2 (as := [.ref 39]) (pc := 31) (Lc := [some (.ref 33), some (.int y1), none, none]) (st := []) (V := v0 L) (g1 := g4) rfl (dm_177 L g4 ) (fun g18 => ?_)
    refine ev_ot 2 (as := [.ref 33, .int y1]) (pc := 36) (Lc := [some (.ref 33), some (.int y1), none, none]) (st := []) (V := v0 L) (g1 := g18) (e := ez_i) rfl (dm_272 L g18 y1) (fun _ => rfl) (fun y19 g20 => ?_)
    exact fun hR => by cases hR; exact ev_rt 0 rfl
/-- DeclaredMarkup$Processor.keep(II)V -/
noncomputable def fm_277 (g : am_G) (u1 : Int32) (u2 : Int32) : Option ((Unit ⊕ Nat) × am_G) := if (am_i g 33 31) = 400 then lo_i (fm_237 g 10 u2) fun y2 g3 => lo_g (Nat.ble 1008 y2 && Nat.blt y2 (am_sz g3)) (some (.inr y2, g3)) else lo_g (ai_in ((am_i g 33 30) + (am_i g 33 31)) 5200) (some (.inl (), (am_si (am_si g 883 (((am_i g 33 30) + (am_i g 33 31))).toNatClampNeg u1) 33 31 ((am_i g 33 31) + 1))))
theorem dm_277 (L : Nat) (g : am_G) (u1 : Int32) (u2 : Int32) (R : (Unit ⊕ Nat) × am_G) : fm_277 g u1 u2 = some R → ai_ev ap_P 277 (ai_e0 ap_P 277 [.ref 33, .int u1, .int u2] (v0 L, g)) (oz_r ez_v R.1) (v0 L, R.2) := by
  show _ → ai_ev ap_P 277 (0, [some (.ref 33), some (.int u1), some (.int u2)], [], (v0 L, g)) _ _
  unfold fm_277
  refine ev_in 3 (p := (am_i g 33 31) = 400) (a := 18) (b := 10) (T := ([some (.ref 33), some (.int u1), some (.int u2)], [], (v0 L, g))) rfl ?_ ?_
  · refine ev_oi 3 (as := [.ref 33, .int 10, .int u2]) (pc := 17) (Lc := [some (.ref 33), some (.int u1), some (.int u2)]) (st := []) (V := v0 L) (g1 := g) (e := ez_a) rfl (dm_237 L g 10 u2) (fun y2 g3 => ?_)
    exact ev_at 0 (a := y2) (g1 := g3) rfl
  · refine ev_gd (c := ai_in ((am_i g 33 30) + (am_i g 33 31)) 5200) (fun hc1 => ?_)
    refine ev_jm 8 (t := (33, [some (.ref 33), some (.int u1), some (.int u2)], [], (v0 L, (am_si g 883 (((am_i g 33 30) + (am_i g 33 31))).toNatClampNeg u1)))) (ai_gd (c := ai_in ((am_i g 33 30) + (am_i g 33 31)) 5200) rfl hc1) ?_
    exact fun hR => by cases hR; exact ev_rt 6 rfl
noncomputable def fj_276_187 (k23 : (am_G × Int32 × Int32) → Option ((Unit ⊕ Nat) × am_G)) (g : am_G) (u2 : Int32) (u3 : Int32) (t1 : Int32) : Option ((Unit ⊕ Nat) × am_G) := lo_p (fm_178 g ) fun y1 => lo_t (fm_277 g t1 y1) fun y3 g4 => lo_p (fm_177 g4 ) fun g6 => k23 (g6, u2, u3)
theorem dj_276_187 (L : Nat) {k23 : (am_G × Int32 × Int32) → Option ((Unit ⊕ Nat) × am_G)} (hk23 : ∀ (x : am_G × Int32 × Int32) (w1 w4 w5 w6 : Option Value) (R : (Unit ⊕ Nat) × am_G), k23 x = some R → ai_ev ap_P 276 (23, [some (.ref 33), w1, some (.int x.2.1), some (.int x.2.2), w4, w5, w6], [], (v0 L, x.1)) (oz_r ez_v R.1) (v0 L, R.2)) (g : am_G) (u2 : Int32) (u3 : Int32) (t1 : Int32) (w1 w4 w5 w6 : Option Value) (R : (Unit ⊕ Nat) × am_G) : fj_276_187 k23 g u2 u3 t1 = some R → ai_ev ap_P 276 (187, [some (.ref 33), w1, some (.int u2), some (.int u3), w4, w5, w6], [.int t1, .ref 33], (v0 L, g)) (oz_r ez_v R.1) (v0 L, R.2) := by
  unfold fj_276_187
  refine ev_op 2 (as := [.ref 39]) (pc := 194) (Lc := [some (.ref 33), none, some (.int u2), some (.int u3), none, none, none]) (st := [.int t1, .ref 33]) (h1 := (v0 L, g)) (e := ez_i) rfl (dm_178 L g ) (fun y1 => ?_)
  refine ev_ot 0 (as := [.ref 33, .int t1, .int y1]) (pc := 197) (Lc := [some (.ref 33), none, some (.int u2), some (.int u3), none, none, none]) (st := []) (V := v0 L) (g1 := g) (e := ez_v) rfl (dm_277 L g t1 y1) (fun _ => rfl) (fun y3 g4 => ?_)
  refine ev_ov0 2 (as := [.ref 39]) (pc := 204) (Lc := [some (.ref 33), none, some (.int u2), some (.int u3), none, none, none]) (st := []) (V := v0 L) (g1 := g4) rfl (dm_177 L g4 ) (fun g6 => ?_)
  refine ev_jm 0 (t := (23, [some (.ref 33), none, some (.int u2), some (.int u3), none, none, none], [], (v0 L, g6))) rfl ?_
  exact hk23 (g6, u2, u3) none none none none _
noncomputable def fj_276_168 (k23 : (am_G × Int32 × Int32) → Option ((Unit ⊕ Nat) × am_G)) (g : am_G) (u2 : Int32) (u3 : Int32) (u4 : Int32) (t1 : Int32) : Option ((Unit ⊕ Nat) × am_G) := lo_t (fm_238 g t1) fun y1 g2 => lo_p (fm_185 g2 u4) fun y3 => if y3 = 0 then fj_276_187 k23 g2 u2 u3 u4 else fj_276_187 k23 g2 u2 u3 32
theorem dj_276_168 (L : Nat) {k23 : (am_G × Int32 × Int32) → Option ((Unit ⊕ Nat) × am_G)} (hk23 : ∀ (x : am_G × Int32 × Int32) (w1 w4 w5 w6 : Option Value) (R : (Unit ⊕ Nat) × am_G), k23 x = some R → ai_ev ap_P 276 (23, [some (.ref 33), w1, some (.int x.2.1), some (.int x.2.2), w4, w5, w6], [], (v0 L, x.1)) (oz_r ez_v R.1) (v0 L, R.2)) (g : am_G) (u2 : Int32) (u3 : Int32) (u4 : Int32) (t1 : Int32) (w1 w5 w6 : Option Value) (R : (Unit ⊕ Nat) × am_G) : fj_276_168 k23 g u2 u3 u4 t1 = some R → ai_ev ap_P 276 (168, [some (.ref 33), w1, some (.int u2), some (.int u3), some (.int u4), w5, w6], [.int t1, .ref 33], (v0 L, g)) (oz_r ez_v R.1) (v0 L, R.2) := by
  unfold fj_276_168
  refine ev_ot 0 (as := [.ref 33, .int t1]) (pc := 171) (Lc := [some (.ref 33), none, some (.int u2), some (.int u3), some (.int u4), none, none]) (st := []) (V := v0 L) (g1 := g) (e := ez_v) rfl (dm_238 L g t1) (fun _ => rfl) (fun y1 g2 => ?_)
  refine ev_op 2 (as := [.int u4]) (pc := 177) (Lc := [some (.ref 33), none, some (.int u2), some (.int u3), some (.int u4), none, none]) (st := [.ref 33]) (h1 := (v0 L, g2)) (e := ez_i) rfl (dm_185 L g2 u4) (fun y3 => ?_)
  refine ev_if 0 (p := y3 = 0) (a := 185) (b := 180) (T := ([some (.ref 33), none, some (.int u2), some (.int u3), some (.int u4), none, none], [.ref 33], (v0 L, g2))) rfl ?_ ?_
  · refine ev_jm 0 (t := (187, [some (.ref 33), none, some (.int u2), some (.int u3), some (.int u4), none, none], [.int u4, .ref 33], (v0 L, g2))) rfl ?_
    exact dj_276_187 L hk23 g2 u2 u3 u4 none (some (.int u4)) none none _
  · refine ev_jm 1 (t := (187, [some (.ref 33), none, some (.int u2), some (.int u3), some (.int u4), none, none], [.int 32, .ref 33], (v0 L, g2))) rfl ?_
    exact dj_276_187 L hk23 g2 u2 u3 32 none (some (.int u4)) none none _
noncomputable def fj_276_167 (k23 : (am_G × Int32 × Int32) → Option ((Unit ⊕ Nat) × am_G)) (g : am_G) (u2 : Int32) (u3 : Int32) (u4 : Int32) : Option ((Unit ⊕ Nat) × am_G) := fj_276_168 k23 g u2 u3 u4 0
theorem dj_276_167 (L : Nat) {k23 : (am_G × Int32 × Int32) → Option ((Unit ⊕ Nat) × am_G)} (hk23 : ∀ (x : am_G × Int32 × Int32) (w1 w4 w5 w6 : Option Value) (R : (Unit ⊕ Nat) × am_G), k23 x = some R → ai_ev ap_P 276 (23, [some (.ref 33), w1, some (.int x.2.1), some (.int x.2.2), w4, w5, w6], [], (v0 L, x.1)) (oz_r ez_v R.1) (v0 L, R.2)) (g : am_G) (u2 : Int32) (u3 : Int32) (u4 : Int32) (w1 w5 w6 : Option Value) (R : (Unit ⊕ Nat) × am_G) : fj_276_167 k23 g u2 u3 u4 = some R → ai_ev ap_P 276 (167, [some (.ref 33), w1, some (.int u2), some (.int u3), some (.int u4), w5, w6], [.ref 33], (v0 L, g)) (oz_r ez_v R.1) (v0 L, R.2) := by
  unfold fj_276_167
  refine ev_jm 0 (t := (168, [some (.ref 33), none, some (.int u2), some (.int u3), some (.int u4), none, none], [.int 0, .ref 33], (v0 L, g))) rfl ?_
  exact dj_276_168 L hk23 g u2 u3 u4 0 none none none _
noncomputable def fj_276_149 (k23 : (am_G × Int32 × Int32) → Option ((Unit ⊕ Nat) × am_G)) (g : am_G) (u2 : Int32) (u3 : Int32) (u4 : Int32) : Option ((Unit ⊕ Nat) × am_G) := if u4 = 60 then fj_276_167 k23 g u2 u3 u4 else if u4 = (-1) then fj_276_167 k23 g u2 u3 u4 else fj_276_168 k23 g u2 u3 u4 1
theorem dj_276_149 (L : Nat) {k23 : (am_G × Int32 × Int32) → Option ((Unit ⊕ Nat) × am_G)} (hk23 : ∀ (x : am_G × Int32 × Int32) (w1 w4 w5 w6 : Option Value) (R : (Unit ⊕ Nat) × am_G), k23 x = some R → ai_ev ap_P 276 (23, [some (.ref 33), w1, some (.int x.2.1), some (.int x.2.2), w4, w5, w6], [], (v0 L, x.1)) (oz_r ez_v R.1) (v0 L, R.2)) (g : am_G) (u2 : Int32) (u3 : Int32) (u4 : Int32) (w1 w5 w6 : Option Value) (R : (Unit ⊕ Nat) × am_G) : fj_276_149 k23 g u2 u3 u4 = some R → ai_ev ap_P 276 (149, [some (.ref 33), w1, some (.int u2), some (.int u3), some (.int u4), w5, w6], [], (v0 L, g)) (oz_r ez_v R.1) (v0 L, R.2) := by
  unfold fj_276_149
  refine ev_if 3 (p := u4 = 60) (a := 167) (b := 157) (T := ([some (.ref 33), none, some (.int u2), some (.int u3), some (.int u4), none, none], [.ref 33], (v0 L, g))) rfl ?_ ?_
  · exact dj_276_167 L hk23 g u2 u3 u4 none none none _
  · refine ev_if 2 (p := u4 = (-1)) (a := 167) (b := 163) (T := ([some (.ref 33), none, some (.int u2), some (.int u3), some (.int u4), none, none], [.ref 33], (v0 L, g))) rfl ?_ ?_
    · exact dj_276_167 L hk23 g u2 u3 u4 none none none _
    · refine ev_jm 1 (t := (168, [some (.ref 33), none, some (.int u2), some (.int u3), some (.int u4), none, none], [.int 1, .ref 33], (v0 L, g))) rfl ?_
      exact dj_276_168 L hk23 g u2 u3 u4 1 none none none _
noncomputable def fj_276_78 (k23 : (am_G × Int32 × Int32) → Option ((Unit ⊕ Nat) × am_G)) (g : am_G) (u2 : Int32) (u3 : Int32) (u4 : Int32) : Option ((Unit ⊕ Nat) × am_G) := if u4 = 38 then lo_p (fm_178 g ) fun y5 => lo_t (fm_274 g ) fun y7 g8 => if y7 = (-1) then k23 (g8, u2, u3) else lo_t (fm_277 g8 y7 y5) fun y9 g10 => k23 (g10, u2, u3) else if u4 = 60 then if (am_i g 39 4) ≤ u3 then fj_276_149 k23 g u2 u3 u4 else lo_p (fm_178 g ) fun y1 => lo_i (fm_236 g 7 y1) fun y3 g4 => lo_g (Nat.ble 1008 y3 && Nat.blt y3 (am_sz g4)) (some (.inr y3, g4)) else fj_276_149 k23 g u2 u3 u4
theorem dj_276_78 (L : Nat) {k23 : (am_G × Int32 × Int32) → Option ((Unit ⊕ Nat) × am_G)} (hk23 : ∀ (x : am_G × Int32 × Int32) (w1 w4 w5 w6 : Option Value) (R : (Unit ⊕ Nat) × am_G), k23 x = some R → ai_ev ap_P 276 (23, [some (.ref 33), w1, some (.int x.2.1), some (.int x.2.2), w4, w5, w6], [], (v0 L, x.1)) (oz_r ez_v R.1) (v0 L, R.2)) (g : am_G) (u2 : Int32) (u3 : Int32) (u4 : Int32) (w1 w5 w6 : Option Value) (R : (Unit ⊕ Nat) × am_G) : fj_276_78 k23 g u2 u3 u4 = some R → ai_ev ap_P 276 (78, [some (.ref 33), w1, some (.int u2), some (.int u3), some (.int u4), w5, w6], [], (v0 L, g)) (oz_r ez_v R.1) (v0 L, R.2) := by
  unfold fj_276_78
  refine ev_in 2 (p := u4 = 38) (a := 117) (b := 85) (T := ([some (.ref 33), none, some (.int u2), some (.int u3), some (.int u4), none, none], [], (v0 L, g))) rfl ?_ ?_
  · refine ev_op 2 (as := [.ref 39]) (pc := 92) (Lc := [some (.ref 33), none, some (.int u2), some (.int u3), some (.int u4), none, none]) (st := []) (h1 := (v0 L, g)) (e := ez_i) rfl (dm_178 L g ) (fun y5 => ?_)
    refine ev_ot 2 (as := [.ref 33]) (pc := 98) (Lc := [some (.ref 33), none, some (.int u2), some (.int u3), some (.int u4), some (.int y5), none]) (st := []) (V := v0 L) (g1 := g) (e := ez_i) rfl (dm_274 L g ) (fun _ => rfl) (fun y7 g8 => ?_)
    refine ev_if 3 (p := y7 = (-1)) (a := 114) (b := 106) (T := ([some (.ref 33), none, some (.int u2), some (.int u3), some (.int u4), some (.int y5), some (.int y7)], [], (v0 L, g8))) rfl ?_ ?_
    · refine ev_jm 1 (t := (23, [some (.ref 33), none, some (.int u2), some (.int u3), none, none, none], [], (v0 L, g8))) rfl ?_
      exact hk23 (g8, u2, u3) none none none none _
    · refine ev_ot 3 (as := [.ref 33, .int y7, .int y5]) (pc := 114) (Lc := [some (.ref 33), none, some (.int u2), some (.int u3), some (.int u4), some (.int y5), some (.int y7)]) (st := []) (V := v0 L) (g1 := g8) (e := ez_v) rfl (dm_277 L g8 y7 y5) (fun _ => rfl) (fun y9 g10 => ?_)
      refine ev_jm 1 (t := (23, [some (.ref 33), none, some (.int u2), some (.int u3), none, none, none], [], (v0 L, g10))) rfl ?_
      exact hk23 (g10, u2, u3) none none none none _
  · refine ev_in 2 (p := u4 = 60) (a := 149) (b := 124) (T := ([some (.ref 33), none, some (.int u2), some (.int u3), some (.int u4), none, none], [], (v0 L, g))) rfl ?_ ?_
    · refine ev_if 4 (p := (am_i g 39 4) ≤ u3) (a := 149) (b := 135) (T := ([some (.ref 33), none, some (.int u2), some (.int u3), some (.int u4), none, none], [], (v0 L, g))) rfl ?_ ?_
      · exact dj_276_149 L hk23 g u2 u3 u4 none none none _
      · refine ev_op 4 (as := [.ref 39]) (pc := 145) (Lc := [some (.ref 33), none, some (.int u2), some (.int u3), some (.int u4), none, none]) (st := [.int 7, .ref 33]) (h1 := (v0 L, g)) (e := ez_i) rfl (dm_178 L g ) (fun y1 => ?_)
        refine ev_oi 0 (as := [.ref 33, .int 7, .int y1]) (pc := 148) (Lc := [some (.ref 33), none, some (.int u2), some (.int u3), some (.int u4), none, none]) (st := []) (V := v0 L) (g1 := g) (e := ez_a) rfl (dm_236 L g 7 y1) (fun y3 g4 => ?_)
        exact ev_at 0 (a := y3) (g1 := g4) rfl
    · exact dj_276_149 L hk23 g u2 u3 u4 none none none _
noncomputable def fj_276_42 (k23 : (am_G × Int32 × Int32) → Option ((Unit ⊕ Nat) × am_G)) (g : am_G) (u2 : Int32) (u3 : Int32) : Option ((Unit ⊕ Nat) × am_G) := lo_p (fm_176 g ) fun y1 => if y1 = (-1) then if (am_i g 39 4) ≤ u3 then fj_276_78 k23 g u2 u3 y1 else lo_p (fm_180 g ) fun g4 => k23 (g4, u2, u3) else fj_276_78 k23 g u2 u3 y1
theorem dj_276_42 (L : Nat) {k23 : (am_G × Int32 × Int32) → Option ((Unit ⊕ Nat) × am_G)} (hk23 : ∀ (x : am_G × Int32 × Int32) (w1 w4 w5 w6 : Option Value) (R : (Unit ⊕ Nat) × am_G), k23 x = some R → ai_ev ap_P 276 (23, [some (.ref 33), w1, some (.int x.2.1), some (.int x.2.2), w4, w5, w6], [], (v0 L, x.1)) (oz_r ez_v R.1) (v0 L, R.2)) (g : am_G) (u2 : Int32) (u3 : Int32) (w1 w4 w5 w6 : Option Value) (R : (Unit ⊕ Nat) × am_G) : fj_276_42 k23 g u2 u3 = some R → ai_ev ap_P 276 (42, [some (.ref 33), w1, some (.int u2), some (.int u3), w4, w5, w6], [], (v0 L, g)) (oz_r ez_v R.1) (v0 L, R.2) := by
  unfold fj_276_42
  refine ev_op 2 (as := [.ref 39]) (pc := 49) (Lc := [some (.ref 33), none, some (.int u2), some (.int u3), none, none, none]) (st := []) (h1 := (v0 L, g)) (e := ez_i) rfl (dm_176 L g ) (fun y1 => ?_)
  refine ev_in 3 (p := y1 = (-1)) (a := 78) (b := 57) (T := ([some (.ref 33), none, some (.int u2), some (.int u3), some (.int y1), none, none], [], (v0 L, g))) rfl ?_ ?_
  · refine ev_if 4 (p := (am_i g 39 4) ≤ u3) (a := 78) (b := 68) (T := ([some (.ref 33), none, some (.int u2), some (.int u3), some (.int y1), none, none], [], (v0 L, g))) rfl ?_ ?_
    · exact dj_276_78 L hk23 g u2 u3 y1 none none none _
    · refine ev_ov0 2 (as := [.ref 39]) (pc := 75) (Lc := [some (.ref 33), none, some (.int u2), some (.int u3), some (.int y1), none, none]) (st := []) (V := v0 L) (g1 := g) rfl (dm_180 L g ) (fun g4 => ?_)
      refine ev_jm 1 (t := (23, [some (.ref 33), none, some (.int u2), some (.int u3), none, none, none], [], (v0 L, g4))) rfl ?_
      exact hk23 (g4, u2, u3) none none none none _
  · exact dj_276_78 L hk23 g u2 u3 y1 none none none _
noncomputable def fb_276_23 (k23 : (am_G × Int32 × Int32) → Option ((Unit ⊕ Nat) × am_G)) (g : am_G) (u2 : Int32) (u3 : Int32) : Option ((Unit ⊕ Nat) × am_G) := if u3 < (am_i g 39 4) then fj_276_42 k23 g u2 u3 else lo_p (fm_240 g u2) fun y1 => if y1 = 0 then fj_276_42 k23 g u2 u3 else lo_p (fm_177 g ) fun g4 => some (.inl (), g4)
theorem db_276_23 (L : Nat) {k23 : (am_G × Int32 × Int32) → Option ((Unit ⊕ Nat) × am_G)} (hk23 : ∀ (x : am_G × Int32 × Int32) (w1 w4 w5 w6 : Option Value) (R : (Unit ⊕ Nat) × am_G), k23 x = some R → ai_ev ap_P 276 (23, [some (.ref 33), w1, some (.int x.2.1), some (.int x.2.2), w4, w5, w6], [], (v0 L, x.1)) (oz_r ez_v R.1) (v0 L, R.2)) (g : am_G) (u2 : Int32) (u3 : Int32) (w1 w4 w5 w6 : Option Value) (R : (Unit ⊕ Nat) × am_G) : fb_276_23 k23 g u2 u3 = some R → ai_ev ap_P 276 (23, [some (.ref 33), w1, some (.int u2), some (.int u3), w4, w5, w6], [], (v0 L, g)) (oz_r ez_v R.1) (v0 L, R.2) := by
  unfold fb_276_23
  refine ev_if 4 (p := u3 < (am_i g 39 4)) (a := 42) (b := 34) (T := ([some (.ref 33), none, some (.int u2), some (.int u3), none, none, none], [], (v0 L, g))) rfl ?_ ?_
  · exact dj_276_42 L hk23 g u2 u3 none none none none _
  · refine ev_op 2 (as := [.ref 33, .int u2]) (pc := 39) (Lc := [some (.ref 33), none, some (.int u2), some (.int u3), none, none, none]) (st := []) (h1 := (v0 L, g)) (e := ez_i) rfl (dm_240 L g u2) (fun y1 => ?_)
    refine ev_in 0 (p := y1 = 0) (a := 207) (b := 42) (T := ([some (.ref 33), none, some (.int u2), some (.int u3), none, none, none], [], (v0 L, g))) rfl ?_ ?_
    · exact dj_276_42 L hk23 g u2 u3 none none none none _
    · refine ev_ov0 2 (as := [.ref 39]) (pc := 214) (Lc := [some (.ref 33), none, some (.int u2), some (.int u3), none, none, none]) (st := []) (V := v0 L) (g1 := g) rfl (dm_177 L g ) (fun g4 => ?_)
      exact fun hR => by cases hR; exact ev_rt 0 rfl
noncomputable def fh_276_23  (x : am_G × Int32 × Int32) : Option ((Unit ⊕ Nat) × am_G) := lo_it (fun k x => fb_276_23 k x.1 x.2.1 x.2.2) nf_F x
theorem dh_276_23 (L : Nat)   (x : am_G × Int32 × Int32) (w1 w4 w5 w6 : Option Value) (R : (Unit ⊕ Nat) × am_G) : fh_276_23  x = some R → ai_ev ap_P 276 (23, [some (.ref 33), w1, some (.int x.2.1), some (.int x.2.2), w4, w5, w6], [], (v0 L, x.1)) (oz_r ez_v R.1) (v0 L, R.2) :=
  fun hr => lo_ev (E := fun x R => ∀ (w1 w4 w5 w6 : Option Value), ai_ev ap_P 276 (23, [some (.ref 33), w1, some (.int x.2.1), some (.int x.2.2), w4, w5, w6], [], (v0 L, x.1)) (oz_r ez_v R.1) (v0 L, R.2)) (fun k hk x R hr => fun w1 w4 w5 w6 => db_276_23 L (fun x w1 w4 w5 w6 R hr => hk x R hr w1 w4 w5 w6) x.1 x.2.1 x.2.2 w1 w4 w5 w6 R hr) nf_F x R hr w1 w4 w5 w6
/-- DeclaredMarkup$Processor.value(I)V -/
noncomputable def fm_276 (g : am_G) (u1 : Int32) : Option ((Unit ⊕ Nat) × am_G) := lo_t (fm_250 g ) fun y1 g2 => lo_l (am_i g2 39 4) fun x3 => fh_276_23 ((am_si (am_si g2 33 30 u1) 33 31 0), y1, x3)
theorem dm_276 (L : Nat) (g : am_G) (u1 : Int32) (R : (Unit ⊕ Nat) × am_G) : fm_276 g u1 = some R → ai_ev ap_P 276 (ai_e0 ap_P 276 [.ref 33, .int u1] (v0 L, g)) (oz_r ez_v R.1) (v0 L, R.2) := by
  show _ → ai_ev ap_P 276 (0, [some (.ref 33), some (.int u1), none, none, none, none, none], [], (v0 L, g)) _ _
  unfold fm_276
  refine ev_ot 1 (as := [.ref 33]) (pc := 4) (Lc := [some (.ref 33), some (.int u1), none, none, none, none, none]) (st := []) (V := v0 L) (g1 := g) (e := ez_i) rfl (dm_250 L g ) (fun _ => rfl) (fun y1 g2 => ?_)
  refine ev_jm 3 (t := (12, [some (.ref 33), some (.int u1), some (.int y1), none, none, none, none], [.int (am_i g2 39 4)], (v0 L, g2))) rfl ?_
  refine lo_e (S := fun (x3 : Int32) => (12, [some (.ref 33), some (.int u1), some (.int y1), none, none, none, none], [.int x3], (v0 L, g2))) (fun x3 => ?_)
  refine ev_jm 6 (t := (23, [some (.ref 33), some (.int u1), some (.int y1), some (.int x3), none, none, none], [], (v0 L, (am_si (am_si g2 33 30 u1) 33 31 0)))) rfl ?_
  exact dh_276_23 L ((am_si (am_si g2 33 30 u1) 33 31 0), y1, x3) (some (.int u1)) none none none _
noncomputable def fb_284_15 (k15 : (am_G × Int32 × Int32 × Int32) → Option ((Unit ⊕ Nat) × am_G)) (g : am_G) (u1 : Int32) (u2 : Int32) (u3 : Int32) : Option ((Unit ⊕ Nat) × am_G) := if (am_i g 33 28) ≤ u3 then if (am_i g 33 28) = 12 then lo_i (fm_237 g 10 u1) fun y10 g11 => lo_g (Nat.ble 1008 y10 && Nat.blt y10 (am_sz g11)) (some (.inr y10, g11)) else lo_i (fm_242 g ) fun y1 g2 => lo_t (fm_244 g2 61) fun y3 g4 => lo_i (fm_242 g4 ) fun y5 g6 => lo_t (fm_276 g6 (400 * (am_i g6 33 28))) fun y7 g8 => lo_g (ai_in (am_i g8 33 28) 12) (some (.inl (), (am_si (am_si (am_si (am_si g8 880 ((am_i g8 33 28)).toNatClampNeg u2) 881 ((am_i g8 33 28)).toNatClampNeg (400 * (am_i g8 33 28))) 882 ((am_i g8 33 28)).toNatClampNeg (am_i g8 33 31)) 33 28 ((am_i g8 33 28) + 1)))) else lo_g (ai_in u3 12) (if (am_i g 880 u3.toNatClampNeg) = u2 then lo_i (fm_236 g 4 u1) fun y13 g14 => lo_g (Nat.ble 1008 y13 && Nat.blt y13 (am_sz g14)) (some (.inr y13, g14)) else k15 (g, u1, u2, (u3 + 1)))
theorem db_284_15 (L : Nat) {k15 : (am_G × Int32 × Int32 × Int32) → Option ((Unit ⊕ Nat) × am_G)} (hk15 : ∀ (x : am_G × Int32 × Int32 × Int32) (R : (Unit ⊕ Nat) × am_G), k15 x = some R → ai_ev ap_P 284 (15, [some (.ref 33), some (.int x.2.1), some (.int x.2.2.1), some (.int x.2.2.2)], [], (v0 L, x.1)) (oz_r ez_v R.1) (v0 L, R.2)) (g : am_G) (u1 : Int32) (u2 : Int32) (u3 : Int32) (R : (Unit ⊕ Nat) × am_G) : fb_284_15 k15 g u1 u2 u3 = some R → ai_ev ap_P 284 (15, [some (.ref 33), some (.int u1), some (.int u2), some (.int u3)], [], (v0 L, g)) (oz_r ez_v R.1) (v0 L, R.2) := by
  unfold fb_284_15
  refine ev_if 3 (p := (am_i g 33 28) ≤ u3) (a := 46) (b := 23) (T := ([some (.ref 33), some (.int u1), some (.int u2), some (.int u3)], [], (v0 L, g))) rfl ?_ ?_
  · refine ev_in 3 (p := (am_i g 33 28) = 12) (a := 63) (b := 55) (T := ([some (.ref 33), some (.int u1), some (.int u2), some (.int u3)], [], (v0 L, g))) rfl ?_ ?_
    · refine ev_oi 3 (as := [.ref 33, .int 10, .int u1]) (pc := 62) (Lc := [some (.ref 33), some (.int u1), some (.int u2), some (.int u3)]) (st := []) (V := v0 L) (g1 := g) (e := ez_a) rfl (dm_237 L g 10 u1) (fun y10 g11 => ?_)
      exact ev_at 0 (a := y10) (g1 := g11) rfl
    · refine ev_oi 1 (as := [.ref 33]) (pc := 67) (Lc := [some (.ref 33), some (.int u1), some (.int u2), some (.int u3)]) (st := []) (V := v0 L) (g1 := g) (e := ez_i) rfl (dm_242 L g ) (fun y1 g2 => ?_)
      refine ev_ot 3 (as := [.ref 33, .int 61]) (pc := 74) (Lc := [some (.ref 33), some (.int u1), some (.int u2), some (.int u3)]) (st := []) (V := v0 L) (g1 := g2) (e := ez_v) rfl (dm_244 L g2 61) (fun _ => rfl) (fun y3 g4 => ?_)
      refine ev_oi 1 (as := [.ref 33]) (pc := 78) (Lc := [some (.ref 33), some (.int u1), some (.int u2), some (.int u3)]) (st := []) (V := v0 L) (g1 := g4) (e := ez_i) rfl (dm_242 L g4 ) (fun y5 g6 => ?_)
      refine ev_ot 6 (as := [.ref 33, .int (400 * (am_i g6 33 28))]) (pc := 91) (Lc := [some (.ref 33), some (.int u1), some (.int u2), some (.int u3)]) (st := []) (V := v0 L) (g1 := g6) (e := ez_v) rfl (dm_276 L g6 (400 * (am_i g6 33 28))) (fun _ => rfl) (fun y7 g8 => ?_)
      refine ev_gd (c := ai_in (am_i g8 33 28) 12) (fun hc9 => ?_)
      refine ev_jm 5 (t := (101, [some (.ref 33), some (.int u1), some (.int u2), some (.int u3)], [], (v0 L, (am_si g8 880 ((am_i g8 33 28)).toNatClampNeg u2)))) (ai_gd (c := ai_in (am_i g8 33 28) 12) rfl hc9) ?_
      refine ev_jm 8 (t := (118, [some (.ref 33), some (.int u1), some (.int u2), some (.int u3)], [], (v0 L, (am_si (am_si g8 880 ((am_i g8 33 28)).toNatClampNeg u2) 881 ((am_i g8 33 28)).toNatClampNeg (400 * (am_i g8 33 28)))))) (ai_gd (c := ai_in (am_i g8 33 28) 12) rfl hc9) ?_
      refine ev_jm 6 (t := (131, [some (.ref 33), some (.int u1), some (.int u2), some (.int u3)], [], (v0 L, (am_si (am_si (am_si g8 880 ((am_i g8 33 28)).toNatClampNeg u2) 881 ((am_i g8 33 28)).toNatClampNeg (400 * (am_i g8 33 28))) 882 ((am_i g8 33 28)).toNatClampNeg (am_i g8 33 31))))) (ai_gd (c := ai_in (am_i g8 33 28) 12) rfl hc9) ?_
      exact fun hR => by cases hR; exact ev_rt 6 rfl
  · refine ev_gd (c := ai_in u3 12) (fun hc12 => ?_)
    refine ev_jm 3 (t := (29, [some (.ref 33), some (.int u1), some (.int u2), some (.int u3)], [.int (am_i g 880 u3.toNatClampNeg)], (v0 L, g))) (ai_gd (c := ai_in u3 12) rfl hc12) ?_
    refine ev_in 1 (p := (am_i g 880 u3.toNatClampNeg) = u2) (a := 40) (b := 33) (T := ([some (.ref 33), some (.int u1), some (.int u2), some (.int u3)], [], (v0 L, g))) rfl ?_ ?_
    · refine ev_oi 3 (as := [.ref 33, .int 4, .int u1]) (pc := 39) (Lc := [some (.ref 33), some (.int u1), some (.int u2), some (.int u3)]) (st := []) (V := v0 L) (g1 := g) (e := ez_a) rfl (dm_236 L g 4 u1) (fun y13 g14 => ?_)
      exact ev_at 0 (a := y13) (g1 := g14) rfl
    · refine ev_jm 1 (t := (15, [some (.ref 33), some (.int u1), some (.int u2), some (.int (u3 + 1))], [], (v0 L, g))) rfl ?_
      exact hk15 (g, u1, u2, (u3 + 1)) _
noncomputable def fh_284_15  (x : am_G × Int32 × Int32 × Int32) : Option ((Unit ⊕ Nat) × am_G) := lo_it (fun k x => fb_284_15 k x.1 x.2.1 x.2.2.1 x.2.2.2) nf_F x
theorem dh_284_15 (L : Nat)   (x : am_G × Int32 × Int32 × Int32) (R : (Unit ⊕ Nat) × am_G) : fh_284_15  x = some R → ai_ev ap_P 284 (15, [some (.ref 33), some (.int x.2.1), some (.int x.2.2.1), some (.int x.2.2.2)], [], (v0 L, x.1)) (oz_r ez_v R.1) (v0 L, R.2) :=
  fun hr => lo_ev (E := fun x R => ai_ev ap_P 284 (15, [some (.ref 33), some (.int x.2.1), some (.int x.2.2.1), some (.int x.2.2.2)], [], (v0 L, x.1)) (oz_r ez_v R.1) (v0 L, R.2)) (fun k hk x R hr => db_284_15 L hk x.1 x.2.1 x.2.2.1 x.2.2.2  R hr) nf_F x R hr
/-- DeclaredMarkup$Processor.attribute()V -/
noncomputable def fm_284 (g : am_G)  : Option ((Unit ⊕ Nat) × am_G) := lo_p (fm_178 g ) fun y1 => lo_t (fm_247 g ) fun y3 g4 => fh_284_15 (g4, y1, y3, 0)
theorem dm_284 (L : Nat) (g : am_G)  (R : (Unit ⊕ Nat) × am_G) : fm_284 g  = some R → ai_ev ap_P 284 (ai_e0 ap_P 284 [.ref 33] (v0 L, g)) (oz_r ez_v R.1) (v0 L, R.2) := by
  show _ → ai_ev ap_P 284 (0, [some (.ref 33), none, none, none], [], (v0 L, g)) _ _
  unfold fm_284
  refine ev_op 2 (as := [.ref 39]) (pc := 7) (Lc := [some (.ref 33), none, none, none]) (st := []) (h1 := (v0 L, g)) (e := ez_i) rfl (dm_178 L g ) (fun y1 => ?_)
  refine ev_ot 2 (as := [.ref 33]) (pc := 12) (Lc := [some (.ref 33), some (.int y1), none, none]) (st := []) (V := v0 L) (g1 := g) (e := ez_i) rfl (dm_247 L g ) (fun _ => rfl) (fun y3 g4 => ?_)
  refine ev_jm 2 (t := (15, [some (.ref 33), some (.int y1), some (.int y3), some (.int 0)], [], (v0 L, g4))) rfl ?_
  exact dh_284_15 L (g4, y1, y3, 0) _
noncomputable def fb_164_2 (g : am_G) (k2 : (Int32 × Int32 × Int32) → Option (Option Nat)) (u1 : Int32) (u2 : Int32) (u3 : Int32) : Option (Option Nat) := if (am_i g 49 6) ≤ u3 then some none else lo_g (ai_in u3 80) (lo_g (Nat.beq (v0_kd (775 + u3.toNatClampNeg)) 11) (if (am_i g (775 + u3.toNatClampNeg) 0) = u1 then if (am_i g (775 + u3.toNatClampNeg) 1) = u2 then some (some (775 + u3.toNatClampNeg)) else k2 (u1, u2, (u3 + 1)) else k2 (u1, u2, (u3 + 1))))
theorem db_164_2 (L : Nat) (g : am_G) {k2 : (Int32 × Int32 × Int32) → Option (Option Nat)} (hk2 : ∀ (x : Int32 × Int32 × Int32) (R : Option Nat), k2 x = some R → ai_ev ap_P 164 (2, [some (.ref 49), some (.int x.1), some (.int x.2.1), some (.int x.2.2)], [], (v0 L, g)) (.inl (ez_o R)) (v0 L, g)) (u1 : Int32) (u2 : Int32) (u3 : Int32) (R : Option Nat) : fb_164_2 g k2 u1 u2 u3 = some R → ai_ev ap_P 164 (2, [some (.ref 49), some (.int u1), some (.int u2), some (.int u3)], [], (v0 L, g)) (.inl (ez_o R)) (v0 L, g) := by
  unfold fb_164_2
  refine ev_if 3 (p := (am_i g 49 6) ≤ u3) (a := 49) (b := 10) (T := ([some (.ref 49), some (.int u1), some (.int u2), some (.int u3)], [], (v0 L, g))) rfl ?_ ?_
  · exact fun hR => by cases hR; exact ev_rt 1 rfl
  · refine ev_gd (c := ai_in u3 80) (fun hc1 => ?_)
    refine ev_fr (S := fun (o : Option Nat) => (16, [some (.ref 49), some (.int u1), some (.int u2), some (.int u3)], [am_v o], (v0 L, g))) 3 (e := v0_fr 51 u3.toNatClampNeg) (q := (775 + u3.toNatClampNeg)) (ai_gd (c := ai_in u3 80) rfl hc1) (fr_51 hc1) ?_
    refine ev_gd (c := Nat.beq (v0_kd (775 + u3.toNatClampNeg)) 11) (fun hc2 => ?_)
    refine ev_jm 0 (t := (19, [some (.ref 49), some (.int u1), some (.int u2), some (.int u3)], [.int (am_i g (775 + u3.toNatClampNeg) 0)], (v0 L, g))) (ai_gd (c := Nat.beq (v0_kd (775 + u3.toNatClampNeg)) 11) rfl hc2) ?_
    refine ev_in 1 (p := (am_i g (775 + u3.toNatClampNeg) 0) = u1) (a := 43) (b := 23) (T := ([some (.ref 49), some (.int u1), some (.int u2), some (.int u3)], [], (v0 L, g))) rfl ?_ ?_
    · refine ev_fr (S := fun (o : Option Nat) => (29, [some (.ref 49), some (.int u1), some (.int u2), some (.int u3)], [am_v o], (v0 L, g))) 3 (e := v0_fr 51 u3.toNatClampNeg) (q := (775 + u3.toNatClampNeg)) (ai_gd (c := ai_in u3 80) rfl hc1) (fr_51 hc1) ?_
      refine ev_jm 0 (t := (32, [some (.ref 49), some (.int u1), some (.int u2), some (.int u3)], [.int (am_i g (775 + u3.toNatClampNeg) 1)], (v0 L, g))) (ai_gd (c := Nat.beq (v0_kd (775 + u3.toNatClampNeg)) 11) rfl hc2) ?_
      refine ev_in 1 (p := (am_i g (775 + u3.toNatClampNeg) 1) = u2) (a := 43) (b := 36) (T := ([some (.ref 49), some (.int u1), some (.int u2), some (.int u3)], [], (v0 L, g))) rfl ?_ ?_
      · refine ev_fr (S := fun (o : Option Nat) => (42, [some (.ref 49), some (.int u1), some (.int u2), some (.int u3)], [am_v o], (v0 L, g))) 3 (e := v0_fr 51 u3.toNatClampNeg) (q := (775 + u3.toNatClampNeg)) (ai_gd (c := ai_in u3 80) rfl hc1) (fr_51 hc1) ?_
        exact fun hR => by cases hR; exact ev_rt 0 rfl
      · refine ev_jm 1 (t := (2, [some (.ref 49), some (.int u1), some (.int u2), some (.int (u3 + 1))], [], (v0 L, g))) rfl ?_
        exact hk2 (u1, u2, (u3 + 1)) _
    · refine ev_jm 1 (t := (2, [some (.ref 49), some (.int u1), some (.int u2), some (.int (u3 + 1))], [], (v0 L, g))) rfl ?_
      exact hk2 (u1, u2, (u3 + 1)) _
noncomputable def fh_164_2 (g : am_G)  (x : Int32 × Int32 × Int32) : Option (Option Nat) := lo_it (fun k x => fb_164_2 g k x.1 x.2.1 x.2.2) nf_F x
theorem dh_164_2 (L : Nat) (g : am_G)   (x : Int32 × Int32 × Int32) (R : Option Nat) : fh_164_2 g  x = some R → ai_ev ap_P 164 (2, [some (.ref 49), some (.int x.1), some (.int x.2.1), some (.int x.2.2)], [], (v0 L, g)) (.inl (ez_o R)) (v0 L, g) :=
  fun hr => lo_ev (E := fun x R => ai_ev ap_P 164 (2, [some (.ref 49), some (.int x.1), some (.int x.2.1), some (.int x.2.2)], [], (v0 L, g)) (.inl (ez_o R)) (v0 L, g)) (fun k hk x R hr => db_164_2 L g hk x.1 x.2.1 x.2.2  R hr) nf_F x R hr
/-- DeclaredMarkup$Declared.attribute(II)LDeclaredMarkup$AttDecl; -/
noncomputable def fm_164 (g : am_G) (u1 : Int32) (u2 : Int32) : Option (Option Nat) := fh_164_2 g (u1, u2, 0)
theorem dm_164 (L : Nat) (g : am_G) (u1 : Int32) (u2 : Int32) (R : Option Nat) : fm_164 g u1 u2 = some R → ai_ev ap_P 164 (ai_e0 ap_P 164 [.ref 49, .int u1, .int u2] (v0 L, g)) (.inl (ez_o R)) (v0 L, g) := by
  show _ → ai_ev ap_P 164 (0, [some (.ref 49), some (.int u1), some (.int u2), none], [], (v0 L, g)) _ _
  unfold fm_164
  refine ev_jm 1 (t := (2, [some (.ref 49), some (.int u1), some (.int u2), some (.int 0)], [], (v0 L, g))) rfl ?_
  exact dh_164_2 L g (u1, u2, 0) _
/-- DeclaredMarkup$AttType.isPlain()Z -/
noncomputable def fm_148 (g : am_G) (u0 : Nat) : Option (Int32) := lo_g (ai_oc (some u0)) (if (some u0) = (some 1) then some 1 else some 0)
theorem dm_148 (L : Nat) (g : am_G) (u0 : Nat) (R : Int32) : fm_148 g u0 = some R → ai_ev ap_P 148 (ai_e0 ap_P 148 [.ref u0] (v0 L, g)) (.inl (ez_i R)) (v0 L, g) := by
  show _ → ai_ev ap_P 148 (0, [some (.ref u0)], [], (v0 L, g)) _ _
  unfold fm_148
  refine ev_gd (c := ai_oc (some u0)) (fun hc1 => ?_)
  refine ev_ac 2 (x := (some u0)) (y := (some 1)) (a := 7) (b := 11) (T := ([some (.ref u0)], [], (v0 L, g))) (ai_gd (c := ai_oc (some u0) && ai_oc (some 1)) rfl (by first | exact hc1 | (have hz := hc1; simp only [hz]; rfl))) ?_ ?_
  · exact fun hR => by cases hR; exact ev_rt 2 rfl
  · exact fun hR => by cases hR; exact ev_rt 1 rfl
noncomputable def fj_278_51 (k5 : (am_G × Int32 × Int32 × Int32 × Int32) → Option (Int32 × am_G)) (g : am_G) (u1 : Int32) (u2 : Int32) (u3 : Int32) (u4 : Int32) (u5 : Int32) : Option (Int32 × am_G) := lo_g (ai_in (u1 + u3) 5200) (k5 ((am_si g 883 ((u1 + u3)).toNatClampNeg u5), u1, u2, (u3 + 1), (u4 + 1)))
theorem dj_278_51 (L : Nat) {k5 : (am_G × Int32 × Int32 × Int32 × Int32) → Option (Int32 × am_G)} (hk5 : ∀ (x : am_G × Int32 × Int32 × Int32 × Int32) (w5 : Option Value) (R : Int32 × am_G), k5 x = some R → ai_ev ap_P 278 (5, [some (.ref 33), some (.int x.2.1), some (.int x.2.2.1), some (.int x.2.2.2.1), some (.int x.2.2.2.2), w5], [], (v0 L, x.1)) (.inl (ez_i R.1)) (v0 L, R.2)) (g : am_G) (u1 : Int32) (u2 : Int32) (u3 : Int32) (u4 : Int32) (u5 : Int32) (R : Int32 × am_G) : fj_278_51 k5 g u1 u2 u3 u4 u5 = some R → ai_ev ap_P 278 (51, [some (.ref 33), some (.int u1), some (.int u2), some (.int u3), some (.int u4), some (.int u5)], [], (v0 L, g)) (.inl (ez_i R.1)) (v0 L, R.2) := by
  unfold fj_278_51
  refine ev_gd (c := ai_in (u1 + u3) 5200) (fun hc1 => ?_)
  refine ev_jm 6 (t := (61, [some (.ref 33), some (.int u1), some (.int u2), some (.int u3), some (.int u4), some (.int u5)], [], (v0 L, (am_si g 883 ((u1 + u3)).toNatClampNeg u5)))) (ai_gd (c := ai_in (u1 + u3) 5200) rfl hc1) ?_
  refine ev_jm 2 (t := (5, [some (.ref 33), some (.int u1), some (.int u2), some (.int (u3 + 1)), some (.int (u4 + 1)), none], [], (v0 L, (am_si g 883 ((u1 + u3)).toNatClampNeg u5)))) rfl ?_
  exact hk5 ((am_si g 883 ((u1 + u3)).toNatClampNeg u5), u1, u2, (u3 + 1), (u4 + 1)) none _
noncomputable def fb_278_5 (k5 : (am_G × Int32 × Int32 × Int32 × Int32) → Option (Int32 × am_G)) (g : am_G) (u1 : Int32) (u2 : Int32) (u3 : Int32) (u4 : Int32) : Option (Int32 × am_G) := if u2 ≤ u4 then if u3 ≤ 0 then some (u3, g) else lo_g (ai_in ((u1 + u3) - 1) 5200) (if (am_i g 883 (((u1 + u3) - 1)).toNatClampNeg) = 32 then some ((u3 - 1), g) else some (u3, g)) else lo_g (ai_in (u1 + u4) 5200) (lo_l (am_i g 883 ((u1 + u4)).toNatClampNeg) fun x3 => if x3 = 32 then if u3 = 0 then k5 (g, u1, u2, u3, (u4 + 1)) else lo_g (ai_in ((u1 + u3) - 1) 5200) (if (am_i g 883 (((u1 + u3) - 1)).toNatClampNeg) = 32 then k5 (g, u1, u2, u3, (u4 + 1)) else fj_278_51 k5 g u1 u2 u3 u4 x3) else fj_278_51 k5 g u1 u2 u3 u4 x3)
theorem db_278_5 (L : Nat) {k5 : (am_G × Int32 × Int32 × Int32 × Int32) → Option (Int32 × am_G)} (hk5 : ∀ (x : am_G × Int32 × Int32 × Int32 × Int32) (w5 : Option Value) (R : Int32 × am_G), k5 x = some R → ai_ev ap_P 278 (5, [some (.ref 33), some (.int x.2.1), some (.int x.2.2.1), some (.int x.2.2.2.1), some (.int x.2.2.2.2), w5], [], (v0 L, x.1)) (.inl (ez_i R.1)) (v0 L, R.2)) (g : am_G) (u1 : Int32) (u2 : Int32) (u3 : Int32) (u4 : Int32) (w5 : Option Value) (R : Int32 × am_G) : fb_278_5 k5 g u1 u2 u3 u4 = some R → ai_ev ap_P 278 (5, [some (.ref 33), some (.int u1), some (.int u2), some (.int u3), some (.int u4), w5], [], (v0 L, g)) (.inl (ez_i R.1)) (v0 L, R.2) := by
  unfold fb_278_5
  refine ev_if 2 (p := u2 ≤ u4) (a := 70) (b := 11) (T := ([some (.ref 33), some (.int u1), some (.int u2), some (.int u3), some (.int u4), none], [], (v0 L, g))) rfl ?_ ?_
  · refine ev_if 1 (p := u3 ≤ 0) (a := 95) (b := 74) (T := ([some (.ref 33), some (.int u1), some (.int u2), some (.int u3), some (.int u4), none], [], (v0 L, g))) rfl ?_ ?_
    · exact fun hR => by cases hR; exact ev_rt 1 rfl
    · refine ev_gd (c := ai_in ((u1 + u3) - 1) 5200) (fun hc1 => ?_)
      refine ev_jm 7 (t := (84, [some (.ref 33), some (.int u1), some (.int u2), some (.int u3), some (.int u4), none], [.int (am_i g 883 (((u1 + u3) - 1)).toNatClampNeg)], (v0 L, g))) (ai_gd (c := ai_in ((u1 + u3) - 1) 5200) rfl hc1) ?_
      refine ev_in 1 (p := (am_i g 883 (((u1 + u3) - 1)).toNatClampNeg) = 32) (a := 95) (b := 89) (T := ([some (.ref 33), some (.int u1), some (.int u2), some (.int u3), some (.int u4), none], [], (v0 L, g))) rfl ?_ ?_
      · exact fun hR => by cases hR; exact ev_rt 4 rfl
      · exact fun hR => by cases hR; exact ev_rt 1 rfl
  · refine ev_gd (c := ai_in (u1 + u4) 5200) (fun hc2 => ?_)
    refine ev_jm 5 (t := (20, [some (.ref 33), some (.int u1), some (.int u2), some (.int u3), some (.int u4), none], [.int (am_i g 883 ((u1 + u4)).toNatClampNeg)], (v0 L, g))) (ai_gd (c := ai_in (u1 + u4) 5200) rfl hc2) ?_
    refine lo_e (S := fun (x3 : Int32) => (20, [some (.ref 33), some (.int u1), some (.int u2), some (.int u3), some (.int u4), none], [.int x3], (v0 L, g))) (fun x3 => ?_)
    refine ev_in 3 (p := x3 = 32) (a := 51) (b := 29) (T := ([some (.ref 33), some (.int u1), some (.int u2), some (.int u3), some (.int u4), some (.int x3)], [], (v0 L, g))) rfl ?_ ?_
    · refine ev_if 1 (p := u3 = 0) (a := 64) (b := 33) (T := ([some (.ref 33), some (.int u1), some (.int u2), some (.int u3), some (.int u4), some (.int x3)], [], (v0 L, g))) rfl ?_ ?_
      · refine ev_jm 1 (t := (5, [some (.ref 33), some (.int u1), some (.int u2), some (.int u3), some (.int (u4 + 1)), none], [], (v0 L, g))) rfl ?_
        exact hk5 (g, u1, u2, u3, (u4 + 1)) none _
      · refine ev_gd (c := ai_in ((u1 + u3) - 1) 5200) (fun hc4 => ?_)
        refine ev_jm 7 (t := (43, [some (.ref 33), some (.int u1), some (.int u2), some (.int u3), some (.int u4), some (.int x3)], [.int (am_i g 883 (((u1 + u3) - 1)).toNatClampNeg)], (v0 L, g))) (ai_gd (c := ai_in ((u1 + u3) - 1) 5200) rfl hc4) ?_
        refine ev_in 1 (p := (am_i g 883 (((u1 + u3) - 1)).toNatClampNeg) = 32) (a := 51) (b := 48) (T := ([some (.ref 33), some (.int u1), some (.int u2), some (.int u3), some (.int u4), some (.int x3)], [], (v0 L, g))) rfl ?_ ?_
        · refine ev_jm 2 (t := (5, [some (.ref 33), some (.int u1), some (.int u2), some (.int u3), some (.int (u4 + 1)), none], [], (v0 L, g))) rfl ?_
          exact hk5 (g, u1, u2, u3, (u4 + 1)) none _
        · exact dj_278_51 L hk5 g u1 u2 u3 u4 x3 _
    · exact dj_278_51 L hk5 g u1 u2 u3 u4 x3 _
noncomputable def fh_278_5  (x : am_G × Int32 × Int32 × Int32 × Int32) : Option (Int32 × am_G) := lo_it (fun k x => fb_278_5 k x.1 x.2.1 x.2.2.1 x.2.2.2.1 x.2.2.2.2) nf_F x
theorem dh_278_5 (L : Nat)   (x : am_G × Int32 × Int32 × Int32 × Int32) (w5 : Option Value) (R : Int32 × am_G) : fh_278_5  x = some R → ai_ev ap_P 278 (5, [some (.ref 33), some (.int x.2.1), some (.int x.2.2.1), some (.int x.2.2.2.1), some (.int x.2.2.2.2), w5], [], (v0 L, x.1)) (.inl (ez_i R.1)) (v0 L, R.2) :=
  fun hr => lo_ev (E := fun x R => ∀ (w5 : Option Value), ai_ev ap_P 278 (5, [some (.ref 33), some (.int x.2.1), some (.int x.2.2.1), some (.int x.2.2.2.1), some (.int x.2.2.2.2), w5], [], (v0 L, x.1)) (.inl (ez_i R.1)) (v0 L, R.2)) (fun k hk x R hr => fun w5 => db_278_5 L (fun x w5 R hr => hk x R hr w5) x.1 x.2.1 x.2.2.1 x.2.2.2.1 x.2.2.2.2 w5 R hr) nf_F x R hr w5
/-- DeclaredMarkup$Processor.trim(II)I -/
noncomputable def fm_278 (g : am_G) (u1 : Int32) (u2 : Int32) : Option (Int32 × am_G) := fh_278_5 (g, u1, u2, 0, 0)
theorem dm_278 (L : Nat) (g : am_G) (u1 : Int32) (u2 : Int32) (R : Int32 × am_G) : fm_278 g u1 u2 = some R → ai_ev ap_P 278 (ai_e0 ap_P 278 [.ref 33, .int u1, .int u2] (v0 L, g)) (.inl (ez_i R.1)) (v0 L, R.2) := by
  show _ → ai_ev ap_P 278 (0, [some (.ref 33), some (.int u1), some (.int u2), none, none, none], [], (v0 L, g)) _ _
  unfold fm_278
  refine ev_jm 3 (t := (5, [some (.ref 33), some (.int u1), some (.int u2), some (.int 0), some (.int 0), none], [], (v0 L, g))) rfl ?_
  exact dh_278_5 L (g, u1, u2, 0, 0) none _
noncomputable def fb_287_17 (k17 : (am_G × Int32 × Int32 × Int32) → Option (am_G)) (g : am_G) (u2 : Int32) (u3 : Int32) (u4 : Int32) : Option (am_G) := if u3 ≤ u4 then lo_p (fm_193 g ) fun g2 => some g2 else lo_g (ai_in (u2 + u4) 5200) (lo_p (fm_268 g (am_i g 883 ((u2 + u4)).toNatClampNeg)) fun g5 => k17 (g5, u2, u3, (u4 + 1)))
theorem db_287_17 (L : Nat) {k17 : (am_G × Int32 × Int32 × Int32) → Option (am_G)} (hk17 : ∀ (x : am_G × Int32 × Int32 × Int32) (w1 : Option Value) (R : am_G), k17 x = some R → ai_ev ap_P 287 (17, [some (.ref 33), w1, some (.int x.2.1), some (.int x.2.2.1), some (.int x.2.2.2)], [], (v0 L, x.1)) (.inl none) (v0 L, R)) (g : am_G) (u2 : Int32) (u3 : Int32) (u4 : Int32) (w1 : Option Value) (R : am_G) : fb_287_17 k17 g u2 u3 u4 = some R → ai_ev ap_P 287 (17, [some (.ref 33), w1, some (.int u2), some (.int u3), some (.int u4)], [], (v0 L, g)) (.inl none) (v0 L, R) := by
  unfold fb_287_17
  refine ev_if 2 (p := u3 ≤ u4) (a := 42) (b := 23) (T := ([some (.ref 33), none, some (.int u2), some (.int u3), some (.int u4)], [], (v0 L, g))) rfl ?_ ?_
  · refine ev_ov0 2 (as := [.ref 872]) (pc := 49) (Lc := [some (.ref 33), none, some (.int u2), some (.int u3), some (.int u4)]) (st := []) (V := v0 L) (g1 := g) rfl (dm_193 L g ) (fun g2 => ?_)
    exact fun hR => by cases hR; exact ev_rt 0 rfl
  · refine ev_gd (c := ai_in (u2 + u4) 5200) (fun hc3 => ?_)
    refine ev_jm 6 (t := (33, [some (.ref 33), none, some (.int u2), some (.int u3), some (.int u4)], [.int (am_i g 883 ((u2 + u4)).toNatClampNeg), .ref 33], (v0 L, g))) (ai_gd (c := ai_in (u2 + u4) 5200) rfl hc3) ?_
    refine ev_ov0 0 (as := [.ref 33, .int (am_i g 883 ((u2 + u4)).toNatClampNeg)]) (pc := 36) (Lc := [some (.ref 33), none, some (.int u2), some (.int u3), some (.int u4)]) (st := []) (V := v0 L) (g1 := g) rfl (dm_268 L g (am_i g 883 ((u2 + u4)).toNatClampNeg)) (fun g5 => ?_)
    refine ev_jm 1 (t := (17, [some (.ref 33), none, some (.int u2), some (.int u3), some (.int (u4 + 1))], [], (v0 L, g5))) rfl ?_
    exact hk17 (g5, u2, u3, (u4 + 1)) none _
noncomputable def fh_287_17  (x : am_G × Int32 × Int32 × Int32) : Option (am_G) := lo_it (fun k x => fb_287_17 k x.1 x.2.1 x.2.2.1 x.2.2.2) nf_F x
theorem dh_287_17 (L : Nat)   (x : am_G × Int32 × Int32 × Int32) (w1 : Option Value) (R : am_G) : fh_287_17  x = some R → ai_ev ap_P 287 (17, [some (.ref 33), w1, some (.int x.2.1), some (.int x.2.2.1), some (.int x.2.2.2)], [], (v0 L, x.1)) (.inl none) (v0 L, R) :=
  fun hr => lo_ev (E := fun x R => ∀ (w1 : Option Value), ai_ev ap_P 287 (17, [some (.ref 33), w1, some (.int x.2.1), some (.int x.2.2.1), some (.int x.2.2.2)], [], (v0 L, x.1)) (.inl none) (v0 L, R)) (fun k hk x R hr => fun w1 => db_287_17 L (fun x w1 R hr => hk x R hr w1) x.1 x.2.1 x.2.2.1 x.2.2.2 w1 R hr) nf_F x R hr w1
/-- DeclaredMarkup$Processor.tell(III)V -/
noncomputable def fm_287 (g : am_G) (u1 : Int32) (u2 : Int32) (u3 : Int32) : Option (am_G) := lo_p (fm_267 g 13 u1) fun g2 => lo_p (fm_268 g2 32) fun g4 => fh_287_17 (g4, u2, u3, 0)
theorem dm_287 (L : Nat) (g : am_G) (u1 : Int32) (u2 : Int32) (u3 : Int32) (R : am_G) : fm_287 g u1 u2 u3 = some R → ai_ev ap_P 287 (ai_e0 ap_P 287 [.ref 33, .int u1, .int u2, .int u3] (v0 L, g)) (.inl none) (v0 L, R) := by
  show _ → ai_ev ap_P 287 (0, [some (.ref 33), some (.int u1), some (.int u2), some (.int u3), none], [], (v0 L, g)) _ _
  unfold fm_287
  refine ev_ov0 3 (as := [.ref 33, .ref 13, .int u1]) (pc := 8) (Lc := [some (.ref 33), some (.int u1), some (.int u2), some (.int u3), none]) (st := []) (V := v0 L) (g1 := g) rfl (dm_267 L g 13 u1) (fun g2 => ?_)
  refine ev_ov0 2 (as := [.ref 33, .int 32]) (pc := 14) (Lc := [some (.ref 33), some (.int u1), some (.int u2), some (.int u3), none]) (st := []) (V := v0 L) (g1 := g2) rfl (dm_268 L g2 32) (fun g4 => ?_)
  refine ev_jm 1 (t := (17, [some (.ref 33), some (.int u1), some (.int u2), some (.int u3), some (.int 0)], [], (v0 L, g4))) rfl ?_
  exact dh_287_17 L (g4, u2, u3, 0) (some (.int u1)) _
