noncomputable def fb_49_5 (g : am_G) (k5 : (Int32 × Int32 × Int32 × Int32) → Option (Int32)) (u1 : Int32) (u2 : Int32) (u3 : Int32) (u4 : Int32) : Option (Int32) := lo_g (ai_in u1 40) (if (am_i g 960 u1.toNatClampNeg) ≤ u4 then some (vp_nar .boolean u3) else if u3 = 0 then lo_g (ai_in ((am_i g 959 u1.toNatClampNeg) + u4) 6000) (if (am_i g 964 (((am_i g 959 u1.toNatClampNeg) + u4)).toNatClampNeg) = u2 then k5 (u1, u2, 1, (u4 + 1)) else k5 (u1, u2, 0, (u4 + 1))) else k5 (u1, u2, 1, (u4 + 1)))
theorem db_49_5 (L : Nat) (g : am_G) {k5 : (Int32 × Int32 × Int32 × Int32) → Option (Int32)} (hk5 : ∀ (x : Int32 × Int32 × Int32 × Int32) (R : Int32), k5 x = some R → ai_ev ap_P 49 (5, [some (.ref 943), some (.int x.1), some (.int x.2.1), some (.int x.2.2.1), some (.int x.2.2.2)], [], (v0 L, g)) (.inl (ez_i R)) (v0 L, g)) (u1 : Int32) (u2 : Int32) (u3 : Int32) (u4 : Int32) (R : Int32) : fb_49_5 g k5 u1 u2 u3 u4 = some R → ai_ev ap_P 49 (5, [some (.ref 943), some (.int u1), some (.int u2), some (.int u3), some (.int u4)], [], (v0 L, g)) (.inl (ez_i R)) (v0 L, g) := by
  unfold fb_49_5
  refine ev_gd (c := ai_in u1 40) (fun hc1 => ?_)
  refine ev_jm 4 (t := (13, [some (.ref 943), some (.int u1), some (.int u2), some (.int u3), some (.int u4)], [.int (am_i g 960 u1.toNatClampNeg), .int u4], (v0 L, g))) (ai_gd (c := ai_in u1 40) rfl hc1) ?_
  refine ev_if 0 (p := (am_i g 960 u1.toNatClampNeg) ≤ u4) (a := 50) (b := 16) (T := ([some (.ref 943), some (.int u1), some (.int u2), some (.int u3), some (.int u4)], [], (v0 L, g))) rfl ?_ ?_
  · exact fun hR => by cases hR; exact ev_rt 1 rfl
  · refine ev_in 1 (p := u3 = 0) (a := 38) (b := 20) (T := ([some (.ref 943), some (.int u1), some (.int u2), some (.int u3), some (.int u4)], [], (v0 L, g))) rfl ?_ ?_
    · refine ev_jm 5 (t := (30, [some (.ref 943), some (.int u1), some (.int u2), some (.int u3), some (.int u4)], [.int (am_i g 959 u1.toNatClampNeg), .ref 964], (v0 L, g))) (ai_gd (c := ai_in u1 40) rfl hc1) ?_
      refine ev_gd (c := ai_in ((am_i g 959 u1.toNatClampNeg) + u4) 6000) (fun hc2 => ?_)
      refine ev_jm 2 (t := (34, [some (.ref 943), some (.int u1), some (.int u2), some (.int u3), some (.int u4)], [.int (am_i g 964 (((am_i g 959 u1.toNatClampNeg) + u4)).toNatClampNeg)], (v0 L, g))) (ai_gd (c := ai_in ((am_i g 959 u1.toNatClampNeg) + u4) 6000) rfl hc2) ?_
      refine ev_in 1 (p := (am_i g 964 (((am_i g 959 u1.toNatClampNeg) + u4)).toNatClampNeg) = u2) (a := 42) (b := 38) (T := ([some (.ref 943), some (.int u1), some (.int u2), some (.int u3), some (.int u4)], [], (v0 L, g))) rfl ?_ ?_
      · refine ev_jm 4 (t := (5, [some (.ref 943), some (.int u1), some (.int u2), some (.int 1), some (.int (u4 + 1))], [], (v0 L, g))) rfl ?_
        exact hk5 (u1, u2, 1, (u4 + 1)) _
      · refine ev_jm 3 (t := (5, [some (.ref 943), some (.int u1), some (.int u2), some (.int 0), some (.int (u4 + 1))], [], (v0 L, g))) rfl ?_
        exact hk5 (u1, u2, 0, (u4 + 1)) _
    · refine ev_jm 4 (t := (5, [some (.ref 943), some (.int u1), some (.int u2), some (.int 1), some (.int (u4 + 1))], [], (v0 L, g))) rfl ?_
      exact hk5 (u1, u2, 1, (u4 + 1)) _
noncomputable def fh_49_5 (g : am_G)  (x : Int32 × Int32 × Int32 × Int32) : Option (Int32) := lo_it (fun k x => fb_49_5 g k x.1 x.2.1 x.2.2.1 x.2.2.2) nf_F x
theorem dh_49_5 (L : Nat) (g : am_G)   (x : Int32 × Int32 × Int32 × Int32) (R : Int32) : fh_49_5 g  x = some R → ai_ev ap_P 49 (5, [some (.ref 943), some (.int x.1), some (.int x.2.1), some (.int x.2.2.1), some (.int x.2.2.2)], [], (v0 L, g)) (.inl (ez_i R)) (v0 L, g) :=
  fun hr => lo_ev (E := fun x R => ai_ev ap_P 49 (5, [some (.ref 943), some (.int x.1), some (.int x.2.1), some (.int x.2.2.1), some (.int x.2.2.2)], [], (v0 L, g)) (.inl (ez_i R)) (v0 L, g)) (fun k hk x R hr => db_49_5 L g hk x.1 x.2.1 x.2.2.1 x.2.2.2  R hr) nf_F x R hr
/-- DeclaredMarkupModel.hasLeaf(II)Z -/
noncomputable def fm_49 (g : am_G) (u1 : Int32) (u2 : Int32) : Option (Int32) := fh_49_5 g (u1, u2, 0, 0)
theorem dm_49 (L : Nat) (g : am_G) (u1 : Int32) (u2 : Int32) (R : Int32) : fm_49 g u1 u2 = some R → ai_ev ap_P 49 (ai_e0 ap_P 49 [.ref 943, .int u1, .int u2] (v0 L, g)) (.inl (ez_i R)) (v0 L, g) := by
  show _ → ai_ev ap_P 49 (0, [some (.ref 943), some (.int u1), some (.int u2), none, none], [], (v0 L, g)) _ _
  unfold fm_49
  refine ev_jm 3 (t := (5, [some (.ref 943), some (.int u1), some (.int u2), some (.int 0), some (.int 0)], [], (v0 L, g))) rfl ?_
  exact dh_49_5 L g (u1, u2, 0, 0) _
noncomputable def fb_51_102 (k102 : (am_G × Int32 × Int32 × Int32 × Int64 × Int64 × Int32) → Option (am_G)) (g : am_G) (u1 : Int32) (u2 : Int32) (u3 : Int32) (u4 : Int64) (u6 : Int64) (u8 : Int32) : Option (am_G) := lo_g (ai_in u1 40) (if (am_i g 960 u1.toNatClampNeg) ≤ u8 then lo_g (ai_in u3 40) (if (lg_cmp u6 0) = 0 then lo_p (fm_24 (am_sj (am_si g 994 u3.toNatClampNeg 1) 993 u3.toNatClampNeg u6) 2) fun g4 => some g4 else some (am_sj (am_si g 994 u3.toNatClampNeg 1) 993 u3.toNatClampNeg u6)) else lo_g (ai_in ((am_i g 959 u1.toNatClampNeg) + u8) 6000) (if (am_i g 964 (((am_i g 959 u1.toNatClampNeg) + u8)).toNatClampNeg) = u2 then lo_l (u6 ||| (u4 &&& (1 <<< (u8.toInt64 &&& 63)))) fun x7 => k102 (g, u1, u2, u3, u4, x7, (u8 + 1)) else lo_l (u6 ||| 0) fun x6 => k102 (g, u1, u2, u3, u4, x6, (u8 + 1))))
theorem db_51_102 (L : Nat) {k102 : (am_G × Int32 × Int32 × Int32 × Int64 × Int64 × Int32) → Option (am_G)} (hk102 : ∀ (x : am_G × Int32 × Int32 × Int32 × Int64 × Int64 × Int32) (w5 w7 : Option Value) (R : am_G), k102 x = some R → ai_ev ap_P 51 (102, [some (.ref 943), some (.int x.2.1), some (.int x.2.2.1), some (.int x.2.2.2.1), some (.long x.2.2.2.2.1), w5, some (.long x.2.2.2.2.2.1), w7, some (.int x.2.2.2.2.2.2)], [], (v0 L, x.1)) (.inl none) (v0 L, R)) (g : am_G) (u1 : Int32) (u2 : Int32) (u3 : Int32) (u4 : Int64) (u6 : Int64) (u8 : Int32) (w5 w7 : Option Value) (R : am_G) : fb_51_102 k102 g u1 u2 u3 u4 u6 u8 = some R → ai_ev ap_P 51 (102, [some (.ref 943), some (.int u1), some (.int u2), some (.int u3), some (.long u4), w5, some (.long u6), w7, some (.int u8)], [], (v0 L, g)) (.inl none) (v0 L, R) := by
  unfold fb_51_102
  refine ev_gd (c := ai_in u1 40) (fun hc1 => ?_)
  refine ev_jm 4 (t := (110, [some (.ref 943), some (.int u1), some (.int u2), some (.int u3), some (.long u4), none, some (.long u6), none, some (.int u8)], [.int (am_i g 960 u1.toNatClampNeg), .int u8], (v0 L, g))) (ai_gd (c := ai_in u1 40) rfl hc1) ?_
  refine ev_if 0 (p := (am_i g 960 u1.toNatClampNeg) ≤ u8) (a := 153) (b := 113) (T := ([some (.ref 943), some (.int u1), some (.int u2), some (.int u3), some (.long u4), none, some (.long u6), none, some (.int u8)], [], (v0 L, g))) rfl ?_ ?_
  · refine ev_gd (c := ai_in u3 40) (fun hc2 => ?_)
    refine ev_jm 4 (t := (160, [some (.ref 943), some (.int u1), some (.int u2), some (.int u3), some (.long u4), none, some (.long u6), none, some (.int u8)], [], (v0 L, (am_si g 994 u3.toNatClampNeg 1)))) (ai_gd (c := ai_in u3 40) rfl hc2) ?_
    refine ev_jm 4 (t := (168, [some (.ref 943), some (.int u1), some (.int u2), some (.int u3), some (.long u4), none, some (.long u6), none, some (.int u8)], [], (v0 L, (am_sj (am_si g 994 u3.toNatClampNeg 1) 993 u3.toNatClampNeg u6)))) (ai_gd (c := ai_in u3 40) rfl hc2) ?_
    refine ev_in 3 (p := (lg_cmp u6 0) = 0) (a := 180) (b := 175) (T := ([some (.ref 943), some (.int u1), some (.int u2), some (.int u3), some (.long u4), none, some (.long u6), none, some (.int u8)], [], (v0 L, (am_sj (am_si g 994 u3.toNatClampNeg 1) 993 u3.toNatClampNeg u6)))) rfl ?_ ?_
    · refine ev_ov0 2 (as := [.ref 943, .int 2]) (pc := 180) (Lc := [some (.ref 943), some (.int u1), some (.int u2), some (.int u3), some (.long u4), none, some (.long u6), none, some (.int u8)]) (st := []) (V := v0 L) (g1 := (am_sj (am_si g 994 u3.toNatClampNeg 1) 993 u3.toNatClampNeg u6)) rfl (dm_24 L (am_sj (am_si g 994 u3.toNatClampNeg 1) 993 u3.toNatClampNeg u6) 2) (fun g4 => ?_)
      exact fun hR => by cases hR; exact ev_rt 0 rfl
    · exact fun hR => by cases hR; exact ev_rt 0 rfl
  · refine ev_jm 6 (t := (125, [some (.ref 943), some (.int u1), some (.int u2), some (.int u3), some (.long u4), none, some (.long u6), none, some (.int u8)], [.int (am_i g 959 u1.toNatClampNeg), .ref 964, .long u6], (v0 L, g))) (ai_gd (c := ai_in u1 40) rfl hc1) ?_
    refine ev_gd (c := ai_in ((am_i g 959 u1.toNatClampNeg) + u8) 6000) (fun hc5 => ?_)
    refine ev_jm 2 (t := (129, [some (.ref 943), some (.int u1), some (.int u2), some (.int u3), some (.long u4), none, some (.long u6), none, some (.int u8)], [.int (am_i g 964 (((am_i g 959 u1.toNatClampNeg) + u8)).toNatClampNeg), .long u6], (v0 L, g))) (ai_gd (c := ai_in ((am_i g 959 u1.toNatClampNeg) + u8) 6000) rfl hc5) ?_
    refine ev_in 1 (p := (am_i g 964 (((am_i g 959 u1.toNatClampNeg) + u8)).toNatClampNeg) = u2) (a := 143) (b := 133) (T := ([some (.ref 943), some (.int u1), some (.int u2), some (.int u3), some (.long u4), none, some (.long u6), none, some (.int u8)], [.long u6], (v0 L, g))) rfl ?_ ?_
    · refine ev_jm 6 (t := (145, [some (.ref 943), some (.int u1), some (.int u2), some (.int u3), some (.long u4), none, none, none, some (.int u8)], [.long (u6 ||| (u4 &&& (1 <<< (u8.toInt64 &&& 63))))], (v0 L, g))) rfl ?_
      refine lo_e (S := fun (x7 : Int64) => (145, [some (.ref 943), some (.int u1), some (.int u2), some (.int u3), some (.long u4), none, none, none, some (.int u8)], [.long x7], (v0 L, g))) (fun x7 => ?_)
      refine ev_jm 2 (t := (102, [some (.ref 943), some (.int u1), some (.int u2), some (.int u3), some (.long u4), none, some (.long x7), none, some (.int (u8 + 1))], [], (v0 L, g))) rfl ?_
      exact hk102 (g, u1, u2, u3, u4, x7, (u8 + 1)) none none _
    · refine ev_jm 1 (t := (145, [some (.ref 943), some (.int u1), some (.int u2), some (.int u3), some (.long u4), none, none, none, some (.int u8)], [.long (u6 ||| 0)], (v0 L, g))) rfl ?_
      refine lo_e (S := fun (x6 : Int64) => (145, [some (.ref 943), some (.int u1), some (.int u2), some (.int u3), some (.long u4), none, none, none, some (.int u8)], [.long x6], (v0 L, g))) (fun x6 => ?_)
      refine ev_jm 2 (t := (102, [some (.ref 943), some (.int u1), some (.int u2), some (.int u3), some (.long u4), none, some (.long x6), none, some (.int (u8 + 1))], [], (v0 L, g))) rfl ?_
      exact hk102 (g, u1, u2, u3, u4, x6, (u8 + 1)) none none _
noncomputable def fh_51_102  (x : am_G × Int32 × Int32 × Int32 × Int64 × Int64 × Int32) : Option (am_G) := lo_it (fun k x => fb_51_102 k x.1 x.2.1 x.2.2.1 x.2.2.2.1 x.2.2.2.2.1 x.2.2.2.2.2.1 x.2.2.2.2.2.2) nf_F x
theorem dh_51_102 (L : Nat)   (x : am_G × Int32 × Int32 × Int32 × Int64 × Int64 × Int32) (w5 w7 : Option Value) (R : am_G) : fh_51_102  x = some R → ai_ev ap_P 51 (102, [some (.ref 943), some (.int x.2.1), some (.int x.2.2.1), some (.int x.2.2.2.1), some (.long x.2.2.2.2.1), w5, some (.long x.2.2.2.2.2.1), w7, some (.int x.2.2.2.2.2.2)], [], (v0 L, x.1)) (.inl none) (v0 L, R) :=
  fun hr => lo_ev (E := fun x R => ∀ (w5 w7 : Option Value), ai_ev ap_P 51 (102, [some (.ref 943), some (.int x.2.1), some (.int x.2.2.1), some (.int x.2.2.2.1), some (.long x.2.2.2.2.1), w5, some (.long x.2.2.2.2.2.1), w7, some (.int x.2.2.2.2.2.2)], [], (v0 L, x.1)) (.inl none) (v0 L, R)) (fun k hk x R hr => fun w5 w7 => db_51_102 L (fun x w5 w7 R hr => hk x R hr w5 w7) x.1 x.2.1 x.2.2.1 x.2.2.2.1 x.2.2.2.2.1 x.2.2.2.2.2.1 x.2.2.2.2.2.2 w5 w7 R hr) nf_F x R hr w5 w7
noncomputable def fb_51_31 (k31 : (am_G × Int32 × Int32 × Int32 × Int64 × Int32) → Option (am_G)) (g : am_G) (u1 : Int32) (u2 : Int32) (u3 : Int32) (u4 : Int64) (u6 : Int32) : Option (am_G) := lo_g (ai_in u1 40) (if (am_i g 960 u1.toNatClampNeg) ≤ u6 then fh_51_102 (g, u1, u2, u3, u4, 0, 0) else lo_g (ai_in u3 40) (if (am_i g 994 u3.toNatClampNeg) = 0 then fh_51_102 (g, u1, u2, u3, u4, 0, 0) else if (lg_cmp (((am_j g 993 u3.toNatClampNeg) >>> (u6.toInt64 &&& 63)) &&& 1) 1) = 0 then lo_g (ai_in ((am_i g 959 u1.toNatClampNeg) + u6) 6000) (lo_l (u4 ||| (am_j g 966 (((am_i g 959 u1.toNatClampNeg) + u6)).toNatClampNeg)) fun x5 => k31 (g, u1, u2, u3, x5, (u6 + 1))) else lo_l (u4 ||| 0) fun x3 => k31 (g, u1, u2, u3, x3, (u6 + 1))))
theorem db_51_31 (L : Nat) {k31 : (am_G × Int32 × Int32 × Int32 × Int64 × Int32) → Option (am_G)} (hk31 : ∀ (x : am_G × Int32 × Int32 × Int32 × Int64 × Int32) (w5 w7 w8 : Option Value) (R : am_G), k31 x = some R → ai_ev ap_P 51 (31, [some (.ref 943), some (.int x.2.1), some (.int x.2.2.1), some (.int x.2.2.2.1), some (.long x.2.2.2.2.1), w5, some (.int x.2.2.2.2.2), w7, w8], [], (v0 L, x.1)) (.inl none) (v0 L, R)) (g : am_G) (u1 : Int32) (u2 : Int32) (u3 : Int32) (u4 : Int64) (u6 : Int32) (w5 w7 w8 : Option Value) (R : am_G) : fb_51_31 k31 g u1 u2 u3 u4 u6 = some R → ai_ev ap_P 51 (31, [some (.ref 943), some (.int u1), some (.int u2), some (.int u3), some (.long u4), w5, some (.int u6), w7, w8], [], (v0 L, g)) (.inl none) (v0 L, R) := by
  unfold fb_51_31
  refine ev_gd (c := ai_in u1 40) (fun hc1 => ?_)
  refine ev_jm 4 (t := (39, [some (.ref 943), some (.int u1), some (.int u2), some (.int u3), some (.long u4), none, some (.int u6), none, none], [.int (am_i g 960 u1.toNatClampNeg), .int u6], (v0 L, g))) (ai_gd (c := ai_in u1 40) rfl hc1) ?_
  refine ev_if 0 (p := (am_i g 960 u1.toNatClampNeg) ≤ u6) (a := 96) (b := 42) (T := ([some (.ref 943), some (.int u1), some (.int u2), some (.int u3), some (.long u4), none, some (.int u6), none, none], [], (v0 L, g))) rfl ?_ ?_
  · refine ev_jm 3 (t := (102, [some (.ref 943), some (.int u1), some (.int u2), some (.int u3), some (.long u4), none, some (.long 0), none, some (.int 0)], [], (v0 L, g))) rfl ?_
    exact dh_51_102 L (g, u1, u2, u3, u4, 0, 0) none none _
  · refine ev_gd (c := ai_in u3 40) (fun hc2 => ?_)
    refine ev_jm 3 (t := (48, [some (.ref 943), some (.int u1), some (.int u2), some (.int u3), some (.long u4), none, some (.int u6), none, none], [.int (am_i g 994 u3.toNatClampNeg)], (v0 L, g))) (ai_gd (c := ai_in u3 40) rfl hc2) ?_
    refine ev_if 0 (p := (am_i g 994 u3.toNatClampNeg) = 0) (a := 96) (b := 51) (T := ([some (.ref 943), some (.int u1), some (.int u2), some (.int u3), some (.long u4), none, some (.int u6), none, none], [], (v0 L, g))) rfl ?_ ?_
    · refine ev_jm 3 (t := (102, [some (.ref 943), some (.int u1), some (.int u2), some (.int u3), some (.long u4), none, some (.long 0), none, some (.int 0)], [], (v0 L, g))) rfl ?_
      exact dh_51_102 L (g, u1, u2, u3, u4, 0, 0) none none _
    · refine ev_jm 4 (t := (59, [some (.ref 943), some (.int u1), some (.int u2), some (.int u3), some (.long u4), none, some (.int u6), none, none], [.long (am_j g 993 u3.toNatClampNeg), .long u4], (v0 L, g))) (ai_gd (c := ai_in u3 40) rfl hc2) ?_
      refine ev_in 6 (p := (lg_cmp (((am_j g 993 u3.toNatClampNeg) >>> (u6.toInt64 &&& 63)) &&& 1) 1) = 0) (a := 86) (b := 69) (T := ([some (.ref 943), some (.int u1), some (.int u2), some (.int u3), some (.long u4), none, some (.int u6), none, none], [.long u4], (v0 L, g))) rfl ?_ ?_
      · refine ev_jm 5 (t := (79, [some (.ref 943), some (.int u1), some (.int u2), some (.int u3), some (.long u4), none, some (.int u6), none, none], [.int (am_i g 959 u1.toNatClampNeg), .ref 966, .long u4], (v0 L, g))) (ai_gd (c := ai_in u1 40) rfl hc1) ?_
        refine ev_gd (c := ai_in ((am_i g 959 u1.toNatClampNeg) + u6) 6000) (fun hc4 => ?_)
        refine ev_jm 2 (t := (83, [some (.ref 943), some (.int u1), some (.int u2), some (.int u3), some (.long u4), none, some (.int u6), none, none], [.long (am_j g 966 (((am_i g 959 u1.toNatClampNeg) + u6)).toNatClampNeg), .long u4], (v0 L, g))) (ai_gd (c := ai_in ((am_i g 959 u1.toNatClampNeg) + u6) 6000) rfl hc4) ?_
        refine ev_jm 1 (t := (88, [some (.ref 943), some (.int u1), some (.int u2), some (.int u3), none, none, some (.int u6), none, none], [.long (u4 ||| (am_j g 966 (((am_i g 959 u1.toNatClampNeg) + u6)).toNatClampNeg))], (v0 L, g))) rfl ?_
        refine lo_e (S := fun (x5 : Int64) => (88, [some (.ref 943), some (.int u1), some (.int u2), some (.int u3), none, none, some (.int u6), none, none], [.long x5], (v0 L, g))) (fun x5 => ?_)
        refine ev_jm 2 (t := (31, [some (.ref 943), some (.int u1), some (.int u2), some (.int u3), some (.long x5), none, some (.int (u6 + 1)), none, none], [], (v0 L, g))) rfl ?_
        exact hk31 (g, u1, u2, u3, x5, (u6 + 1)) none none none _
      · refine ev_jm 1 (t := (88, [some (.ref 943), some (.int u1), some (.int u2), some (.int u3), none, none, some (.int u6), none, none], [.long (u4 ||| 0)], (v0 L, g))) rfl ?_
        refine lo_e (S := fun (x3 : Int64) => (88, [some (.ref 943), some (.int u1), some (.int u2), some (.int u3), none, none, some (.int u6), none, none], [.long x3], (v0 L, g))) (fun x3 => ?_)
        refine ev_jm 2 (t := (31, [some (.ref 943), some (.int u1), some (.int u2), some (.int u3), some (.long x3), none, some (.int (u6 + 1)), none, none], [], (v0 L, g))) rfl ?_
        exact hk31 (g, u1, u2, u3, x3, (u6 + 1)) none none none _
noncomputable def fh_51_31  (x : am_G × Int32 × Int32 × Int32 × Int64 × Int32) : Option (am_G) := lo_it (fun k x => fb_51_31 k x.1 x.2.1 x.2.2.1 x.2.2.2.1 x.2.2.2.2.1 x.2.2.2.2.2) nf_F x
theorem dh_51_31 (L : Nat)   (x : am_G × Int32 × Int32 × Int32 × Int64 × Int32) (w5 w7 w8 : Option Value) (R : am_G) : fh_51_31  x = some R → ai_ev ap_P 51 (31, [some (.ref 943), some (.int x.2.1), some (.int x.2.2.1), some (.int x.2.2.2.1), some (.long x.2.2.2.2.1), w5, some (.int x.2.2.2.2.2), w7, w8], [], (v0 L, x.1)) (.inl none) (v0 L, R) :=
  fun hr => lo_ev (E := fun x R => ∀ (w5 w7 w8 : Option Value), ai_ev ap_P 51 (31, [some (.ref 943), some (.int x.2.1), some (.int x.2.2.1), some (.int x.2.2.2.1), some (.long x.2.2.2.2.1), w5, some (.int x.2.2.2.2.2), w7, w8], [], (v0 L, x.1)) (.inl none) (v0 L, R)) (fun k hk x R hr => fun w5 w7 w8 => db_51_31 L (fun x w5 w7 w8 R hr => hk x R hr w5 w7 w8) x.1 x.2.1 x.2.2.1 x.2.2.2.1 x.2.2.2.2.1 x.2.2.2.2.2 w5 w7 w8 R hr) nf_F x R hr w5 w7 w8
/-- DeclaredMarkupModel.come(II)V -/
noncomputable def fm_51 (g : am_G) (u1 : Int32) (u2 : Int32) : Option (am_G) := lo_l ((am_i g 943 106) - 1) fun x1 => lo_g (ai_in x1 40) (if (am_i g 994 x1.toNatClampNeg) = 0 then lo_g (ai_in u1 40) (lo_l (am_j g 961 u1.toNatClampNeg) fun x4 => fh_51_31 (g, u1, u2, x1, x4, 0)) else fh_51_31 (g, u1, u2, x1, 0, 0))
theorem dm_51 (L : Nat) (g : am_G) (u1 : Int32) (u2 : Int32) (R : am_G) : fm_51 g u1 u2 = some R → ai_ev ap_P 51 (ai_e0 ap_P 51 [.ref 943, .int u1, .int u2] (v0 L, g)) (.inl none) (v0 L, R) := by
  show _ → ai_ev ap_P 51 (0, [some (.ref 943), some (.int u1), some (.int u2), none, none, none, none, none, none], [], (v0 L, g)) _ _
  unfold fm_51
  refine ev_jm 3 (t := (6, [some (.ref 943), some (.int u1), some (.int u2), none, none, none, none, none, none], [.int ((am_i g 943 106) - 1)], (v0 L, g))) rfl ?_
  refine lo_e (S := fun (x1 : Int32) => (6, [some (.ref 943), some (.int u1), some (.int u2), none, none, none, none, none, none], [.int x1], (v0 L, g))) (fun x1 => ?_)
  refine ev_gd (c := ai_in x1 40) (fun hc2 => ?_)
  refine ev_jm 4 (t := (13, [some (.ref 943), some (.int u1), some (.int u2), some (.int x1), none, none, none, none, none], [.int (am_i g 994 x1.toNatClampNeg)], (v0 L, g))) (ai_gd (c := ai_in x1 40) rfl hc2) ?_
  refine ev_if 0 (p := (am_i g 994 x1.toNatClampNeg) = 0) (a := 20) (b := 16) (T := ([some (.ref 943), some (.int u1), some (.int u2), some (.int x1), none, none, none, none, none], [], (v0 L, g))) rfl ?_ ?_
  · refine ev_gd (c := ai_in u1 40) (fun hc3 => ?_)
    refine ev_jm 3 (t := (26, [some (.ref 943), some (.int u1), some (.int u2), some (.int x1), none, none, none, none, none], [.long (am_j g 961 u1.toNatClampNeg)], (v0 L, g))) (ai_gd (c := ai_in u1 40) rfl hc3) ?_
    refine lo_e (S := fun (x4 : Int64) => (26, [some (.ref 943), some (.int u1), some (.int u2), some (.int x1), none, none, none, none, none], [.long x4], (v0 L, g))) (fun x4 => ?_)
    refine ev_jm 2 (t := (31, [some (.ref 943), some (.int u1), some (.int u2), some (.int x1), some (.long x4), none, some (.int 0), none, none], [], (v0 L, g))) rfl ?_
    exact dh_51_31 L (g, u1, u2, x1, x4, 0) none none none _
  · refine ev_jm 4 (t := (31, [some (.ref 943), some (.int u1), some (.int u2), some (.int x1), some (.long 0), none, some (.int 0), none, none], [], (v0 L, g))) rfl ?_
    exact dh_51_31 L (g, u1, u2, x1, 0, 0) none none none _
/-- DeclaredMarkupModel.noteChild(I)V -/
noncomputable def fm_50 (g : am_G) (u1 : Int32) : Option (am_G) := lo_g (ai_in ((am_i g 943 106) - 1) 40) (lo_l (am_i g 992 (((am_i g 943 106) - 1)).toNatClampNeg) fun x2 => if (0 : Int32) ≤ x2 then lo_g (ai_in x2 40) (if (am_i g 958 x2.toNatClampNeg) = 0 then lo_p (fm_24 g 2) fun g5 => some g5 else if (am_i g 958 x2.toNatClampNeg) = 1 then some g else if (am_i g 958 x2.toNatClampNeg) = 2 then lo_p (fm_49 g x2 u1) fun y6 => if y6 = 0 then lo_p (fm_24 g 2) fun g9 => some g9 else some g else lo_p (fm_51 g x2 u1) fun g11 => some g11) else some g)
theorem dm_50 (L : Nat) (g : am_G) (u1 : Int32) (R : am_G) : fm_50 g u1 = some R → ai_ev ap_P 50 (ai_e0 ap_P 50 [.ref 943, .int u1] (v0 L, g)) (.inl none) (v0 L, R) := by
  show _ → ai_ev ap_P 50 (0, [some (.ref 943), some (.int u1), none], [], (v0 L, g)) _ _
  unfold fm_50
  refine ev_gd (c := ai_in ((am_i g 943 106) - 1) 40) (fun hc1 => ?_)
  refine ev_jm 6 (t := (11, [some (.ref 943), some (.int u1), none], [.int (am_i g 992 (((am_i g 943 106) - 1)).toNatClampNeg)], (v0 L, g))) (ai_gd (c := ai_in ((am_i g 943 106) - 1) 40) rfl hc1) ?_
  refine lo_e (S := fun (x2 : Int32) => (11, [some (.ref 943), some (.int u1), none], [.int x2], (v0 L, g))) (fun x2 => ?_)
  refine ev_if 2 (p := (0 : Int32) ≤ x2) (a := 17) (b := 16) (T := ([some (.ref 943), some (.int u1), some (.int x2)], [], (v0 L, g))) rfl ?_ ?_
  · refine ev_gd (c := ai_in x2 40) (fun hc3 => ?_)
    refine ev_jm 3 (t := (23, [some (.ref 943), some (.int u1), some (.int x2)], [.int (am_i g 958 x2.toNatClampNeg)], (v0 L, g))) (ai_gd (c := ai_in x2 40) rfl hc3) ?_
    refine ev_sw 0 (ps := [(0, 48), (1, 54), (2, 55)]) (d := 70) (x := (am_i g 958 x2.toNatClampNeg)) (T := ([some (.ref 943), some (.int u1), some (.int x2)], [], (v0 L, g))) rfl ?_
    refine sw_c ?_ ?_
    · refine ev_ov0 2 (as := [.ref 943, .int 2]) (pc := 53) (Lc := [some (.ref 943), some (.int u1), some (.int x2)]) (st := []) (V := v0 L) (g1 := g) rfl (dm_24 L g 2) (fun g5 => ?_)
      exact fun hR => by cases hR; exact ev_rt 0 rfl
    refine sw_c ?_ ?_
    · exact fun hR => by cases hR; exact ev_rt 0 rfl
    refine sw_c ?_ ?_
    · refine ev_op 3 (as := [.ref 943, .int x2, .int u1]) (pc := 61) (Lc := [some (.ref 943), some (.int u1), some (.int x2)]) (st := []) (h1 := (v0 L, g)) (e := ez_i) rfl (dm_49 L g x2 u1) (fun y6 => ?_)
      refine ev_in 0 (p := y6 = 0) (a := 69) (b := 64) (T := ([some (.ref 943), some (.int u1), some (.int x2)], [], (v0 L, g))) rfl ?_ ?_
      · refine ev_ov0 2 (as := [.ref 943, .int 2]) (pc := 69) (Lc := [some (.ref 943), some (.int u1), some (.int x2)]) (st := []) (V := v0 L) (g1 := g) rfl (dm_24 L g 2) (fun g9 => ?_)
        exact fun hR => by cases hR; exact ev_rt 0 rfl
      · exact fun hR => by cases hR; exact ev_rt 0 rfl
    refine sw_n ?_
    refine ev_ov0 3 (as := [.ref 943, .int x2, .int u1]) (pc := 76) (Lc := [some (.ref 943), some (.int u1), some (.int x2)]) (st := []) (V := v0 L) (g1 := g) rfl (dm_51 L g x2 u1) (fun g11 => ?_)
    exact fun hR => by cases hR; exact ev_rt 0 rfl
  · exact fun hR => by cases hR; exact ev_rt 0 rfl
noncomputable def fb_96_21 (g : am_G) (k21 : (Int32 × Int32 × Int32) → Option (Int32)) (u1 : Int32) (u2 : Int32) (u3 : Int32) : Option (Int32) := if (am_i g 943 125) ≤ u3 then some (vp_nar .boolean u2) else if u2 = 0 then some (vp_nar .boolean u2) else lo_g (ai_in u1 80) (lo_p (fm_75 g ((am_i g 978 u1.toNatClampNeg) + u3)) fun y2 => lo_g (ai_in u3 400) (if y2 = (am_i g 1001 u3.toNatClampNeg) then k21 (u1, 1, (u3 + 1)) else k21 (u1, 0, (u3 + 1))))
theorem db_96_21 (L : Nat) (g : am_G) {k21 : (Int32 × Int32 × Int32) → Option (Int32)} (hk21 : ∀ (x : Int32 × Int32 × Int32) (R : Int32), k21 x = some R → ai_ev ap_P 96 (21, [some (.ref 943), some (.int x.1), some (.int x.2.1), some (.int x.2.2)], [], (v0 L, g)) (.inl (ez_i R)) (v0 L, g)) (u1 : Int32) (u2 : Int32) (u3 : Int32) (R : Int32) : fb_96_21 g k21 u1 u2 u3 = some R → ai_ev ap_P 96 (21, [some (.ref 943), some (.int u1), some (.int u2), some (.int u3)], [], (v0 L, g)) (.inl (ez_i R)) (v0 L, g) := by
  unfold fb_96_21
  refine ev_if 3 (p := (am_i g 943 125) ≤ u3) (a := 66) (b := 29) (T := ([some (.ref 943), some (.int u1), some (.int u2), some (.int u3)], [], (v0 L, g))) rfl ?_ ?_
  · exact fun hR => by cases hR; exact ev_rt 1 rfl
  · refine ev_if 1 (p := u2 = 0) (a := 66) (b := 33) (T := ([some (.ref 943), some (.int u1), some (.int u2), some (.int u3)], [], (v0 L, g))) rfl ?_ ?_
    · exact fun hR => by cases hR; exact ev_rt 1 rfl
    · refine ev_gd (c := ai_in u1 80) (fun hc1 => ?_)
      refine ev_jm 4 (t := (40, [some (.ref 943), some (.int u1), some (.int u2), some (.int u3)], [.int (am_i g 978 u1.toNatClampNeg), .ref 943], (v0 L, g))) (ai_gd (c := ai_in u1 80) rfl hc1) ?_
      refine ev_op 2 (as := [.ref 943, .int ((am_i g 978 u1.toNatClampNeg) + u3)]) (pc := 45) (Lc := [some (.ref 943), some (.int u1), some (.int u2), some (.int u3)]) (st := []) (h1 := (v0 L, g)) (e := ez_i) rfl (dm_75 L g ((am_i g 978 u1.toNatClampNeg) + u3)) (fun y2 => ?_)
      refine ev_gd (c := ai_in u3 400) (fun hc4 => ?_)
      refine ev_jm 3 (t := (51, [some (.ref 943), some (.int u1), some (.int u2), some (.int u3)], [.int (am_i g 1001 u3.toNatClampNeg), .int y2], (v0 L, g))) (ai_gd (c := ai_in u3 400) rfl hc4) ?_
      refine ev_in 0 (p := y2 = (am_i g 1001 u3.toNatClampNeg)) (a := 58) (b := 54) (T := ([some (.ref 943), some (.int u1), some (.int u2), some (.int u3)], [], (v0 L, g))) rfl ?_ ?_
      · refine ev_jm 4 (t := (21, [some (.ref 943), some (.int u1), some (.int 1), some (.int (u3 + 1))], [], (v0 L, g))) rfl ?_
        exact hk21 (u1, 1, (u3 + 1)) _
      · refine ev_jm 3 (t := (21, [some (.ref 943), some (.int u1), some (.int 0), some (.int (u3 + 1))], [], (v0 L, g))) rfl ?_
        exact hk21 (u1, 0, (u3 + 1)) _
noncomputable def fh_96_21 (g : am_G)  (x : Int32 × Int32 × Int32) : Option (Int32) := lo_it (fun k x => fb_96_21 g k x.1 x.2.1 x.2.2) nf_F x
theorem dh_96_21 (L : Nat) (g : am_G)   (x : Int32 × Int32 × Int32) (R : Int32) : fh_96_21 g  x = some R → ai_ev ap_P 96 (21, [some (.ref 943), some (.int x.1), some (.int x.2.1), some (.int x.2.2)], [], (v0 L, g)) (.inl (ez_i R)) (v0 L, g) :=
  fun hr => lo_ev (E := fun x R => ai_ev ap_P 96 (21, [some (.ref 943), some (.int x.1), some (.int x.2.1), some (.int x.2.2)], [], (v0 L, g)) (.inl (ez_i R)) (v0 L, g)) (fun k hk x R hr => db_96_21 L g hk x.1 x.2.1 x.2.2  R hr) nf_F x R hr
/-- DeclaredMarkupModel.isFixed(I)Z -/
noncomputable def fm_96 (g : am_G) (u1 : Int32) : Option (Int32) := lo_g (ai_in u1 80) (if (am_i g 979 u1.toNatClampNeg) = (am_i g 943 125) then fh_96_21 g (u1, 1, 0) else fh_96_21 g (u1, 0, 0))
theorem dm_96 (L : Nat) (g : am_G) (u1 : Int32) (R : Int32) : fm_96 g u1 = some R → ai_ev ap_P 96 (ai_e0 ap_P 96 [.ref 943, .int u1] (v0 L, g)) (.inl (ez_i R)) (v0 L, g) := by
  show _ → ai_ev ap_P 96 (0, [some (.ref 943), some (.int u1), none, none], [], (v0 L, g)) _ _
  unfold fm_96
  refine ev_gd (c := ai_in u1 80) (fun hc1 => ?_)
  refine ev_jm 3 (t := (6, [some (.ref 943), some (.int u1), none, none], [.int (am_i g 979 u1.toNatClampNeg)], (v0 L, g))) (ai_gd (c := ai_in u1 80) rfl hc1) ?_
  refine ev_in 2 (p := (am_i g 979 u1.toNatClampNeg) = (am_i g 943 125)) (a := 17) (b := 13) (T := ([some (.ref 943), some (.int u1), none, none], [], (v0 L, g))) rfl ?_ ?_
  · refine ev_jm 4 (t := (21, [some (.ref 943), some (.int u1), some (.int 1), some (.int 0)], [], (v0 L, g))) rfl ?_
    exact dh_96_21 L g (u1, 1, 0) _
  · refine ev_jm 3 (t := (21, [some (.ref 943), some (.int u1), some (.int 0), some (.int 0)], [], (v0 L, g))) rfl ?_
    exact dh_96_21 L g (u1, 0, 0) _
noncomputable def fb_78_46 (g : am_G) (k46 : (Int32 × Int32 × Int32) → Option (Int32)) (u2 : Int32) (u4 : Int32) (u5 : Int32) : Option (Int32) := if u2 ≤ u5 then some (vp_nar .boolean u4) else if u4 = 0 then some (vp_nar .boolean u4) else lo_g (ai_in u5 400) (lo_p (fm_18 g (am_i g 1001 u5.toNatClampNeg)) fun y2 => k46 (u2, y2, (u5 + 1)))
theorem db_78_46 (L : Nat) (g : am_G) {k46 : (Int32 × Int32 × Int32) → Option (Int32)} (hk46 : ∀ (x : Int32 × Int32 × Int32) (w1 w3 : Option Value) (R : Int32), k46 x = some R → ai_ev ap_P 78 (46, [some (.ref 943), w1, some (.int x.1), w3, some (.int x.2.1), some (.int x.2.2)], [], (v0 L, g)) (.inl (ez_i R)) (v0 L, g)) (u2 : Int32) (u4 : Int32) (u5 : Int32) (w1 w3 : Option Value) (R : Int32) : fb_78_46 g k46 u2 u4 u5 = some R → ai_ev ap_P 78 (46, [some (.ref 943), w1, some (.int u2), w3, some (.int u4), some (.int u5)], [], (v0 L, g)) (.inl (ez_i R)) (v0 L, g) := by
  unfold fb_78_46
  refine ev_if 2 (p := u2 ≤ u5) (a := 75) (b := 52) (T := ([some (.ref 943), none, some (.int u2), none, some (.int u4), some (.int u5)], [], (v0 L, g))) rfl ?_ ?_
  · exact fun hR => by cases hR; exact ev_rt 1 rfl
  · refine ev_if 1 (p := u4 = 0) (a := 75) (b := 57) (T := ([some (.ref 943), none, some (.int u2), none, some (.int u4), some (.int u5)], [], (v0 L, g))) rfl ?_ ?_
    · exact fun hR => by cases hR; exact ev_rt 1 rfl
    · refine ev_gd (c := ai_in u5 400) (fun hc1 => ?_)
      refine ev_jm 3 (t := (64, [some (.ref 943), none, some (.int u2), none, some (.int u4), some (.int u5)], [.int (am_i g 1001 u5.toNatClampNeg)], (v0 L, g))) (ai_gd (c := ai_in u5 400) rfl hc1) ?_
      refine ev_op 0 (as := [.int (am_i g 1001 u5.toNatClampNeg)]) (pc := 67) (Lc := [some (.ref 943), none, some (.int u2), none, some (.int u4), some (.int u5)]) (st := []) (h1 := (v0 L, g)) (e := ez_i) rfl (dm_18 L g (am_i g 1001 u5.toNatClampNeg)) (fun y2 => ?_)
      refine ev_jm 2 (t := (46, [some (.ref 943), none, some (.int u2), none, some (.int y2), some (.int (u5 + 1))], [], (v0 L, g))) rfl ?_
      exact hk46 (u2, y2, (u5 + 1)) none none _
noncomputable def fh_78_46 (g : am_G)  (x : Int32 × Int32 × Int32) : Option (Int32) := lo_it (fun k x => fb_78_46 g k x.1 x.2.1 x.2.2) nf_F x
theorem dh_78_46 (L : Nat) (g : am_G)   (x : Int32 × Int32 × Int32) (w1 w3 : Option Value) (R : Int32) : fh_78_46 g  x = some R → ai_ev ap_P 78 (46, [some (.ref 943), w1, some (.int x.1), w3, some (.int x.2.1), some (.int x.2.2)], [], (v0 L, g)) (.inl (ez_i R)) (v0 L, g) :=
  fun hr => lo_ev (E := fun x R => ∀ (w1 w3 : Option Value), ai_ev ap_P 78 (46, [some (.ref 943), w1, some (.int x.1), w3, some (.int x.2.1), some (.int x.2.2)], [], (v0 L, g)) (.inl (ez_i R)) (v0 L, g)) (fun k hk x R hr => fun w1 w3 => db_78_46 L g (fun x w1 w3 R hr => hk x R hr w1 w3) x.1 x.2.1 x.2.2 w1 w3 R hr) nf_F x R hr w1 w3
/-- DeclaredMarkupModel.isPiece(IIZ)Z -/
noncomputable def fm_78 (g : am_G) (u1 : Int32) (u2 : Int32) (u3 : Int32) : Option (Int32) := if u2 ≤ u1 then fh_78_46 g (u2, 0, u1) else if u3 = 0 then lo_g (ai_in u1 400) (lo_p (fm_17 g (am_i g 1001 u1.toNatClampNeg)) fun y2 => if y2 = 0 then fh_78_46 g (u2, 0, u1) else fh_78_46 g (u2, 1, u1)) else lo_g (ai_in u1 400) (lo_p (fm_18 g (am_i g 1001 u1.toNatClampNeg)) fun y5 => if y5 = 0 then fh_78_46 g (u2, 0, u1) else fh_78_46 g (u2, 1, u1))
theorem dm_78 (L : Nat) (g : am_G) (u1 : Int32) (u2 : Int32) (u3 : Int32) (R : Int32) : fm_78 g u1 u2 u3 = some R → ai_ev ap_P 78 (ai_e0 ap_P 78 [.ref 943, .int u1, .int u2, .int u3] (v0 L, g)) (.inl (ez_i R)) (v0 L, g) := by
  show _ → ai_ev ap_P 78 (0, [some (.ref 943), some (.int u1), some (.int u2), some (.int u3), none, none], [], (v0 L, g)) _ _
  unfold fm_78
  refine ev_if 2 (p := u2 ≤ u1) (a := 40) (b := 5) (T := ([some (.ref 943), some (.int u1), some (.int u2), some (.int u3), none, none], [], (v0 L, g))) rfl ?_ ?_
  · refine ev_jm 3 (t := (46, [some (.ref 943), some (.int u1), some (.int u2), none, some (.int 0), some (.int u1)], [], (v0 L, g))) rfl ?_
    exact dh_78_46 L g (u2, 0, u1) (some (.int u1)) none _
  · refine ev_if 1 (p := u3 = 0) (a := 24) (b := 9) (T := ([some (.ref 943), some (.int u1), some (.int u2), some (.int u3), none, none], [], (v0 L, g))) rfl ?_ ?_
    · refine ev_gd (c := ai_in u1 400) (fun hc1 => ?_)
      refine ev_jm 3 (t := (30, [some (.ref 943), some (.int u1), some (.int u2), some (.int u3), none, none], [.int (am_i g 1001 u1.toNatClampNeg)], (v0 L, g))) (ai_gd (c := ai_in u1 400) rfl hc1) ?_
      refine ev_op 0 (as := [.int (am_i g 1001 u1.toNatClampNeg)]) (pc := 33) (Lc := [some (.ref 943), some (.int u1), some (.int u2), some (.int u3), none, none]) (st := []) (h1 := (v0 L, g)) (e := ez_i) rfl (dm_17 L g (am_i g 1001 u1.toNatClampNeg)) (fun y2 => ?_)
      refine ev_if 0 (p := y2 = 0) (a := 40) (b := 36) (T := ([some (.ref 943), some (.int u1), some (.int u2), some (.int u3), none, none], [], (v0 L, g))) rfl ?_ ?_
      · refine ev_jm 3 (t := (46, [some (.ref 943), some (.int u1), some (.int u2), none, some (.int 0), some (.int u1)], [], (v0 L, g))) rfl ?_
        exact dh_78_46 L g (u2, 0, u1) (some (.int u1)) none _
      · refine ev_jm 4 (t := (46, [some (.ref 943), some (.int u1), some (.int u2), none, some (.int 1), some (.int u1)], [], (v0 L, g))) rfl ?_
        exact dh_78_46 L g (u2, 1, u1) (some (.int u1)) none _
    · refine ev_gd (c := ai_in u1 400) (fun hc4 => ?_)
      refine ev_jm 3 (t := (15, [some (.ref 943), some (.int u1), some (.int u2), some (.int u3), none, none], [.int (am_i g 1001 u1.toNatClampNeg)], (v0 L, g))) (ai_gd (c := ai_in u1 400) rfl hc4) ?_
      refine ev_op 0 (as := [.int (am_i g 1001 u1.toNatClampNeg)]) (pc := 18) (Lc := [some (.ref 943), some (.int u1), some (.int u2), some (.int u3), none, none]) (st := []) (h1 := (v0 L, g)) (e := ez_i) rfl (dm_18 L g (am_i g 1001 u1.toNatClampNeg)) (fun y5 => ?_)
      refine ev_if 0 (p := y5 = 0) (a := 40) (b := 21) (T := ([some (.ref 943), some (.int u1), some (.int u2), some (.int u3), none, none], [], (v0 L, g))) rfl ?_ ?_
      · refine ev_jm 3 (t := (46, [some (.ref 943), some (.int u1), some (.int u2), none, some (.int 0), some (.int u1)], [], (v0 L, g))) rfl ?_
        exact dh_78_46 L g (u2, 0, u1) (some (.int u1)) none _
      · refine ev_jm 5 (t := (46, [some (.ref 943), some (.int u1), some (.int u2), none, some (.int 1), some (.int u1)], [], (v0 L, g))) rfl ?_
        exact dh_78_46 L g (u2, 1, u1) (some (.int u1)) none _
noncomputable def fj_79_41 (g : am_G) (k7 : (Int32 × Int32 × Int32 × Int32) → Option (Int32)) (u1 : Int32) (u2 : Int32) (u4 : Int32) : Option (Int32) := lo_p (fm_78 g u2 u4 u1) fun y1 => lo_l (u4 + 1) fun x3 => k7 (u1, x3, y1, (u4 + 1))
theorem dj_79_41 (L : Nat) (g : am_G) {k7 : (Int32 × Int32 × Int32 × Int32) → Option (Int32)} (hk7 : ∀ (x : Int32 × Int32 × Int32 × Int32) (R : Int32), k7 x = some R → ai_ev ap_P 79 (7, [some (.ref 943), some (.int x.1), some (.int x.2.1), some (.int x.2.2.1), some (.int x.2.2.2)], [], (v0 L, g)) (.inl (ez_i R)) (v0 L, g)) (u1 : Int32) (u2 : Int32) (u4 : Int32) (w3 : Option Value) (R : Int32) : fj_79_41 g k7 u1 u2 u4 = some R → ai_ev ap_P 79 (41, [some (.ref 943), some (.int u1), some (.int u2), w3, some (.int u4)], [], (v0 L, g)) (.inl (ez_i R)) (v0 L, g) := by
  unfold fj_79_41
  refine ev_op 4 (as := [.ref 943, .int u2, .int u4, .int u1]) (pc := 49) (Lc := [some (.ref 943), some (.int u1), some (.int u2), none, some (.int u4)]) (st := []) (h1 := (v0 L, g)) (e := ez_i) rfl (dm_78 L g u2 u4 u1) (fun y1 => ?_)
  refine ev_jm 3 (t := (54, [some (.ref 943), some (.int u1), some (.int u2), some (.int y1), some (.int u4)], [.int (u4 + 1)], (v0 L, g))) rfl ?_
  refine lo_e (S := fun (x3 : Int32) => (54, [some (.ref 943), some (.int u1), some (.int u2), some (.int y1), some (.int u4)], [.int x3], (v0 L, g))) (fun x3 => ?_)
  refine ev_jm 2 (t := (7, [some (.ref 943), some (.int u1), some (.int x3), some (.int y1), some (.int (u4 + 1))], [], (v0 L, g))) rfl ?_
  exact hk7 (u1, x3, y1, (u4 + 1)) _
noncomputable def fb_79_7 (g : am_G) (k7 : (Int32 × Int32 × Int32 × Int32) → Option (Int32)) (u1 : Int32) (u2 : Int32) (u3 : Int32) (u4 : Int32) : Option (Int32) := if (am_i g 943 125) < u4 then some (vp_nar .boolean u3) else if u3 = 0 then some (vp_nar .boolean u3) else if u4 = (am_i g 943 125) then fj_79_41 g k7 u1 u2 u4 else lo_g (ai_in u4 400) (if (am_i g 1001 u4.toNatClampNeg) = 32 then fj_79_41 g k7 u1 u2 u4 else k7 (u1, u2, u3, (u4 + 1)))
theorem db_79_7 (L : Nat) (g : am_G) {k7 : (Int32 × Int32 × Int32 × Int32) → Option (Int32)} (hk7 : ∀ (x : Int32 × Int32 × Int32 × Int32) (R : Int32), k7 x = some R → ai_ev ap_P 79 (7, [some (.ref 943), some (.int x.1), some (.int x.2.1), some (.int x.2.2.1), some (.int x.2.2.2)], [], (v0 L, g)) (.inl (ez_i R)) (v0 L, g)) (u1 : Int32) (u2 : Int32) (u3 : Int32) (u4 : Int32) (R : Int32) : fb_79_7 g k7 u1 u2 u3 u4 = some R → ai_ev ap_P 79 (7, [some (.ref 943), some (.int u1), some (.int u2), some (.int u3), some (.int u4)], [], (v0 L, g)) (.inl (ez_i R)) (v0 L, g) := by
  unfold fb_79_7
  refine ev_if 3 (p := (am_i g 943 125) < u4) (a := 61) (b := 16) (T := ([some (.ref 943), some (.int u1), some (.int u2), some (.int u3), some (.int u4)], [], (v0 L, g))) rfl ?_ ?_
  · exact fun hR => by cases hR; exact ev_rt 1 rfl
  · refine ev_if 1 (p := u3 = 0) (a := 61) (b := 20) (T := ([some (.ref 943), some (.int u1), some (.int u2), some (.int u3), some (.int u4)], [], (v0 L, g))) rfl ?_ ?_
    · exact fun hR => by cases hR; exact ev_rt 1 rfl
    · refine ev_if 3 (p := u4 = (am_i g 943 125)) (a := 41) (b := 29) (T := ([some (.ref 943), some (.int u1), some (.int u2), some (.int u3), some (.int u4)], [], (v0 L, g))) rfl ?_ ?_
      · exact dj_79_41 L g hk7 u1 u2 u4 (some (.int u3)) _
      · refine ev_gd (c := ai_in u4 400) (fun hc1 => ?_)
        refine ev_jm 3 (t := (36, [some (.ref 943), some (.int u1), some (.int u2), some (.int u3), some (.int u4)], [.int (am_i g 1001 u4.toNatClampNeg)], (v0 L, g))) (ai_gd (c := ai_in u4 400) rfl hc1) ?_
        refine ev_in 1 (p := (am_i g 1001 u4.toNatClampNeg) = 32) (a := 55) (b := 41) (T := ([some (.ref 943), some (.int u1), some (.int u2), some (.int u3), some (.int u4)], [], (v0 L, g))) rfl ?_ ?_
        · exact dj_79_41 L g hk7 u1 u2 u4 (some (.int u3)) _
        · refine ev_jm 1 (t := (7, [some (.ref 943), some (.int u1), some (.int u2), some (.int u3), some (.int (u4 + 1))], [], (v0 L, g))) rfl ?_
          exact hk7 (u1, u2, u3, (u4 + 1)) _
noncomputable def fh_79_7 (g : am_G)  (x : Int32 × Int32 × Int32 × Int32) : Option (Int32) := lo_it (fun k x => fb_79_7 g k x.1 x.2.1 x.2.2.1 x.2.2.2) nf_F x
theorem dh_79_7 (L : Nat) (g : am_G)   (x : Int32 × Int32 × Int32 × Int32) (R : Int32) : fh_79_7 g  x = some R → ai_ev ap_P 79 (7, [some (.ref 943), some (.int x.1), some (.int x.2.1), some (.int x.2.2.1), some (.int x.2.2.2)], [], (v0 L, g)) (.inl (ez_i R)) (v0 L, g) :=
  fun hr => lo_ev (E := fun x R => ai_ev ap_P 79 (7, [some (.ref 943), some (.int x.1), some (.int x.2.1), some (.int x.2.2.1), some (.int x.2.2.2)], [], (v0 L, g)) (.inl (ez_i R)) (v0 L, g)) (fun k hk x R hr => db_79_7 L g hk x.1 x.2.1 x.2.2.1 x.2.2.2  R hr) nf_F x R hr
/-- DeclaredMarkupModel.arePieces(Z)Z -/
noncomputable def fm_79 (g : am_G) (u1 : Int32) : Option (Int32) := fh_79_7 g (u1, 0, 1, 0)
theorem dm_79 (L : Nat) (g : am_G) (u1 : Int32) (R : Int32) : fm_79 g u1 = some R → ai_ev ap_P 79 (ai_e0 ap_P 79 [.ref 943, .int u1] (v0 L, g)) (.inl (ez_i R)) (v0 L, g) := by
  show _ → ai_ev ap_P 79 (0, [some (.ref 943), some (.int u1), none, none, none], [], (v0 L, g)) _ _
  unfold fm_79
  refine ev_jm 5 (t := (7, [some (.ref 943), some (.int u1), some (.int 0), some (.int 1), some (.int 0)], [], (v0 L, g))) rfl ?_
  exact dh_79_7 L g (u1, 0, 1, 0) _
noncomputable def fj_80_100 (g : am_G) (k2 : (Int32 × Int32) → Option (Int32)) (u1 : Int32) (u2 : Int32) (u4 : Int32) : Option (Int32) := if u4 = 0 then k2 (u1, (u2 + 1)) else some 1
theorem dj_80_100 (L : Nat) (g : am_G) {k2 : (Int32 × Int32) → Option (Int32)} (hk2 : ∀ (x : Int32 × Int32) (w3 w4 w5 : Option Value) (R : Int32), k2 x = some R → ai_ev ap_P 80 (2, [some (.ref 943), some (.int x.1), some (.int x.2), w3, w4, w5], [], (v0 L, g)) (.inl (ez_i R)) (v0 L, g)) (u1 : Int32) (u2 : Int32) (u4 : Int32) (w3 w5 : Option Value) (R : Int32) : fj_80_100 g k2 u1 u2 u4 = some R → ai_ev ap_P 80 (100, [some (.ref 943), some (.int u1), some (.int u2), w3, some (.int u4), w5], [], (v0 L, g)) (.inl (ez_i R)) (v0 L, g) := by
  unfold fj_80_100
  refine ev_if 1 (p := u4 = 0) (a := 107) (b := 105) (T := ([some (.ref 943), some (.int u1), some (.int u2), none, some (.int u4), none], [], (v0 L, g))) rfl ?_ ?_
  · refine ev_jm 1 (t := (2, [some (.ref 943), some (.int u1), some (.int (u2 + 1)), none, some (.int u4), none], [], (v0 L, g))) rfl ?_
    exact hk2 (u1, (u2 + 1)) none (some (.int u4)) none _
  · exact fun hR => by cases hR; exact ev_rt 1 rfl
noncomputable def fb_80_49 (g : am_G) (k2 : (Int32 × Int32) → Option (Int32)) (k49 : (Int32 × Int32 × Int32 × Int32 × Int32) → Option (Int32)) (u1 : Int32) (u2 : Int32) (u3 : Int32) (u4 : Int32) (u5 : Int32) : Option (Int32) := if (am_i g 943 125) ≤ u5 then fj_80_100 g k2 u1 u2 u4 else if u4 = 0 then fj_80_100 g k2 u1 u2 u4 else lo_g (ai_in u3 6000) (lo_g (ai_in ((am_i g 952 u3.toNatClampNeg) + u5) 19000) (lo_g (ai_in u5 400) (if (am_i g 951 (((am_i g 952 u3.toNatClampNeg) + u5)).toNatClampNeg) = (am_i g 1001 u5.toNatClampNeg) then k49 (u1, u2, u3, 1, (u5 + 1)) else k49 (u1, u2, u3, 0, (u5 + 1)))))
theorem db_80_49 (L : Nat) (g : am_G) {k2 : (Int32 × Int32) → Option (Int32)} {k49 : (Int32 × Int32 × Int32 × Int32 × Int32) → Option (Int32)} (hk2 : ∀ (x : Int32 × Int32) (w3 w4 w5 : Option Value) (R : Int32), k2 x = some R → ai_ev ap_P 80 (2, [some (.ref 943), some (.int x.1), some (.int x.2), w3, w4, w5], [], (v0 L, g)) (.inl (ez_i R)) (v0 L, g)) (hk49 : ∀ (x : Int32 × Int32 × Int32 × Int32 × Int32) (R : Int32), k49 x = some R → ai_ev ap_P 80 (49, [some (.ref 943), some (.int x.1), some (.int x.2.1), some (.int x.2.2.1), some (.int x.2.2.2.1), some (.int x.2.2.2.2)], [], (v0 L, g)) (.inl (ez_i R)) (v0 L, g)) (u1 : Int32) (u2 : Int32) (u3 : Int32) (u4 : Int32) (u5 : Int32) (R : Int32) : fb_80_49 g k2 k49 u1 u2 u3 u4 u5 = some R → ai_ev ap_P 80 (49, [some (.ref 943), some (.int u1), some (.int u2), some (.int u3), some (.int u4), some (.int u5)], [], (v0 L, g)) (.inl (ez_i R)) (v0 L, g) := by
  unfold fb_80_49
  refine ev_if 3 (p := (am_i g 943 125) ≤ u5) (a := 100) (b := 58) (T := ([some (.ref 943), some (.int u1), some (.int u2), some (.int u3), some (.int u4), some (.int u5)], [], (v0 L, g))) rfl ?_ ?_
  · exact dj_80_100 L g hk2 u1 u2 u4 (some (.int u3)) (some (.int u5)) _
  · refine ev_if 1 (p := u4 = 0) (a := 100) (b := 63) (T := ([some (.ref 943), some (.int u1), some (.int u2), some (.int u3), some (.int u4), some (.int u5)], [], (v0 L, g))) rfl ?_ ?_
    · exact dj_80_100 L g hk2 u1 u2 u4 (some (.int u3)) (some (.int u5)) _
    · refine ev_gd (c := ai_in u3 6000) (fun hc1 => ?_)
      refine ev_jm 5 (t := (73, [some (.ref 943), some (.int u1), some (.int u2), some (.int u3), some (.int u4), some (.int u5)], [.int (am_i g 952 u3.toNatClampNeg), .ref 951], (v0 L, g))) (ai_gd (c := ai_in u3 6000) rfl hc1) ?_
      refine ev_gd (c := ai_in ((am_i g 952 u3.toNatClampNeg) + u5) 19000) (fun hc2 => ?_)
      refine ev_jm 2 (t := (77, [some (.ref 943), some (.int u1), some (.int u2), some (.int u3), some (.int u4), some (.int u5)], [.int (am_i g 951 (((am_i g 952 u3.toNatClampNeg) + u5)).toNatClampNeg)], (v0 L, g))) (ai_gd (c := ai_in ((am_i g 952 u3.toNatClampNeg) + u5) 19000) rfl hc2) ?_
      refine ev_gd (c := ai_in u5 400) (fun hc3 => ?_)
      refine ev_jm 3 (t := (84, [some (.ref 943), some (.int u1), some (.int u2), some (.int u3), some (.int u4), some (.int u5)], [.int (am_i g 1001 u5.toNatClampNeg), .int (am_i g 951 (((am_i g 952 u3.toNatClampNeg) + u5)).toNatClampNeg)], (v0 L, g))) (ai_gd (c := ai_in u5 400) rfl hc3) ?_
      refine ev_in 0 (p := (am_i g 951 (((am_i g 952 u3.toNatClampNeg) + u5)).toNatClampNeg) = (am_i g 1001 u5.toNatClampNeg)) (a := 91) (b := 87) (T := ([some (.ref 943), some (.int u1), some (.int u2), some (.int u3), some (.int u4), some (.int u5)], [], (v0 L, g))) rfl ?_ ?_
      · refine ev_jm 4 (t := (49, [some (.ref 943), some (.int u1), some (.int u2), some (.int u3), some (.int 1), some (.int (u5 + 1))], [], (v0 L, g))) rfl ?_
        exact hk49 (u1, u2, u3, 1, (u5 + 1)) _
      · refine ev_jm 3 (t := (49, [some (.ref 943), some (.int u1), some (.int u2), some (.int u3), some (.int 0), some (.int (u5 + 1))], [], (v0 L, g))) rfl ?_
        exact hk49 (u1, u2, u3, 0, (u5 + 1)) _
noncomputable def fh_80_49 (g : am_G) (k2 : (Int32 × Int32) → Option (Int32)) (x : Int32 × Int32 × Int32 × Int32 × Int32) : Option (Int32) := lo_it (fun k x => fb_80_49 g k2 k x.1 x.2.1 x.2.2.1 x.2.2.2.1 x.2.2.2.2) nf_F x
theorem dh_80_49 (L : Nat) (g : am_G) {k2 : (Int32 × Int32) → Option (Int32)} (hk2 : ∀ (x : Int32 × Int32) (w3 w4 w5 : Option Value) (R : Int32), k2 x = some R → ai_ev ap_P 80 (2, [some (.ref 943), some (.int x.1), some (.int x.2), w3, w4, w5], [], (v0 L, g)) (.inl (ez_i R)) (v0 L, g)) (x : Int32 × Int32 × Int32 × Int32 × Int32) (R : Int32) : fh_80_49 g k2 x = some R → ai_ev ap_P 80 (49, [some (.ref 943), some (.int x.1), some (.int x.2.1), some (.int x.2.2.1), some (.int x.2.2.2.1), some (.int x.2.2.2.2)], [], (v0 L, g)) (.inl (ez_i R)) (v0 L, g) :=
  fun hr => lo_ev (E := fun x R => ai_ev ap_P 80 (49, [some (.ref 943), some (.int x.1), some (.int x.2.1), some (.int x.2.2.1), some (.int x.2.2.2.1), some (.int x.2.2.2.2)], [], (v0 L, g)) (.inl (ez_i R)) (v0 L, g)) (fun k hk x R hr => db_80_49 L g hk2 hk x.1 x.2.1 x.2.2.1 x.2.2.2.1 x.2.2.2.2  R hr) nf_F x R hr
noncomputable def fb_80_2 (g : am_G) (k2 : (Int32 × Int32) → Option (Int32)) (u1 : Int32) (u2 : Int32) : Option (Int32) := lo_g (ai_in u1 80) (if (am_i g 981 u1.toNatClampNeg) ≤ u2 then some 0 else lo_g (ai_in ((am_i g 980 u1.toNatClampNeg) + u2) 330) (lo_l (am_i g 982 (((am_i g 980 u1.toNatClampNeg) + u2)).toNatClampNeg) fun x3 => lo_g (ai_in x3 6000) (if (am_i g 953 x3.toNatClampNeg) = (am_i g 943 125) then fh_80_49 g k2 (u1, u2, x3, 1, 0) else fh_80_49 g k2 (u1, u2, x3, 0, 0))))
theorem db_80_2 (L : Nat) (g : am_G) {k2 : (Int32 × Int32) → Option (Int32)} (hk2 : ∀ (x : Int32 × Int32) (w3 w4 w5 : Option Value) (R : Int32), k2 x = some R → ai_ev ap_P 80 (2, [some (.ref 943), some (.int x.1), some (.int x.2), w3, w4, w5], [], (v0 L, g)) (.inl (ez_i R)) (v0 L, g)) (u1 : Int32) (u2 : Int32) (w3 w4 w5 : Option Value) (R : Int32) : fb_80_2 g k2 u1 u2 = some R → ai_ev ap_P 80 (2, [some (.ref 943), some (.int u1), some (.int u2), w3, w4, w5], [], (v0 L, g)) (.inl (ez_i R)) (v0 L, g) := by
  unfold fb_80_2
  refine ev_gd (c := ai_in u1 80) (fun hc1 => ?_)
  refine ev_jm 4 (t := (9, [some (.ref 943), some (.int u1), some (.int u2), none, none, none], [.int (am_i g 981 u1.toNatClampNeg), .int u2], (v0 L, g))) (ai_gd (c := ai_in u1 80) rfl hc1) ?_
  refine ev_if 0 (p := (am_i g 981 u1.toNatClampNeg) ≤ u2) (a := 113) (b := 12) (T := ([some (.ref 943), some (.int u1), some (.int u2), none, none, none], [], (v0 L, g))) rfl ?_ ?_
  · exact fun hR => by cases hR; exact ev_rt 1 rfl
  · refine ev_jm 5 (t := (22, [some (.ref 943), some (.int u1), some (.int u2), none, none, none], [.int (am_i g 980 u1.toNatClampNeg), .ref 982], (v0 L, g))) (ai_gd (c := ai_in u1 80) rfl hc1) ?_
    refine ev_gd (c := ai_in ((am_i g 980 u1.toNatClampNeg) + u2) 330) (fun hc2 => ?_)
    refine ev_jm 2 (t := (25, [some (.ref 943), some (.int u1), some (.int u2), none, none, none], [.int (am_i g 982 (((am_i g 980 u1.toNatClampNeg) + u2)).toNatClampNeg)], (v0 L, g))) (ai_gd (c := ai_in ((am_i g 980 u1.toNatClampNeg) + u2) 330) rfl hc2) ?_
    refine lo_e (S := fun (x3 : Int32) => (25, [some (.ref 943), some (.int u1), some (.int u2), none, none, none], [.int x3], (v0 L, g))) (fun x3 => ?_)
    refine ev_gd (c := ai_in x3 6000) (fun hc4 => ?_)
    refine ev_jm 4 (t := (32, [some (.ref 943), some (.int u1), some (.int u2), some (.int x3), none, none], [.int (am_i g 953 x3.toNatClampNeg)], (v0 L, g))) (ai_gd (c := ai_in x3 6000) rfl hc4) ?_
    refine ev_in 2 (p := (am_i g 953 x3.toNatClampNeg) = (am_i g 943 125)) (a := 43) (b := 39) (T := ([some (.ref 943), some (.int u1), some (.int u2), some (.int x3), none, none], [], (v0 L, g))) rfl ?_ ?_
    · refine ev_jm 4 (t := (49, [some (.ref 943), some (.int u1), some (.int u2), some (.int x3), some (.int 1), some (.int 0)], [], (v0 L, g))) rfl ?_
      exact dh_80_49 L g hk2 (u1, u2, x3, 1, 0) _
    · refine ev_jm 3 (t := (49, [some (.ref 943), some (.int u1), some (.int u2), some (.int x3), some (.int 0), some (.int 0)], [], (v0 L, g))) rfl ?_
      exact dh_80_49 L g hk2 (u1, u2, x3, 0, 0) _
noncomputable def fh_80_2 (g : am_G)  (x : Int32 × Int32) : Option (Int32) := lo_it (fun k x => fb_80_2 g k x.1 x.2) nf_F x
theorem dh_80_2 (L : Nat) (g : am_G)   (x : Int32 × Int32) (w3 w4 w5 : Option Value) (R : Int32) : fh_80_2 g  x = some R → ai_ev ap_P 80 (2, [some (.ref 943), some (.int x.1), some (.int x.2), w3, w4, w5], [], (v0 L, g)) (.inl (ez_i R)) (v0 L, g) :=
  fun hr => lo_ev (E := fun x R => ∀ (w3 w4 w5 : Option Value), ai_ev ap_P 80 (2, [some (.ref 943), some (.int x.1), some (.int x.2), w3, w4, w5], [], (v0 L, g)) (.inl (ez_i R)) (v0 L, g)) (fun k hk x R hr => fun w3 w4 w5 => db_80_2 L g (fun x w3 w4 w5 R hr => hk x R hr w3 w4 w5) x.1 x.2 w3 w4 w5 R hr) nf_F x R hr w3 w4 w5
/-- DeclaredMarkupModel.isListed(I)Z -/
noncomputable def fm_80 (g : am_G) (u1 : Int32) : Option (Int32) := fh_80_2 g (u1, 0)
theorem dm_80 (L : Nat) (g : am_G) (u1 : Int32) (R : Int32) : fm_80 g u1 = some R → ai_ev ap_P 80 (ai_e0 ap_P 80 [.ref 943, .int u1] (v0 L, g)) (.inl (ez_i R)) (v0 L, g) := by
  show _ → ai_ev ap_P 80 (0, [some (.ref 943), some (.int u1), none, none, none, none], [], (v0 L, g)) _ _
  unfold fm_80
  refine ev_jm 1 (t := (2, [some (.ref 943), some (.int u1), some (.int 0), none, none, none], [], (v0 L, g))) rfl ?_
  exact dh_80_2 L g (u1, 0) none none none _
/-- DeclaredMarkupModel.isTyped(I)Z -/
noncomputable def fm_81 (g : am_G) (u1 : Int32) : Option (Int32) := lo_g (ai_in u1 80) (if (am_i g 976 u1.toNatClampNeg) = 0 then some 1 else if (am_i g 976 u1.toNatClampNeg) = 1 then lo_p (fm_78 g 0 (am_i g 943 125) 0) fun y2 => some (vp_nar .boolean y2) else if (am_i g 976 u1.toNatClampNeg) = 2 then lo_p (fm_78 g 0 (am_i g 943 125) 0) fun y4 => some (vp_nar .boolean y4) else if (am_i g 976 u1.toNatClampNeg) = 3 then lo_p (fm_79 g 0) fun y6 => some (vp_nar .boolean y6) else if (am_i g 976 u1.toNatClampNeg) = 4 then lo_p (fm_78 g 0 (am_i g 943 125) 0) fun y8 => some (vp_nar .boolean y8) else if (am_i g 976 u1.toNatClampNeg) = 5 then lo_p (fm_79 g 0) fun y10 => some (vp_nar .boolean y10) else if (am_i g 976 u1.toNatClampNeg) = 6 then lo_p (fm_78 g 0 (am_i g 943 125) 1) fun y12 => some (vp_nar .boolean y12) else if (am_i g 976 u1.toNatClampNeg) = 7 then lo_p (fm_79 g 1) fun y14 => some (vp_nar .boolean y14) else lo_p (fm_80 g u1) fun y16 => some (vp_nar .boolean y16))
theorem dm_81 (L : Nat) (g : am_G) (u1 : Int32) (R : Int32) : fm_81 g u1 = some R → ai_ev ap_P 81 (ai_e0 ap_P 81 [.ref 943, .int u1] (v0 L, g)) (.inl (ez_i R)) (v0 L, g) := by
  show _ → ai_ev ap_P 81 (0, [some (.ref 943), some (.int u1)], [], (v0 L, g)) _ _
  unfold fm_81
  refine ev_gd (c := ai_in u1 80) (fun hc1 => ?_)
  refine ev_jm 3 (t := (6, [some (.ref 943), some (.int u1)], [.int (am_i g 976 u1.toNatClampNeg)], (v0 L, g))) (ai_gd (c := ai_in u1 80) rfl hc1) ?_
  refine ev_sw 0 (ps := [(0, 52), (1, 54), (2, 54), (3, 65), (4, 54), (5, 65), (6, 71), (7, 82)]) (d := 88) (x := (am_i g 976 u1.toNatClampNeg)) (T := ([some (.ref 943), some (.int u1)], [], (v0 L, g))) rfl ?_
  refine sw_c ?_ ?_
  · exact fun hR => by cases hR; exact ev_rt 1 rfl
  refine sw_c ?_ ?_
  · refine ev_op 5 (as := [.ref 943, .int 0, .int (am_i g 943 125), .int 0]) (pc := 64) (Lc := [some (.ref 943), some (.int u1)]) (st := []) (h1 := (v0 L, g)) (e := ez_i) rfl (dm_78 L g 0 (am_i g 943 125) 0) (fun y2 => ?_)
    exact fun hR => by cases hR; exact ev_rt 0 rfl
  refine sw_c ?_ ?_
  · refine ev_op 5 (as := [.ref 943, .int 0, .int (am_i g 943 125), .int 0]) (pc := 64) (Lc := [some (.ref 943), some (.int u1)]) (st := []) (h1 := (v0 L, g)) (e := ez_i) rfl (dm_78 L g 0 (am_i g 943 125) 0) (fun y4 => ?_)
    exact fun hR => by cases hR; exact ev_rt 0 rfl
  refine sw_c ?_ ?_
  · refine ev_op 2 (as := [.ref 943, .int 0]) (pc := 70) (Lc := [some (.ref 943), some (.int u1)]) (st := []) (h1 := (v0 L, g)) (e := ez_i) rfl (dm_79 L g 0) (fun y6 => ?_)
    exact fun hR => by cases hR; exact ev_rt 0 rfl
  refine sw_c ?_ ?_
  · refine ev_op 5 (as := [.ref 943, .int 0, .int (am_i g 943 125), .int 0]) (pc := 64) (Lc := [some (.ref 943), some (.int u1)]) (st := []) (h1 := (v0 L, g)) (e := ez_i) rfl (dm_78 L g 0 (am_i g 943 125) 0) (fun y8 => ?_)
    exact fun hR => by cases hR; exact ev_rt 0 rfl
  refine sw_c ?_ ?_
  · refine ev_op 2 (as := [.ref 943, .int 0]) (pc := 70) (Lc := [some (.ref 943), some (.int u1)]) (st := []) (h1 := (v0 L, g)) (e := ez_i) rfl (dm_79 L g 0) (fun y10 => ?_)
    exact fun hR => by cases hR; exact ev_rt 0 rfl
  refine sw_c ?_ ?_
  · refine ev_op 5 (as := [.ref 943, .int 0, .int (am_i g 943 125), .int 1]) (pc := 81) (Lc := [some (.ref 943), some (.int u1)]) (st := []) (h1 := (v0 L, g)) (e := ez_i) rfl (dm_78 L g 0 (am_i g 943 125) 1) (fun y12 => ?_)
    exact fun hR => by cases hR; exact ev_rt 0 rfl
  refine sw_c ?_ ?_
  · refine ev_op 2 (as := [.ref 943, .int 1]) (pc := 87) (Lc := [some (.ref 943), some (.int u1)]) (st := []) (h1 := (v0 L, g)) (e := ez_i) rfl (dm_79 L g 1) (fun y14 => ?_)
    exact fun hR => by cases hR; exact ev_rt 0 rfl
  refine sw_n ?_
  refine ev_op 2 (as := [.ref 943, .int u1]) (pc := 93) (Lc := [some (.ref 943), some (.int u1)]) (st := []) (h1 := (v0 L, g)) (e := ez_i) rfl (dm_80 L g u1) (fun y16 => ?_)
  exact fun hR => by cases hR; exact ev_rt 0 rfl
noncomputable def fb_92_38 (k38 : (am_G × Int32 × Int32 × Int32) → Option (am_G)) (g : am_G) (u1 : Int32) (u2 : Int32) (u4 : Int32) : Option (am_G) := if u2 ≤ u4 then some (am_si (am_si g 943 134 (((am_i g 943 134) + u2) - u1)) 943 128 ((am_i g 943 128) + 1)) else lo_g (ai_in u4 400) (lo_g (ai_in (((am_i g 943 134) + u4) - u1) 8000) (k38 ((am_si g 1005 ((((am_i g 943 134) + u4) - u1)).toNatClampNeg (am_i g 1001 u4.toNatClampNeg)), u1, u2, (u4 + 1))))
theorem db_92_38 (L : Nat) {k38 : (am_G × Int32 × Int32 × Int32) → Option (am_G)} (hk38 : ∀ (x : am_G × Int32 × Int32 × Int32) (w3 : Option Value) (R : am_G), k38 x = some R → ai_ev ap_P 92 (38, [some (.ref 943), some (.int x.2.1), some (.int x.2.2.1), w3, some (.int x.2.2.2)], [], (v0 L, x.1)) (.inl none) (v0 L, R)) (g : am_G) (u1 : Int32) (u2 : Int32) (u4 : Int32) (w3 : Option Value) (R : am_G) : fb_92_38 k38 g u1 u2 u4 = some R → ai_ev ap_P 92 (38, [some (.ref 943), some (.int u1), some (.int u2), w3, some (.int u4)], [], (v0 L, g)) (.inl none) (v0 L, R) := by
  unfold fb_92_38
  refine ev_if 2 (p := u2 ≤ u4) (a := 71) (b := 44) (T := ([some (.ref 943), some (.int u1), some (.int u2), none, some (.int u4)], [], (v0 L, g))) rfl ?_ ?_
  · exact fun hR => by cases hR; exact ev_rt 14 rfl
  · refine ev_gd (c := ai_in u4 400) (fun hc1 => ?_)
    refine ev_jm 11 (t := (64, [some (.ref 943), some (.int u1), some (.int u2), none, some (.int u4)], [.int (am_i g 1001 u4.toNatClampNeg), .int (((am_i g 943 134) + u4) - u1), .ref 1005], (v0 L, g))) (ai_gd (c := ai_in u4 400) rfl hc1) ?_
    refine ev_gd (c := ai_in (((am_i g 943 134) + u4) - u1) 8000) (fun hc2 => ?_)
    refine ev_jm 0 (t := (65, [some (.ref 943), some (.int u1), some (.int u2), none, some (.int u4)], [], (v0 L, (am_si g 1005 ((((am_i g 943 134) + u4) - u1)).toNatClampNeg (am_i g 1001 u4.toNatClampNeg))))) (ai_gd (c := ai_in (((am_i g 943 134) + u4) - u1) 8000) rfl hc2) ?_
    refine ev_jm 1 (t := (38, [some (.ref 943), some (.int u1), some (.int u2), none, some (.int (u4 + 1))], [], (v0 L, (am_si g 1005 ((((am_i g 943 134) + u4) - u1)).toNatClampNeg (am_i g 1001 u4.toNatClampNeg))))) rfl ?_
    exact hk38 ((am_si g 1005 ((((am_i g 943 134) + u4) - u1)).toNatClampNeg (am_i g 1001 u4.toNatClampNeg)), u1, u2, (u4 + 1)) none _
noncomputable def fh_92_38  (x : am_G × Int32 × Int32 × Int32) : Option (am_G) := lo_it (fun k x => fb_92_38 k x.1 x.2.1 x.2.2.1 x.2.2.2) nf_F x
theorem dh_92_38 (L : Nat)   (x : am_G × Int32 × Int32 × Int32) (w3 : Option Value) (R : am_G) : fh_92_38  x = some R → ai_ev ap_P 92 (38, [some (.ref 943), some (.int x.2.1), some (.int x.2.2.1), w3, some (.int x.2.2.2)], [], (v0 L, x.1)) (.inl none) (v0 L, R) :=
  fun hr => lo_ev (E := fun x R => ∀ (w3 : Option Value), ai_ev ap_P 92 (38, [some (.ref 943), some (.int x.2.1), some (.int x.2.2.1), w3, some (.int x.2.2.2)], [], (v0 L, x.1)) (.inl none) (v0 L, R)) (fun k hk x R hr => fun w3 => db_92_38 L (fun x w3 R hr => hk x R hr w3) x.1 x.2.1 x.2.2.1 x.2.2.2 w3 R hr) nf_F x R hr w3
/-- DeclaredMarkupModel.mark(IIZ)V -/
noncomputable def fm_92 (g : am_G) (u1 : Int32) (u2 : Int32) (u3 : Int32) : Option (am_G) := lo_g (ai_in (am_i g 943 128) 4400) (fh_92_38 ((am_si (am_si (am_si g 1002 ((am_i g 943 128)).toNatClampNeg (am_i g 943 134)) 1003 ((am_i g 943 128)).toNatClampNeg (u2 - u1)) 1004 ((am_i g 943 128)).toNatClampNeg (vp_nar .boolean u3)), u1, u2, u1))
theorem dm_92 (L : Nat) (g : am_G) (u1 : Int32) (u2 : Int32) (u3 : Int32) (R : am_G) : fm_92 g u1 u2 u3 = some R → ai_ev ap_P 92 (ai_e0 ap_P 92 [.ref 943, .int u1, .int u2, .int u3] (v0 L, g)) (.inl none) (v0 L, R) := by
  show _ → ai_ev ap_P 92 (0, [some (.ref 943), some (.int u1), some (.int u2), some (.int u3), none], [], (v0 L, g)) _ _
  unfold fm_92
  refine ev_gd (c := ai_in (am_i g 943 128) 4400) (fun hc1 => ?_)
  refine ev_jm 6 (t := (13, [some (.ref 943), some (.int u1), some (.int u2), some (.int u3), none], [], (v0 L, (am_si g 1002 ((am_i g 943 128)).toNatClampNeg (am_i g 943 134))))) (ai_gd (c := ai_in (am_i g 943 128) 4400) rfl hc1) ?_
  refine ev_jm 7 (t := (25, [some (.ref 943), some (.int u1), some (.int u2), some (.int u3), none], [], (v0 L, (am_si (am_si g 1002 ((am_i g 943 128)).toNatClampNeg (am_i g 943 134)) 1003 ((am_i g 943 128)).toNatClampNeg (u2 - u1))))) (ai_gd (c := ai_in (am_i g 943 128) 4400) rfl hc1) ?_
  refine ev_jm 5 (t := (35, [some (.ref 943), some (.int u1), some (.int u2), some (.int u3), none], [], (v0 L, (am_si (am_si (am_si g 1002 ((am_i g 943 128)).toNatClampNeg (am_i g 943 134)) 1003 ((am_i g 943 128)).toNatClampNeg (u2 - u1)) 1004 ((am_i g 943 128)).toNatClampNeg (vp_nar .boolean u3))))) (ai_gd (c := ai_in (am_i g 943 128) 4400) rfl hc1) ?_
  refine ev_jm 1 (t := (38, [some (.ref 943), some (.int u1), some (.int u2), some (.int u3), some (.int u1)], [], (v0 L, (am_si (am_si (am_si g 1002 ((am_i g 943 128)).toNatClampNeg (am_i g 943 134)) 1003 ((am_i g 943 128)).toNatClampNeg (u2 - u1)) 1004 ((am_i g 943 128)).toNatClampNeg (vp_nar .boolean u3))))) rfl ?_
  exact dh_92_38 L ((am_si (am_si (am_si g 1002 ((am_i g 943 128)).toNatClampNeg (am_i g 943 134)) 1003 ((am_i g 943 128)).toNatClampNeg (u2 - u1)) 1004 ((am_i g 943 128)).toNatClampNeg (vp_nar .boolean u3)), u1, u2, u1) (some (.int u3)) _
noncomputable def fj_94_25  (g : am_G) : Option (Int32 × am_G) := lo_i (fm_22 g 11 (am_i g 943 114)) fun y1 g2 => some (y1, g2)
theorem dj_94_25 (L : Nat)   (g : am_G) (w1 w2 w3 : Option Value) (R : Int32 × am_G) : fj_94_25  g = some R → ai_ev ap_P 94 (25, [some (.ref 943), w1, w2, w3], [], (v0 L, g)) (.inl (ez_i R.1)) (v0 L, R.2) := by
  unfold fj_94_25
  refine ev_oi 4 (as := [.ref 943, .int 11, .int (am_i g 943 114)]) (pc := 35) (Lc := [some (.ref 943), none, none, none]) (st := []) (V := v0 L) (g1 := g) (e := ez_i) rfl (dm_22 L g 11 (am_i g 943 114)) (fun y1 g2 => ?_)
  exact fun hR => by cases hR; exact ev_rt 0 rfl
noncomputable def fj_94_118 (k63 : (am_G × Int32 × Int32 × Int32) → Option (Int32 × am_G)) (g : am_G) (u1 : Int32) (u3 : Int32) (t1 : Int32) (t2 : Int32) (t3 : Int32) : Option (Int32 × am_G) := lo_p (fm_92 g t1 t2 t3) fun g2 => lo_l (u3 + 1) fun x3 => k63 (g2, u1, x3, (u3 + 1))
theorem dj_94_118 (L : Nat) {k63 : (am_G × Int32 × Int32 × Int32) → Option (Int32 × am_G)} (hk63 : ∀ (x : am_G × Int32 × Int32 × Int32) (R : Int32 × am_G), k63 x = some R → ai_ev ap_P 94 (63, [some (.ref 943), some (.int x.2.1), some (.int x.2.2.1), some (.int x.2.2.2)], [], (v0 L, x.1)) (.inl (ez_i R.1)) (v0 L, R.2)) (g : am_G) (u1 : Int32) (u3 : Int32) (t1 : Int32) (t2 : Int32) (t3 : Int32) (w2 : Option Value) (R : Int32 × am_G) : fj_94_118 k63 g u1 u3 t1 t2 t3 = some R → ai_ev ap_P 94 (118, [some (.ref 943), some (.int u1), w2, some (.int u3)], [.int t3, .int t2, .int t1, .ref 943], (v0 L, g)) (.inl (ez_i R.1)) (v0 L, R.2) := by
  unfold fj_94_118
  refine ev_ov0 0 (as := [.ref 943, .int t1, .int t2, .int t3]) (pc := 121) (Lc := [some (.ref 943), some (.int u1), none, some (.int u3)]) (st := []) (V := v0 L) (g1 := g) rfl (dm_92 L g t1 t2 t3) (fun g2 => ?_)
  refine ev_jm 2 (t := (124, [some (.ref 943), some (.int u1), none, some (.int u3)], [.int (u3 + 1)], (v0 L, g2))) rfl ?_
  refine lo_e (S := fun (x3 : Int32) => (124, [some (.ref 943), some (.int u1), none, some (.int u3)], [.int x3], (v0 L, g2))) (fun x3 => ?_)
  refine ev_jm 2 (t := (63, [some (.ref 943), some (.int u1), some (.int x3), some (.int (u3 + 1))], [], (v0 L, g2))) rfl ?_
  exact hk63 (g2, u1, x3, (u3 + 1)) _
noncomputable def fj_94_105 (k63 : (am_G × Int32 × Int32 × Int32) → Option (Int32 × am_G)) (g : am_G) (u1 : Int32) (u2 : Int32) (u3 : Int32) : Option (Int32 × am_G) := if u1 = 1 then fj_94_118 k63 g u1 u3 u2 u3 1 else fj_94_118 k63 g u1 u3 u2 u3 0
theorem dj_94_105 (L : Nat) {k63 : (am_G × Int32 × Int32 × Int32) → Option (Int32 × am_G)} (hk63 : ∀ (x : am_G × Int32 × Int32 × Int32) (R : Int32 × am_G), k63 x = some R → ai_ev ap_P 94 (63, [some (.ref 943), some (.int x.2.1), some (.int x.2.2.1), some (.int x.2.2.2)], [], (v0 L, x.1)) (.inl (ez_i R.1)) (v0 L, R.2)) (g : am_G) (u1 : Int32) (u2 : Int32) (u3 : Int32) (R : Int32 × am_G) : fj_94_105 k63 g u1 u2 u3 = some R → ai_ev ap_P 94 (105, [some (.ref 943), some (.int u1), some (.int u2), some (.int u3)], [], (v0 L, g)) (.inl (ez_i R.1)) (v0 L, R.2) := by
  unfold fj_94_105
  refine ev_in 5 (p := u1 = 1) (a := 117) (b := 113) (T := ([some (.ref 943), some (.int u1), some (.int u2), some (.int u3)], [.int u3, .int u2, .ref 943], (v0 L, g))) rfl ?_ ?_
  · refine ev_jm 1 (t := (118, [some (.ref 943), some (.int u1), some (.int u2), some (.int u3)], [.int 1, .int u3, .int u2, .ref 943], (v0 L, g))) rfl ?_
    exact dj_94_118 L hk63 g u1 u3 u2 u3 1 (some (.int u2)) _
  · refine ev_jm 0 (t := (118, [some (.ref 943), some (.int u1), some (.int u2), some (.int u3)], [.int 0, .int u3, .int u2, .ref 943], (v0 L, g))) rfl ?_
    exact dj_94_118 L hk63 g u1 u3 u2 u3 0 (some (.int u2)) _
noncomputable def fj_94_95 (k63 : (am_G × Int32 × Int32 × Int32) → Option (Int32 × am_G)) (g : am_G) (u1 : Int32) (u2 : Int32) (u3 : Int32) : Option (Int32 × am_G) := if u2 < u3 then fj_94_105 k63 g u1 u2 u3 else if u1 = 1 then fj_94_105 k63 g u1 u2 u3 else lo_l (u3 + 1) fun x1 => k63 (g, u1, x1, (u3 + 1))
theorem dj_94_95 (L : Nat) {k63 : (am_G × Int32 × Int32 × Int32) → Option (Int32 × am_G)} (hk63 : ∀ (x : am_G × Int32 × Int32 × Int32) (R : Int32 × am_G), k63 x = some R → ai_ev ap_P 94 (63, [some (.ref 943), some (.int x.2.1), some (.int x.2.2.1), some (.int x.2.2.2)], [], (v0 L, x.1)) (.inl (ez_i R.1)) (v0 L, R.2)) (g : am_G) (u1 : Int32) (u2 : Int32) (u3 : Int32) (R : Int32 × am_G) : fj_94_95 k63 g u1 u2 u3 = some R → ai_ev ap_P 94 (95, [some (.ref 943), some (.int u1), some (.int u2), some (.int u3)], [], (v0 L, g)) (.inl (ez_i R.1)) (v0 L, R.2) := by
  unfold fj_94_95
  refine ev_if 2 (p := u2 < u3) (a := 105) (b := 100) (T := ([some (.ref 943), some (.int u1), some (.int u2), some (.int u3)], [], (v0 L, g))) rfl ?_ ?_
  · exact dj_94_105 L hk63 g u1 u2 u3 _
  · refine ev_in 2 (p := u1 = 1) (a := 121) (b := 105) (T := ([some (.ref 943), some (.int u1), some (.int u2), some (.int u3)], [], (v0 L, g))) rfl ?_ ?_
    · exact dj_94_105 L hk63 g u1 u2 u3 _
    · refine ev_jm 2 (t := (124, [some (.ref 943), some (.int u1), none, some (.int u3)], [.int (u3 + 1)], (v0 L, g))) rfl ?_
      refine lo_e (S := fun (x1 : Int32) => (124, [some (.ref 943), some (.int u1), none, some (.int u3)], [.int x1], (v0 L, g))) (fun x1 => ?_)
      refine ev_jm 2 (t := (63, [some (.ref 943), some (.int u1), some (.int x1), some (.int (u3 + 1))], [], (v0 L, g))) rfl ?_
      exact hk63 (g, u1, x1, (u3 + 1)) _
noncomputable def fb_94_63 (k63 : (am_G × Int32 × Int32 × Int32) → Option (Int32 × am_G)) (g : am_G) (u1 : Int32) (u2 : Int32) (u3 : Int32) : Option (Int32 × am_G) := if (am_i g 943 125) < u3 then some (0, g) else if u3 = (am_i g 943 125) then fj_94_95 k63 g u1 u2 u3 else if u1 = 3 then lo_g (ai_in u3 400) (if (am_i g 1001 u3.toNatClampNeg) = 32 then fj_94_95 k63 g u1 u2 u3 else k63 (g, u1, u2, (u3 + 1))) else k63 (g, u1, u2, (u3 + 1))
theorem db_94_63 (L : Nat) {k63 : (am_G × Int32 × Int32 × Int32) → Option (Int32 × am_G)} (hk63 : ∀ (x : am_G × Int32 × Int32 × Int32) (R : Int32 × am_G), k63 x = some R → ai_ev ap_P 94 (63, [some (.ref 943), some (.int x.2.1), some (.int x.2.2.1), some (.int x.2.2.2)], [], (v0 L, x.1)) (.inl (ez_i R.1)) (v0 L, R.2)) (g : am_G) (u1 : Int32) (u2 : Int32) (u3 : Int32) (R : Int32 × am_G) : fb_94_63 k63 g u1 u2 u3 = some R → ai_ev ap_P 94 (63, [some (.ref 943), some (.int u1), some (.int u2), some (.int u3)], [], (v0 L, g)) (.inl (ez_i R.1)) (v0 L, R.2) := by
  unfold fb_94_63
  refine ev_if 3 (p := (am_i g 943 125) < u3) (a := 131) (b := 71) (T := ([some (.ref 943), some (.int u1), some (.int u2), some (.int u3)], [], (v0 L, g))) rfl ?_ ?_
  · exact fun hR => by cases hR; exact ev_rt 1 rfl
  · refine ev_if 3 (p := u3 = (am_i g 943 125)) (a := 95) (b := 79) (T := ([some (.ref 943), some (.int u1), some (.int u2), some (.int u3)], [], (v0 L, g))) rfl ?_ ?_
    · exact dj_94_95 L hk63 g u1 u2 u3 _
    · refine ev_in 2 (p := u1 = 3) (a := 125) (b := 84) (T := ([some (.ref 943), some (.int u1), some (.int u2), some (.int u3)], [], (v0 L, g))) rfl ?_ ?_
      · refine ev_gd (c := ai_in u3 400) (fun hc1 => ?_)
        refine ev_jm 3 (t := (90, [some (.ref 943), some (.int u1), some (.int u2), some (.int u3)], [.int (am_i g 1001 u3.toNatClampNeg)], (v0 L, g))) (ai_gd (c := ai_in u3 400) rfl hc1) ?_
        refine ev_in 1 (p := (am_i g 1001 u3.toNatClampNeg) = 32) (a := 125) (b := 95) (T := ([some (.ref 943), some (.int u1), some (.int u2), some (.int u3)], [], (v0 L, g))) rfl ?_ ?_
        · exact dj_94_95 L hk63 g u1 u2 u3 _
        · refine ev_jm 1 (t := (63, [some (.ref 943), some (.int u1), some (.int u2), some (.int (u3 + 1))], [], (v0 L, g))) rfl ?_
          exact hk63 (g, u1, u2, (u3 + 1)) _
      · refine ev_jm 1 (t := (63, [some (.ref 943), some (.int u1), some (.int u2), some (.int (u3 + 1))], [], (v0 L, g))) rfl ?_
        exact hk63 (g, u1, u2, (u3 + 1)) _
noncomputable def fh_94_63  (x : am_G × Int32 × Int32 × Int32) : Option (Int32 × am_G) := lo_it (fun k x => fb_94_63 k x.1 x.2.1 x.2.2.1 x.2.2.2) nf_F x
theorem dh_94_63 (L : Nat)   (x : am_G × Int32 × Int32 × Int32) (R : Int32 × am_G) : fh_94_63  x = some R → ai_ev ap_P 94 (63, [some (.ref 943), some (.int x.2.1), some (.int x.2.2.1), some (.int x.2.2.2)], [], (v0 L, x.1)) (.inl (ez_i R.1)) (v0 L, R.2) :=
  fun hr => lo_ev (E := fun x R => ai_ev ap_P 94 (63, [some (.ref 943), some (.int x.2.1), some (.int x.2.2.1), some (.int x.2.2.2)], [], (v0 L, x.1)) (.inl (ez_i R.1)) (v0 L, R.2)) (fun k hk x R hr => db_94_63 L hk x.1 x.2.1 x.2.2.1 x.2.2.2  R hr) nf_F x R hr
/-- DeclaredMarkupModel.keep(I)I -/
noncomputable def fm_94 (g : am_G) (u1 : Int32) : Option (Int32 × am_G) := if (am_i g 943 129) = 200 then fj_94_25 g else if ((am_i g 943 135) + (am_i g 943 125)) ≤ 8000 then fh_94_63 ((am_si (am_si g 943 129 ((am_i g 943 129) + 1)) 943 135 ((am_i g 943 135) + (am_i g 943 125))), u1, 0, 0) else fj_94_25 g
theorem dm_94 (L : Nat) (g : am_G) (u1 : Int32) (R : Int32 × am_G) : fm_94 g u1 = some R → ai_ev ap_P 94 (ai_e0 ap_P 94 [.ref 943, .int u1] (v0 L, g)) (.inl (ez_i R.1)) (v0 L, R.2) := by
  show _ → ai_ev ap_P 94 (0, [some (.ref 943), some (.int u1), none, none], [], (v0 L, g)) _ _
  unfold fm_94
  refine ev_if 3 (p := (am_i g 943 129) = 200) (a := 25) (b := 10) (T := ([some (.ref 943), some (.int u1), none, none], [], (v0 L, g))) rfl ?_ ?_
  · exact dj_94_25 L g (some (.int u1)) none none _
  · refine ev_if 6 (p := ((am_i g 943 135) + (am_i g 943 125)) ≤ 8000) (a := 36) (b := 25) (T := ([some (.ref 943), some (.int u1), none, none], [], (v0 L, g))) rfl ?_ ?_
    · refine ev_jm 16 (t := (63, [some (.ref 943), some (.int u1), some (.int 0), some (.int 0)], [], (v0 L, (am_si (am_si g 943 129 ((am_i g 943 129) + 1)) 943 135 ((am_i g 943 135) + (am_i g 943 125)))))) rfl ?_
      exact dh_94_63 L ((am_si (am_si g 943 129 ((am_i g 943 129) + 1)) 943 135 ((am_i g 943 135) + (am_i g 943 125))), u1, 0, 0) _
    · exact dj_94_25 L g (some (.int u1)) none none _
noncomputable def fj_95_164  (g : am_G) (u3 : Int32) : Option (Int32 × am_G) := if u3 ≤ 0 then some (0, g) else if (4 : Int32) ≤ u3 then some (0, g) else lo_i (fm_94 g u3) fun y1 g2 => some (y1, g2)
theorem dj_95_164 (L : Nat)   (g : am_G) (u3 : Int32) (w1 w2 w4 : Option Value) (R : Int32 × am_G) : fj_95_164  g u3 = some R → ai_ev ap_P 95 (164, [some (.ref 943), w1, w2, some (.int u3), w4], [], (v0 L, g)) (.inl (ez_i R.1)) (v0 L, R.2) := by
  unfold fj_95_164
  refine ev_if 1 (p := u3 ≤ 0) (a := 181) (b := 168) (T := ([some (.ref 943), none, none, some (.int u3), none], [], (v0 L, g))) rfl ?_ ?_
  · exact fun hR => by cases hR; exact ev_rt 1 rfl
  · refine ev_if 2 (p := (4 : Int32) ≤ u3) (a := 181) (b := 173) (T := ([some (.ref 943), none, none, some (.int u3), none], [], (v0 L, g))) rfl ?_ ?_
    · exact fun hR => by cases hR; exact ev_rt 1 rfl
    · refine ev_oi 2 (as := [.ref 943, .int u3]) (pc := 178) (Lc := [some (.ref 943), none, none, some (.int u3), none]) (st := []) (V := v0 L) (g1 := g) (e := ez_i) rfl (dm_94 L g u3) (fun y1 g2 => ?_)
      exact fun hR => by cases hR; exact ev_rt 1 rfl
noncomputable def fj_95_158  (g : am_G) (u3 : Int32) : Option (Int32 × am_G) := lo_p (fm_24 g 21) fun g2 => fj_95_164 g2 u3
theorem dj_95_158 (L : Nat)   (g : am_G) (u3 : Int32) (w1 w2 w4 : Option Value) (R : Int32 × am_G) : fj_95_158  g u3 = some R → ai_ev ap_P 95 (158, [some (.ref 943), w1, w2, some (.int u3), w4], [], (v0 L, g)) (.inl (ez_i R.1)) (v0 L, R.2) := by
  unfold fj_95_158
  refine ev_ov0 2 (as := [.ref 943, .int 21]) (pc := 164) (Lc := [some (.ref 943), none, none, some (.int u3), none]) (st := []) (V := v0 L) (g1 := g) rfl (dm_24 L g 21) (fun g2 => ?_)
  exact dj_95_164 L g2 u3 none none none _
noncomputable def fj_95_148  (g : am_G) (u3 : Int32) : Option (Int32 × am_G) := if u3 = 4 then fj_95_158 g u3 else if u3 = 5 then fj_95_158 g u3 else fj_95_164 g u3
theorem dj_95_148 (L : Nat)   (g : am_G) (u3 : Int32) (w1 w2 w4 : Option Value) (R : Int32 × am_G) : fj_95_148  g u3 = some R → ai_ev ap_P 95 (148, [some (.ref 943), w1, w2, some (.int u3), w4], [], (v0 L, g)) (.inl (ez_i R.1)) (v0 L, R.2) := by
  unfold fj_95_148
  refine ev_if 2 (p := u3 = 4) (a := 158) (b := 153) (T := ([some (.ref 943), none, none, some (.int u3), none], [], (v0 L, g))) rfl ?_ ?_
  · exact dj_95_158 L g u3 none none none _
  · refine ev_in 2 (p := u3 = 5) (a := 164) (b := 158) (T := ([some (.ref 943), none, none, some (.int u3), none], [], (v0 L, g))) rfl ?_ ?_
    · exact dj_95_158 L g u3 none none none _
    · exact dj_95_164 L g u3 none none none _
noncomputable def fj_95_145  (g : am_G) (u3 : Int32) (t1 : Int32) : Option (Int32 × am_G) := lo_p (fm_24 g t1) fun g2 => fj_95_148 g2 u3
theorem dj_95_145 (L : Nat)   (g : am_G) (u3 : Int32) (t1 : Int32) (w1 w2 w4 : Option Value) (R : Int32 × am_G) : fj_95_145  g u3 t1 = some R → ai_ev ap_P 95 (145, [some (.ref 943), w1, w2, some (.int u3), w4], [.int t1, .ref 943], (v0 L, g)) (.inl (ez_i R.1)) (v0 L, R.2) := by
  unfold fj_95_145
  refine ev_ov0 0 (as := [.ref 943, .int t1]) (pc := 148) (Lc := [some (.ref 943), none, none, some (.int u3), none]) (st := []) (V := v0 L) (g1 := g) rfl (dm_24 L g t1) (fun g2 => ?_)
  exact dj_95_148 L g2 u3 none none none _
noncomputable def fj_95_116  (g : am_G) (u3 : Int32) : Option (Int32 × am_G) := fj_95_145 g u3 15
theorem dj_95_116 (L : Nat)   (g : am_G) (u3 : Int32) (w1 w2 w4 : Option Value) (R : Int32 × am_G) : fj_95_116  g u3 = some R → ai_ev ap_P 95 (116, [some (.ref 943), w1, w2, some (.int u3), w4], [.ref 943], (v0 L, g)) (.inl (ez_i R.1)) (v0 L, R.2) := by
  unfold fj_95_116
  refine ev_jm 1 (t := (145, [some (.ref 943), none, none, some (.int u3), none], [.int 15, .ref 943], (v0 L, g))) rfl ?_
  exact dj_95_145 L g u3 15 none none none _
noncomputable def fj_95_75  (g : am_G) (u2 : Int32) (u3 : Int32) : Option (Int32 × am_G) := lo_p (fm_81 g u2) fun y1 => if y1 = 0 then if u3 = 1 then fj_95_145 g u3 10 else if (4 : Int32) ≤ u3 then if u3 = 6 then fj_95_116 g u3 else if u3 = 7 then fj_95_116 g u3 else if u3 = 8 then fj_95_145 g u3 17 else if u3 = 9 then fj_95_145 g u3 16 else fj_95_145 g u3 21 else fj_95_145 g u3 14 else fj_95_148 g u3
theorem dj_95_75 (L : Nat)   (g : am_G) (u2 : Int32) (u3 : Int32) (w1 w4 : Option Value) (R : Int32 × am_G) : fj_95_75  g u2 u3 = some R → ai_ev ap_P 95 (75, [some (.ref 943), w1, some (.int u2), some (.int u3), w4], [], (v0 L, g)) (.inl (ez_i R.1)) (v0 L, R.2) := by
  unfold fj_95_75
  refine ev_op 2 (as := [.ref 943, .int u2]) (pc := 80) (Lc := [some (.ref 943), none, some (.int u2), some (.int u3), none]) (st := []) (h1 := (v0 L, g)) (e := ez_i) rfl (dm_81 L g u2) (fun y1 => ?_)
  refine ev_in 0 (p := y1 = 0) (a := 148) (b := 83) (T := ([some (.ref 943), none, some (.int u2), some (.int u3), none], [], (v0 L, g))) rfl ?_ ?_
  · refine ev_in 3 (p := u3 = 1) (a := 94) (b := 89) (T := ([some (.ref 943), none, some (.int u2), some (.int u3), none], [.ref 943], (v0 L, g))) rfl ?_ ?_
    · refine ev_jm 1 (t := (145, [some (.ref 943), none, some (.int u2), some (.int u3), none], [.int 10, .ref 943], (v0 L, g))) rfl ?_
      exact dj_95_145 L g u3 10 none (some (.int u2)) none _
    · refine ev_if 2 (p := (4 : Int32) ≤ u3) (a := 104) (b := 99) (T := ([some (.ref 943), none, some (.int u2), some (.int u3), none], [.ref 943], (v0 L, g))) rfl ?_ ?_
      · refine ev_if 2 (p := u3 = 6) (a := 116) (b := 110) (T := ([some (.ref 943), none, some (.int u2), some (.int u3), none], [.ref 943], (v0 L, g))) rfl ?_ ?_
        · exact dj_95_116 L g u3 none (some (.int u2)) none _
        · refine ev_in 2 (p := u3 = 7) (a := 121) (b := 116) (T := ([some (.ref 943), none, some (.int u2), some (.int u3), none], [.ref 943], (v0 L, g))) rfl ?_ ?_
          · exact dj_95_116 L g u3 none (some (.int u2)) none _
          · refine ev_in 2 (p := u3 = 8) (a := 132) (b := 127) (T := ([some (.ref 943), none, some (.int u2), some (.int u3), none], [.ref 943], (v0 L, g))) rfl ?_ ?_
            · refine ev_jm 1 (t := (145, [some (.ref 943), none, some (.int u2), some (.int u3), none], [.int 17, .ref 943], (v0 L, g))) rfl ?_
              exact dj_95_145 L g u3 17 none (some (.int u2)) none _
            · refine ev_in 2 (p := u3 = 9) (a := 143) (b := 138) (T := ([some (.ref 943), none, some (.int u2), some (.int u3), none], [.ref 943], (v0 L, g))) rfl ?_ ?_
              · refine ev_jm 1 (t := (145, [some (.ref 943), none, some (.int u2), some (.int u3), none], [.int 16, .ref 943], (v0 L, g))) rfl ?_
                exact dj_95_145 L g u3 16 none (some (.int u2)) none _
              · refine ev_jm 0 (t := (145, [some (.ref 943), none, some (.int u2), some (.int u3), none], [.int 21, .ref 943], (v0 L, g))) rfl ?_
                exact dj_95_145 L g u3 21 none (some (.int u2)) none _
      · refine ev_jm 1 (t := (145, [some (.ref 943), none, some (.int u2), some (.int u3), none], [.int 14, .ref 943], (v0 L, g))) rfl ?_
        exact dj_95_145 L g u3 14 none (some (.int u2)) none _
  · exact dj_95_148 L g u3 none (some (.int u2)) none _
noncomputable def fj_95_63  (g : am_G) (u2 : Int32) (u3 : Int32) (u4 : Int32) : Option (Int32 × am_G) := if u3 = 1 then if u4 = 0 then some (0, g) else fj_95_75 g u2 u3 else fj_95_75 g u2 u3
theorem dj_95_63 (L : Nat)   (g : am_G) (u2 : Int32) (u3 : Int32) (u4 : Int32) (w1 : Option Value) (R : Int32 × am_G) : fj_95_63  g u2 u3 u4 = some R → ai_ev ap_P 95 (63, [some (.ref 943), w1, some (.int u2), some (.int u3), some (.int u4)], [], (v0 L, g)) (.inl (ez_i R.1)) (v0 L, R.2) := by
  unfold fj_95_63
  refine ev_in 2 (p := u3 = 1) (a := 75) (b := 68) (T := ([some (.ref 943), none, some (.int u2), some (.int u3), some (.int u4)], [], (v0 L, g))) rfl ?_ ?_
  · refine ev_in 1 (p := u4 = 0) (a := 75) (b := 73) (T := ([some (.ref 943), none, some (.int u2), some (.int u3), some (.int u4)], [], (v0 L, g))) rfl ?_ ?_
    · exact fun hR => by cases hR; exact ev_rt 1 rfl
    · exact dj_95_75 L g u2 u3 none (some (.int u4)) _
  · exact dj_95_75 L g u2 u3 none (some (.int u4)) _
noncomputable def fj_95_27  (g : am_G) (u1 : Int32) (u2 : Int32) (u3 : Int32) (t0 : Int32) : Option (Int32 × am_G) := lo_p (fm_89 g u1) fun g2 => if t0 = 0 then fj_95_63 g2 u2 u3 t0 else lo_g (ai_in u2 80) (if (am_i g2 977 u2.toNatClampNeg) = 2 then lo_p (fm_96 g2 u2) fun y4 => if y4 = 0 then lo_p (fm_24 g2 9) fun g7 => fj_95_63 g7 u2 u3 t0 else fj_95_63 g2 u2 u3 t0 else fj_95_63 g2 u2 u3 t0)
theorem dj_95_27 (L : Nat)   (g : am_G) (u1 : Int32) (u2 : Int32) (u3 : Int32) (t0 : Int32) (w4 : Option Value) (R : Int32 × am_G) : fj_95_27  g u1 u2 u3 t0 = some R → ai_ev ap_P 95 (27, [some (.ref 943), some (.int u1), some (.int u2), some (.int u3), w4], [.int t0], (v0 L, g)) (.inl (ez_i R.1)) (v0 L, R.2) := by
  unfold fj_95_27
  refine ev_ov0 3 (as := [.ref 943, .int u1]) (pc := 34) (Lc := [some (.ref 943), some (.int u1), some (.int u2), some (.int u3), some (.int t0)]) (st := []) (V := v0 L) (g1 := g) rfl (dm_89 L g u1) (fun g2 => ?_)
  refine ev_if 1 (p := t0 = 0) (a := 63) (b := 39) (T := ([some (.ref 943), some (.int u1), some (.int u2), some (.int u3), some (.int t0)], [], (v0 L, g2))) rfl ?_ ?_
  · exact dj_95_63 L g2 u2 u3 t0 (some (.int u1)) _
  · refine ev_gd (c := ai_in u2 80) (fun hc3 => ?_)
    refine ev_jm 3 (t := (45, [some (.ref 943), some (.int u1), some (.int u2), some (.int u3), some (.int t0)], [.int (am_i g2 977 u2.toNatClampNeg)], (v0 L, g2))) (ai_gd (c := ai_in u2 80) rfl hc3) ?_
    refine ev_in 1 (p := (am_i g2 977 u2.toNatClampNeg) = 2) (a := 63) (b := 49) (T := ([some (.ref 943), some (.int u1), some (.int u2), some (.int u3), some (.int t0)], [], (v0 L, g2))) rfl ?_ ?_
    · refine ev_op 2 (as := [.ref 943, .int u2]) (pc := 54) (Lc := [some (.ref 943), some (.int u1), some (.int u2), some (.int u3), some (.int t0)]) (st := []) (h1 := (v0 L, g2)) (e := ez_i) rfl (dm_96 L g2 u2) (fun y4 => ?_)
      refine ev_in 0 (p := y4 = 0) (a := 63) (b := 57) (T := ([some (.ref 943), some (.int u1), some (.int u2), some (.int u3), some (.int t0)], [], (v0 L, g2))) rfl ?_ ?_
      · refine ev_ov0 2 (as := [.ref 943, .int 9]) (pc := 63) (Lc := [some (.ref 943), some (.int u1), some (.int u2), some (.int u3), some (.int t0)]) (st := []) (V := v0 L) (g1 := g2) rfl (dm_24 L g2 9) (fun g7 => ?_)
        exact dj_95_63 L g7 u2 u3 t0 (some (.int u1)) _
      · exact dj_95_63 L g2 u2 u3 t0 (some (.int u1)) _
    · exact dj_95_63 L g2 u2 u3 t0 (some (.int u1)) _
/-- DeclaredMarkupModel.check(I)I -/
noncomputable def fm_95 (g : am_G) (u1 : Int32) : Option (Int32 × am_G) := lo_g (ai_in u1 24) (lo_l (am_i g 999 u1.toNatClampNeg) fun x2 => lo_g (ai_in x2 80) (lo_l (am_i g 976 x2.toNatClampNeg) fun x4 => if (am_i g 943 117) ≤ u1 then fj_95_27 g u1 x2 x4 0 else fj_95_27 g u1 x2 x4 1))
theorem dm_95 (L : Nat) (g : am_G) (u1 : Int32) (R : Int32 × am_G) : fm_95 g u1 = some R → ai_ev ap_P 95 (ai_e0 ap_P 95 [.ref 943, .int u1] (v0 L, g)) (.inl (ez_i R.1)) (v0 L, R.2) := by
  show _ → ai_ev ap_P 95 (0, [some (.ref 943), some (.int u1), none, none, none], [], (v0 L, g)) _ _
  unfold fm_95
  refine ev_gd (c := ai_in u1 24) (fun hc1 => ?_)
  refine ev_jm 3 (t := (6, [some (.ref 943), some (.int u1), none, none, none], [.int (am_i g 999 u1.toNatClampNeg)], (v0 L, g))) (ai_gd (c := ai_in u1 24) rfl hc1) ?_
  refine lo_e (S := fun (x2 : Int32) => (6, [some (.ref 943), some (.int u1), none, none, none], [.int x2], (v0 L, g))) (fun x2 => ?_)
  refine ev_gd (c := ai_in x2 80) (fun hc3 => ?_)
  refine ev_jm 4 (t := (13, [some (.ref 943), some (.int u1), some (.int x2), none, none], [.int (am_i g 976 x2.toNatClampNeg)], (v0 L, g))) (ai_gd (c := ai_in x2 80) rfl hc3) ?_
  refine lo_e (S := fun (x4 : Int32) => (13, [some (.ref 943), some (.int u1), some (.int x2), none, none], [.int x4], (v0 L, g))) (fun x4 => ?_)
  refine ev_if 4 (p := (am_i g 943 117) ≤ u1) (a := 26) (b := 22) (T := ([some (.ref 943), some (.int u1), some (.int x2), some (.int x4), none], [], (v0 L, g))) rfl ?_ ?_
  · refine ev_jm 0 (t := (27, [some (.ref 943), some (.int u1), some (.int x2), some (.int x4), none], [.int 0], (v0 L, g))) rfl ?_
    exact dj_95_27 L g u1 x2 x4 0 none _
  · refine ev_jm 1 (t := (27, [some (.ref 943), some (.int u1), some (.int x2), some (.int x4), none], [.int 1], (v0 L, g))) rfl ?_
    exact dj_95_27 L g u1 x2 x4 1 none _
noncomputable def fj_97_168 (k137 : (am_G × Int32 × Int32) → Option (Int32 × am_G)) (g : am_G) (u1 : Int32) (u2 : Int32) : Option (Int32 × am_G) := lo_g (ai_in u2 24) (if (am_i g 999 u2.toNatClampNeg) < 0 then k137 (g, u1, (u2 + 1)) else lo_i (fm_95 g u2) fun y2 g3 => if (0 : Int32) ≤ y2 then k137 (g3, u1, (u2 + 1)) else some ((-1), g3))
set_option maxRecDepth 20000 in
theorem dj_97_168 (L : Nat) {k137 : (am_G × Int32 × Int32) → Option (Int32 × am_G)} (hk137 : ∀ (x : am_G × Int32 × Int32) (w3 : Option Value) (R : Int32 × am_G), k137 x = some R → ai_ev ap_P 97 (137, [some (.ref 943), some (.int x.2.1), some (.int x.2.2), w3], [], (v0 L, x.1)) (.inl (ez_i R.1)) (v0 L, R.2)) (g : am_G) (u1 : Int32) (u2 : Int32) (w3 : Option Value) (R : Int32 × am_G) : fj_97_168 k137 g u1 u2 = some R → ai_ev ap_P 97 (168, [some (.ref 943), some (.int u1), some (.int u2), w3], [], (v0 L, g)) (.inl (ez_i R.1)) (v0 L, R.2) := by
  unfold fj_97_168
  refine ev_gd (c := ai_in u2 24) (fun hc1 => ?_)
  refine ev_jm 3 (t := (174, [some (.ref 943), some (.int u1), some (.int u2), none], [.int (am_i g 999 u2.toNatClampNeg)], (v0 L, g))) (ai_gd (c := ai_in u2 24) rfl hc1) ?_
  refine ev_if 0 (p := (am_i g 999 u2.toNatClampNeg) < 0) (a := 187) (b := 177) (T := ([some (.ref 943), some (.int u1), some (.int u2), none], [], (v0 L, g))) rfl ?_ ?_
  · refine ev_jm 1 (t := (137, [some (.ref 943), some (.int u1), some (.int (u2 + 1)), none], [], (v0 L, g))) rfl ?_
    exact hk137 (g, u1, (u2 + 1)) none _
  · refine ev_oi 2 (as := [.ref 943, .int u2]) (pc := 182) (Lc := [some (.ref 943), some (.int u1), some (.int u2), none]) (st := []) (V := v0 L) (g1 := g) (e := ez_i) rfl (dm_95 L g u2) (fun y2 g3 => ?_)
    refine ev_if 0 (p := (0 : Int32) ≤ y2) (a := 187) (b := 185) (T := ([some (.ref 943), some (.int u1), some (.int u2), none], [], (v0 L, g3))) rfl ?_ ?_
    · refine ev_jm 1 (t := (137, [some (.ref 943), some (.int u1), some (.int (u2 + 1)), none], [], (v0 L, g3))) rfl ?_
      exact hk137 (g3, u1, (u2 + 1)) none _
    · exact fun hR => by cases hR; exact ev_rt 1 rfl
noncomputable def fb_97_231 (k199 : (am_G × Int32 × Int32) → Option (Int32 × am_G)) (k231 : (am_G × Int32 × Int32 × Int32) → Option (Int32 × am_G)) (g : am_G) (u1 : Int32) (u2 : Int32) (u3 : Int32) : Option (Int32 × am_G) := lo_g (ai_in u2 24) (if (am_i g 998 u2.toNatClampNeg) ≤ u3 then lo_p (fm_36 g 10) fun g3 => k199 (g3, u1, (u2 + 1)) else lo_g (ai_in ((am_i g 997 u2.toNatClampNeg) + u3) 9600) (lo_p (fm_37 g (am_i g 1000 (((am_i g 997 u2.toNatClampNeg) + u3)).toNatClampNeg)) fun g6 => k231 (g6, u1, u2, (u3 + 1))))
set_option maxRecDepth 20000 in
theorem db_97_231 (L : Nat) {k199 : (am_G × Int32 × Int32) → Option (Int32 × am_G)} {k231 : (am_G × Int32 × Int32 × Int32) → Option (Int32 × am_G)} (hk199 : ∀ (x : am_G × Int32 × Int32) (w3 : Option Value) (R : Int32 × am_G), k199 x = some R → ai_ev ap_P 97 (199, [some (.ref 943), some (.int x.2.1), some (.int x.2.2), w3], [], (v0 L, x.1)) (.inl (ez_i R.1)) (v0 L, R.2)) (hk231 : ∀ (x : am_G × Int32 × Int32 × Int32) (R : Int32 × am_G), k231 x = some R → ai_ev ap_P 97 (231, [some (.ref 943), some (.int x.2.1), some (.int x.2.2.1), some (.int x.2.2.2)], [], (v0 L, x.1)) (.inl (ez_i R.1)) (v0 L, R.2)) (g : am_G) (u1 : Int32) (u2 : Int32) (u3 : Int32) (R : Int32 × am_G) : fb_97_231 k199 k231 g u1 u2 u3 = some R → ai_ev ap_P 97 (231, [some (.ref 943), some (.int u1), some (.int u2), some (.int u3)], [], (v0 L, g)) (.inl (ez_i R.1)) (v0 L, R.2) := by
  unfold fb_97_231
  refine ev_gd (c := ai_in u2 24) (fun hc1 => ?_)
  refine ev_jm 4 (t := (238, [some (.ref 943), some (.int u1), some (.int u2), some (.int u3)], [.int (am_i g 998 u2.toNatClampNeg), .int u3], (v0 L, g))) (ai_gd (c := ai_in u2 24) rfl hc1) ?_
  refine ev_if 0 (p := (am_i g 998 u2.toNatClampNeg) ≤ u3) (a := 264) (b := 241) (T := ([some (.ref 943), some (.int u1), some (.int u2), some (.int u3)], [], (v0 L, g))) rfl ?_ ?_
  · refine ev_ov0 2 (as := [.ref 943, .int 10]) (pc := 270) (Lc := [some (.ref 943), some (.int u1), some (.int u2), some (.int u3)]) (st := []) (V := v0 L) (g1 := g) rfl (dm_36 L g 10) (fun g3 => ?_)
    refine ev_jm 1 (t := (199, [some (.ref 943), some (.int u1), some (.int (u2 + 1)), some (.int u3)], [], (v0 L, g3))) rfl ?_
    exact hk199 (g3, u1, (u2 + 1)) (some (.int u3)) _
  · refine ev_jm 6 (t := (252, [some (.ref 943), some (.int u1), some (.int u2), some (.int u3)], [.int (am_i g 997 u2.toNatClampNeg), .ref 1000, .ref 943], (v0 L, g))) (ai_gd (c := ai_in u2 24) rfl hc1) ?_
    refine ev_gd (c := ai_in ((am_i g 997 u2.toNatClampNeg) + u3) 9600) (fun hc4 => ?_)
    refine ev_jm 2 (t := (255, [some (.ref 943), some (.int u1), some (.int u2), some (.int u3)], [.int (am_i g 1000 (((am_i g 997 u2.toNatClampNeg) + u3)).toNatClampNeg), .ref 943], (v0 L, g))) (ai_gd (c := ai_in ((am_i g 997 u2.toNatClampNeg) + u3) 9600) rfl hc4) ?_
    refine ev_ov0 0 (as := [.ref 943, .int (am_i g 1000 (((am_i g 997 u2.toNatClampNeg) + u3)).toNatClampNeg)]) (pc := 258) (Lc := [some (.ref 943), some (.int u1), some (.int u2), some (.int u3)]) (st := []) (V := v0 L) (g1 := g) rfl (dm_37 L g (am_i g 1000 (((am_i g 997 u2.toNatClampNeg) + u3)).toNatClampNeg)) (fun g6 => ?_)
    refine ev_jm 1 (t := (231, [some (.ref 943), some (.int u1), some (.int u2), some (.int (u3 + 1))], [], (v0 L, g6))) rfl ?_
    exact hk231 (g6, u1, u2, (u3 + 1)) _
noncomputable def fh_97_231 (k199 : (am_G × Int32 × Int32) → Option (Int32 × am_G)) (x : am_G × Int32 × Int32 × Int32) : Option (Int32 × am_G) := lo_it (fun k x => fb_97_231 k199 k x.1 x.2.1 x.2.2.1 x.2.2.2) nf_F x
set_option maxRecDepth 20000 in
theorem dh_97_231 (L : Nat) {k199 : (am_G × Int32 × Int32) → Option (Int32 × am_G)} (hk199 : ∀ (x : am_G × Int32 × Int32) (w3 : Option Value) (R : Int32 × am_G), k199 x = some R → ai_ev ap_P 97 (199, [some (.ref 943), some (.int x.2.1), some (.int x.2.2), w3], [], (v0 L, x.1)) (.inl (ez_i R.1)) (v0 L, R.2)) (x : am_G × Int32 × Int32 × Int32) (R : Int32 × am_G) : fh_97_231 k199 x = some R → ai_ev ap_P 97 (231, [some (.ref 943), some (.int x.2.1), some (.int x.2.2.1), some (.int x.2.2.2)], [], (v0 L, x.1)) (.inl (ez_i R.1)) (v0 L, R.2) :=
  fun hr => lo_ev (E := fun x R => ai_ev ap_P 97 (231, [some (.ref 943), some (.int x.2.1), some (.int x.2.2.1), some (.int x.2.2.2)], [], (v0 L, x.1)) (.inl (ez_i R.1)) (v0 L, R.2)) (fun k hk x R hr => db_97_231 L hk199 hk x.1 x.2.1 x.2.2.1 x.2.2.2  R hr) nf_F x R hr
noncomputable def fb_97_199 (k199 : (am_G × Int32 × Int32) → Option (Int32 × am_G)) (g : am_G) (u1 : Int32) (u2 : Int32) : Option (Int32 × am_G) := if (am_i g 943 116) ≤ u2 then lo_p (fm_36 g 40) fun g2 => lo_p (fm_38 g2 (am_i g2 943 113)) fun g4 => lo_p (fm_36 g4 10) fun g6 => lo_g (ai_in (am_i g6 943 106) 40) (if u1 = 0 then lo_i (fm_44 (am_si (am_si (am_si (am_sj (am_si (am_si g6 991 ((am_i g6 943 106)).toNatClampNeg (am_i g6 943 113)) 992 ((am_i g6 943 106)).toNatClampNeg (am_i g6 943 115)) 993 ((am_i g6 943 106)).toNatClampNeg 0) 994 ((am_i g6 943 106)).toNatClampNeg 0) 943 106 ((am_i g6 943 106) + 1)) 943 27 1) ) fun y8 g9 => some (y8, g9) else lo_i (fm_98 (am_si (am_si (am_si (am_sj (am_si (am_si g6 991 ((am_i g6 943 106)).toNatClampNeg (am_i g6 943 113)) 992 ((am_i g6 943 106)).toNatClampNeg (am_i g6 943 115)) 993 ((am_i g6 943 106)).toNatClampNeg 0) 994 ((am_i g6 943 106)).toNatClampNeg 0) 943 106 ((am_i g6 943 106) + 1)) 943 27 1) ) fun y10 g11 => some (y10, g11)) else lo_p (fm_36 g 65) fun g13 => lo_g (ai_in u2 24) (lo_p (fm_38 g13 (am_i g13 996 u2.toNatClampNeg)) fun g16 => lo_p (fm_36 g16 32) fun g18 => fh_97_231 k199 (g18, u1, u2, 0))
set_option maxRecDepth 20000 in
theorem db_97_199 (L : Nat) {k199 : (am_G × Int32 × Int32) → Option (Int32 × am_G)} (hk199 : ∀ (x : am_G × Int32 × Int32) (w3 : Option Value) (R : Int32 × am_G), k199 x = some R → ai_ev ap_P 97 (199, [some (.ref 943), some (.int x.2.1), some (.int x.2.2), w3], [], (v0 L, x.1)) (.inl (ez_i R.1)) (v0 L, R.2)) (g : am_G) (u1 : Int32) (u2 : Int32) (w3 : Option Value) (R : Int32 × am_G) : fb_97_199 k199 g u1 u2 = some R → ai_ev ap_P 97 (199, [some (.ref 943), some (.int u1), some (.int u2), w3], [], (v0 L, g)) (.inl (ez_i R.1)) (v0 L, R.2) := by
  unfold fb_97_199
  refine ev_if 3 (p := (am_i g 943 116) ≤ u2) (a := 276) (b := 207) (T := ([some (.ref 943), some (.int u1), some (.int u2), none], [], (v0 L, g))) rfl ?_ ?_
  · refine ev_ov0 2 (as := [.ref 943, .int 40]) (pc := 282) (Lc := [some (.ref 943), some (.int u1), some (.int u2), none]) (st := []) (V := v0 L) (g1 := g) rfl (dm_36 L g 40) (fun g2 => ?_)
    refine ev_ov0 3 (as := [.ref 943, .int (am_i g2 943 113)]) (pc := 290) (Lc := [some (.ref 943), some (.int u1), some (.int u2), none]) (st := []) (V := v0 L) (g1 := g2) rfl (dm_38 L g2 (am_i g2 943 113)) (fun g4 => ?_)
    refine ev_ov0 2 (as := [.ref 943, .int 10]) (pc := 296) (Lc := [some (.ref 943), some (.int u1), some (.int u2), none]) (st := []) (V := v0 L) (g1 := g4) rfl (dm_36 L g4 10) (fun g6 => ?_)
    refine ev_gd (c := ai_in (am_i g6 943 106) 40) (fun hc7 => ?_)
    refine ev_jm 6 (t := (309, [some (.ref 943), some (.int u1), some (.int u2), none], [], (v0 L, (am_si g6 991 ((am_i g6 943 106)).toNatClampNeg (am_i g6 943 113))))) (ai_gd (c := ai_in (am_i g6 943 106) 40) rfl hc7) ?_
    refine ev_jm 6 (t := (322, [some (.ref 943), some (.int u1), some (.int u2), none], [], (v0 L, (am_si (am_si g6 991 ((am_i g6 943 106)).toNatClampNeg (am_i g6 943 113)) 992 ((am_i g6 943 106)).toNatClampNeg (am_i g6 943 115))))) (ai_gd (c := ai_in (am_i g6 943 106) 40) rfl hc7) ?_
    refine ev_jm 5 (t := (332, [some (.ref 943), some (.int u1), some (.int u2), none], [], (v0 L, (am_sj (am_si (am_si g6 991 ((am_i g6 943 106)).toNatClampNeg (am_i g6 943 113)) 992 ((am_i g6 943 106)).toNatClampNeg (am_i g6 943 115)) 993 ((am_i g6 943 106)).toNatClampNeg 0)))) (ai_gd (c := ai_in (am_i g6 943 106) 40) rfl hc7) ?_
    refine ev_jm 5 (t := (342, [some (.ref 943), some (.int u1), some (.int u2), none], [], (v0 L, (am_si (am_sj (am_si (am_si g6 991 ((am_i g6 943 106)).toNatClampNeg (am_i g6 943 113)) 992 ((am_i g6 943 106)).toNatClampNeg (am_i g6 943 115)) 993 ((am_i g6 943 106)).toNatClampNeg 0) 994 ((am_i g6 943 106)).toNatClampNeg 0)))) (ai_gd (c := ai_in (am_i g6 943 106) 40) rfl hc7) ?_
    refine ev_if 10 (p := u1 = 0) (a := 368) (b := 361) (T := ([some (.ref 943), some (.int u1), some (.int u2), none], [], (v0 L, (am_si (am_si (am_si (am_sj (am_si (am_si g6 991 ((am_i g6 943 106)).toNatClampNeg (am_i g6 943 113)) 992 ((am_i g6 943 106)).toNatClampNeg (am_i g6 943 115)) 993 ((am_i g6 943 106)).toNatClampNeg 0) 994 ((am_i g6 943 106)).toNatClampNeg 0) 943 106 ((am_i g6 943 106) + 1)) 943 27 1)))) rfl ?_ ?_
    · refine ev_oi 1 (as := [.ref 943]) (pc := 372) (Lc := [some (.ref 943), some (.int u1), some (.int u2), none]) (st := []) (V := v0 L) (g1 := (am_si (am_si (am_si (am_sj (am_si (am_si g6 991 ((am_i g6 943 106)).toNatClampNeg (am_i g6 943 113)) 992 ((am_i g6 943 106)).toNatClampNeg (am_i g6 943 115)) 993 ((am_i g6 943 106)).toNatClampNeg 0) 994 ((am_i g6 943 106)).toNatClampNeg 0) 943 106 ((am_i g6 943 106) + 1)) 943 27 1)) (e := ez_i) rfl (dm_44 L (am_si (am_si (am_si (am_sj (am_si (am_si g6 991 ((am_i g6 943 106)).toNatClampNeg (am_i g6 943 113)) 992 ((am_i g6 943 106)).toNatClampNeg (am_i g6 943 115)) 993 ((am_i g6 943 106)).toNatClampNeg 0) 994 ((am_i g6 943 106)).toNatClampNeg 0) 943 106 ((am_i g6 943 106) + 1)) 943 27 1) ) (fun y8 g9 => ?_)
      exact fun hR => by cases hR; exact ev_rt 0 rfl
    · refine ev_oi 1 (as := [.ref 943]) (pc := 365) (Lc := [some (.ref 943), some (.int u1), some (.int u2), none]) (st := []) (V := v0 L) (g1 := (am_si (am_si (am_si (am_sj (am_si (am_si g6 991 ((am_i g6 943 106)).toNatClampNeg (am_i g6 943 113)) 992 ((am_i g6 943 106)).toNatClampNeg (am_i g6 943 115)) 993 ((am_i g6 943 106)).toNatClampNeg 0) 994 ((am_i g6 943 106)).toNatClampNeg 0) 943 106 ((am_i g6 943 106) + 1)) 943 27 1)) (e := ez_i) rfl (dm_98 L (am_si (am_si (am_si (am_sj (am_si (am_si g6 991 ((am_i g6 943 106)).toNatClampNeg (am_i g6 943 113)) 992 ((am_i g6 943 106)).toNatClampNeg (am_i g6 943 115)) 993 ((am_i g6 943 106)).toNatClampNeg 0) 994 ((am_i g6 943 106)).toNatClampNeg 0) 943 106 ((am_i g6 943 106) + 1)) 943 27 1) ) (fun y10 g11 => ?_)
      exact fun hR => by cases hR; exact ev_rt 1 rfl
  · refine ev_ov0 2 (as := [.ref 943, .int 65]) (pc := 213) (Lc := [some (.ref 943), some (.int u1), some (.int u2), none]) (st := []) (V := v0 L) (g1 := g) rfl (dm_36 L g 65) (fun g13 => ?_)
    refine ev_gd (c := ai_in u2 24) (fun hc14 => ?_)
    refine ev_jm 4 (t := (220, [some (.ref 943), some (.int u1), some (.int u2), none], [.int (am_i g13 996 u2.toNatClampNeg), .ref 943], (v0 L, g13))) (ai_gd (c := ai_in u2 24) rfl hc14) ?_
    refine ev_ov0 0 (as := [.ref 943, .int (am_i g13 996 u2.toNatClampNeg)]) (pc := 223) (Lc := [some (.ref 943), some (.int u1), some (.int u2), none]) (st := []) (V := v0 L) (g1 := g13) rfl (dm_38 L g13 (am_i g13 996 u2.toNatClampNeg)) (fun g16 => ?_)
    refine ev_ov0 2 (as := [.ref 943, .int 32]) (pc := 229) (Lc := [some (.ref 943), some (.int u1), some (.int u2), none]) (st := []) (V := v0 L) (g1 := g16) rfl (dm_36 L g16 32) (fun g18 => ?_)
    refine ev_jm 1 (t := (231, [some (.ref 943), some (.int u1), some (.int u2), some (.int 0)], [], (v0 L, g18))) rfl ?_
    exact dh_97_231 L hk199 (g18, u1, u2, 0) _
noncomputable def fh_97_199  (x : am_G × Int32 × Int32) : Option (Int32 × am_G) := lo_it (fun k x => fb_97_199 k x.1 x.2.1 x.2.2) nf_F x
set_option maxRecDepth 20000 in
theorem dh_97_199 (L : Nat)   (x : am_G × Int32 × Int32) (w3 : Option Value) (R : Int32 × am_G) : fh_97_199  x = some R → ai_ev ap_P 97 (199, [some (.ref 943), some (.int x.2.1), some (.int x.2.2), w3], [], (v0 L, x.1)) (.inl (ez_i R.1)) (v0 L, R.2) :=
  fun hr => lo_ev (E := fun x R => ∀ (w3 : Option Value), ai_ev ap_P 97 (199, [some (.ref 943), some (.int x.2.1), some (.int x.2.2), w3], [], (v0 L, x.1)) (.inl (ez_i R.1)) (v0 L, R.2)) (fun k hk x R hr => fun w3 => db_97_199 L (fun x w3 R hr => hk x R hr w3) x.1 x.2.1 x.2.2 w3 R hr) nf_F x R hr w3
noncomputable def fb_97_137 (k137 : (am_G × Int32 × Int32) → Option (Int32 × am_G)) (g : am_G) (u1 : Int32) (u2 : Int32) : Option (Int32 × am_G) := if (am_i g 943 116) ≤ u2 then lo_p (fm_39 g ) fun g2 => fh_97_199 (g2, u1, 0) else if (am_i g 943 117) ≤ u2 then fj_97_168 k137 g u1 u2 else lo_g (ai_in u2 24) (if (0 : Int32) ≤ (am_i g 999 u2.toNatClampNeg) then fj_97_168 k137 g u1 u2 else lo_p (fm_24 g 7) fun g5 => fj_97_168 k137 g5 u1 u2)
set_option maxRecDepth 20000 in
theorem db_97_137 (L : Nat) {k137 : (am_G × Int32 × Int32) → Option (Int32 × am_G)} (hk137 : ∀ (x : am_G × Int32 × Int32) (w3 : Option Value) (R : Int32 × am_G), k137 x = some R → ai_ev ap_P 97 (137, [some (.ref 943), some (.int x.2.1), some (.int x.2.2), w3], [], (v0 L, x.1)) (.inl (ez_i R.1)) (v0 L, R.2)) (g : am_G) (u1 : Int32) (u2 : Int32) (w3 : Option Value) (R : Int32 × am_G) : fb_97_137 k137 g u1 u2 = some R → ai_ev ap_P 97 (137, [some (.ref 943), some (.int u1), some (.int u2), w3], [], (v0 L, g)) (.inl (ez_i R.1)) (v0 L, R.2) := by
  unfold fb_97_137
  refine ev_if 3 (p := (am_i g 943 116) ≤ u2) (a := 193) (b := 145) (T := ([some (.ref 943), some (.int u1), some (.int u2), none], [], (v0 L, g))) rfl ?_ ?_
  · refine ev_ov0 1 (as := [.ref 943]) (pc := 197) (Lc := [some (.ref 943), some (.int u1), some (.int u2), none]) (st := []) (V := v0 L) (g1 := g) rfl (dm_39 L g ) (fun g2 => ?_)
    refine ev_jm 1 (t := (199, [some (.ref 943), some (.int u1), some (.int 0), none], [], (v0 L, g2))) rfl ?_
    exact dh_97_199 L (g2, u1, 0) none _
  · refine ev_if 3 (p := (am_i g 943 117) ≤ u2) (a := 168) (b := 153) (T := ([some (.ref 943), some (.int u1), some (.int u2), none], [], (v0 L, g))) rfl ?_ ?_
    · exact dj_97_168 L hk137 g u1 u2 none _
    · refine ev_gd (c := ai_in u2 24) (fun hc3 => ?_)
      refine ev_jm 3 (t := (159, [some (.ref 943), some (.int u1), some (.int u2), none], [.int (am_i g 999 u2.toNatClampNeg)], (v0 L, g))) (ai_gd (c := ai_in u2 24) rfl hc3) ?_
      refine ev_if 0 (p := (0 : Int32) ≤ (am_i g 999 u2.toNatClampNeg)) (a := 168) (b := 162) (T := ([some (.ref 943), some (.int u1), some (.int u2), none], [], (v0 L, g))) rfl ?_ ?_
      · exact dj_97_168 L hk137 g u1 u2 none _
      · refine ev_ov0 2 (as := [.ref 943, .int 7]) (pc := 168) (Lc := [some (.ref 943), some (.int u1), some (.int u2), none]) (st := []) (V := v0 L) (g1 := g) rfl (dm_24 L g 7) (fun g5 => ?_)
        exact dj_97_168 L hk137 g5 u1 u2 none _
noncomputable def fh_97_137  (x : am_G × Int32 × Int32) : Option (Int32 × am_G) := lo_it (fun k x => fb_97_137 k x.1 x.2.1 x.2.2) nf_F x
set_option maxRecDepth 20000 in
theorem dh_97_137 (L : Nat)   (x : am_G × Int32 × Int32) (w3 : Option Value) (R : Int32 × am_G) : fh_97_137  x = some R → ai_ev ap_P 97 (137, [some (.ref 943), some (.int x.2.1), some (.int x.2.2), w3], [], (v0 L, x.1)) (.inl (ez_i R.1)) (v0 L, R.2) :=
  fun hr => lo_ev (E := fun x R => ∀ (w3 : Option Value), ai_ev ap_P 97 (137, [some (.ref 943), some (.int x.2.1), some (.int x.2.2), w3], [], (v0 L, x.1)) (.inl (ez_i R.1)) (v0 L, R.2)) (fun k hk x R hr => fun w3 => db_97_137 L (fun x w3 R hr => hk x R hr w3) x.1 x.2.1 x.2.2 w3 R hr) nf_F x R hr w3
noncomputable def fb_97_80 (k80 : (am_G × Int32 × Int32) → Option (Int32 × am_G)) (g : am_G) (u1 : Int32) (u2 : Int32) : Option (Int32 × am_G) := if (am_i g 943 77) ≤ u2 then fh_97_137 (g, u1, 0) else lo_g (ai_in u2 80) (if (am_i g 974 u2.toNatClampNeg) = (am_i g 943 113) then if (am_i g 977 u2.toNatClampNeg) = 0 then lo_p (fm_91 g (am_i g 975 u2.toNatClampNeg)) fun y2 => if y2 = 0 then lo_p (fm_24 g 8) fun g5 => k80 (g5, u1, (u2 + 1)) else k80 (g, u1, (u2 + 1)) else k80 (g, u1, (u2 + 1)) else k80 (g, u1, (u2 + 1)))
set_option maxRecDepth 20000 in
theorem db_97_80 (L : Nat) {k80 : (am_G × Int32 × Int32) → Option (Int32 × am_G)} (hk80 : ∀ (x : am_G × Int32 × Int32) (w3 : Option Value) (R : Int32 × am_G), k80 x = some R → ai_ev ap_P 97 (80, [some (.ref 943), some (.int x.2.1), some (.int x.2.2), w3], [], (v0 L, x.1)) (.inl (ez_i R.1)) (v0 L, R.2)) (g : am_G) (u1 : Int32) (u2 : Int32) (w3 : Option Value) (R : Int32 × am_G) : fb_97_80 k80 g u1 u2 = some R → ai_ev ap_P 97 (80, [some (.ref 943), some (.int u1), some (.int u2), w3], [], (v0 L, g)) (.inl (ez_i R.1)) (v0 L, R.2) := by
  unfold fb_97_80
  refine ev_if 3 (p := (am_i g 943 77) ≤ u2) (a := 135) (b := 88) (T := ([some (.ref 943), some (.int u1), some (.int u2), none], [], (v0 L, g))) rfl ?_ ?_
  · refine ev_jm 1 (t := (137, [some (.ref 943), some (.int u1), some (.int 0), none], [], (v0 L, g))) rfl ?_
    exact dh_97_137 L (g, u1, 0) none _
  · refine ev_gd (c := ai_in u2 80) (fun hc1 => ?_)
    refine ev_jm 3 (t := (94, [some (.ref 943), some (.int u1), some (.int u2), none], [.int (am_i g 974 u2.toNatClampNeg)], (v0 L, g))) (ai_gd (c := ai_in u2 80) rfl hc1) ?_
    refine ev_in 2 (p := (am_i g 974 u2.toNatClampNeg) = (am_i g 943 113)) (a := 129) (b := 101) (T := ([some (.ref 943), some (.int u1), some (.int u2), none], [], (v0 L, g))) rfl ?_ ?_
    · refine ev_jm 3 (t := (107, [some (.ref 943), some (.int u1), some (.int u2), none], [.int (am_i g 977 u2.toNatClampNeg)], (v0 L, g))) (ai_gd (c := ai_in u2 80) rfl hc1) ?_
      refine ev_in 0 (p := (am_i g 977 u2.toNatClampNeg) = 0) (a := 129) (b := 110) (T := ([some (.ref 943), some (.int u1), some (.int u2), none], [], (v0 L, g))) rfl ?_ ?_
      · refine ev_jm 4 (t := (117, [some (.ref 943), some (.int u1), some (.int u2), none], [.int (am_i g 975 u2.toNatClampNeg), .ref 943], (v0 L, g))) (ai_gd (c := ai_in u2 80) rfl hc1) ?_
        refine ev_op 0 (as := [.ref 943, .int (am_i g 975 u2.toNatClampNeg)]) (pc := 120) (Lc := [some (.ref 943), some (.int u1), some (.int u2), none]) (st := []) (h1 := (v0 L, g)) (e := ez_i) rfl (dm_91 L g (am_i g 975 u2.toNatClampNeg)) (fun y2 => ?_)
        refine ev_in 0 (p := y2 = 0) (a := 129) (b := 123) (T := ([some (.ref 943), some (.int u1), some (.int u2), none], [], (v0 L, g))) rfl ?_ ?_
        · refine ev_ov0 2 (as := [.ref 943, .int 8]) (pc := 129) (Lc := [some (.ref 943), some (.int u1), some (.int u2), none]) (st := []) (V := v0 L) (g1 := g) rfl (dm_24 L g 8) (fun g5 => ?_)
          refine ev_jm 1 (t := (80, [some (.ref 943), some (.int u1), some (.int (u2 + 1)), none], [], (v0 L, g5))) rfl ?_
          exact hk80 (g5, u1, (u2 + 1)) none _
        · refine ev_jm 1 (t := (80, [some (.ref 943), some (.int u1), some (.int (u2 + 1)), none], [], (v0 L, g))) rfl ?_
          exact hk80 (g, u1, (u2 + 1)) none _
      · refine ev_jm 1 (t := (80, [some (.ref 943), some (.int u1), some (.int (u2 + 1)), none], [], (v0 L, g))) rfl ?_
        exact hk80 (g, u1, (u2 + 1)) none _
    · refine ev_jm 1 (t := (80, [some (.ref 943), some (.int u1), some (.int (u2 + 1)), none], [], (v0 L, g))) rfl ?_
      exact hk80 (g, u1, (u2 + 1)) none _
noncomputable def fh_97_80  (x : am_G × Int32 × Int32) : Option (Int32 × am_G) := lo_it (fun k x => fb_97_80 k x.1 x.2.1 x.2.2) nf_F x
set_option maxRecDepth 20000 in
theorem dh_97_80 (L : Nat)   (x : am_G × Int32 × Int32) (w3 : Option Value) (R : Int32 × am_G) : fh_97_80  x = some R → ai_ev ap_P 97 (80, [some (.ref 943), some (.int x.2.1), some (.int x.2.2), w3], [], (v0 L, x.1)) (.inl (ez_i R.1)) (v0 L, R.2) :=
  fun hr => lo_ev (E := fun x R => ∀ (w3 : Option Value), ai_ev ap_P 97 (80, [some (.ref 943), some (.int x.2.1), some (.int x.2.2), w3], [], (v0 L, x.1)) (.inl (ez_i R.1)) (v0 L, R.2)) (fun k hk x R hr => fun w3 => db_97_80 L (fun x w3 R hr => hk x R hr w3) x.1 x.2.1 x.2.2 w3 R hr) nf_F x R hr w3
noncomputable def fj_97_63  (g : am_G) (u1 : Int32) : Option (Int32 × am_G) := if (am_i g 943 106) ≤ 0 then fh_97_80 (g, u1, 0) else lo_p (fm_50 g (am_i g 943 113)) fun g2 => fh_97_80 (g2, u1, 0)
set_option maxRecDepth 20000 in
theorem dj_97_63 (L : Nat)   (g : am_G) (u1 : Int32) (w2 w3 : Option Value) (R : Int32 × am_G) : fj_97_63  g u1 = some R → ai_ev ap_P 97 (63, [some (.ref 943), some (.int u1), w2, w3], [], (v0 L, g)) (.inl (ez_i R.1)) (v0 L, R.2) := by
  unfold fj_97_63
  refine ev_if 2 (p := (am_i g 943 106) ≤ 0) (a := 78) (b := 70) (T := ([some (.ref 943), some (.int u1), none, none], [], (v0 L, g))) rfl ?_ ?_
  · refine ev_jm 1 (t := (80, [some (.ref 943), some (.int u1), some (.int 0), none], [], (v0 L, g))) rfl ?_
    exact dh_97_80 L (g, u1, 0) none _
  · refine ev_ov0 3 (as := [.ref 943, .int (am_i g 943 113)]) (pc := 78) (Lc := [some (.ref 943), some (.int u1), none, none]) (st := []) (V := v0 L) (g1 := g) rfl (dm_50 L g (am_i g 943 113)) (fun g2 => ?_)
    refine ev_jm 1 (t := (80, [some (.ref 943), some (.int u1), some (.int 0), none], [], (v0 L, g2))) rfl ?_
    exact dh_97_80 L (g2, u1, 0) none _
noncomputable def fj_97_33  (g : am_G) (u1 : Int32) : Option (Int32 × am_G) := if (am_i g 943 106) = 0 then if (am_i g 943 44) = 0 then fj_97_63 g u1 else if (am_i g 943 113) = (am_i g 943 45) then fj_97_63 g u1 else lo_p (fm_24 g 1) fun g2 => fj_97_63 g2 u1 else fj_97_63 g u1
set_option maxRecDepth 20000 in
theorem dj_97_33 (L : Nat)   (g : am_G) (u1 : Int32) (w2 w3 : Option Value) (R : Int32 × am_G) : fj_97_33  g u1 = some R → ai_ev ap_P 97 (33, [some (.ref 943), some (.int u1), w2, w3], [], (v0 L, g)) (.inl (ez_i R.1)) (v0 L, R.2) := by
  unfold fj_97_33
  refine ev_in 2 (p := (am_i g 943 106) = 0) (a := 63) (b := 40) (T := ([some (.ref 943), some (.int u1), none, none], [], (v0 L, g))) rfl ?_ ?_
  · refine ev_if 2 (p := (am_i g 943 44) = 0) (a := 63) (b := 47) (T := ([some (.ref 943), some (.int u1), none, none], [], (v0 L, g))) rfl ?_ ?_
    · exact dj_97_63 L g u1 none none _
    · refine ev_if 4 (p := (am_i g 943 113) = (am_i g 943 45)) (a := 63) (b := 58) (T := ([some (.ref 943), some (.int u1), none, none], [], (v0 L, g))) rfl ?_ ?_
      · exact dj_97_63 L g u1 none none _
      · refine ev_ov0 2 (as := [.ref 943, .int 1]) (pc := 63) (Lc := [some (.ref 943), some (.int u1), none, none]) (st := []) (V := v0 L) (g1 := g) rfl (dm_24 L g 1) (fun g2 => ?_)
        exact dj_97_63 L g2 u1 none none _
  · exact dj_97_63 L g u1 none none _
/-- DeclaredMarkupModel.tagged(Z)I -/
noncomputable def fm_97 (g : am_G) (u1 : Int32) : Option (Int32 × am_G) := lo_p (fm_90 g ) fun g2 => if (am_i g2 943 44) = 0 then fj_97_33 (am_si g2 943 112 ((am_i g2 943 112) + 1)) u1 else if (0 : Int32) ≤ (am_i g2 943 115) then fj_97_33 (am_si g2 943 112 ((am_i g2 943 112) + 1)) u1 else lo_p (fm_24 (am_si g2 943 112 ((am_i g2 943 112) + 1)) 3) fun g4 => fj_97_33 g4 u1
set_option maxRecDepth 20000 in
theorem dm_97 (L : Nat) (g : am_G) (u1 : Int32) (R : Int32 × am_G) : fm_97 g u1 = some R → ai_ev ap_P 97 (ai_e0 ap_P 97 [.ref 943, .int u1] (v0 L, g)) (.inl (ez_i R.1)) (v0 L, R.2) := by
  show _ → ai_ev ap_P 97 (0, [some (.ref 943), some (.int u1), none, none], [], (v0 L, g)) _ _
  unfold fm_97
  refine ev_ov0 1 (as := [.ref 943]) (pc := 4) (Lc := [some (.ref 943), some (.int u1), none, none]) (st := []) (V := v0 L) (g1 := g) rfl (dm_90 L g ) (fun g2 => ?_)
  refine ev_if 8 (p := (am_i g2 943 44) = 0) (a := 33) (b := 21) (T := ([some (.ref 943), some (.int u1), none, none], [], (v0 L, (am_si g2 943 112 ((am_i g2 943 112) + 1))))) rfl ?_ ?_
  · exact dj_97_33 L (am_si g2 943 112 ((am_i g2 943 112) + 1)) u1 none none _
  · refine ev_if 2 (p := (0 : Int32) ≤ (am_i g2 943 115)) (a := 33) (b := 28) (T := ([some (.ref 943), some (.int u1), none, none], [], (v0 L, (am_si g2 943 112 ((am_i g2 943 112) + 1))))) rfl ?_ ?_
    · exact dj_97_33 L (am_si g2 943 112 ((am_i g2 943 112) + 1)) u1 none none _
    · refine ev_ov0 2 (as := [.ref 943, .int 3]) (pc := 33) (Lc := [some (.ref 943), some (.int u1), none, none]) (st := []) (V := v0 L) (g1 := (am_si g2 943 112 ((am_i g2 943 112) + 1))) rfl (dm_24 L (am_si g2 943 112 ((am_i g2 943 112) + 1)) 3) (fun g4 => ?_)
      exact dj_97_33 L g4 u1 none none _
/-- DeclaredMarkupModel.openValue(IZ)I -/
noncomputable def fm_84 (g : am_G) (u1 : Int32) (u2 : Int32) : Option (Int32 × am_G) := lo_g ((decide (u2 = 0) || decide (u2 = 1))) (lo_i (fm_25 (am_si (am_si (am_si (am_si g 943 38 u1) 943 125 0) 943 126 u2) 943 127 (am_i g 943 9)) 58) fun y2 g3 => some (y2, g3))
theorem dm_84 (L : Nat) (g : am_G) (u1 : Int32) (u2 : Int32) (R : Int32 × am_G) : fm_84 g u1 u2 = some R → ai_ev ap_P 84 (ai_e0 ap_P 84 [.ref 943, .int u1, .int u2] (v0 L, g)) (.inl (ez_i R.1)) (v0 L, R.2) := by
  show _ → ai_ev ap_P 84 (0, [some (.ref 943), some (.int u1), some (.int u2)], [], (v0 L, g)) _ _
  unfold fm_84
  refine ev_gd (c := (decide (u2 = 0) || decide (u2 = 1))) (fun hc1 => ?_)
  refine ev_pb 8 (d := (decide (u2 = 0) || decide (u2 = 1))) (h2 := (v0 L, (am_si (am_si (am_si g 943 38 u1) 943 125 0) 943 126 u2))) (pc := 15) (Lc := [some (.ref 943), some (.int u1), some (.int u2)]) (st := []) rfl hc1 ?_
  refine ev_oi 6 (as := [.ref 943, .int 58]) (pc := 29) (Lc := [some (.ref 943), some (.int u1), some (.int u2)]) (st := []) (V := v0 L) (g1 := (am_si (am_si (am_si (am_si g 943 38 u1) 943 125 0) 943 126 u2) 943 127 (am_i g 943 9))) (e := ez_i) rfl (dm_25 L (am_si (am_si (am_si (am_si g 943 38 u1) 943 125 0) 943 126 u2) 943 127 (am_i g 943 9)) 58) (fun y2 g3 => ?_)
  exact fun hR => by cases hR; exact ev_rt 0 rfl
/-- DeclaredMarkupModel.setDefault(II)V -/
noncomputable def fm_74 (g : am_G) (u1 : Int32) (u2 : Int32) : Option (am_G) := if (16000 : Int32) ≤ u1 then lo_g (ai_in (u1 - 16000) 16000) (some (am_si g 984 ((u1 - 16000)).toNatClampNeg u2)) else lo_g (ai_in u1 16000) (some (am_si g 983 u1.toNatClampNeg u2))
theorem dm_74 (L : Nat) (g : am_G) (u1 : Int32) (u2 : Int32) (R : am_G) : fm_74 g u1 u2 = some R → ai_ev ap_P 74 (ai_e0 ap_P 74 [.ref 943, .int u1, .int u2] (v0 L, g)) (.inl none) (v0 L, R) := by
  show _ → ai_ev ap_P 74 (0, [some (.ref 943), some (.int u1), some (.int u2)], [], (v0 L, g)) _ _
  unfold fm_74
  refine ev_if 2 (p := (16000 : Int32) ≤ u1) (a := 17) (b := 7) (T := ([some (.ref 943), some (.int u1), some (.int u2)], [], (v0 L, g))) rfl ?_ ?_
  · refine ev_gd (c := ai_in (u1 - 16000) 16000) (fun hc1 => ?_)
    refine ev_jm 6 (t := (28, [some (.ref 943), some (.int u1), some (.int u2)], [], (v0 L, (am_si g 984 ((u1 - 16000)).toNatClampNeg u2)))) (ai_gd (c := ai_in (u1 - 16000) 16000) rfl hc1) ?_
    exact fun hR => by cases hR; exact ev_rt 0 rfl
  · refine ev_gd (c := ai_in u1 16000) (fun hc2 => ?_)
    refine ev_jm 4 (t := (14, [some (.ref 943), some (.int u1), some (.int u2)], [], (v0 L, (am_si g 983 u1.toNatClampNeg u2)))) (ai_gd (c := ai_in u1 16000) rfl hc2) ?_
    exact fun hR => by cases hR; exact ev_rt 1 rfl
noncomputable def fj_76_90 (k48 : (am_G × Int32 × Int32) → Option (Int32 × am_G)) (g : am_G) (u1 : Int32) (u2 : Int32) : Option (Int32 × am_G) := lo_g (ai_in u2 80) (if (am_i g 974 u2.toNatClampNeg) = (am_i g 943 72) then if (am_i g 976 u2.toNatClampNeg) = 8 then if (am_i g 943 89) = 8 then lo_p (fm_24 g 18) fun g3 => k48 (g3, u1, (u2 + 1)) else k48 (g, u1, (u2 + 1)) else k48 (g, u1, (u2 + 1)) else k48 (g, u1, (u2 + 1)))
set_option maxRecDepth 20000 in
theorem dj_76_90 (L : Nat) {k48 : (am_G × Int32 × Int32) → Option (Int32 × am_G)} (hk48 : ∀ (x : am_G × Int32 × Int32) (R : Int32 × am_G), k48 x = some R → ai_ev ap_P 76 (48, [some (.ref 943), some (.int x.2.1), some (.int x.2.2)], [], (v0 L, x.1)) (.inl (ez_i R.1)) (v0 L, R.2)) (g : am_G) (u1 : Int32) (u2 : Int32) (R : Int32 × am_G) : fj_76_90 k48 g u1 u2 = some R → ai_ev ap_P 76 (90, [some (.ref 943), some (.int u1), some (.int u2)], [], (v0 L, g)) (.inl (ez_i R.1)) (v0 L, R.2) := by
  unfold fj_76_90
  refine ev_gd (c := ai_in u2 80) (fun hc1 => ?_)
  refine ev_jm 3 (t := (96, [some (.ref 943), some (.int u1), some (.int u2)], [.int (am_i g 974 u2.toNatClampNeg)], (v0 L, g))) (ai_gd (c := ai_in u2 80) rfl hc1) ?_
  refine ev_in 2 (p := (am_i g 974 u2.toNatClampNeg) = (am_i g 943 72)) (a := 129) (b := 103) (T := ([some (.ref 943), some (.int u1), some (.int u2)], [], (v0 L, g))) rfl ?_ ?_
  · refine ev_jm 3 (t := (109, [some (.ref 943), some (.int u1), some (.int u2)], [.int (am_i g 976 u2.toNatClampNeg)], (v0 L, g))) (ai_gd (c := ai_in u2 80) rfl hc1) ?_
    refine ev_in 1 (p := (am_i g 976 u2.toNatClampNeg) = 8) (a := 129) (b := 114) (T := ([some (.ref 943), some (.int u1), some (.int u2)], [], (v0 L, g))) rfl ?_ ?_
    · refine ev_in 3 (p := (am_i g 943 89) = 8) (a := 129) (b := 123) (T := ([some (.ref 943), some (.int u1), some (.int u2)], [], (v0 L, g))) rfl ?_ ?_
      · refine ev_ov0 2 (as := [.ref 943, .int 18]) (pc := 129) (Lc := [some (.ref 943), some (.int u1), some (.int u2)]) (st := []) (V := v0 L) (g1 := g) rfl (dm_24 L g 18) (fun g3 => ?_)
        refine ev_jm 1 (t := (48, [some (.ref 943), some (.int u1), some (.int (u2 + 1))], [], (v0 L, g3))) rfl ?_
        exact hk48 (g3, u1, (u2 + 1)) _
      · refine ev_jm 1 (t := (48, [some (.ref 943), some (.int u1), some (.int (u2 + 1))], [], (v0 L, g))) rfl ?_
        exact hk48 (g, u1, (u2 + 1)) _
    · refine ev_jm 1 (t := (48, [some (.ref 943), some (.int u1), some (.int (u2 + 1))], [], (v0 L, g))) rfl ?_
      exact hk48 (g, u1, (u2 + 1)) _
  · refine ev_jm 1 (t := (48, [some (.ref 943), some (.int u1), some (.int (u2 + 1))], [], (v0 L, g))) rfl ?_
    exact hk48 (g, u1, (u2 + 1)) _
noncomputable def fj_76_318  (g : am_G) : Option (Int32 × am_G) := lo_i (fm_25 g 119) fun y1 g2 => some (y1, g2)
set_option maxRecDepth 20000 in
theorem dj_76_318 (L : Nat)   (g : am_G) (w1 w2 : Option Value) (R : Int32 × am_G) : fj_76_318  g = some R → ai_ev ap_P 76 (318, [some (.ref 943), w1, w2], [], (v0 L, g)) (.inl (ez_i R.1)) (v0 L, R.2) := by
  unfold fj_76_318
  refine ev_oi 2 (as := [.ref 943, .int 119]) (pc := 324) (Lc := [some (.ref 943), none, none]) (st := []) (V := v0 L) (g1 := g) (e := ez_i) rfl (dm_25 L g 119) (fun y1 g2 => ?_)
  exact fun hR => by cases hR; exact ev_rt 0 rfl
noncomputable def fb_76_265 (k265 : (am_G × Int32 × Int32) → Option (Int32 × am_G)) (g : am_G) (u1 : Int32) (u2 : Int32) : Option (Int32 × am_G) := if (am_i g 943 125) ≤ u2 then lo_g (ai_in u1 80) (fj_76_318 (am_si (am_si g 979 u1.toNatClampNeg (am_i g 943 125)) 943 94 ((am_i g 943 94) + (am_i g 943 125)))) else lo_g (ai_in u2 400) (lo_p (fm_74 g ((am_i g 943 94) + u2) (am_i g 1001 u2.toNatClampNeg)) fun g4 => k265 (g4, u1, (u2 + 1)))
set_option maxRecDepth 20000 in
theorem db_76_265 (L : Nat) {k265 : (am_G × Int32 × Int32) → Option (Int32 × am_G)} (hk265 : ∀ (x : am_G × Int32 × Int32) (R : Int32 × am_G), k265 x = some R → ai_ev ap_P 76 (265, [some (.ref 943), some (.int x.2.1), some (.int x.2.2)], [], (v0 L, x.1)) (.inl (ez_i R.1)) (v0 L, R.2)) (g : am_G) (u1 : Int32) (u2 : Int32) (R : Int32 × am_G) : fb_76_265 k265 g u1 u2 = some R → ai_ev ap_P 76 (265, [some (.ref 943), some (.int u1), some (.int u2)], [], (v0 L, g)) (.inl (ez_i R.1)) (v0 L, R.2) := by
  unfold fb_76_265
  refine ev_if 3 (p := (am_i g 943 125) ≤ u2) (a := 295) (b := 273) (T := ([some (.ref 943), some (.int u1), some (.int u2)], [], (v0 L, g))) rfl ?_ ?_
  · refine ev_gd (c := ai_in u1 80) (fun hc1 => ?_)
    refine ev_jm 5 (t := (305, [some (.ref 943), some (.int u1), some (.int u2)], [], (v0 L, (am_si g 979 u1.toNatClampNeg (am_i g 943 125))))) (ai_gd (c := ai_in u1 80) rfl hc1) ?_
    refine ev_jm 6 (t := (318, [some (.ref 943), some (.int u1), some (.int u2)], [], (v0 L, (am_si (am_si g 979 u1.toNatClampNeg (am_i g 943 125)) 943 94 ((am_i g 943 94) + (am_i g 943 125)))))) rfl ?_
    exact dj_76_318 L (am_si (am_si g 979 u1.toNatClampNeg (am_i g 943 125)) 943 94 ((am_i g 943 94) + (am_i g 943 125))) (some (.int u1)) (some (.int u2)) _
  · refine ev_gd (c := ai_in u2 400) (fun hc2 => ?_)
    refine ev_jm 8 (t := (286, [some (.ref 943), some (.int u1), some (.int u2)], [.int (am_i g 1001 u2.toNatClampNeg), .int ((am_i g 943 94) + u2), .ref 943], (v0 L, g))) (ai_gd (c := ai_in u2 400) rfl hc2) ?_
    refine ev_ov0 0 (as := [.ref 943, .int ((am_i g 943 94) + u2), .int (am_i g 1001 u2.toNatClampNeg)]) (pc := 289) (Lc := [some (.ref 943), some (.int u1), some (.int u2)]) (st := []) (V := v0 L) (g1 := g) rfl (dm_74 L g ((am_i g 943 94) + u2) (am_i g 1001 u2.toNatClampNeg)) (fun g4 => ?_)
    refine ev_jm 1 (t := (265, [some (.ref 943), some (.int u1), some (.int (u2 + 1))], [], (v0 L, g4))) rfl ?_
    exact hk265 (g4, u1, (u2 + 1)) _
noncomputable def fh_76_265  (x : am_G × Int32 × Int32) : Option (Int32 × am_G) := lo_it (fun k x => fb_76_265 k x.1 x.2.1 x.2.2) nf_F x
set_option maxRecDepth 20000 in
theorem dh_76_265 (L : Nat)   (x : am_G × Int32 × Int32) (R : Int32 × am_G) : fh_76_265  x = some R → ai_ev ap_P 76 (265, [some (.ref 943), some (.int x.2.1), some (.int x.2.2)], [], (v0 L, x.1)) (.inl (ez_i R.1)) (v0 L, R.2) :=
  fun hr => lo_ev (E := fun x R => ai_ev ap_P 76 (265, [some (.ref 943), some (.int x.2.1), some (.int x.2.2)], [], (v0 L, x.1)) (.inl (ez_i R.1)) (v0 L, R.2)) (fun k hk x R hr => db_76_265 L hk x.1 x.2.1 x.2.2  R hr) nf_F x R hr
noncomputable def fj_76_249  (g : am_G) (u1 : Int32) : Option (Int32 × am_G) := lo_p (fm_81 g u1) fun y1 => if y1 = 0 then lo_p (fm_24 g 22) fun g4 => fh_76_265 (g4, u1, 0) else fh_76_265 (g, u1, 0)
set_option maxRecDepth 20000 in
theorem dj_76_249 (L : Nat)   (g : am_G) (u1 : Int32) (w2 : Option Value) (R : Int32 × am_G) : fj_76_249  g u1 = some R → ai_ev ap_P 76 (249, [some (.ref 943), some (.int u1), w2], [], (v0 L, g)) (.inl (ez_i R.1)) (v0 L, R.2) := by
  unfold fj_76_249
  refine ev_op 2 (as := [.ref 943, .int u1]) (pc := 254) (Lc := [some (.ref 943), some (.int u1), none]) (st := []) (h1 := (v0 L, g)) (e := ez_i) rfl (dm_81 L g u1) (fun y1 => ?_)
  refine ev_in 0 (p := y1 = 0) (a := 263) (b := 257) (T := ([some (.ref 943), some (.int u1), none], [], (v0 L, g))) rfl ?_ ?_
  · refine ev_ov0 2 (as := [.ref 943, .int 22]) (pc := 263) (Lc := [some (.ref 943), some (.int u1), none]) (st := []) (V := v0 L) (g1 := g) rfl (dm_24 L g 22) (fun g4 => ?_)
    refine ev_jm 1 (t := (265, [some (.ref 943), some (.int u1), some (.int 0)], [], (v0 L, g4))) rfl ?_
    exact dh_76_265 L (g4, u1, 0) _
  · refine ev_jm 1 (t := (265, [some (.ref 943), some (.int u1), some (.int 0)], [], (v0 L, g))) rfl ?_
    exact dh_76_265 L (g, u1, 0) _
noncomputable def fb_76_48 (k48 : (am_G × Int32 × Int32) → Option (Int32 × am_G)) (g : am_G) (u1 : Int32) (u2 : Int32) : Option (Int32 × am_G) := if u1 ≤ u2 then lo_g (ai_in u1 80) (if (am_i g 943 90) ≤ 1 then fj_76_318 (am_si (am_si (am_si (am_si (am_si (am_si (am_si (am_si (am_si g 974 u1.toNatClampNeg (am_i g 943 72)) 975 u1.toNatClampNeg (am_i g 943 91)) 976 u1.toNatClampNeg (am_i g 943 89)) 977 u1.toNatClampNeg (am_i g 943 90)) 980 u1.toNatClampNeg (am_i g 943 88)) 981 u1.toNatClampNeg ((am_i g 943 86) - (am_i g 943 88))) 978 u1.toNatClampNeg (am_i g 943 94)) 979 u1.toNatClampNeg 0) 943 77 ((am_i g 943 77) + 1)) else if (am_i g 943 89) = 1 then lo_p (fm_24 (am_si (am_si (am_si (am_si (am_si (am_si (am_si (am_si (am_si g 974 u1.toNatClampNeg (am_i g 943 72)) 975 u1.toNatClampNeg (am_i g 943 91)) 976 u1.toNatClampNeg (am_i g 943 89)) 977 u1.toNatClampNeg (am_i g 943 90)) 980 u1.toNatClampNeg (am_i g 943 88)) 981 u1.toNatClampNeg ((am_i g 943 86) - (am_i g 943 88))) 978 u1.toNatClampNeg (am_i g 943 94)) 979 u1.toNatClampNeg 0) 943 77 ((am_i g 943 77) + 1)) 13) fun g3 => fj_76_249 g3 u1 else fj_76_249 (am_si (am_si (am_si (am_si (am_si (am_si (am_si (am_si (am_si g 974 u1.toNatClampNeg (am_i g 943 72)) 975 u1.toNatClampNeg (am_i g 943 91)) 976 u1.toNatClampNeg (am_i g 943 89)) 977 u1.toNatClampNeg (am_i g 943 90)) 980 u1.toNatClampNeg (am_i g 943 88)) 981 u1.toNatClampNeg ((am_i g 943 86) - (am_i g 943 88))) 978 u1.toNatClampNeg (am_i g 943 94)) 979 u1.toNatClampNeg 0) 943 77 ((am_i g 943 77) + 1)) u1) else lo_g (ai_in u2 80) (if (am_i g 974 u2.toNatClampNeg) = (am_i g 943 72) then if (am_i g 976 u2.toNatClampNeg) = 1 then if (am_i g 943 89) = 1 then lo_p (fm_24 g 12) fun g6 => fj_76_90 k48 g6 u1 u2 else fj_76_90 k48 g u1 u2 else fj_76_90 k48 g u1 u2 else fj_76_90 k48 g u1 u2)
set_option maxRecDepth 20000 in
theorem db_76_48 (L : Nat) {k48 : (am_G × Int32 × Int32) → Option (Int32 × am_G)} (hk48 : ∀ (x : am_G × Int32 × Int32) (R : Int32 × am_G), k48 x = some R → ai_ev ap_P 76 (48, [some (.ref 943), some (.int x.2.1), some (.int x.2.2)], [], (v0 L, x.1)) (.inl (ez_i R.1)) (v0 L, R.2)) (g : am_G) (u1 : Int32) (u2 : Int32) (R : Int32 × am_G) : fb_76_48 k48 g u1 u2 = some R → ai_ev ap_P 76 (48, [some (.ref 943), some (.int u1), some (.int u2)], [], (v0 L, g)) (.inl (ez_i R.1)) (v0 L, R.2) := by
  unfold fb_76_48
  refine ev_if 2 (p := u1 ≤ u2) (a := 135) (b := 53) (T := ([some (.ref 943), some (.int u1), some (.int u2)], [], (v0 L, g))) rfl ?_ ?_
  · refine ev_gd (c := ai_in u1 80) (fun hc1 => ?_)
    refine ev_jm 5 (t := (145, [some (.ref 943), some (.int u1), some (.int u2)], [], (v0 L, (am_si g 974 u1.toNatClampNeg (am_i g 943 72))))) (ai_gd (c := ai_in u1 80) rfl hc1) ?_
    refine ev_jm 5 (t := (155, [some (.ref 943), some (.int u1), some (.int u2)], [], (v0 L, (am_si (am_si g 974 u1.toNatClampNeg (am_i g 943 72)) 975 u1.toNatClampNeg (am_i g 943 91))))) (ai_gd (c := ai_in u1 80) rfl hc1) ?_
    refine ev_jm 5 (t := (165, [some (.ref 943), some (.int u1), some (.int u2)], [], (v0 L, (am_si (am_si (am_si g 974 u1.toNatClampNeg (am_i g 943 72)) 975 u1.toNatClampNeg (am_i g 943 91)) 976 u1.toNatClampNeg (am_i g 943 89))))) (ai_gd (c := ai_in u1 80) rfl hc1) ?_
    refine ev_jm 5 (t := (175, [some (.ref 943), some (.int u1), some (.int u2)], [], (v0 L, (am_si (am_si (am_si (am_si g 974 u1.toNatClampNeg (am_i g 943 72)) 975 u1.toNatClampNeg (am_i g 943 91)) 976 u1.toNatClampNeg (am_i g 943 89)) 977 u1.toNatClampNeg (am_i g 943 90))))) (ai_gd (c := ai_in u1 80) rfl hc1) ?_
    refine ev_jm 5 (t := (185, [some (.ref 943), some (.int u1), some (.int u2)], [], (v0 L, (am_si (am_si (am_si (am_si (am_si g 974 u1.toNatClampNeg (am_i g 943 72)) 975 u1.toNatClampNeg (am_i g 943 91)) 976 u1.toNatClampNeg (am_i g 943 89)) 977 u1.toNatClampNeg (am_i g 943 90)) 980 u1.toNatClampNeg (am_i g 943 88))))) (ai_gd (c := ai_in u1 80) rfl hc1) ?_
    refine ev_jm 8 (t := (200, [some (.ref 943), some (.int u1), some (.int u2)], [], (v0 L, (am_si (am_si (am_si (am_si (am_si (am_si g 974 u1.toNatClampNeg (am_i g 943 72)) 975 u1.toNatClampNeg (am_i g 943 91)) 976 u1.toNatClampNeg (am_i g 943 89)) 977 u1.toNatClampNeg (am_i g 943 90)) 980 u1.toNatClampNeg (am_i g 943 88)) 981 u1.toNatClampNeg ((am_i g 943 86) - (am_i g 943 88)))))) (ai_gd (c := ai_in u1 80) rfl hc1) ?_
    refine ev_jm 5 (t := (210, [some (.ref 943), some (.int u1), some (.int u2)], [], (v0 L, (am_si (am_si (am_si (am_si (am_si (am_si (am_si g 974 u1.toNatClampNeg (am_i g 943 72)) 975 u1.toNatClampNeg (am_i g 943 91)) 976 u1.toNatClampNeg (am_i g 943 89)) 977 u1.toNatClampNeg (am_i g 943 90)) 980 u1.toNatClampNeg (am_i g 943 88)) 981 u1.toNatClampNeg ((am_i g 943 86) - (am_i g 943 88))) 978 u1.toNatClampNeg (am_i g 943 94))))) (ai_gd (c := ai_in u1 80) rfl hc1) ?_
    refine ev_jm 4 (t := (217, [some (.ref 943), some (.int u1), some (.int u2)], [], (v0 L, (am_si (am_si (am_si (am_si (am_si (am_si (am_si (am_si g 974 u1.toNatClampNeg (am_i g 943 72)) 975 u1.toNatClampNeg (am_i g 943 91)) 976 u1.toNatClampNeg (am_i g 943 89)) 977 u1.toNatClampNeg (am_i g 943 90)) 980 u1.toNatClampNeg (am_i g 943 88)) 981 u1.toNatClampNeg ((am_i g 943 86) - (am_i g 943 88))) 978 u1.toNatClampNeg (am_i g 943 94)) 979 u1.toNatClampNeg 0)))) (ai_gd (c := ai_in u1 80) rfl hc1) ?_
    refine ev_if 9 (p := (am_i g 943 90) ≤ 1) (a := 318) (b := 235) (T := ([some (.ref 943), some (.int u1), some (.int u2)], [], (v0 L, (am_si (am_si (am_si (am_si (am_si (am_si (am_si (am_si (am_si g 974 u1.toNatClampNeg (am_i g 943 72)) 975 u1.toNatClampNeg (am_i g 943 91)) 976 u1.toNatClampNeg (am_i g 943 89)) 977 u1.toNatClampNeg (am_i g 943 90)) 980 u1.toNatClampNeg (am_i g 943 88)) 981 u1.toNatClampNeg ((am_i g 943 86) - (am_i g 943 88))) 978 u1.toNatClampNeg (am_i g 943 94)) 979 u1.toNatClampNeg 0) 943 77 ((am_i g 943 77) + 1))))) rfl ?_ ?_
    · exact dj_76_318 L (am_si (am_si (am_si (am_si (am_si (am_si (am_si (am_si (am_si g 974 u1.toNatClampNeg (am_i g 943 72)) 975 u1.toNatClampNeg (am_i g 943 91)) 976 u1.toNatClampNeg (am_i g 943 89)) 977 u1.toNatClampNeg (am_i g 943 90)) 980 u1.toNatClampNeg (am_i g 943 88)) 981 u1.toNatClampNeg ((am_i g 943 86) - (am_i g 943 88))) 978 u1.toNatClampNeg (am_i g 943 94)) 979 u1.toNatClampNeg 0) 943 77 ((am_i g 943 77) + 1)) (some (.int u1)) (some (.int u2)) _
    · refine ev_in 3 (p := (am_i g 943 89) = 1) (a := 249) (b := 243) (T := ([some (.ref 943), some (.int u1), some (.int u2)], [], (v0 L, (am_si (am_si (am_si (am_si (am_si (am_si (am_si (am_si (am_si g 974 u1.toNatClampNeg (am_i g 943 72)) 975 u1.toNatClampNeg (am_i g 943 91)) 976 u1.toNatClampNeg (am_i g 943 89)) 977 u1.toNatClampNeg (am_i g 943 90)) 980 u1.toNatClampNeg (am_i g 943 88)) 981 u1.toNatClampNeg ((am_i g 943 86) - (am_i g 943 88))) 978 u1.toNatClampNeg (am_i g 943 94)) 979 u1.toNatClampNeg 0) 943 77 ((am_i g 943 77) + 1))))) rfl ?_ ?_
      · refine ev_ov0 2 (as := [.ref 943, .int 13]) (pc := 249) (Lc := [some (.ref 943), some (.int u1), some (.int u2)]) (st := []) (V := v0 L) (g1 := (am_si (am_si (am_si (am_si (am_si (am_si (am_si (am_si (am_si g 974 u1.toNatClampNeg (am_i g 943 72)) 975 u1.toNatClampNeg (am_i g 943 91)) 976 u1.toNatClampNeg (am_i g 943 89)) 977 u1.toNatClampNeg (am_i g 943 90)) 980 u1.toNatClampNeg (am_i g 943 88)) 981 u1.toNatClampNeg ((am_i g 943 86) - (am_i g 943 88))) 978 u1.toNatClampNeg (am_i g 943 94)) 979 u1.toNatClampNeg 0) 943 77 ((am_i g 943 77) + 1))) rfl (dm_24 L (am_si (am_si (am_si (am_si (am_si (am_si (am_si (am_si (am_si g 974 u1.toNatClampNeg (am_i g 943 72)) 975 u1.toNatClampNeg (am_i g 943 91)) 976 u1.toNatClampNeg (am_i g 943 89)) 977 u1.toNatClampNeg (am_i g 943 90)) 980 u1.toNatClampNeg (am_i g 943 88)) 981 u1.toNatClampNeg ((am_i g 943 86) - (am_i g 943 88))) 978 u1.toNatClampNeg (am_i g 943 94)) 979 u1.toNatClampNeg 0) 943 77 ((am_i g 943 77) + 1)) 13) (fun g3 => ?_)
        exact dj_76_249 L g3 u1 (some (.int u2)) _
      · exact dj_76_249 L (am_si (am_si (am_si (am_si (am_si (am_si (am_si (am_si (am_si g 974 u1.toNatClampNeg (am_i g 943 72)) 975 u1.toNatClampNeg (am_i g 943 91)) 976 u1.toNatClampNeg (am_i g 943 89)) 977 u1.toNatClampNeg (am_i g 943 90)) 980 u1.toNatClampNeg (am_i g 943 88)) 981 u1.toNatClampNeg ((am_i g 943 86) - (am_i g 943 88))) 978 u1.toNatClampNeg (am_i g 943 94)) 979 u1.toNatClampNeg 0) 943 77 ((am_i g 943 77) + 1)) u1 (some (.int u2)) _
  · refine ev_gd (c := ai_in u2 80) (fun hc4 => ?_)
    refine ev_jm 3 (t := (59, [some (.ref 943), some (.int u1), some (.int u2)], [.int (am_i g 974 u2.toNatClampNeg)], (v0 L, g))) (ai_gd (c := ai_in u2 80) rfl hc4) ?_
    refine ev_in 2 (p := (am_i g 974 u2.toNatClampNeg) = (am_i g 943 72)) (a := 90) (b := 66) (T := ([some (.ref 943), some (.int u1), some (.int u2)], [], (v0 L, g))) rfl ?_ ?_
    · refine ev_jm 3 (t := (72, [some (.ref 943), some (.int u1), some (.int u2)], [.int (am_i g 976 u2.toNatClampNeg)], (v0 L, g))) (ai_gd (c := ai_in u2 80) rfl hc4) ?_
      refine ev_in 1 (p := (am_i g 976 u2.toNatClampNeg) = 1) (a := 90) (b := 76) (T := ([some (.ref 943), some (.int u1), some (.int u2)], [], (v0 L, g))) rfl ?_ ?_
      · refine ev_in 3 (p := (am_i g 943 89) = 1) (a := 90) (b := 84) (T := ([some (.ref 943), some (.int u1), some (.int u2)], [], (v0 L, g))) rfl ?_ ?_
        · refine ev_ov0 2 (as := [.ref 943, .int 12]) (pc := 90) (Lc := [some (.ref 943), some (.int u1), some (.int u2)]) (st := []) (V := v0 L) (g1 := g) rfl (dm_24 L g 12) (fun g6 => ?_)
          exact dj_76_90 L hk48 g6 u1 u2 _
        · exact dj_76_90 L hk48 g u1 u2 _
      · exact dj_76_90 L hk48 g u1 u2 _
    · exact dj_76_90 L hk48 g u1 u2 _
noncomputable def fh_76_48  (x : am_G × Int32 × Int32) : Option (Int32 × am_G) := lo_it (fun k x => fb_76_48 k x.1 x.2.1 x.2.2) nf_F x
set_option maxRecDepth 20000 in
theorem dh_76_48 (L : Nat)   (x : am_G × Int32 × Int32) (R : Int32 × am_G) : fh_76_48  x = some R → ai_ev ap_P 76 (48, [some (.ref 943), some (.int x.2.1), some (.int x.2.2)], [], (v0 L, x.1)) (.inl (ez_i R.1)) (v0 L, R.2) :=
  fun hr => lo_ev (E := fun x R => ai_ev ap_P 76 (48, [some (.ref 943), some (.int x.2.1), some (.int x.2.2)], [], (v0 L, x.1)) (.inl (ez_i R.1)) (v0 L, R.2)) (fun k hk x R hr => db_76_48 L hk x.1 x.2.1 x.2.2  R hr) nf_F x R hr
/-- DeclaredMarkupModel.attributed()I -/
noncomputable def fm_76 (g : am_G)  : Option (Int32 × am_G) := if (am_i g 943 71) = 0 then if (am_i g 943 89) ≤ 0 then lo_l (am_i g 943 77) fun x1 => fh_76_48 (g, x1, 0) else if (am_i g 943 90) ≤ 1 then lo_l (am_i g 943 77) fun x2 => fh_76_48 (g, x2, 0) else lo_p (fm_77 g ) fun g4 => lo_l (am_i g4 943 77) fun x5 => fh_76_48 (g4, x5, 0) else lo_i (fm_25 (am_si g 943 86 (am_i g 943 88)) 119) fun y6 g7 => some (y6, g7)
set_option maxRecDepth 20000 in
theorem dm_76 (L : Nat) (g : am_G)  (R : Int32 × am_G) : fm_76 g  = some R → ai_ev ap_P 76 (ai_e0 ap_P 76 [.ref 943] (v0 L, g)) (.inl (ez_i R.1)) (v0 L, R.2) := by
  show _ → ai_ev ap_P 76 (0, [some (.ref 943), none, none], [], (v0 L, g)) _ _
  unfold fm_76
  refine ev_if 2 (p := (am_i g 943 71) = 0) (a := 22) (b := 7) (T := ([some (.ref 943), none, none], [], (v0 L, g))) rfl ?_ ?_
  · refine ev_if 2 (p := (am_i g 943 89) ≤ 0) (a := 41) (b := 29) (T := ([some (.ref 943), none, none], [], (v0 L, g))) rfl ?_ ?_
    · refine ev_jm 1 (t := (45, [some (.ref 943), none, none], [.int (am_i g 943 77)], (v0 L, g))) rfl ?_
      refine lo_e (S := fun (x1 : Int32) => (45, [some (.ref 943), none, none], [.int x1], (v0 L, g))) (fun x1 => ?_)
      refine ev_jm 2 (t := (48, [some (.ref 943), some (.int x1), some (.int 0)], [], (v0 L, g))) rfl ?_
      exact dh_76_48 L (g, x1, 0) _
    · refine ev_if 3 (p := (am_i g 943 90) ≤ 1) (a := 41) (b := 37) (T := ([some (.ref 943), none, none], [], (v0 L, g))) rfl ?_ ?_
      · refine ev_jm 1 (t := (45, [some (.ref 943), none, none], [.int (am_i g 943 77)], (v0 L, g))) rfl ?_
        refine lo_e (S := fun (x2 : Int32) => (45, [some (.ref 943), none, none], [.int x2], (v0 L, g))) (fun x2 => ?_)
        refine ev_jm 2 (t := (48, [some (.ref 943), some (.int x2), some (.int 0)], [], (v0 L, g))) rfl ?_
        exact dh_76_48 L (g, x2, 0) _
      · refine ev_ov0 1 (as := [.ref 943]) (pc := 41) (Lc := [some (.ref 943), none, none]) (st := []) (V := v0 L) (g1 := g) rfl (dm_77 L g ) (fun g4 => ?_)
        refine ev_jm 1 (t := (45, [some (.ref 943), none, none], [.int (am_i g4 943 77)], (v0 L, g4))) rfl ?_
        refine lo_e (S := fun (x5 : Int32) => (45, [some (.ref 943), none, none], [.int x5], (v0 L, g4))) (fun x5 => ?_)
        refine ev_jm 2 (t := (48, [some (.ref 943), some (.int x5), some (.int 0)], [], (v0 L, g4))) rfl ?_
        exact dh_76_48 L (g4, x5, 0) _
  · refine ev_oi 6 (as := [.ref 943, .int 119]) (pc := 21) (Lc := [some (.ref 943), none, none]) (st := []) (V := v0 L) (g1 := (am_si g 943 86 (am_i g 943 88))) (e := ez_i) rfl (dm_25 L (am_si g 943 86 (am_i g 943 88)) 119) (fun y6 g7 => ?_)
    exact fun hR => by cases hR; exact ev_rt 0 rfl
noncomputable def fb_85_41 (k41 : (am_G × Int32) → Option (Int32 × am_G)) (g : am_G) (u2 : Int32) : Option (Int32 × am_G) := if (am_i g 943 125) ≤ u2 then lo_i (fm_25 (am_si g 943 123 ((am_i g 943 123) + (am_i g 943 125))) 59) fun y1 g2 => some (y1, g2) else lo_g (ai_in u2 400) (lo_g (ai_in ((am_i g 943 123) + u2) 9600) (k41 ((am_si g 1000 (((am_i g 943 123) + u2)).toNatClampNeg (am_i g 1001 u2.toNatClampNeg)), (u2 + 1))))
theorem db_85_41 (L : Nat) {k41 : (am_G × Int32) → Option (Int32 × am_G)} (hk41 : ∀ (x : am_G × Int32) (w1 : Option Value) (R : Int32 × am_G), k41 x = some R → ai_ev ap_P 85 (41, [some (.ref 943), w1, some (.int x.2)], [], (v0 L, x.1)) (.inl (ez_i R.1)) (v0 L, R.2)) (g : am_G) (u2 : Int32) (w1 : Option Value) (R : Int32 × am_G) : fb_85_41 k41 g u2 = some R → ai_ev ap_P 85 (41, [some (.ref 943), w1, some (.int u2)], [], (v0 L, g)) (.inl (ez_i R.1)) (v0 L, R.2) := by
  unfold fb_85_41
  refine ev_if 3 (p := (am_i g 943 125) ≤ u2) (a := 72) (b := 49) (T := ([some (.ref 943), none, some (.int u2)], [], (v0 L, g))) rfl ?_ ?_
  · refine ev_oi 9 (as := [.ref 943, .int 59]) (pc := 91) (Lc := [some (.ref 943), none, some (.int u2)]) (st := []) (V := v0 L) (g1 := (am_si g 943 123 ((am_i g 943 123) + (am_i g 943 125)))) (e := ez_i) rfl (dm_25 L (am_si g 943 123 ((am_i g 943 123) + (am_i g 943 125))) 59) (fun y1 g2 => ?_)
    exact fun hR => by cases hR; exact ev_rt 0 rfl
  · refine ev_gd (c := ai_in u2 400) (fun hc3 => ?_)
    refine ev_jm 9 (t := (65, [some (.ref 943), none, some (.int u2)], [.int (am_i g 1001 u2.toNatClampNeg), .int ((am_i g 943 123) + u2), .ref 1000], (v0 L, g))) (ai_gd (c := ai_in u2 400) rfl hc3) ?_
    refine ev_gd (c := ai_in ((am_i g 943 123) + u2) 9600) (fun hc4 => ?_)
    refine ev_jm 0 (t := (66, [some (.ref 943), none, some (.int u2)], [], (v0 L, (am_si g 1000 (((am_i g 943 123) + u2)).toNatClampNeg (am_i g 1001 u2.toNatClampNeg))))) (ai_gd (c := ai_in ((am_i g 943 123) + u2) 9600) rfl hc4) ?_
    refine ev_jm 1 (t := (41, [some (.ref 943), none, some (.int (u2 + 1))], [], (v0 L, (am_si g 1000 (((am_i g 943 123) + u2)).toNatClampNeg (am_i g 1001 u2.toNatClampNeg))))) rfl ?_
    exact hk41 ((am_si g 1000 (((am_i g 943 123) + u2)).toNatClampNeg (am_i g 1001 u2.toNatClampNeg)), (u2 + 1)) none _
noncomputable def fh_85_41  (x : am_G × Int32) : Option (Int32 × am_G) := lo_it (fun k x => fb_85_41 k x.1 x.2) nf_F x
theorem dh_85_41 (L : Nat)   (x : am_G × Int32) (w1 : Option Value) (R : Int32 × am_G) : fh_85_41  x = some R → ai_ev ap_P 85 (41, [some (.ref 943), w1, some (.int x.2)], [], (v0 L, x.1)) (.inl (ez_i R.1)) (v0 L, R.2) :=
  fun hr => lo_ev (E := fun x R => ∀ (w1 : Option Value), ai_ev ap_P 85 (41, [some (.ref 943), w1, some (.int x.2)], [], (v0 L, x.1)) (.inl (ez_i R.1)) (v0 L, R.2)) (fun k hk x R hr => fun w1 => db_85_41 L (fun x w1 R hr => hk x R hr w1) x.1 x.2 w1 R hr) nf_F x R hr w1
/-- DeclaredMarkupModel.valued()I -/
noncomputable def fm_85 (g : am_G)  : Option (Int32 × am_G) := if (am_i g 943 126) = 0 then lo_l ((am_i g 943 116) - 1) fun x1 => lo_g (ai_in x1 24) (fh_85_41 ((am_si (am_si g 997 x1.toNatClampNeg (am_i g 943 123)) 998 x1.toNatClampNeg (am_i g 943 125)), 0)) else lo_i (fm_76 g ) fun y3 g4 => some (y3, g4)
theorem dm_85 (L : Nat) (g : am_G)  (R : Int32 × am_G) : fm_85 g  = some R → ai_ev ap_P 85 (ai_e0 ap_P 85 [.ref 943] (v0 L, g)) (.inl (ez_i R.1)) (v0 L, R.2) := by
  show _ → ai_ev ap_P 85 (0, [some (.ref 943), none, none], [], (v0 L, g)) _ _
  unfold fm_85
  refine ev_if 2 (p := (am_i g 943 126) = 0) (a := 12) (b := 7) (T := ([some (.ref 943), none, none], [], (v0 L, g))) rfl ?_ ?_
  · refine ev_jm 3 (t := (18, [some (.ref 943), none, none], [.int ((am_i g 943 116) - 1)], (v0 L, g))) rfl ?_
    refine lo_e (S := fun (x1 : Int32) => (18, [some (.ref 943), none, none], [.int x1], (v0 L, g))) (fun x1 => ?_)
    refine ev_gd (c := ai_in x1 24) (fun hc2 => ?_)
    refine ev_jm 6 (t := (29, [some (.ref 943), some (.int x1), none], [], (v0 L, (am_si g 997 x1.toNatClampNeg (am_i g 943 123))))) (ai_gd (c := ai_in x1 24) rfl hc2) ?_
    refine ev_jm 5 (t := (39, [some (.ref 943), some (.int x1), none], [], (v0 L, (am_si (am_si g 997 x1.toNatClampNeg (am_i g 943 123)) 998 x1.toNatClampNeg (am_i g 943 125))))) (ai_gd (c := ai_in x1 24) rfl hc2) ?_
    refine ev_jm 1 (t := (41, [some (.ref 943), some (.int x1), some (.int 0)], [], (v0 L, (am_si (am_si g 997 x1.toNatClampNeg (am_i g 943 123)) 998 x1.toNatClampNeg (am_i g 943 125))))) rfl ?_
    exact dh_85_41 L ((am_si (am_si g 997 x1.toNatClampNeg (am_i g 943 123)) 998 x1.toNatClampNeg (am_i g 943 125)), 0) (some (.int x1)) _
  · refine ev_oi 1 (as := [.ref 943]) (pc := 11) (Lc := [some (.ref 943), none, none]) (st := []) (V := v0 L) (g1 := g) (e := ez_i) rfl (dm_76 L g ) (fun y3 g4 => ?_)
    exact fun hR => by cases hR; exact ev_rt 0 rfl
/-- DeclaredMarkupModel.addValue(II)I -/
noncomputable def fm_82 (g : am_G) (u1 : Int32) (u2 : Int32) : Option (Int32 × am_G) := if (am_i g 943 125) = 400 then lo_i (fm_22 g 10 u2) fun y2 g3 => some (y2, g3) else lo_g (ai_in (am_i g 943 125) 400) (some (0, (am_si (am_si g 1001 ((am_i g 943 125)).toNatClampNeg u1) 943 125 ((am_i g 943 125) + 1))))
theorem dm_82 (L : Nat) (g : am_G) (u1 : Int32) (u2 : Int32) (R : Int32 × am_G) : fm_82 g u1 u2 = some R → ai_ev ap_P 82 (ai_e0 ap_P 82 [.ref 943, .int u1, .int u2] (v0 L, g)) (.inl (ez_i R.1)) (v0 L, R.2) := by
  show _ → ai_ev ap_P 82 (0, [some (.ref 943), some (.int u1), some (.int u2)], [], (v0 L, g)) _ _
  unfold fm_82
  refine ev_in 3 (p := (am_i g 943 125) = 400) (a := 18) (b := 10) (T := ([some (.ref 943), some (.int u1), some (.int u2)], [], (v0 L, g))) rfl ?_ ?_
  · refine ev_oi 3 (as := [.ref 943, .int 10, .int u2]) (pc := 17) (Lc := [some (.ref 943), some (.int u1), some (.int u2)]) (st := []) (V := v0 L) (g1 := g) (e := ez_i) rfl (dm_22 L g 10 u2) (fun y2 g3 => ?_)
    exact fun hR => by cases hR; exact ev_rt 0 rfl
  · refine ev_gd (c := ai_in (am_i g 943 125) 400) (fun hc1 => ?_)
    refine ev_jm 5 (t := (28, [some (.ref 943), some (.int u1), some (.int u2)], [], (v0 L, (am_si g 1001 ((am_i g 943 125)).toNatClampNeg u1)))) (ai_gd (c := ai_in (am_i g 943 125) 400) rfl hc1) ?_
    exact fun hR => by cases hR; exact ev_rt 7 rfl
noncomputable def fj_83_97  (g : am_G) (t1 : Int32) : Option (Int32 × am_G) := lo_i (fm_82 g t1 (am_i g 943 30)) fun y1 g2 => some (y1, g2)
theorem dj_83_97 (L : Nat)   (g : am_G) (t1 : Int32) (w1 : Option Value) (R : Int32 × am_G) : fj_83_97  g t1 = some R → ai_ev ap_P 83 (97, [some (.ref 943), w1], [.int t1, .ref 943], (v0 L, g)) (.inl (ez_i R.1)) (v0 L, R.2) := by
  unfold fj_83_97
  refine ev_oi 2 (as := [.ref 943, .int t1, .int (am_i g 943 30)]) (pc := 104) (Lc := [some (.ref 943), none]) (st := []) (V := v0 L) (g1 := g) (e := ez_i) rfl (dm_82 L g t1 (am_i g 943 30)) (fun y1 g2 => ?_)
  exact fun hR => by cases hR; exact ev_rt 0 rfl
noncomputable def fj_83_24  (g : am_G) (u1 : Int32) : Option (Int32 × am_G) := if u1 = 60 then if (am_i g 943 9) ≤ (am_i g 943 127) then lo_i (fm_23 g ) fun y5 g6 => some (y5, g6) else lo_i (fm_21 g 7 0) fun y7 g8 => some (y7, g8) else if u1 = 38 then lo_i (fm_25 (am_si (am_si g 943 39 (am_i g 943 30)) 943 40 58) 60) fun y3 g4 => some (y3, g4) else lo_p (fm_16 g u1) fun y1 => if y1 = 0 then fj_83_97 g u1 else fj_83_97 g 32
theorem dj_83_24 (L : Nat)   (g : am_G) (u1 : Int32) (R : Int32 × am_G) : fj_83_24  g u1 = some R → ai_ev ap_P 83 (24, [some (.ref 943), some (.int u1)], [], (v0 L, g)) (.inl (ez_i R.1)) (v0 L, R.2) := by
  unfold fj_83_24
  refine ev_in 2 (p := u1 = 60) (a := 56) (b := 30) (T := ([some (.ref 943), some (.int u1)], [], (v0 L, g))) rfl ?_ ?_
  · refine ev_if 4 (p := (am_i g 943 9) ≤ (am_i g 943 127)) (a := 51) (b := 41) (T := ([some (.ref 943), some (.int u1)], [], (v0 L, g))) rfl ?_ ?_
    · refine ev_oi 1 (as := [.ref 943]) (pc := 55) (Lc := [some (.ref 943), some (.int u1)]) (st := []) (V := v0 L) (g1 := g) (e := ez_i) rfl (dm_23 L g ) (fun y5 g6 => ?_)
      exact fun hR => by cases hR; exact ev_rt 0 rfl
    · refine ev_oi 3 (as := [.ref 943, .int 7, .int 0]) (pc := 48) (Lc := [some (.ref 943), some (.int u1)]) (st := []) (V := v0 L) (g1 := g) (e := ez_i) rfl (dm_21 L g 7 0) (fun y7 g8 => ?_)
      exact fun hR => by cases hR; exact ev_rt 1 rfl
  · refine ev_in 2 (p := u1 = 38) (a := 83) (b := 62) (T := ([some (.ref 943), some (.int u1)], [], (v0 L, g))) rfl ?_ ?_
    · refine ev_oi 9 (as := [.ref 943, .int 60]) (pc := 82) (Lc := [some (.ref 943), some (.int u1)]) (st := []) (V := v0 L) (g1 := (am_si (am_si g 943 39 (am_i g 943 30)) 943 40 58)) (e := ez_i) rfl (dm_25 L (am_si (am_si g 943 39 (am_i g 943 30)) 943 40 58) 60) (fun y3 g4 => ?_)
      exact fun hR => by cases hR; exact ev_rt 0 rfl
    · refine ev_op 2 (as := [.int u1]) (pc := 88) (Lc := [some (.ref 943), some (.int u1)]) (st := [.ref 943]) (h1 := (v0 L, g)) (e := ez_i) rfl (dm_16 L g u1) (fun y1 => ?_)
      refine ev_if 0 (p := y1 = 0) (a := 96) (b := 91) (T := ([some (.ref 943), some (.int u1)], [.ref 943], (v0 L, g))) rfl ?_ ?_
      · refine ev_jm 0 (t := (97, [some (.ref 943), some (.int u1)], [.int u1, .ref 943], (v0 L, g))) rfl ?_
        exact dj_83_97 L g u1 (some (.int u1)) _
      · refine ev_jm 1 (t := (97, [some (.ref 943), some (.int u1)], [.int 32, .ref 943], (v0 L, g))) rfl ?_
        exact dj_83_97 L g 32 (some (.int u1)) _
/-- DeclaredMarkupModel.valueStep(I)I -/
noncomputable def fm_83 (g : am_G) (u1 : Int32) : Option (Int32 × am_G) := if u1 = (am_i g 943 38) then if (am_i g 943 9) = (am_i g 943 127) then lo_i (fm_85 g ) fun y1 g2 => some (y1, g2) else fj_83_24 g u1 else fj_83_24 g u1
theorem dm_83 (L : Nat) (g : am_G) (u1 : Int32) (R : Int32 × am_G) : fm_83 g u1 = some R → ai_ev ap_P 83 (ai_e0 ap_P 83 [.ref 943, .int u1] (v0 L, g)) (.inl (ez_i R.1)) (v0 L, R.2) := by
  show _ → ai_ev ap_P 83 (0, [some (.ref 943), some (.int u1)], [], (v0 L, g)) _ _
  unfold fm_83
  refine ev_in 3 (p := u1 = (am_i g 943 38)) (a := 24) (b := 8) (T := ([some (.ref 943), some (.int u1)], [], (v0 L, g))) rfl ?_ ?_
  · refine ev_in 4 (p := (am_i g 943 9) = (am_i g 943 127)) (a := 24) (b := 19) (T := ([some (.ref 943), some (.int u1)], [], (v0 L, g))) rfl ?_ ?_
    · refine ev_oi 1 (as := [.ref 943]) (pc := 23) (Lc := [some (.ref 943), some (.int u1)]) (st := []) (V := v0 L) (g1 := g) (e := ez_i) rfl (dm_85 L g ) (fun y1 g2 => ?_)
      exact fun hR => by cases hR; exact ev_rt 0 rfl
    · exact dj_83_24 L g u1 _
  · exact dj_83_24 L g u1 _
noncomputable def fj_122_260  (g : am_G) (u1 : Int32) : Option (Int32 × am_G) := lo_i (fm_84 g u1 0) fun y1 g2 => some (y1, g2)
set_option maxRecDepth 20000 in
theorem dj_122_260 (L : Nat)   (g : am_G) (u1 : Int32) (R : Int32 × am_G) : fj_122_260  g u1 = some R → ai_ev ap_P 122 (260, [some (.ref 943), some (.int u1)], [], (v0 L, g)) (.inl (ez_i R.1)) (v0 L, R.2) := by
  unfold fj_122_260
  refine ev_oi 3 (as := [.ref 943, .int u1, .int 0]) (pc := 266) (Lc := [some (.ref 943), some (.int u1)]) (st := []) (V := v0 L) (g1 := g) (e := ez_i) rfl (dm_84 L g u1 0) (fun y1 g2 => ?_)
  exact fun hR => by cases hR; exact ev_rt 1 rfl
/-- DeclaredMarkupModel.tagStep(I)I -/
noncomputable def fm_122 (g : am_G) (u1 : Int32) : Option (Int32 × am_G) := if (am_i g 943 26) = 51 then lo_i (fm_27 g u1 2 0) fun y1 g2 => some (y1, g2) else if (am_i g 943 26) = 52 then lo_p (fm_16 g u1) fun y3 => if y3 = 0 then if u1 = 62 then lo_i (fm_98 g ) fun y7 g8 => some (y7, g8) else lo_i (fm_23 g ) fun y5 g6 => some (y5, g6) else some (0, g) else if (am_i g 943 26) = 53 then lo_p (fm_16 g u1) fun y9 => if y9 = 0 then if u1 = 47 then lo_i (fm_25 g 56) fun y15 g16 => some (y15, g16) else if u1 = 62 then lo_i (fm_97 g 0) fun y13 g14 => some (y13, g14) else lo_i (fm_23 g ) fun y11 g12 => some (y11, g12) else lo_i (fm_25 g 54) fun y17 g18 => some (y17, g18) else if (am_i g 943 26) = 54 then lo_p (fm_16 g u1) fun y19 => if y19 = 0 then if u1 = 47 then lo_i (fm_25 g 56) fun y25 g26 => some (y25, g26) else if u1 = 62 then lo_i (fm_97 g 0) fun y23 g24 => some (y23, g24) else lo_i (fm_27 g u1 3 0) fun y21 g22 => some (y21, g22) else some (0, g) else if (am_i g 943 26) = 55 then lo_p (fm_16 g u1) fun y27 => if y27 = 0 then if u1 = 61 then lo_i (fm_25 g 57) fun y31 g32 => some (y31, g32) else lo_i (fm_23 g ) fun y29 g30 => some (y29, g30) else some (0, g) else if (am_i g 943 26) = 56 then if u1 = 62 then lo_i (fm_97 g 1) fun y35 g36 => some (y35, g36) else lo_i (fm_23 g ) fun y33 g34 => some (y33, g34) else if (am_i g 943 26) = 57 then lo_p (fm_16 g u1) fun y37 => if y37 = 0 then if u1 = 34 then fj_122_260 g u1 else if u1 = 39 then fj_122_260 g u1 else lo_i (fm_23 g ) fun y39 g40 => some (y39, g40) else some (0, g) else if (am_i g 943 26) = 58 then lo_i (fm_83 g u1) fun y41 g42 => some (y41, g42) else lo_p (fm_16 g u1) fun y43 => if y43 = 0 then if u1 = 47 then lo_i (fm_25 g 56) fun y49 g50 => some (y49, g50) else if u1 = 62 then lo_i (fm_97 g 0) fun y47 g48 => some (y47, g48) else lo_i (fm_23 g ) fun y45 g46 => some (y45, g46) else lo_i (fm_25 g 54) fun y51 g52 => some (y51, g52)
set_option maxRecDepth 20000 in
theorem dm_122 (L : Nat) (g : am_G) (u1 : Int32) (R : Int32 × am_G) : fm_122 g u1 = some R → ai_ev ap_P 122 (ai_e0 ap_P 122 [.ref 943, .int u1] (v0 L, g)) (.inl (ez_i R.1)) (v0 L, R.2) := by
  show _ → ai_ev ap_P 122 (0, [some (.ref 943), some (.int u1)], [], (v0 L, g)) _ _
  unfold fm_122
  refine ev_sw 2 (ps := [(51, 52), (52, 60), (53, 89), (54, 139), (55, 187), (56, 218), (57, 237), (58, 274)]) (d := 280) (x := (am_i g 943 26)) (T := ([some (.ref 943), some (.int u1)], [], (v0 L, g))) rfl ?_
  refine sw_c ?_ ?_
  · refine ev_oi 4 (as := [.ref 943, .int u1, .int 2, .int 0]) (pc := 59) (Lc := [some (.ref 943), some (.int u1)]) (st := []) (V := v0 L) (g1 := g) (e := ez_i) rfl (dm_27 L g u1 2 0) (fun y1 g2 => ?_)
    exact fun hR => by cases hR; exact ev_rt 0 rfl
  refine sw_c ?_ ?_
  · refine ev_op 1 (as := [.int u1]) (pc := 64) (Lc := [some (.ref 943), some (.int u1)]) (st := []) (h1 := (v0 L, g)) (e := ez_i) rfl (dm_16 L g u1) (fun y3 => ?_)
    refine ev_if 0 (p := y3 = 0) (a := 71) (b := 67) (T := ([some (.ref 943), some (.int u1)], [], (v0 L, g))) rfl ?_ ?_
    · refine ev_in 2 (p := u1 = 62) (a := 84) (b := 77) (T := ([some (.ref 943), some (.int u1)], [], (v0 L, g))) rfl ?_ ?_
      · refine ev_oi 1 (as := [.ref 943]) (pc := 81) (Lc := [some (.ref 943), some (.int u1)]) (st := []) (V := v0 L) (g1 := g) (e := ez_i) rfl (dm_98 L g ) (fun y7 g8 => ?_)
        exact fun hR => by cases hR; exact ev_rt 1 rfl
      · refine ev_oi 1 (as := [.ref 943]) (pc := 88) (Lc := [some (.ref 943), some (.int u1)]) (st := []) (V := v0 L) (g1 := g) (e := ez_i) rfl (dm_23 L g ) (fun y5 g6 => ?_)
        exact fun hR => by cases hR; exact ev_rt 0 rfl
    · exact fun hR => by cases hR; exact ev_rt 2 rfl
  refine sw_c ?_ ?_
  · refine ev_op 1 (as := [.int u1]) (pc := 93) (Lc := [some (.ref 943), some (.int u1)]) (st := []) (h1 := (v0 L, g)) (e := ez_i) rfl (dm_16 L g u1) (fun y9 => ?_)
    refine ev_if 0 (p := y9 = 0) (a := 105) (b := 96) (T := ([some (.ref 943), some (.int u1)], [], (v0 L, g))) rfl ?_ ?_
    · refine ev_in 2 (p := u1 = 47) (a := 120) (b := 111) (T := ([some (.ref 943), some (.int u1)], [], (v0 L, g))) rfl ?_ ?_
      · refine ev_oi 2 (as := [.ref 943, .int 56]) (pc := 117) (Lc := [some (.ref 943), some (.int u1)]) (st := []) (V := v0 L) (g1 := g) (e := ez_i) rfl (dm_25 L g 56) (fun y15 g16 => ?_)
        exact fun hR => by cases hR; exact ev_rt 1 rfl
      · refine ev_in 2 (p := u1 = 62) (a := 134) (b := 126) (T := ([some (.ref 943), some (.int u1)], [], (v0 L, g))) rfl ?_ ?_
        · refine ev_oi 2 (as := [.ref 943, .int 0]) (pc := 131) (Lc := [some (.ref 943), some (.int u1)]) (st := []) (V := v0 L) (g1 := g) (e := ez_i) rfl (dm_97 L g 0) (fun y13 g14 => ?_)
          exact fun hR => by cases hR; exact ev_rt 1 rfl
        · refine ev_oi 1 (as := [.ref 943]) (pc := 138) (Lc := [some (.ref 943), some (.int u1)]) (st := []) (V := v0 L) (g1 := g) (e := ez_i) rfl (dm_23 L g ) (fun y11 g12 => ?_)
          exact fun hR => by cases hR; exact ev_rt 0 rfl
    · refine ev_oi 2 (as := [.ref 943, .int 54]) (pc := 102) (Lc := [some (.ref 943), some (.int u1)]) (st := []) (V := v0 L) (g1 := g) (e := ez_i) rfl (dm_25 L g 54) (fun y17 g18 => ?_)
      exact fun hR => by cases hR; exact ev_rt 1 rfl
  refine sw_c ?_ ?_
  · refine ev_op 1 (as := [.int u1]) (pc := 143) (Lc := [some (.ref 943), some (.int u1)]) (st := []) (h1 := (v0 L, g)) (e := ez_i) rfl (dm_16 L g u1) (fun y19 => ?_)
    refine ev_if 0 (p := y19 = 0) (a := 150) (b := 146) (T := ([some (.ref 943), some (.int u1)], [], (v0 L, g))) rfl ?_ ?_
    · refine ev_in 2 (p := u1 = 47) (a := 165) (b := 156) (T := ([some (.ref 943), some (.int u1)], [], (v0 L, g))) rfl ?_ ?_
      · refine ev_oi 2 (as := [.ref 943, .int 56]) (pc := 162) (Lc := [some (.ref 943), some (.int u1)]) (st := []) (V := v0 L) (g1 := g) (e := ez_i) rfl (dm_25 L g 56) (fun y25 g26 => ?_)
        exact fun hR => by cases hR; exact ev_rt 1 rfl
      · refine ev_in 2 (p := u1 = 62) (a := 179) (b := 171) (T := ([some (.ref 943), some (.int u1)], [], (v0 L, g))) rfl ?_ ?_
        · refine ev_oi 2 (as := [.ref 943, .int 0]) (pc := 176) (Lc := [some (.ref 943), some (.int u1)]) (st := []) (V := v0 L) (g1 := g) (e := ez_i) rfl (dm_97 L g 0) (fun y23 g24 => ?_)
          exact fun hR => by cases hR; exact ev_rt 1 rfl
        · refine ev_oi 4 (as := [.ref 943, .int u1, .int 3, .int 0]) (pc := 186) (Lc := [some (.ref 943), some (.int u1)]) (st := []) (V := v0 L) (g1 := g) (e := ez_i) rfl (dm_27 L g u1 3 0) (fun y21 g22 => ?_)
          exact fun hR => by cases hR; exact ev_rt 0 rfl
    · exact fun hR => by cases hR; exact ev_rt 2 rfl
  refine sw_c ?_ ?_
  · refine ev_op 1 (as := [.int u1]) (pc := 191) (Lc := [some (.ref 943), some (.int u1)]) (st := []) (h1 := (v0 L, g)) (e := ez_i) rfl (dm_16 L g u1) (fun y27 => ?_)
    refine ev_if 0 (p := y27 = 0) (a := 198) (b := 194) (T := ([some (.ref 943), some (.int u1)], [], (v0 L, g))) rfl ?_ ?_
    · refine ev_in 2 (p := u1 = 61) (a := 213) (b := 204) (T := ([some (.ref 943), some (.int u1)], [], (v0 L, g))) rfl ?_ ?_
      · refine ev_oi 2 (as := [.ref 943, .int 57]) (pc := 210) (Lc := [some (.ref 943), some (.int u1)]) (st := []) (V := v0 L) (g1 := g) (e := ez_i) rfl (dm_25 L g 57) (fun y31 g32 => ?_)
        exact fun hR => by cases hR; exact ev_rt 1 rfl
      · refine ev_oi 1 (as := [.ref 943]) (pc := 217) (Lc := [some (.ref 943), some (.int u1)]) (st := []) (V := v0 L) (g1 := g) (e := ez_i) rfl (dm_23 L g ) (fun y29 g30 => ?_)
        exact fun hR => by cases hR; exact ev_rt 0 rfl
    · exact fun hR => by cases hR; exact ev_rt 2 rfl
  refine sw_c ?_ ?_
  · refine ev_in 2 (p := u1 = 62) (a := 232) (b := 224) (T := ([some (.ref 943), some (.int u1)], [], (v0 L, g))) rfl ?_ ?_
    · refine ev_oi 2 (as := [.ref 943, .int 1]) (pc := 229) (Lc := [some (.ref 943), some (.int u1)]) (st := []) (V := v0 L) (g1 := g) (e := ez_i) rfl (dm_97 L g 1) (fun y35 g36 => ?_)
      exact fun hR => by cases hR; exact ev_rt 1 rfl
    · refine ev_oi 1 (as := [.ref 943]) (pc := 236) (Lc := [some (.ref 943), some (.int u1)]) (st := []) (V := v0 L) (g1 := g) (e := ez_i) rfl (dm_23 L g ) (fun y33 g34 => ?_)
      exact fun hR => by cases hR; exact ev_rt 0 rfl
  refine sw_c ?_ ?_
  · refine ev_op 1 (as := [.int u1]) (pc := 241) (Lc := [some (.ref 943), some (.int u1)]) (st := []) (h1 := (v0 L, g)) (e := ez_i) rfl (dm_16 L g u1) (fun y37 => ?_)
    refine ev_if 0 (p := y37 = 0) (a := 248) (b := 244) (T := ([some (.ref 943), some (.int u1)], [], (v0 L, g))) rfl ?_ ?_
    · refine ev_if 2 (p := u1 = 34) (a := 260) (b := 254) (T := ([some (.ref 943), some (.int u1)], [], (v0 L, g))) rfl ?_ ?_
      · exact dj_122_260 L g u1 _
      · refine ev_in 2 (p := u1 = 39) (a := 269) (b := 260) (T := ([some (.ref 943), some (.int u1)], [], (v0 L, g))) rfl ?_ ?_
        · exact dj_122_260 L g u1 _
        · refine ev_oi 1 (as := [.ref 943]) (pc := 273) (Lc := [some (.ref 943), some (.int u1)]) (st := []) (V := v0 L) (g1 := g) (e := ez_i) rfl (dm_23 L g ) (fun y39 g40 => ?_)
          exact fun hR => by cases hR; exact ev_rt 0 rfl
    · exact fun hR => by cases hR; exact ev_rt 2 rfl
  refine sw_c ?_ ?_
  · refine ev_oi 2 (as := [.ref 943, .int u1]) (pc := 279) (Lc := [some (.ref 943), some (.int u1)]) (st := []) (V := v0 L) (g1 := g) (e := ez_i) rfl (dm_83 L g u1) (fun y41 g42 => ?_)
    exact fun hR => by cases hR; exact ev_rt 0 rfl
  refine sw_n ?_
  refine ev_op 1 (as := [.int u1]) (pc := 284) (Lc := [some (.ref 943), some (.int u1)]) (st := []) (h1 := (v0 L, g)) (e := ez_i) rfl (dm_16 L g u1) (fun y43 => ?_)
  refine ev_if 0 (p := y43 = 0) (a := 296) (b := 287) (T := ([some (.ref 943), some (.int u1)], [], (v0 L, g))) rfl ?_ ?_
  · refine ev_in 2 (p := u1 = 47) (a := 311) (b := 302) (T := ([some (.ref 943), some (.int u1)], [], (v0 L, g))) rfl ?_ ?_
    · refine ev_oi 2 (as := [.ref 943, .int 56]) (pc := 308) (Lc := [some (.ref 943), some (.int u1)]) (st := []) (V := v0 L) (g1 := g) (e := ez_i) rfl (dm_25 L g 56) (fun y49 g50 => ?_)
      exact fun hR => by cases hR; exact ev_rt 1 rfl
    · refine ev_in 2 (p := u1 = 62) (a := 325) (b := 317) (T := ([some (.ref 943), some (.int u1)], [], (v0 L, g))) rfl ?_ ?_
      · refine ev_oi 2 (as := [.ref 943, .int 0]) (pc := 322) (Lc := [some (.ref 943), some (.int u1)]) (st := []) (V := v0 L) (g1 := g) (e := ez_i) rfl (dm_97 L g 0) (fun y47 g48 => ?_)
        exact fun hR => by cases hR; exact ev_rt 1 rfl
      · refine ev_oi 1 (as := [.ref 943]) (pc := 329) (Lc := [some (.ref 943), some (.int u1)]) (st := []) (V := v0 L) (g1 := g) (e := ez_i) rfl (dm_23 L g ) (fun y45 g46 => ?_)
        exact fun hR => by cases hR; exact ev_rt 0 rfl
  · refine ev_oi 2 (as := [.ref 943, .int 54]) (pc := 293) (Lc := [some (.ref 943), some (.int u1)]) (st := []) (V := v0 L) (g1 := g) (e := ez_i) rfl (dm_25 L g 54) (fun y51 g52 => ?_)
    exact fun hR => by cases hR; exact ev_rt 1 rfl
