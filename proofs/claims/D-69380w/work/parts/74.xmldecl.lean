/-! The declaration at the head of a text. -/
theorem bl_lit {c : Int32} {k : Int} (hk : c.toInt = k) (h : ¬ bl_P k) : ch_bl c = false := ch_f (by rw [hk]; exact h)
theorem bl_ne {c d : Int32} (h : ch_bl c = true) (hd : ch_bl d = false) : c ≠ d := fun e => by rw [e, hd] at h; cases h
theorem bl_63 : ch_bl 63 = false := bl_lit (k := 63) rfl (by unfold bl_P; omega)
theorem bl_101 : ch_bl 101 = false := bl_lit (k := 101) rfl (by unfold bl_P; omega)
theorem bl_115 : ch_bl 115 = false := bl_lit (k := 115) rfl (by unfold bl_P; omega)
section
variable {Z U : Nat} {G H : am_G} {N : Nat} {n : Int32}
theorem st_lit {s : Int32} (h1 : s ≠ 5) (h2 : s ≠ 0) (h3 : s ≠ 45) (h4 : s ≠ 50) (h5 : s ≠ 58) : st_in s := ⟨h1, h2, h3, h4, h5⟩
/-- ?> -/
theorem xd_e {gR gM : am_G} {p : Nat} {rs : List (List Int32)} {i s : Int32} (B : bi_ok Z U G H gR gM) (S : fs_ok gR gM N n p rs i) (h26 : am_i gM 943 26 = s) (hst : st_in s) (hs : ∀ g : am_G, am_i g 943 26 = s → fm_133 g 63 = some (0, am_si g 943 26 29))
    (hw : ∀ g : am_G, am_i g 943 26 = s → am_i g 943 37 = am_i gM 943 37 → i ≠ 63 → i ≠ -1 → fm_133 g i = fm_23 g) : si_ok n (ft_ok Z U G H) (fj_258_175 gR) i gM fun _ gR' i' gM' => rd_Q gR gM N n 0 gR' i' gM' := by
  unfold fj_258_175
  refine si_bd (on_ok (A := fun g => am_si g 943 26 29) B S (fun _ => hs _ h26) rfl (ag_si rfl (ag_si rfl ag_re)) (fun _ => h26 ▸ hst) (by decide) (fun q w => ⟨am_si gM 943 29 0, hw _ h26 rfl q w, ag_si rfl ag_re, rfl⟩)) ?_
  rintro _ gR1 i1 g1 ⟨_, p1, rs1, S1, f1, f2⟩
  have c1 : fx_i ct_S gM g1 := fx_tr (fx_tr (fx_si rfl) (fx_si rfl)) (tk_ct f2)
  refine si_bd (on_go (s := 29) (t := 0) (bi_ct B f1 c1) S1 (((f2.1 943 26 rfl).1).trans rfl) (fun g h => by rw [ms_29 h, if_pos rfl]) (fun _ => by unfold st_in; decide) (by decide) (fun g d h q _ => by rw [ms_29 h, if_neg q])) ?_
  rintro _ gR2 i2 g2 ⟨_, p2, rs2, S2, f3, f4, h0⟩
  exact si_rt ⟨p2, rs2, S2, fx_tr f1 f3, ct_rg (fx_tr c1 f4), h0⟩
/-- behind the blanks: standalone, or the end; M in state 18 (no blank was) or 19 -/
theorem xd_s {gR gM : am_G} {p : Nat} {rs : List (List Int32)} {i : Int32} {some_ : Bool} (B : bi_ok Z U G H gR gM) (S : fs_ok gR gM N n p rs i) (h26 : am_i gM 943 26 = (bif some_ then 19 else 18)) (hbl : ch_bl i = false) (h37 : am_i gM 943 37 = 1 ∨ am_i gM 943 37 = 2) (he : am_i gM 943 37 = 1 → some_ = true → i ≠ 101) :
    si_ok n (ft_ok Z U G H) (fj_258_107 gR (b2 some_)) i gM fun _ gR' i' gM' => rd_Q gR gM N n 0 gR' i' gM' := by
  unfold fj_258_107
  cases some_ with
  | false =>
    have h26 : am_i gM 943 26 = 18 := h26
    rw [if_pos (show b2 false = 0 from rfl)]
    exact xd_e B S h26 (by unfold st_in; decide) (fun g h => by rw [ms_18 h, bl_63, cond_false, if_pos rfl]) (fun g h _ q _ => by rw [ms_18 h, hbl, cond_false, if_neg q])
  | true =>
    have h26 : am_i gM 943 26 = 19 := h26
    rw [if_neg (show ¬ b2 true = 0 by decide), cm_240 S, lo_ps]
    have h3 : ¬ (3 : Int32) ≤ am_i gM 943 37 := by rcases h37 with e | e <;> (rw [e]; decide)
    by_cases q : i = 115
    · rw [decide_eq_true q, if_neg (by decide)]
      subst q
      have w19 : ∀ g : am_G, am_i g 943 26 = 19 → am_i g 943 37 = am_i gM 943 37 → fm_133 g 115 = fm_34 g 690542830042565 10 0 25 := fun g h h7 => by
        rw [ms_19 h, if_neg (by decide), if_neg (by decide), if_pos rfl, h7, if_neg h3]
      rw [cm_245, wl_stand]
      refine si_bd (ww_ok (W := 690542830042565) (sz := 10) (u := 0) (to := 25) (s := 19) (ds := [97, 108, 111, 110, 101]) (g0 := am_si gM 943 29 0) B S h26 (by unfold st_in; decide) (by decide) (by decide) (Or.inl rfl) (by decide) (by decide) wm_standalone (by decide) (by decide) (fun _ => w19 _ h26 rfl) (ag_si rfl ag_re) rfl (bi_ct B fx_re (fx_si rfl))) ?_
      rintro _ gR1 i1 g1 ⟨p1, rs1, S1, f1, f2, m1⟩
      rw [if_neg (by decide)] at m1
      obtain ⟨m', k1, k2⟩ := m1
      have c1 : fx_i ct_S gM g1 := fx_tr (fx_si rfl) f2
      have B1 := bi_ct B f1 c1
      rw [cm_245, wl_alone]
      refine si_bd (wd_ok (to := 25) (by decide) [97, 108, 111, 110, 101] m' [] B1 S1 k1 (k2.trans (List.append_nil _).symm) (by decide) (by decide)) ?_
      rintro _ gR2 i2 g2 ⟨p2, rs2, S2, f3, f4, m2⟩
      rw [if_pos rfl] at m2
      have B2 := bi_ct B1 f3 f4
      refine si_bd (eq_ok (s1 := 25) (s2 := 26) (t := 27) B2 S2 m2 (by unfold st_in; decide) (by unfold st_in; decide) (fun g c h => ms_25 h) (fun g c h => ms_26 h)) ?_
      rintro qt gR3 i3 g3 ⟨hq, hq2, p3, rs3, S3, f5, f6, h27⟩
      have B3 := bi_rg B2 f5 f6
      have F3 : fx_i ps_S gR gR3 := fx_tr (fx_tr f1 f3) f5
      have C3 : fx_i rg_S gM g3 := fx_tr (ct_rg (fx_tr c1 f4)) f6
      -- yes or no, and the quote
      have fin : ∀ {gR4 gM4 : am_G} {p4 : Nat} {rs4 : List (List Int32)} {i4 : Int32}, bi_ok Z U G H gR4 gM4 → fs_ok gR4 gM4 N n p4 rs4 i4 → am_i gM4 943 26 = 28 → am_i gM4 943 38 = qt → fx_i ps_S gR gR4 → fx_i rg_S gM gM4 → si_ok n (ft_ok Z U G H) (fj_258_165 gR4 qt) i4 gM4 fun _ gR' i' gM' => rd_Q gR gM N n 0 gR' i' gM' := by
        intro gR4 gM4 p4 rs4 i4 B4 S4 h28 h38 F4 C4
        unfold fj_258_165
        have hqn : qt ≠ -1 := by rcases hq with e | e <;> (rw [e]; decide)
        refine si_bd (on_ok (A := fun g => am_si (am_si g 943 37 3) 943 26 18) B4 S4 (fun _ => by rw [ms_28 (show am_i (am_si gM4 943 29 0) 943 26 = 28 from h28), show am_i (am_si gM4 943 29 0) 943 38 = am_i gM4 943 38 from rfl, h38, if_pos rfl]) rfl (ag_si rfl (ag_si rfl (ag_si rfl ag_re))) (fun _ => by rw [h28]; unfold st_in; decide) hqn
          (fun w _ => ⟨am_si (am_si gM4 943 29 0) 943 37 3, by rw [ms_28 (show am_i (am_si gM4 943 29 0) 943 26 = 28 from h28), show am_i (am_si gM4 943 29 0) 943 38 = am_i gM4 943 38 from rfl, h38, if_neg w], ag_si rfl (ag_si rfl ag_re), rfl⟩)) ?_
        rintro _ gR5 i5 g5 ⟨_, p5, rs5, S5, f7, f8⟩
        have C5 : fx_i rg_S gM4 g5 := fx_tr (fx_tr (fx_tr (fx_si rfl) (fx_si rfl)) (fx_si rfl)) (ct_rg (tk_ct f8))
        have B5 := bi_rg B4 f7 C5
        have h5 : am_i g5 943 26 = 18 := ((f8.1 943 26 rfl).1).trans rfl
        have h537 : am_i g5 943 37 = 3 := ((f8.1 943 37 rfl).1).trans rfl
        obtain ⟨gR6, i6, g6, p6, rs6, b1, b2', b3, b4, b5, b6, b7, b8⟩ := bs_ok (s := 18) (t := 19) S5 h5 (fun g c h q => by rw [ms_18 h, q]; rfl) (fun g c h q => by rw [ms_19 h, if_neg (bl_ne q bl_63), if_neg (bl_ne q bl_101), if_neg (bl_ne q bl_115), q]; rfl)
        rw [b1, lo_is]
        have B6 := bi_ct B5 b4 b5
        have h637 : am_i g6 943 37 = 3 := ((b5.1 943 37 rfl).1).trans h537
        refine si_m b2' ?_
        have close : ∀ s : Int32, am_i g6 943 26 = s → st_in s → (∀ g : am_G, am_i g 943 26 = s → fm_133 g 63 = some (0, am_si g 943 26 29)) → (∀ g : am_G, am_i g 943 26 = s → am_i g 943 37 = am_i g6 943 37 → i6 ≠ 63 → i6 ≠ -1 → fm_133 g i6 = fm_23 g) → si_ok n (ft_ok Z U G H) (fj_258_175 gR6) i6 g6 fun _ gR' i' gM' => rd_Q gR gM N n 0 gR' i' gM' := by
          intro s e1 e2 e3 e4
          refine si_wk (xd_e B6 b3 e1 e2 e3 e4) ?_
          rintro _ gR7 i7 g7 ⟨p7, rs7, S7, x1, x2, x3⟩
          exact ⟨p7, rs7, S7, fx_tr (fx_tr (fx_tr F4 f7) b4) x1, fx_tr (fx_tr (fx_tr C4 C5) (ct_rg b5)) x2, x3⟩
        cases w : ch_bl i5 with
        | true =>
          refine close 19 (b7 w) (by unfold st_in; decide) (fun g h => by rw [ms_19 h, if_pos rfl]) (fun g h h7 q _ => ?_)
          rw [ms_19 h, if_neg q, h7, h637]
          by_cases y : i6 = 101
          · rw [if_pos y, if_neg (by decide), if_neg (by rw [y]; decide), b6]; rfl
          · rw [if_neg y]
            by_cases v : i6 = 115
            · rw [if_pos v, if_pos (by decide), b6]; rfl
            · rw [if_neg v, b6]; rfl
        | false => exact close 18 (b8 w).1 (by unfold st_in; decide) (fun g h => by rw [ms_18 h, bl_63, cond_false, if_pos rfl]) (fun g h _ q _ => by rw [ms_18 h, b6, cond_false, if_neg q])
      rw [cm_240 S3, lo_ps]
      by_cases y : i3 = 121
      · rw [decide_eq_true y, if_neg (by decide), cm_245, wl_yes]
        subst y
        refine si_bd (ww_ok (W := 25779) (sz := 3) (u := 0) (to := 28) (s := 27) (ds := []) (g0 := am_si g3 943 29 0) B3 S3 h27 (by unfold st_in; decide) (by decide) (by decide) (Or.inl rfl) (by decide) (by decide) (wm_yes.trans (List.append_nil _).symm) (by decide) (by decide) (fun _ => by rw [ms_27 (show am_i (am_si g3 943 29 0) 943 26 = 27 from h27), if_pos rfl]; rfl) (ag_si rfl ag_re) rfl (bi_ct B3 fx_re (fx_si rfl))) ?_
        rintro _ gR4 i4 g4 ⟨p4, rs4, S4, f7, f8, m4⟩
        rw [if_pos rfl] at m4
        have c4 : fx_i ct_S g3 g4 := fx_tr (fx_si rfl) f8
        exact fin (bi_ct B3 f7 c4) S4 m4 (((c4.1 943 38 rfl).1).trans hq2) (fx_tr F3 f7) (fx_tr C3 (ct_rg c4))
      · rw [decide_eq_false y, if_pos (by decide), cm_245, wl_no]
        by_cases v : i3 = 110
        · subst v
          refine si_bd (ww_ok (W := 463) (sz := 2) (u := 0) (to := 28) (s := 27) (ds := []) (g0 := am_si g3 943 29 0) B3 S3 h27 (by unfold st_in; decide) (by decide) (by decide) (Or.inl rfl) (by decide) (by decide) (wm_no.trans (List.append_nil _).symm) (by decide) (by decide) (fun _ => by rw [ms_27 (show am_i (am_si g3 943 29 0) 943 26 = 27 from h27), if_neg (by decide), if_pos rfl]; rfl) (ag_si rfl ag_re) rfl (bi_ct B3 fx_re (fx_si rfl))) ?_
          rintro _ gR4 i4 g4 ⟨p4, rs4, S4, f7, f8, m4⟩
          rw [if_pos rfl] at m4
          have c4 : fx_i ct_S g3 g4 := fx_tr (fx_si rfl) f8
          exact fin (bi_ct B3 f7 c4) S4 m4 (((c4.1 943 38 rfl).1).trans hq2) (fx_tr F3 f7) (fx_tr C3 (ct_rg c4))
        · refine si_bd (Q := fun _ _ _ _ => False) ?_ fun _ _ _ _ z => z.elim
          show si_ok n (ft_ok Z U G H) (lo_t (fm_244 gR3 110) fun _ g' => rw_1 [111] g') i3 g3 _
          refine si_bd (Q := fun _ _ _ _ => False) ?_ fun _ _ _ _ z => z.elim
          unfold fm_244
          rw [cm_240 S3, lo_ps, decide_eq_false v]
          exact si_bd (nd_f (Q := fun _ _ _ _ => False) B3 S3 (fun _ => by rw [h27]; unfold st_in; decide) fun _ => ⟨am_si g3 943 29 0, by rw [ms_27 (show am_i (am_si g3 943 29 0) 943 26 = 27 from h27), if_neg y, if_neg v], ag_si rfl ag_re, rfl⟩) fun _ _ _ _ z => z.elim
    · rw [decide_eq_false q, if_pos (by decide)]
      refine xd_e B S h26 (by unfold st_in; decide) (fun g h => by rw [ms_19 h, if_pos rfl]) (fun g h h7 w _ => ?_)
      rw [ms_19 h, if_neg w, if_neg q, h7]
      by_cases y : i = 101
      · rw [if_pos y, if_neg (fun e => he e rfl y), hbl]; rfl
      · rw [if_neg y, hbl]; rfl
end
