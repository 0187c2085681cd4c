/-! Comments. -/
section
variable {Z U : Nat} {G H : am_G} {N : Nat} {n : Int32}
/-- one character of any kind is passed; M goes by an act A -/
theorem an_ok {gR gM : am_G} {p : Nat} {rs : List (List Int32)} {i : Int32} {A : am_G → am_G} (B : bi_ok Z U G H gR gM) (S : fs_ok gR gM N n p rs i) (hA : i ≠ -1 → fm_133 (am_si gM 943 29 0) i = some (0, A (am_si gM 943 29 0))) (hA1 : am_i (A (am_si gM 943 29 0)) 943 29 = 0) (hA2 : ag_3 fd_S gM (A (am_si gM 943 29 0))) (hst : i = -1 → st_in (am_i gM 943 26)) :
    si_ok n (ft_ok Z U G H) (fm_246 gR) i gM fun _ gR' i' gM' => i ≠ -1 ∧ fs_ok gR' gM' N n (nx_p p rs) (nx_r rs) i' ∧ fx_i ps_S gR gR' ∧ fx_i tk_S (A (am_si gM 943 29 0)) gM' := by
  unfold fm_246 fj_246_17
  rw [rs_h S, lo_ps]
  by_cases q : i = -1
  · rw [if_pos q]
    exact si_bd (nd_f (Q := fun _ _ _ _ => False) B S hst fun w => absurd q w) fun _ _ _ _ z => z.elim
  · rw [if_neg q, nd_t, lo_tl]
    obtain ⟨gR1, i1, g2, e1, e2, e3, e4, e5⟩ := fs_ps S q (hA q) hA1 hA2
    rw [e1, lo_ps]
    exact ⟨_, rfl, i1, g2, e3, q, e4, e2, e5⟩
/-- the end of a comment: M's act A at the > -/
def co_A (gM : am_G) (A : am_G → am_G) : Prop := ∀ g, fx_i ct_S gM g → am_i g 943 26 = 32 → fm_133 g 62 = some (0, A g) ∧ am_i (A g) 943 29 = am_i g 943 29 ∧ ag_3 fd_S g (A g)
def co_Q (gR gM : am_G) (N : Nat) (n : Int32) (A : am_G → am_G) (gR' : am_G) (i' : Int32) (gM' : am_G) : Prop := ∃ p' rs' gX, fs_ok gR' gM' N n p' rs' i' ∧ fx_i ps_S gR gR' ∧ fx_i ct_S gM gX ∧ am_i gX 943 26 = 32 ∧ am_i gX 943 29 = 0 ∧ fx_i tk_S (A gX) gM'
theorem co_lp {g0 gR0 : am_G} {A : am_G → am_G} (hA : co_A g0 A) : ∀ (m fuel : Nat) {gR gM : am_G} {p : Nat} {rs : List (List Int32)} {i : Int32} (d : Bool), fl_n N p rs ≤ m → m < fuel → bi_ok Z U G H gR gM → fs_ok gR gM N n p rs i → am_i gM 943 26 = (bif d then 31 else 30) → fx_i ct_S g0 gM → fx_i ps_S gR0 gR →
    si_ok n (ft_ok Z U G H) (lo_it (fun k (x : am_G × Int32) => fb_264_14 k x.1 x.2) fuel (gR, b2 d)) i gM fun _ gR' i' gM' => co_Q gR0 g0 N n A gR' i' gM' := by
  intro m
  induction m with
  | zero =>
    intro fuel gR gM p rs i d hm hf B S h26 f0 fR
    obtain ⟨fu, rfl⟩ : ∃ m, fuel = m + 1 := ⟨fuel - 1, by omega⟩
    have hi : i = -1 := by
      by_cases q : i = -1
      · exact q
      · have := fl_d S q; omega
    have body : lo_it (fun k (x : am_G × Int32) => fb_264_14 k x.1 x.2) (fu + 1) (gR, b2 d) = fj_264_27 (lo_it (fun k (x : am_G × Int32) => fb_264_14 k x.1 x.2) fu) gR := by
      show fb_264_14 _ _ _ = _
      unfold fb_264_14
      dsimp only
      cases d with
      | false => rfl
      | true => rw [if_neg (by decide), cm_240 S, lo_ps, hi, if_pos (by decide)]
    rw [body]
    unfold fj_264_27
    rw [cm_240 S, lo_ps]
    refine si_bd (an_ok (A := fun g => g) B S (fun w => absurd hi w) rfl (ag_si rfl ag_re) (fun _ => ?_)) (fun _ _ _ _ z => absurd hi z.1)
    rw [h26]
    cases d <;> (unfold st_in; decide)
  | succ m ih =>
    intro fuel gR gM p rs i d hm hf B S h26 f0 fR
    obtain ⟨fu, rfl⟩ : ∃ m, fuel = m + 1 := ⟨fuel - 1, by omega⟩
    by_cases hend : d = true ∧ i = 45
    · obtain ⟨rfl, rfl⟩ := hend
      have h26 : am_i gM 943 26 = 31 := h26
      have body : lo_it (fun k (x : am_G × Int32) => fb_264_14 k x.1 x.2) (fu + 1) (gR, b2 true) = lo_p (fm_177 gR) fun g4 => lo_t (fm_244 g4 62) fun _ g6 => some (.inl (), g6) := by
        show fb_264_14 _ _ _ = _
        unfold fb_264_14
        dsimp only
        rw [if_neg (by decide), cm_240 S, lo_ps, if_neg (by decide)]
      rw [body]
      obtain ⟨gR1, i1, g2, e1, e2, e3, e4, e5⟩ := fs_ps (g1 := am_si (am_si gM 943 29 0) 943 26 32) S (by decide) (by rw [ms_31 (show am_i (am_si gM 943 29 0) 943 26 = 31 from h26), if_pos rfl]) rfl (ag_si rfl (ag_si rfl ag_re))
      rw [e1, lo_ps]
      have f2 : fx_i ct_S gM g2 := fx_tr (fx_tr (fx_si rfl) (fx_si rfl)) (tk_ct e5)
      have B2 := bi_ct B e2 f2
      have h262 : am_i g2 943 26 = 32 := ((e5.1 943 26 rfl).1).trans rfl
      have F : fx_i ct_S g0 (am_si g2 943 29 0) := fx_tr (fx_tr f0 f2) (fx_si rfl)
      obtain ⟨a1, a2, a3⟩ := hA (am_si g2 943 29 0) F h262
      refine si_m e3 (si_bd (on_ok (A := A) B2 e4 (fun _ => a1) (a2.trans rfl) (ag_tr (ag_si rfl ag_re) a3) (fun _ => by rw [h262]; unfold st_in; decide) (by decide) (fun q _ => ⟨am_si g2 943 29 0, by rw [ms_32 (show am_i (am_si g2 943 29 0) 943 26 = 32 from h262), if_neg q], ag_si rfl ag_re, rfl⟩)) ?_)
      rintro _ gR' i' gM' ⟨_, p', rs', h1, h2, h3⟩
      exact si_rt ⟨p', rs', am_si g2 943 29 0, h1, fx_tr (fx_tr fR e2) h2, F, h262, rfl, h3⟩
    · have body : lo_it (fun k (x : am_G × Int32) => fb_264_14 k x.1 x.2) (fu + 1) (gR, b2 d) = fj_264_27 (lo_it (fun k (x : am_G × Int32) => fb_264_14 k x.1 x.2) fu) gR := by
        show fb_264_14 _ _ _ = _
        unfold fb_264_14
        dsimp only
        cases d with
        | false => rfl
        | true => rw [if_neg (by decide), cm_240 S, lo_ps, decide_eq_false (fun e => hend ⟨rfl, e⟩), if_pos (by decide)]
      rw [body]
      unfold fj_264_27
      rw [cm_240 S, lo_ps]
      have hst : i = -1 → st_in (am_i gM 943 26) := fun _ => by
        rw [h26]
        cases d <;> (unfold st_in; decide)
      refine si_bd (an_ok (A := fun g => am_si g 943 26 (bif decide (i = 45) then 31 else 30)) B S (fun w => ?_) rfl (ag_si rfl (ag_si rfl ag_re)) hst) ?_
      · cases d with
        | false =>
          rw [ms_30 (show am_i (am_si gM 943 29 0) 943 26 = 30 from h26)]
          by_cases q : i = 45
          · rw [if_pos q, decide_eq_true q]; rfl
          · rw [if_neg q, decide_eq_false q, si_id (am_si gM 943 29 0) 943 26 (show am_i (am_si gM 943 29 0) 943 26 = (bif false then 31 else 30) from h26)]
        | true =>
          have q : ¬ i = 45 := fun e => hend ⟨rfl, e⟩
          rw [ms_31 (show am_i (am_si gM 943 29 0) 943 26 = 31 from h26), if_neg q, decide_eq_false q]
          rfl
      · rintro _ gR1 i1 g2 ⟨hi, e4, e2, e5⟩
        have f2 : fx_i ct_S gM g2 := fx_tr (fx_tr (fx_si rfl) (fx_si rfl)) (tk_ct e5)
        have hd := fl_d S hi
        exact ih fu (decide (i = 45)) (by omega) (by omega) (bi_ct B e2 f2) e4 (((e5.1 943 26 rfl).1).trans rfl) (fx_tr f0 f2) (fx_tr fR e2)
/-- R's comment, with M behind <! -/
theorem cz_ok {gR gM : am_G} {p : Nat} {rs : List (List Int32)} {i : Int32} {A : am_G → am_G} (B : bi_ok Z U G H gR gM) (S : fs_ok gR gM N n p rs i) (h26 : am_i gM 943 26 = 2) (hA : co_A gM A)
    (hw : i ≠ 45 → i ≠ -1 → ∃ g', fm_133 (am_si gM 943 29 0) i = fm_23 g' ∧ ag_3 wr_S gM g' ∧ g'.2.2.2 = gM.2.2.2) :
    si_ok n (ft_ok Z U G H) (fm_264 gR) i gM fun _ gR' i' gM' => co_Q gR gM N n A gR' i' gM' := by
  unfold fm_264
  refine si_bd (on_ok (A := fun g => am_si g 943 26 3) B S (fun _ => ?_) rfl (ag_si rfl (ag_si rfl ag_re)) (fun _ => by rw [h26]; unfold st_in; decide) (by decide) hw) ?_
  · rw [ms_2 (show am_i (am_si gM 943 29 0) 943 26 = 2 from h26)]
    unfold fm_112
    rw [if_pos rfl, cm_25, lo_is]
  rintro _ gR1 i1 g1 ⟨_, p1, rs1, S1, f1, f2⟩
  have c1 : fx_i ct_S gM g1 := fx_tr (fx_tr (fx_si rfl) (fx_si rfl)) (tk_ct f2)
  have B1 := bi_ct B f1 c1
  refine si_bd (on_go (s := 3) (t := 30) B1 S1 (((f2.1 943 26 rfl).1).trans rfl) (fun g h => by rw [ms_3 h, if_pos rfl]) (fun _ => by unfold st_in; decide) (by decide) (fun g d h q _ => by rw [ms_3 h, if_neg q])) ?_
  rintro _ gR2 i2 g2 ⟨_, p2, rs2, S2, f3, f4, h30⟩
  have hb := fl_b S2.1 S2.2.2.1
  exact co_lp hA (fl_n N p2 rs2) nf_F false (Nat.le_refl _) (by have := nf_le; omega) (bi_ct B1 f3 f4) S2 h30 (fx_tr c1 f4) (fx_tr f1 f3)
end
