/-! Names that stay as they are in a literal. -/
def k4_S (o _k : Nat) : Bool := Nat.beq o 42 || Nat.beq o 884
theorem k4_y : tr_ok k4_S := fun o k q => yR_c.mpr (Or.inl (zR_c.mpr (by
  unfold k4_S at q
  simp only [Bool.or_eq_true, Nat.beq_eq] at q
  omega)))
theorem k4_t {o k : Nat} (h : k4_S o k = true) : rt_S o k = true := rt_c.mpr (by
  unfold k4_S at h
  simp only [Bool.or_eq_true, Nat.beq_eq] at h
  omega)
theorem ps_k {o k : Nat} (h : ps_S o k = true) : k4_S o k = true := by unfold k4_S; rw [show Nat.beq o 42 = true from h]; rfl
/-- R lays a character into its literal -/
def kl_g (g : am_G) (n : Nat) (c : Int32) : am_G := if n < 8000 then am_si g 884 n c else g
theorem cm_325 (g : am_G) (c : Int32) {n : Nat} (hn : n < 100000) : fm_325 g c (nI n) = some (nI (n + 1), kl_g g n c) := by
  unfold fm_325 kl_g
  rw [show (8000 : Int32) = nI 8000 from rfl, nI_1]
  by_cases q : n < 8000
  · rw [if_neg (nI_ge q (by decide)), ai_nI q (by omega), lo_gt, nI_clamp (by omega), if_pos q]
  · rw [if_pos (nI_le (by omega) (by omega)), if_neg q]
theorem kl_f (g : am_G) (n : Nat) (c : Int32) : fx_i (fun o _ => Nat.beq o 884) g (kl_g g n c) ∧ (∀ o k, o ≠ 884 → am_i (kl_g g n c) o k = am_i g o k) ∧ ∀ k, k < 8000 → am_i (kl_g g n c) 884 k = if k = n then c else am_i g 884 k := by
  unfold kl_g
  by_cases q : n < 8000
  · rw [if_pos q]
    refine ⟨fx_si rfl, fun o k h => by rw [gi_si, if_neg (by omega)], fun k _ => ?_⟩
    rw [gi_si]
    by_cases z : k = n
    · rw [if_pos ⟨rfl, z⟩, if_pos z]
    · rw [if_neg (fun y => z y.2), if_neg z]
  · rw [if_neg q]
    exact ⟨fx_re, fun _ _ _ => rfl, fun k hk => by rw [if_neg (by omega)]⟩
theorem e8_y : tr_ok (fun o _ => Nat.beq o 884) := fun o k q => yR_c.mpr (Or.inl (zR_c.mpr (by have := Nat.eq_of_beq_eq_true q; omega)))
theorem e8_z : sr_ok (fun o _ => Nat.beq o 884) := fun o k q => zR_c.mpr (by have := Nat.eq_of_beq_eq_true q; omega)
theorem e8_k {o k : Nat} (h : Nat.beq o 884 = true) : k4_S o k = true := by unfold k4_S; rw [h, Bool.or_true]
theorem gs_y {g g' : am_G} {S : Nat → Nat → Bool} (h : gs_ok g) (f : fx_i S g g') (hS : tr_ok S) : gs_ok g' := gs_lo h fun o k ho => (f.1 o k (tr_f hS (by omega))).1
section
variable {N : Nat} {n : Int32}
theorem kl_lp {ps : Nat} (hps : ps ≤ 18999) : ∀ (m fuel : Nat) {gR gM : am_G} {p : Nat} {rs : List (List Int32)} {i : Int32} (w : List Int32) (l : Nat), fl_n N p rs ≤ m → m < fuel → ps + w.length + m < 19000 → l + m < 50000 → gs_ok gR → fs_ok gR gM N n p rs i → mw_q gM ps w →
    ∃ gR' i' gM' p' rs' v, lo_it (fun k (x : am_G × Int32) => fb_326_16 k x.1 x.2) fuel (gR, nI l) = some (.inl (nI (l + v.length)), gR') ∧ (∀ res, mi_ok n i' gM' res → mi_ok n i gM res) ∧ fs_ok gR' gM' N n p' rs' i' ∧ mw_q gM' ps (w ++ v) ∧ ch_pt i' = false ∧ fx_i k4_S gR gR' ∧ fx_i mq_S gM gM' ∧
      (∀ x ∈ v, ch_pt x = true ∧ ch_ok x) ∧ am_i gM' 943 24 = am_i gM 943 24 ∧ am_i gM' 943 25 = am_i gM 943 25 ∧ v.length + fl_n N p' rs' ≤ fl_n N p rs ∧ p' = ad_p p rs v.length ∧ rs' = ad_r rs v.length ∧ cu_l gR N p rs = v ++ cu_l gR' N p' rs' ∧ (∀ k, k < ps → am_i gM' 951 k = am_i gM 951 k) ∧
      (∀ k x, v[k]? = some x → l + k < 8000 → am_i gR' 884 (l + k) = x) ∧ ∀ k, k < l → k < 8000 → am_i gR' 884 k = am_i gR 884 k := by
  intro m
  induction m with
  | zero =>
    intro fuel gR gM p rs i w l hm hf hb hl hg S L
    obtain ⟨fu, rfl⟩ : ∃ m, fuel = m + 1 := ⟨fuel - 1, by omega⟩
    have hp0 : ch_pt i = false := by
      cases q : ch_pt i with
      | false => rfl
      | true => have := fl_d S (pt_n q); omega
    refine ⟨gR, i, gM, p, rs, [], ?_, fun _ q => q, S, by rw [List.append_nil]; exact L, hp0, fx_re, fx_re, fun _ z => (nomatch z), rfl, rfl, by show 0 + _ ≤ _; omega, (ad_p0 p rs).symm, (ad_r0 rs).symm, rfl, fun _ _ => rfl, fun k x hx => (nomatch hx), fun _ _ _ => rfl⟩
    show fb_326_16 _ _ _ = _
    unfold fb_326_16
    dsimp only
    rw [rs_h S, lo_ps, cm_187 hg, lo_ps, hp0, if_pos (show b2 false = 0 from rfl)]
    rfl
  | succ m ih =>
    intro fuel gR gM p rs i w l hm hf hb hl hg S L
    obtain ⟨fu, rfl⟩ : ∃ m, fuel = m + 1 := ⟨fuel - 1, by omega⟩
    cases q : ch_pt i with
    | false =>
      refine ⟨gR, i, gM, p, rs, [], ?_, fun _ q => q, S, by rw [List.append_nil]; exact L, q, fx_re, fx_re, fun _ z => (nomatch z), rfl, rfl, by show 0 + _ ≤ _; omega, (ad_p0 p rs).symm, (ad_r0 rs).symm, rfl, fun _ _ => rfl, fun k x hx => (nomatch hx), fun _ _ _ => rfl⟩
      show fb_326_16 _ _ _ = _
      unfold fb_326_16
      dsimp only
      rw [rs_h S, lo_ps, cm_187 hg, lo_ps, q, if_pos (show b2 false = 0 from rfl)]
      rfl
    | true =>
      have hi := pt_n q
      obtain ⟨kf1, kf2, kf3⟩ := kl_f gR l i
      have S2 : fs_ok (kl_g gR l i) gM N n p rs i := fs_R S kf1 e8_y (fun k => kf2 42 k (by decide))
      obtain ⟨l1, l2, l3, l4⟩ := L
      have hs : fm_133 (am_si gM 943 29 0) i = some (0, am_si (am_si (am_si gM 943 29 0) 951 (ps + w.length) i) 943 18 (nI (w.length + 1))) := by
        unfold fm_133
        rw [show am_i (am_si gM 943 29 0) 943 26 = am_i gM 943 26 from rfl, l1, if_pos rfl, cm_18, lo_ps, q, if_neg (show ¬ b2 true = 0 by decide), show am_i (am_si gM 943 29 0) 943 17 = am_i gM 943 17 from rfl, show am_i (am_si gM 943 29 0) 943 18 = am_i gM 943 18 from rfl, l2, l3, nI_add, ai_nI (by omega) (by omega), lo_gt, nI_clamp (by omega), nI_1]
      obtain ⟨gR1, i1, g2, e1, e2, e3, e4, e5⟩ := fs_ps S2 hi hs rfl (ag_si rfl (ag_si rfl (ag_si rfl ag_re)))
      have hd := fl_d S2 hi
      have L2 : mw_q g2 ps (w ++ [i]) := by
        refine ⟨((e5.1 943 26 rfl).1).trans l1, ((e5.1 943 17 rfl).1).trans l2, ((e5.1 943 18 rfl).1).trans (by rw [gi_si, if_pos ⟨rfl, rfl⟩, List.length_append]; rfl), fun k x hx => ((e5.1 951 (ps + k) rfl).1).trans ?_⟩
        rw [gi_si, if_neg (by omega), gi_si]
        rcases ap_at hx with ⟨h1, h2⟩ | ⟨h1, h2⟩
        · rw [if_neg (by omega)]; exact l4 k x h2
        · rw [if_pos ⟨rfl, by rw [h1]⟩, h2]
      have f1 : fx_i k4_S gR gR1 := fx_tr (fx_w2 kf1 fun _ _ z => e8_k z) (fx_w2 e2 fun _ _ => ps_k)
      have hg1 : gs_ok gR1 := gs_y hg f1 k4_y
      have hlen : (w ++ [i]).length = w.length + 1 := by rw [List.length_append]; rfl
      obtain ⟨gR', i', gM', p', rs', v, b1, b2', b3, b5, b6, b7, b8, b9, b10, b11, b12, b13, b14, b15, b17, b18, b19⟩ := ih fu (w ++ [i]) (l + 1) (by omega) (by omega) (by rw [hlen]; omega) (by omega) hg1 e4 L2
      have c884 : ∀ k, k < 8000 → am_i gR1 884 k = if k = l then i else am_i gR 884 k := fun k hk => ((e2.1 884 k rfl).1).trans (kf3 k hk)
      refine ⟨gR', i', gM', p', rs', i :: v, ?_, fun res z => e3 res (b2' res z), b3, ?_, b6, fx_tr f1 b7, ?_, ?_, ?_, ?_, ?_, b13.trans (ad_ps _ _ _), b14.trans (ad_rs _ _), ?_, fun k hk => (b17 k hk).trans (((e5.1 951 k rfl).1).trans (by rw [gi_si, if_neg (by omega), gi_si, if_neg (by omega)]; rfl)), fun k x hx hk => ?_, fun k hk hk8 => ?_⟩
      · show fb_326_16 _ _ _ = _
        unfold fb_326_16
        dsimp only
        rw [rs_h S, lo_ps, cm_187 hg, lo_ps, q, if_neg (show ¬ b2 true = 0 by decide), lo_ps, cm_325 gR i (by omega), lo_is, e1, lo_ps]
        rw [show l + (i :: v).length = l + 1 + v.length by rw [List.length_cons]; omega]
        exact b1
      · rw [List.append_assoc] at b5; exact b5
      · exact fx_tr (fx_tr (fx_tr (fx_tr (fx_si rfl) (fx_si rfl)) (fx_si rfl)) (fx_wk e5 fun _ _ => tk_mq)) b8
      · intro x hx
        rcases List.mem_cons.mp hx with z | z
        · rw [z]; exact ⟨q, (fs_in S hi).2.2.2.2.2.2⟩
        · exact b9 x z
      · exact b10.trans (((e5.1 943 24 rfl).1).trans rfl)
      · exact b11.trans (((e5.1 943 25 rfl).1).trans rfl)
      · show v.length + 1 + _ ≤ _
        omega
      · rw [cu_s S hi]
        show i :: _ = i :: (v ++ _)
        rw [← b15, cu_cg (g := gR) (g' := gR1) fun k => (f1.1 37 k rfl).1]
      · cases k with
        | zero =>
          have : x = i := (Option.some.inj hx).symm
          rw [this, Nat.add_zero, b19 l (by omega) (by omega), c884 l (by omega), if_pos rfl]
        | succ k =>
          have hx : v[k]? = some x := hx
          rw [show l + (k + 1) = l + 1 + k by omega]
          exact b18 k x hx (by omega)
      · rw [b19 k (by omega) hk8, c884 k hk8, if_neg (by omega)]
end
section
variable {X : cx_T} {gR gM g0 : am_G} {i s : Int32} {SM : Nat → Nat → Bool}
/-- R's keepName, M in state 60 -/
theorem sy_326 {l : Nat} (h : sy_ok X gR gM i s) (hb : bn_ok gR) (hl : l < 30000) (hst : i = -1 → st_in s) (h0 : i ≠ -1 → fm_133 (am_si gM 943 29 0) i = fm_27 g0 i 4 0) (f0 : fx_i SM gM g0) (hS : sm_ok SM) (hfd : ag_3 fd_S gM g0) (hwr : ag_3 wr_S gM g0) (h29 : am_i g0 943 29 = 0) :
    sx_ok X (fm_326 gR (nI l)) i gM fun a gR' i' gM' => ∃ w, pn_ok X gR' gM' i' w 4 (pw_R gR) ∧ sf_ok pR_S (os_S SM pM_S) gR gM i gR' gM' i' ∧ mu_n gM' i' < mu_n gM i ∧ a = nI (l + w.length) ∧ fx_i k4_S gR gR' ∧ w.length + fl_R gR' ≤ fl_R gR ∧ (am_i gR 39 4 = 0 → bp_R gR + by_s w ≤ bp_R gR') ∧
      (∀ k x, w[k]? = some x → l + k < 8000 → am_i gR' 884 (l + k) = x) ∧ ∀ k, k < l → k < 8000 → am_i gR' 884 k = am_i gR 884 k := by
  have h' := h
  obtain ⟨B, ⟨p, rs, S⟩, W, h26⟩ := h
  obtain ⟨sR, uR, sM, uM, w1, w2, w3, w4, w5, w6⟩ := W.1
  obtain ⟨ps, sM', b1, b2', b3, b4, b5⟩ := cw_bd W S
  have h17 : am_i g0 943 17 = nI ps := ((f0.1 943 17 (sb_f fun w => by have := zM_c.mp (hS _ _ w); omega)).1).trans b1
  have hg : gs_ok gR := B.2.2.2.2.2.2.2
  have hfl := fl_b S.1 S.2.2.1
  unfold fm_326
  rw [rs_h S, lo_ps, cm_186 hg, lo_ps]
  cases q : ch_bg i with
  | false =>
    exact si_bd (nd_f (Q := fun _ _ _ _ => False) B S (fun z => h26 ▸ hst z) fun hi => ⟨g0, by rw [h0 hi, cm_27f q], hwr, f0.2.1⟩) fun _ _ _ _ z => z.elim
  | true =>
    rw [show b2 true = 1 from rfl, nd_t, lo_tl]
    have hi := bg_n q
    have hfl1 := fl_d S hi
    have hs : fm_133 (am_si gM 943 29 0) i = some (0, am_si (am_si (am_si (am_si (am_si (am_si g0 943 24 4) 943 25 (am_i g0 943 30)) 943 18 0) 951 ps i) 943 18 1) 943 26 5) := by
      rw [h0 hi]; exact cm_27 q h17 (by omega)
    obtain ⟨kf1, kf2, kf3⟩ := kl_f gR l i
    have S2 : fs_ok (kl_g gR l i) gM X.2.2.2.2.1 X.2.2.2.2.2 p rs i := fs_R S kf1 e8_y (fun k => kf2 42 k (by decide))
    obtain ⟨gR1, i1, g2, e1, e2, e3, e4, e5⟩ := fs_ps S2 hi hs (by show am_i g0 943 29 = 0; exact h29) (ag_tr hfd (ag_si rfl (ag_si rfl (ag_si rfl (ag_si rfl (ag_si rfl (ag_si rfl ag_re)))))))
    have L1 : mw_q g2 ps [i] := by
      refine ⟨((e5.1 943 26 rfl).1).trans rfl, ((e5.1 943 17 rfl).1).trans h17, ((e5.1 943 18 rfl).1).trans rfl, fun k x hx => ((e5.1 951 (ps + k) rfl).1).trans ?_⟩
      have hk : k = 0 := by
        have := (List.getElem?_eq_some_iff.mp hx).1
        have : k < 1 := this
        omega
      subst hk
      cases hx
      rw [gi_si, if_neg (by omega), gi_si, if_neg (by omega), gi_si, if_pos ⟨rfl, rfl⟩]
    have f1 : fx_i k4_S gR gR1 := fx_tr (fx_w2 kf1 fun _ _ z => e8_k z) (fx_w2 e2 fun _ _ => ps_k)
    have hg1 : gs_ok gR1 := gs_y hg f1 k4_y
    obtain ⟨m, hm⟩ : ∃ m, nf_F = m + 1 := ⟨nf_F - 1, by have := nf_le; omega⟩
    obtain ⟨gR', i', gM', p', rs', v, c1, c2, c3, c5, c6, c7, c8, c9, c10, c11, c12, c13, c14, c15, c17, c18, c19⟩ := kl_lp (ps := ps) (by omega) (fl_n X.2.2.2.2.1 (nx_p p rs) (nx_r rs)) m [i] (l + 1) (Nat.le_refl _) (by have := nf_le; omega) (by show ps + 1 + _ < _; omega) (by omega) hg1 e4 L1
    have c884 : ∀ k, k < 8000 → am_i gR1 884 k = if k = l then i else am_i gR 884 k := fun k hk => ((e2.1 884 k rfl).1).trans (kf3 k hk)
    have el : fh_326_16 (gR, nI l) = some (.inl (nI (l + (i :: v).length)), gR') := by
      unfold fh_326_16
      rw [hm]
      show fb_326_16 _ _ _ = _
      unfold fb_326_16
      dsimp only
      rw [rs_h S, lo_ps, cm_187 hg, lo_ps, bg_pt q, if_neg (show ¬ b2 true = 0 by decide), lo_ps, cm_325 gR i (by omega), lo_is, e1, lo_ps]
      rw [show l + (i :: v).length = l + 1 + v.length by rw [List.length_cons]; omega]
      exact c1
    rw [el]
    have hv : ∀ x ∈ i :: v, ch_pt x = true ∧ ch_ok x := by
      intro x hx
      rcases List.mem_cons.mp hx with z | z
      · rw [z]; exact ⟨bg_pt q, (fs_in S hi).2.2.2.2.2.2⟩
      · exact c9 x z
    have fR : fx_i k4_S gR gR' := fx_tr f1 c7
    have fM : fx_i mq_S g0 gM' := fx_tr (fx_tr (fx_tr (fx_tr (fx_tr (fx_tr (fx_tr (fx_si rfl) (fx_si rfl)) (fx_si rfl)) (fx_si rfl)) (fx_si rfl)) (fx_si rfl)) (fx_wk e5 fun _ _ => tk_mq)) c8
    have hcu : cu_l gR X.2.2.2.2.1 p rs = (i :: v) ++ cu_l gR' X.2.2.2.2.1 p' rs' := by
      rw [cu_s S hi]
      show i :: _ = i :: (v ++ _)
      rw [← c15, cu_cg (g := gR) (g' := gR1) fun k => (f1.1 37 k rfl).1]
    have hpw : am_i gM' 943 25 = pw_R gR := by
      refine c11.trans (((e5.1 943 25 rfl).1).trans ?_)
      show am_i g0 943 30 = _
      rw [(hwr 943 30 rfl).1, ← pw_fs S]
      exact (fs_in S hi).2.2.2.2.1
    have hln : (i :: v).length + fl_n X.2.2.2.2.1 p' rs' ≤ fl_n X.2.2.2.2.1 p rs := by show v.length + 1 + _ ≤ _; omega
    have hpp : p' = ad_p p rs (i :: v).length := c13.trans (ad_ps _ _ _)
    have hrr : rs' = ad_r rs (i :: v).length := c14.trans (ad_rs _ _)
    obtain ⟨d1, d2, d3⟩ := sy_pn h' hb S f0 hS c3 (List.cons_ne_nil i v) hv w1.2.2.2.1 c5 c6 (fx_w2 fR fun _ _ => k4_t) fM (c10.trans (((e5.1 943 24 rfl).1).trans rfl)) hpw hln hpp hrr hcu (fun k _ => (fR.1 44 k rfl).1) (fun k hk => (c17 k hk).trans (((e5.1 951 k rfl).1).trans (by rw [gi_si, if_neg (by omega), gi_si, if_neg (by omega), gi_si, if_neg (by omega)]; rfl))) w1.2.1 b1 b3
    refine ⟨_, rfl, i', gM', fun res z => e3 res (c2 res z), i :: v, d1, d2, d3, rfl, fR, by rw [fl_fs S, fl_fs c3]; exact hln, fun h0' => ?_, fun k x hx hk => ?_, fun k hk hk8 => ?_⟩
    · have hrs : rs = [] := by
        cases rs with
        | nil => rfl
        | cons r rest =>
          have := S.2.2.1.1
          rw [h0'] at this
          exact absurd this.symm (nI_ne0 (by rw [List.length_cons]; omega) (by have := S.2.2.1.2.1; omega))
      subst hrs
      refine (bp_fs W.2.1 S c3 (fun k => (fR.1 38 k rfl).1) hpp ?_).1
      have hcu : sl_l (am_i gR 37) p (X.2.2.2.2.1 - p) = (i :: v) ++ cu_l gR' X.2.2.2.2.1 p' rs' := hcu
      have hwl : (i :: v).length ≤ X.2.2.2.2.1 - p := by
        have := congrArg List.length hcu
        rw [sl_len, List.length_append] at this
        omega
      rw [show X.2.2.2.2.1 - p = (i :: v).length + (X.2.2.2.2.1 - p - (i :: v).length) by omega, sl_ap] at hcu
      exact (List.append_inj hcu (sl_len _ _ _)).1
    · cases k with
      | zero =>
        have : x = i := (Option.some.inj hx).symm
        rw [this, Nat.add_zero, c19 l (by omega) (by omega), c884 l (by omega), if_pos rfl]
      | succ k =>
        have hx : v[k]? = some x := hx
        rw [show l + (k + 1) = l + 1 + k by omega]
        exact c18 k x hx (by omega)
    · rw [c19 k (by omega) hk8, c884 k hk8, if_neg (by omega)]
end
