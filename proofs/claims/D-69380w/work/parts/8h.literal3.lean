/-! Literals of entities: the loop. -/
section
variable {X : cx_T} {gR gM gM' : am_G} {i s : Int32}
/-- in the text, what is passed has bytes -/
theorem bp_lt {gR' : am_G} {i' s' : Int32} {SR SM : Nat → Nat → Bool} (h : sy_ok X gR gM i s) (h2 : sy_ok X gR' gM' i' s') (f : fx_i SR gR gR') (h1 : tr_ok SR) (fM : fx_i SM gM gM') (hM : tm_ok SM) (h0 : am_i gR 39 4 = 0) (hmu : mu_n gM' i' < mu_n gM i) : bp_R gR + 1 ≤ bp_R gR' := by
  obtain ⟨_, ⟨p, rs, S⟩, W, _⟩ := h
  obtain ⟨_, ⟨p', rs', S'⟩, _⟩ := h2
  have nil : ∀ {g : am_G} {q : Nat} {l : List (List Int32)}, rf_ok g q l → am_i g 39 4 = 0 → l = [] := by
    intro g q l hr h0
    cases l with
    | nil => rfl
    | cons r rest =>
      have := hr.1
      rw [h0] at this
      exact absurd this.symm (nI_ne0 (by rw [List.length_cons]; omega) (by have := hr.2.1; omega))
  have hrs := nil S.2.2.1 h0
  have hrs' := nil S'.2.2.1 (((f.1 39 4 (tr_f h1 (by omega))).1).trans h0)
  subst hrs
  subst hrs'
  have m14 : mc_n gM' 14 = mc_n gM 14 := by unfold mc_n; rw [(fM.1 943 14 (tm_f hM (by omega))).1]
  have m15 : mc_n gM' 15 = mc_n gM 15 := by unfold mc_n; rw [(fM.1 943 15 (tm_f hM (by omega))).1]
  rw [mu_fs S, mu_fs S', m14, m15] at hmu
  have hN := S.1.1
  have hp1 := S.2.2.2.1
  have hp2 := S'.2.2.2.1
  have hp : p < p' := by
    have : X.2.2.2.2.1 - p' < X.2.2.2.2.1 - p := by
      have e1 : rl_n ([] : List (List Int32)) = 0 := rfl
      have e2 : ([] : List (List Int32)).length = 0 := rfl
      omega
    omega
  have := (bp_fs (l := sl_l (am_i gR 37) p (p' - p)) W.2.1 S S' (fun k => (f.1 38 k (tr_f h1 (by omega))).1) (by rw [sl_len]; omega) (by rw [sl_len])).1
  have b := by_l (sl_l (am_i gR 37) p (p' - p))
  rw [sl_len] at b
  omega
theorem ps_y : tr_ok ps_S := tr_s ps_z
theorem sy_324l {gR0 gM0 : am_G} {i0 q : Int32} {tS b0 fl0 : Nat} {L0 : List (List Int32)} {lit : List Int32} (hq : q = 34 ∨ q = 39) (htS : tS ≤ 8000) (hfl : tS + fl0 ≤ 14000) (hbn : am_i gM 943 101 = nI tS) (h : li_I X gR0 gM0 i0 tS L0 b0 fl0 q gR gM i lit) :
    sx_ok X (fh_324_7 (gR, q, nI lit.length)) i gM fun a gR1 i' gM' => lt_Q X gR0 gM0 i0 tS L0 b0 fl0 a gR1 i' gM' := by
  unfold fh_324_7
  refine sx_F (I := fun (x : am_G × Int32 × Int32) j gN => ∃ lit : List Int32, x.2.1 = q ∧ x.2.2 = nI lit.length ∧ li_I X gR0 gM0 i0 tS L0 b0 fl0 q x.1 gN j lit) (fun x j gN ⟨_, _, _, z⟩ => ⟨x.1, 70, z.1⟩) ?_ (x := (gR, q, nI lit.length)) ⟨lit, rfl, rfl, h⟩
  rintro K ⟨gA, q', n'⟩ j gN ⟨lit, e1, e2, hI⟩ ih
  dsimp only at e1 e2 hI
  subst e1
  subst e2
  show sx_ok X (fb_324_7 K gA q' (nI lit.length)) j gN _
  have hI' := hI
  obtain ⟨h1, h2, ⟨h3, h4, h5⟩, h6, h7, h8, h9, h10⟩ := hI
  have hst : st_in 70 := by unfold st_in; decide
  have hq38 : q' ≠ 38 := by rcases hq with e | e <;> (rw [e]; decide)
  have hq37 : q' ≠ 37 := by rcases hq with e | e <;> (rw [e]; decide)
  have hM : fm_133 (am_si gN 943 29 0) j = if j = q' then fm_108 (am_si gN 943 29 0) else if j = 38 then some (0, am_si (am_si (am_si (am_si gN 943 29 0) 943 39 (am_i gN 943 30)) 943 40 70) 943 26 60) else if j = 37 then some (0, am_si (am_si (am_si gN 943 29 0) 943 42 (am_i gN 943 30)) 943 26 71) else lo_g (ai_in (nI (tS + lit.length)) 15000) (some (0, (am_si (am_si (am_si gN 943 29 0) 989 (tS + lit.length) j) 943 102 (nI (tS + lit.length) + 1)))) := by
    rw [ms_70 (sy_26 h1), show am_i (am_si gN 943 29 0) 943 38 = am_i gN 943 38 from rfl, h4, show am_i (am_si gN 943 29 0) 943 102 = am_i gN 943 102 from rfl, h5, nI_clamp (by omega)]
    rfl
  unfold fb_324_7
  rw [sy_is h1, lo_ps]
  by_cases qq : j = q'
  · -- the quote
    rw [decide_eq_true qq, if_neg (by decide)]
    obtain ⟨gB, y1, y2, y3, y4⟩ := sy_77 h1 (by rw [qq]; exact qt_n hq)
    rw [y1, lo_ps]
    rw [if_pos qq] at hM
    subst qq
    exact ⟨_, rfl, j, gN, fun _ z => z, j, lit, gA, hq, rfl, rfl, hI', y1, hM⟩
  rw [decide_eq_false qq, if_pos (by decide), sy_w h1, lo_ps, sy_is h1, lo_ps]
  rw [if_neg qq] at hM
  have hwh := wh_pw gA
  by_cases q37 : j = 37
  · -- a parameter entity's reference
    rw [decide_eq_true q37, if_neg (by decide)]
    rw [if_neg (by rw [q37]; decide), if_pos q37] at hM
    have hj : j ≠ -1 := by rw [q37]; decide
    obtain ⟨gB, j2, gO, y1, y2, y3, y4, y5, y6, y7⟩ := sy_ps (SM := l8_S) h1 hj hM rfl (fx_tr (fx_tr (fx_si rfl) (fx_si rfl)) (fx_si rfl)) (ag_si rfl (ag_si rfl (ag_si rfl ag_re))) l8_z (fun _ _ => tk_8)
    rw [y1, lo_ps]
    have n37 : ch_pt j = false := by
      rw [q37]
      unfold ch_pt
      rw [show ch_bg 37 = false from ch_f (by rw [show (37 : Int32).toInt = 37 from rfl]; unfold bg_P; omega), show ch_px 37 = false from ch_f (by rw [show (37 : Int32).toInt = 37 from rfl]; unfold px_P; omega)]
      rfl
    have w42 : am_i gO 943 42 = pw_R gA := ((y5.1 943 42 rfl).1).trans (sy_30 h1 hj)
    refine si_m y2 (si_bd (sy_sl (SM := ct_S) (g0 := am_si gO 943 29 0) (k := 7) y3 (y7 n37) (fun _ => by unfold st_in; decide) (fun _ => by rw [ms_71 (sy_26 y3)]) (fx_si rfl) ct_z (ag_si rfl ag_re) (ag_si rfl ag_re) rfl) ?_)
    rintro _ gC j3 gP ⟨w, p1, p2, p3, p4, p5, p6, p7⟩
    obtain ⟨m, gM1, k1, k2, k3, k4, k5, k6, k7, k8, k9, k10, k11, k12⟩ := sy_kn p1
    have hpt := p1.2.2.2.2.2.2.2.1
    obtain ⟨c1, c2, c3⟩ := sy_go (SR := pR_S) (SM := ct_S) (gM3 := am_si gM1 943 26 72) (t := 72) ⟨k4, k3, hpt, k10⟩ (by rw [nk_7 k8]; rfl) (fx_si rfl) ct_z (ag_si rfl ag_re) rfl rfl rfl (by decide)
    have hwC : wh_ok gC (pw_R gA) := by
      unfold wh_ok at hwh ⊢
      rw [(p2.1.1 39 4 rfl).1, (p2.1.1 39 5 rfl).1, (y4.1.1 39 4 rfl).1, (y4.1.1 39 5 rfl).1]
      exact hwh
    refine si_m c1 (si_bd (Q := fun _ _ _ _ => False) ?_ fun _ _ _ _ z => z.elim)
    have key : sx_ok X (lo_t (fm_244 gC 59) fun y35 g36 => lo_i (fm_236 g36 9 (pw_R gA)) fun y37 g38 => lo_g (Nat.ble 1008 y37 && Nat.blt y37 (am_sz g38)) (some ((.inr y37 : Unit ⊕ Nat), g38))) j3 (am_si gM1 943 26 72) fun _ _ _ _ => False := by
      unfold fm_244
      rw [sy_is c2, lo_ps]
      by_cases q59 : j3 = 59
      · subst q59
        rw [decide_eq_true rfl, show b2 true = 1 from rfl, nd_t, lo_tl]
        obtain ⟨gD, d1, d2, d3, d4⟩ := sy_77 c2 (by decide)
        rw [d1, lo_ps, lo_tl]
        have hs : fm_133 (am_si (am_si gM1 943 26 72) 943 29 0) 59 = fm_21 (am_si (am_si gM1 943 26 72) 943 29 0) 9 (pw_R gA) := by
          rw [ms_72 (sy_26 c2), if_pos rfl]
          congr 1
          show am_i gM1 943 42 = _
          rw [(k3.1 943 42 rfl).1, (p2.2.1.1 943 42 rfl).1]; exact w42
        rw [cm_21, sy_wh c2 hwC (g' := am_si (am_si gM1 943 26 72) 943 29 0) rfl rfl] at hs
        obtain ⟨B3, ⟨p3', rs3, S3⟩, _, _⟩ := c2
        exact th_fa d4 (mi_f (by decide) (fs_in S3 (by decide)).1 (by decide) hs) rfl rfl B3.2.2.2.2.2.2.1 (ag_si rfl (ag_si rfl (ag_si rfl (ag_si rfl ag_re)))) rfl
      · rw [decide_eq_false q59]
        refine si_bd (Q := fun _ _ _ _ => False) (si_bd (sy_n1 (Q := fun _ _ _ _ => False) c2 (fun _ => by unfold st_in; decide) (fun g hg _ => by rw [ms_72 hg, if_neg q59])) fun _ _ _ _ z => z.elim) fun _ _ _ _ z => z.elim
    sorry
  rw [decide_eq_false q37, if_pos (by decide), sy_is h1, lo_ps]
  rw [if_neg (show ¬ j = 37 from q37)] at hM
  by_cases q38 : j = 38
  · rw [decide_eq_true q38, if_neg (by decide)]
    rw [if_pos q38] at hM
    sorry
  rw [decide_eq_false q38, if_pos (by decide), sy_is h1, lo_ps]
  rw [if_neg q38] at hM
  unfold fj_324_80
  by_cases qe : j = -1
  · rw [decide_eq_true qe, if_neg (by decide)]
    exact si_bd (sy_nd (Q := fun _ _ _ _ => False) h1 (fun _ => hst) fun w => absurd qe w) fun _ _ _ _ z => z.elim
  rw [decide_eq_false qe, if_pos (by decide), nd_t, lo_tl, sy_h h1, lo_ps, cm_325 gA j (by omega), lo_is]
  have hf1 : 1 ≤ fl_R gA := by
    obtain ⟨gB, y1, y2, y3, y4⟩ := sy_77 h1 qe
    have := sy_f1 h1 qe y1
    omega
  rw [ai_nI (by omega) (by omega), lo_gt, nI_1] at hM
  obtain ⟨kf1, kf2, kf3⟩ := kl_f gA lit.length j
  obtain ⟨w1, w2⟩ := sy_R (SR := fun o _ => Nat.beq o 884) (SM := l9_S) (gR' := kl_g gA lit.length j) h1 kf1 e8_z (fun k => kf2 42 k (by decide))
  obtain ⟨gB, j2, gO, y1, y2, y3, y4, y5, y6, y7, y8, y9⟩ := sy_p9 w1 qe hM rfl (fx_tr (fx_tr (fx_si rfl) (fx_si rfl)) (fx_si rfl)) (ag_si rfl (ag_si rfl (ag_si rfl ag_re))) (fun tS' k z1 z2 z3 => by
    have : tS' = tS := sz_u z1 h3 (by omega) (by omega)
    rw [gi_si, if_neg (by omega), gi_si, if_neg (by omega)]
    rfl)
  rw [y1, lo_ps]
  have e26 : am_i (am_si (am_si (am_si gN 943 29 0) 989 (tS + lit.length) j) 943 102 (nI (tS + lit.length + 1))) 943 26 = 70 := h1.2.2.2
  rw [e26] at y3
  have tkc : ∀ o k, tk_S o k = false → am_i gO o k = am_i (am_si (am_si (am_si gN 943 29 0) 989 (tS + lit.length) j) 943 102 (nI (tS + lit.length + 1))) o k := fun o k z => (y6.1 o k z).1
  have psc : ∀ o k, o ≠ 42 → am_i gB o k = am_i (kl_g gA lit.length j) o k := fun o k z => (y4.1 o k (beq_f z)).1
  have hl1 : (lit ++ [j]).length = lit.length + 1 := by rw [List.length_append]; rfl
  have F : sf_ok pR_S lM_S gA gN j gB gO j2 := sf_tr (sf_wk w2 (fun _ _ z => pR_c.mpr (by have := Nat.eq_of_beq_eq_true z; omega)) (fun _ _ => lM_9)) (sf_9 y4 y5 y7 (Nat.le_of_lt y8))
  refine si_m y2 (ih (gB, q', nI (lit.length + 1)) j2 gO ⟨lit ++ [j], rfl, by rw [hl1], li_k (v := [j]) hI' y3 F ((tkc 943 101 rfl).trans rfl) ((tkc 943 38 rfl).trans rfl) ((tkc 943 102 rfl).trans rfl) (fun x hx => ?_) (fun k x hx => ?_) (fun k hk => ?_) (fun k x hx hk => ?_) (fun k hk hk8 => ?_) ?_ ⟨?_, fun z => ?_⟩ (fun sM z1 z2 => ?_)⟩ y8)
  · rw [List.mem_singleton.mp hx]; exact (sy_c h1).resolve_left qe
  · obtain ⟨rfl, rfl⟩ := g1_v hx
    rw [tkc 989 _ rfl, gi_si, if_neg (by omega), Nat.add_zero, gi_si, if_pos ⟨rfl, rfl⟩]
  · rw [tkc 989 _ rfl, gi_si, if_neg (by omega), gi_si, if_neg (by omega)]; rfl
  · obtain ⟨rfl, rfl⟩ := g1_v hx
    rw [psc 884 _ (by decide), kf3 _ hk, Nat.add_zero, if_pos rfl]
  · rw [psc 884 _ (by decide), kf3 _ hk8, if_neg (by omega)]
  · have a := sy_f1 w1 qe y1
    have b : fl_R (kl_g gA lit.length j) ≤ fl_R gA := sy_fm h1 w1 kf1 e8_y
    show 1 + _ ≤ _
    omega
  · rw [psc 39 4 (by decide)]; exact kf2 39 4 (by decide)
  · have a := bp_1 w1 qe y1 y3 ((kf2 39 4 (by decide)).trans z)
    have b : bp_R gA ≤ bp_R (kl_g gA lit.length j) := bp_mo h1 w1 kf1 e8_y
    show bp_R gA + (u8_c j + 0) ≤ _
    omega
  · have e21 : am_i gO 943 21 = am_i gN 943 21 := (tkc 943 21 rfl).trans rfl
    have enl : nl_L gO sM = nl_L gN sM := nl_cg fun m _ => by
      unfold mn_s
      rw [tkc 952 m rfl, tkc 953 m rfl]
      exact sl_cg fun k _ => (tkc 951 _ rfl).trans rfl
    rw [enl]
    exact li_c (h9 sM (e21.symm.trans z1) z2) j
end
