/-! Both in step, with the core of the world; readers over it. -/
abbrev cx_T : Type := Nat × Nat × am_G × am_G × Nat × Int32
def cw_ok (gR gM : am_G) : Prop := nm_w gR gM ∧ po_w gR gM ∧ en_w gR gM ∧ fr_w gR gM
def sy_ok (X : cx_T) (gR gM : am_G) (i s : Int32) : Prop := bi_ok X.1 X.2.1 X.2.2.1 X.2.2.2.1 gR gM ∧ (∃ p rs, fs_ok gR gM X.2.2.2.2.1 X.2.2.2.2.2 p rs i) ∧ cw_ok gR gM ∧ am_i gM 943 26 = s
abbrev sx_ok {α : Type} (X : cx_T) (F : Option ((α ⊕ Nat) × am_G)) (i : Int32) (gM : am_G) (Q : α → am_G → Int32 → am_G → Prop) : Prop := si_ok X.2.2.2.2.2 (ft_ok X.1 X.2.1 X.2.2.1 X.2.2.2.1) F i gM Q
abbrev mv_ok (X : cx_T) (i : Int32) (gM : am_G) (i' : Int32) (gM' : am_G) : Prop := ∀ res, mi_ok X.2.2.2.2.2 i' gM' res → mi_ok X.2.2.2.2.2 i gM res
/-- what changes -/
def sf_ok (SR SM : Nat → Nat → Bool) (gR gM : am_G) (i : Int32) (gR' gM' : am_G) (i' : Int32) : Prop := fx_i SR gR gR' ∧ fx_i SM gM gM' ∧ (∀ a b, nq_ok gR gM a b → nq_ok gR' gM' a b) ∧ mu_n gM' i' ≤ mu_n gM i
section
variable {SR SM TR TM : Nat → Nat → Bool} {gR gM gR' gM' gR2 gM2 : am_G} {i i' i2 : Int32}
theorem sf_re : sf_ok SR SM gR gM i gR gM i := ⟨fx_re, fx_re, fun _ _ h => h, Nat.le_refl _⟩
theorem sf_tr (a : sf_ok SR SM gR gM i gR' gM' i') (b : sf_ok SR SM gR' gM' i' gR2 gM2 i2) : sf_ok SR SM gR gM i gR2 gM2 i2 := ⟨fx_tr a.1 b.1, fx_tr a.2.1 b.2.1, fun x y h => b.2.2.1 x y (a.2.2.1 x y h), Nat.le_trans b.2.2.2 a.2.2.2⟩
theorem sf_wk (a : sf_ok SR SM gR gM i gR' gM' i') (h1 : ∀ o k, SR o k = true → TR o k = true) (h2 : ∀ o k, SM o k = true → TM o k = true) : sf_ok TR TM gR gM i gR' gM' i' := ⟨fx_w2 a.1 h1, fx_w2 a.2.1 h2, a.2.2.1, a.2.2.2⟩
end
/-- names are the same where the pools are -/
theorem nq_cg {gR gM gR' gM' : am_G} (h5 : am_i gR' 43 5 = am_i gR 43 5) (hR : ∀ sR, am_i gR 43 5 = nI sR → sR ≤ 7200 → ∀ r, r < sR → rn_s gR' r = rn_s gR r) (h21 : am_i gM' 943 21 = am_i gM 943 21) (hM : ∀ sM, am_i gM 943 21 = nI sM → sM ≤ 6000 → ∀ m, m < sM → mn_s gM' m = mn_s gM m) : ∀ a b, nq_ok gR gM a b → nq_ok gR' gM' a b := by
  intro a b h
  refine nq_up (fun s e h7 => ⟨s, h5.trans e, Nat.le_refl _, h7, hR s e h7⟩) (fun s e h6 => ⟨s, h21.trans e, Nat.le_refl _, h6, hM s e h6⟩) h
theorem np_cg {sz hm : Nat} {S T : Nat → List Int32} {H : List Int32 → Nat} {nx hd nx' hd' : Nat → Int32} (hs : ∀ i, i < sz → T i = S i) (h1 : ∀ i, nx' i = nx i) (h2 : ∀ i, hd' i = hd i) (N : np_ok sz S H nx hd hm) : np_ok sz T H nx' hd' hm := by
  have e1 : nx' = nx := funext h1
  have e2 : hd' = hd := funext h2
  subst e1
  subst e2
  obtain ⟨n1, n2, n3⟩ := N
  have pv : ∀ c h p, c ≤ sz → np_pv S H c h p → np_pv T H c h p := by
    intro c h p hc K
    unfold np_pv at K ⊢
    rcases K with ⟨k1, k2⟩ | ⟨q, k1, k2, k3, k4⟩
    · exact Or.inl ⟨k1, fun j hj => by rw [hs j (by omega)]; exact k2 j hj⟩
    · exact Or.inr ⟨q, k1, k2, by rw [hs q (by omega)]; exact k3, fun j j1 j2 => by rw [hs j (by omega)]; exact k4 j j1 j2⟩
  refine ⟨fun i j hi hj e => n1 i j hi hj (by rw [← hs i hi, ← hs j hj]; exact e), fun i hi => ?_, fun h hh => pv _ _ _ (Nat.le_refl _) (n3 h hh)⟩
  rw [hs i hi]
  exact pv _ _ _ (by omega) (n2 i hi)
/-- names where the pools' cells are the same as far as they are used -/
theorem nm_cg {gR gM gR' gM' : am_G} (W : nm_w gR gM) (h43 : ∀ k, k = 5 ∨ k = 6 → am_i gR' 43 k = am_i gR 43 k) (h44 : ∀ u k, am_i gR 43 6 = nI u → u ≤ 14540 → k < u → am_i gR' 44 k = am_i gR 44 k) (h45 : ∀ o k, 45 ≤ o → o ≤ 48 → am_i gR' o k = am_i gR o k)
    (h943 : ∀ k, k = 17 ∨ k = 21 → am_i gM' 943 k = am_i gM 943 k) (h951 : ∀ u k, am_i gM 943 17 = nI u → u ≤ 19000 → k < u → am_i gM' 951 k = am_i gM 951 k) (h952 : ∀ o k, 952 ≤ o → o ≤ 955 → am_i gM' o k = am_i gM o k) :
    nm_w gR' gM' ∧ (∀ a b, nq_ok gR gM a b → nq_ok gR' gM' a b) ∧ (∀ sM, am_i gM 943 21 = nI sM → sM ≤ 6000 → ∀ m, m < sM → mn_s gM' m = mn_s gM m) := by
  obtain ⟨sR, uR, sM, uM, w1, w2, w3, w4, w5, w6⟩ := W
  have hr : ∀ r, r < sR → rn_s gR' r = rn_s gR r := fun r hr => by
    obtain ⟨a, z, e1, e2, e3, e4⟩ := w1.2.2.2.2.1 r hr
    have hu := w1.2.2.2.1
    unfold rn_s
    rw [h45 45 r (by omega) (by omega), h45 46 r (by omega) (by omega), e1, e2, nI_clamp (by omega), nI_clamp (by omega)]
    exact sl_cg fun i hi => h44 uR _ w1.2.1 hu (by omega)
  have hm : ∀ m, m < sM → mn_s gM' m = mn_s gM m := fun m hm => by
    obtain ⟨a, z, e1, e2, e4⟩ := w2.2.2.2.2.1 m hm
    have hu := w2.2.2.2.1
    unfold mn_s
    rw [h952 952 m (by omega) (by omega), h952 953 m (by omega) (by omega), e1, e2, nI_clamp (by omega), nI_clamp (by omega)]
    exact sl_cg fun i hi => h951 uM _ w2.2.1 hu (by omega)
  have hm2 : ∀ s, am_i gM 943 21 = nI s → s ≤ 6000 → ∀ m, m < s → mn_s gM' m = mn_s gM m := fun s e h6 m hms => by
    have : s = sM := sz_u e w2.1 (by omega) (by have := w2.2.2.1; omega)
    subst this
    exact hm m hms
  refine ⟨⟨sR, uR, sM, uM, ?_, ?_, ?_, ?_, fun r hrr => ?_, fun m hmm => ?_⟩, ?_, hm2⟩
  · exact ⟨(h43 5 (Or.inl rfl)).trans w1.1, (h43 6 (Or.inr rfl)).trans w1.2.1, w1.2.2.1, w1.2.2.2.1, fun i hi => by rw [h45 45 i (by omega) (by omega), h45 46 i (by omega) (by omega)]; exact w1.2.2.2.2.1 i hi, np_cg hr (fun i => h45 47 i (by omega) (by omega)) (fun i => h45 48 i (by omega) (by omega)) w1.2.2.2.2.2⟩
  · exact ⟨(h943 21 (Or.inr rfl)).trans w2.1, (h943 17 (Or.inl rfl)).trans w2.2.1, w2.2.2.1, w2.2.2.2.1, fun i hi => by rw [h952 952 i (by omega) (by omega), h952 953 i (by omega) (by omega)]; exact w2.2.2.2.2.1 i hi, np_cg hm (fun i => h952 954 i (by omega) (by omega)) (fun i => h952 955 i (by omega) (by omega)) w2.2.2.2.2.2⟩
  · rw [w3]; exact (sn_cg hr).symm
  · rw [w4]; exact (sn_cg hm).symm
  · obtain ⟨m, m1, m2⟩ := w5 r hrr
    exact ⟨m, m1, by rw [hr r hrr, hm m m1]; exact m2⟩
  · rw [hm m hmm]; exact w6 m hmm
  · refine nq_cg (h43 5 (Or.inl rfl)) (fun s e h7 r hrs => ?_) (h943 21 (Or.inr rfl)) hm2
    have : s = sR := sz_u e w1.1 (by omega) (by have := w1.2.2.1; omega)
    subst this
    exact hr r hrs
theorem fr_cg {gR gM gR' gM' : am_G} (W : fr_w gR gM) (h39 : ∀ k, k = 4 ∨ k = 6 → am_i gR' 39 k = am_i gR 39 k) (h33 : am_i gR' 33 10 = am_i gR 33 10) (h40 : ∀ d, am_r gR' 40 d = am_r gR 40 d) (h41 : ∀ d, am_i gR' 41 d = am_i gR 41 d) (ht : ∀ o k, 855 ≤ o → o ≤ 866 → am_i gR' o k = am_i gR o k)
    (hM : ∀ k, k = 9 ∨ k = 14 ∨ k = 15 ∨ k = 95 → am_i gM' 943 k = am_i gM 943 k) (h950 : ∀ d, am_i gM' 950 d = am_i gM 950 d) (h986 : ∀ j, am_i gM' 986 j = am_i gM 986 j) : fr_w gR' gM' := by
  obtain ⟨F, En, mt, lim, a1, a2, a3, a4, a5, a6, a7, a8, a9, a10, a11, a12, a13, a14⟩ := W
  have en : ∀ pc j, en_n gM' pc j = en_n gM pc j := fun pc j => by
    induction j with
    | zero => rfl
    | succ j ih => show en_n gM' pc j + _ = en_n gM pc j + _; rw [ih, h986]
  refine ⟨F, En, mt, lim, (hM 9 (by omega)).trans a1, (h39 4 (by omega)).trans a2, a3, (hM 95 (by omega)).trans a4, a5, (h39 6 (by omega)).trans a6, (hM 14 (by omega)).trans a7, a8, a9, h33.trans a10, (hM 15 (by omega)).trans a11, fun d hd => ?_, fun d d' hd hd' e => a13 d d' hd hd' (by rw [← h950, ← h950]; exact e), fun j pc hj hpc => ?_⟩
  · obtain ⟨j, pc, hj, b1, b2, b3, b4⟩ := a12 d hd
    exact ⟨j, pc, hj, (h950 d).trans b1, (h986 j).trans b2, (h40 _).trans b3, by rw [h41, en]; exact b4⟩
  · rw [h986] at hpc
    have := a14 j pc hj hpc
    rw [en, ht _ _ (by cases pc <;> decide) (by cases pc <;> decide)]
    refine ⟨fun ⟨d, d1, d2⟩ => this.1 ⟨d, d1, (h950 d).symm.trans d2⟩, fun w => this.2 fun d d1 d2 => w d d1 ((h950 d).trans d2)⟩
theorem en_xc {g h : am_G} (W : ∀ o k, 987 ≤ o → o ≤ 989 → am_i h o k = am_i g o k) (j : Nat) : en_x h j = en_x g j := by
  unfold en_x
  rw [W 987 j (by omega) (by omega), W 988 j (by omega) (by omega)]
  exact sl_cg fun i _ => W 989 _ (by omega) (by omega)
/-- the core goes over -/
theorem cw_cg {gR gM gR' gM' : am_G} {N p p' : Nat} {n i i' : Int32} {rs rs' : List (List Int32)} {SR SM : Nat → Nat → Bool} (W : cw_ok gR gM) (S : fs_ok gR gM N n p rs i) (S' : fs_ok gR' gM' N n p' rs' i') (f1 : fx_i SR gR gR') (f2 : fx_i SM gM gM') (h1 : sr_ok SR) (h2 : sm_ok SM) :
    cw_ok gR' gM' ∧ (∀ a b, nq_ok gR gM a b → nq_ok gR' gM' a b) := by
  have r : ∀ o k, zR_S o k = false → am_i gR' o k = am_i gR o k ∧ am_r gR' o k = am_r gR o k := fun o k q => by
    have := f1.1 o k (sb_f fun w => by rw [h1 o k w] at q; cases q)
    exact ⟨this.1, this.2.2⟩
  have m : ∀ o k, zM_S o k = false → am_i gM' o k = am_i gM o k := fun o k q => (f2.1 o k (sb_f fun w => by rw [h2 o k w] at q; cases q)).1
  obtain ⟨w1, w2, w3, w4⟩ := W
  obtain ⟨n1, n2, n3⟩ := nm_cg (gR' := gR') (gM' := gM') w1 (fun k hk => (r 43 k (zR_f (by omega))).1) (fun u k _ _ _ => (r 44 k rfl).1) (fun o k o1 o2 => (r o k (zR_f (by omega))).1) (fun k hk => m 943 k (zM_f (by omega))) (fun u k _ _ _ => m 951 k rfl) (fun o k o1 o2 => m o k (zM_f (by omega)))
  have hp := (mu_le S S' f1 f2 (tr_s h1) (tm_s h2)).2
  refine ⟨⟨n1, ?_, ?_, ?_⟩, n2⟩
  · exact po_cg w2 S.1.2.2.2.2 (fun k => (r 37 k rfl).1) (fun k => (r 38 k rfl).1) S.2.2.1.2.2.1 S'.2.2.1.2.2.1 hp S'.2.2.2.1 S.1.1 (m 943 21 rfl) (m 943 95 rfl) (m 943 101 rfl) n3 (fun En _ _ j _ => en_xc (fun o k o1 o2 => m o k (zM_f (by omega))) j)
  · refine en_cg n2 (fun o k q => ?_) (fun o k q => ?_) w3
    · refine ⟨(r o k ?_).1, (f1.1 o k (sb_f fun w => ?_)).2.1, (r o k ?_).2⟩
      all_goals (unfold tR_S at q; simp only [Bool.and_eq_true, Nat.ble_eq] at q)
      · exact zR_f (by omega)
      · have := zR_c.mp (h1 o k w); omega
      · exact zR_f (by omega)
    · have z : zM_S o k = false := by
        unfold tM_S at q
        simp only [Bool.or_eq_true, Bool.and_eq_true, Nat.beq_eq, Nat.ble_eq] at q
        exact zM_f (by omega)
      exact f2.1 o k (sb_f fun w => by rw [h2 o k w] at z; cases z)
  · exact fr_cg w4 (fun k hk => (r 39 k (zR_f (by omega))).1) (r 33 10 rfl).1 (fun d => (r 40 d rfl).2) (fun d => (r 41 d rfl).1) (fun o k o1 o2 => (r o k (zR_f (by omega))).1) (fun k hk => m 943 k (zM_f (by omega))) (fun d => m 950 d rfl) (fun j => m 986 j rfl)
section
variable {X : cx_T} {SR SM : Nat → Nat → Bool} {gR gM gR' gM' g1 : am_G} {i i' s t : Int32} {p' : Nat} {rs' : List (List Int32)}
/-- readers that give a feed and frames -/
theorem sy_mk (h : sy_ok X gR gM i s) (S' : fs_ok gR' gM' X.2.2.2.2.1 X.2.2.2.2.2 p' rs' i') (f1 : fx_i SR gR gR') (f2 : fx_i SM gM gM') (h1 : sr_ok SR) (h2 : sm_ok SM) (ht : am_i gM' 943 26 = t) : sy_ok X gR' gM' i' t ∧ sf_ok SR SM gR gM i gR' gM' i' := by
  obtain ⟨B, ⟨p, rs, S⟩, W, _⟩ := h
  obtain ⟨c1, c2⟩ := cw_cg W S S' f1 f2 h1 h2
  exact ⟨⟨bi_z B f1 f2 h1 h2, ⟨p', rs', S'⟩, c1, ht⟩, f1, f2, c2, (mu_le S S' f1 f2 (tr_s h1) (tm_s h2)).1⟩
-- the character before the position
def bn_d (g : am_G) : Nat := (am_i g 39 4).toNatClampNeg
def bn_ok (g : am_G) : Prop := if bn_d g = 0 then bt_c g (am_i g 42 0).toNatClampNeg = true else ∃ t e a s, am_r g 40 (bn_d g) = some t ∧ am_i g 41 (bn_d g) = nI e ∧ e < 40 ∧ am_i g 42 (bn_d g) = nI a ∧ a ≤ 8000 ∧ am_i g (t + 2) e = nI s ∧ s ≤ 8000 ∧ (a = 0 ∨ ch_pt (am_i g (t + 5) (s + a - 1)) = false)
theorem bn_177 {N p : Nat} {n : Int32} {rs : List (List Int32)} (S : fs_ok gR gM N n p rs i) (hi : i ≠ -1) (hc : ch_pt i = false) (e0 : fm_177 gR = some gR') : bn_ok gR' := by
  obtain ⟨a1, a2, a3, a4, a5, a6, a7⟩ := fs_in S hi
  obtain ⟨s1, s2, ⟨f1, f2, f3, f4⟩, s4, s5, s6, s7⟩ := S
  have hN := s1.1
  unfold fm_177 at e0
  rw [f1, ai_nI (by omega) (by omega), lo_gt, nI_clamp (by omega)] at e0
  have e1 := (Option.some.inj e0).symm
  subst e1
  clear e0
  unfold bn_ok bn_d
  rw [show am_i (am_si gR 42 rs.length (am_i gR 42 rs.length + 1)) 39 4 = am_i gR 39 4 from rfl, f1, nI_clamp (by omega)]
  cases rs with
  | nil =>
    rw [if_pos (show ([] : List (List Int32)).length = 0 from rfl)]
    have hp := a6 rfl
    have e0 : am_i (am_si gR 42 0 (am_i gR 42 0 + 1)) 42 0 = nI (p + 1) := by rw [gi_si, if_pos ⟨rfl, rfl⟩, f3, nI_1]
    show bt_c _ (am_i (am_si gR 42 0 (am_i gR 42 0 + 1)) 42 0).toNatClampNeg = true
    rw [e0, nI_clamp (by omega)]
    unfold bt_c
    have s6 : i = if p < N then am_i gR 37 p else -1 := s6
    rw [if_pos hp] at s6
    show (decide (0 < p + 1) && !ch_pt (am_i gR 37 p)) = true
    rw [← s6, hc]
    simp
  | cons r rest =>
    rw [if_neg (by rw [List.length_cons]; omega)]
    obtain ⟨⟨t, e, a, s, z, h1, h2, h3, h4, h5, h6, h7, h8, h9, h10, h11⟩, _⟩ := f4
    cases r with
    | nil => exact absurd rfl (a3 rest)
    | cons c r =>
      have haz : a < z := by
        rcases Nat.lt_or_ge a z with q | q
        · exact q
        · rw [show z - a = 0 by omega, sl_0] at h10; cases h10
      rw [show z - a = (z - a - 1) + 1 by omega, sl_s] at h10
      have ec : c = am_i gR (t + 5) (s + a) := (List.cons.inj h10).1
      have s6 : i = c := s6
      refine ⟨t, e, a + 1, s, h1, ?_, h4, ?_, by omega, ?_, by omega, Or.inr ?_⟩
      · rw [gi_si, if_neg (by omega)]; exact h3
      · rw [gi_si, if_pos ⟨rfl, rfl⟩]
        show am_i gR 42 (rest.length + 1) + 1 = _
        rw [h5, nI_1]
      · rw [gi_si, if_neg (by omega)]; exact h6
      · rw [gi_si, if_neg (by omega), show s + (a + 1) - 1 = s + a by omega, ← ec, ← s6]; exact hc
theorem bn_cg {g h : am_G} (K : bn_ok g) (h39 : am_i h 39 4 = am_i g 39 4) (h42 : ∀ d, am_i h 42 d = am_i g 42 d) (h40 : ∀ d, am_r h 40 d = am_r g 40 d) (h41 : ∀ d, am_i h 41 d = am_i g 41 d) (h37 : ∀ k, am_i h 37 k = am_i g 37 k) (ht : ∀ o k, 855 ≤ o → o ≤ 866 → am_i h o k = am_i g o k) (hT : ∀ d t, am_r g 40 d = some t → t = 855 ∨ t = 861) : bn_ok h := by
  unfold bn_ok bn_d at K ⊢
  rw [h39]
  by_cases q : (am_i g 39 4).toNatClampNeg = 0
  · rw [if_pos q] at K ⊢
    rw [h42]
    unfold bt_c at K ⊢
    rw [h37]
    exact K
  · rw [if_neg q] at K ⊢
    obtain ⟨t, e, a, s, k1, k2, k3, k4, k5, k6, k7, k8⟩ := K
    have := hT _ _ k1
    exact ⟨t, e, a, s, (h40 _).trans k1, (h41 _).trans k2, k3, (h42 _).trans k4, k5, (ht _ _ (by omega) (by omega)).trans k6, k7, by rw [ht _ _ (by omega) (by omega)]; exact k8⟩
/-- both pass a character -/
theorem sy_ps (h : sy_ok X gR gM i s) (hi : i ≠ -1) (hs : fm_133 (am_si gM 943 29 0) i = some (0, g1)) (ha : am_i g1 943 29 = 0) (hf : fx_i SM gM g1) (hfd : ag_3 fd_S gM g1) (h2 : sm_ok SM) (htk : ∀ o k, tk_S o k = true → SM o k = true) :
    ∃ gR' i' gM', fm_177 gR = some gR' ∧ mv_ok X i gM i' gM' ∧ sy_ok X gR' gM' i' (am_i g1 943 26) ∧ sf_ok ps_S SM gR gM i gR' gM' i' ∧ fx_i tk_S g1 gM' ∧ mu_n gM' i' < mu_n gM i ∧ (ch_pt i = false → bn_ok gR') := by
  obtain ⟨B, ⟨p, rs, S⟩, W, h26⟩ := h
  obtain ⟨gR1, i1, g2, e1, e2, e3, e4, e5⟩ := fs_ps S hi hs ha hfd
  have f2 : fx_i SM gM g2 := fx_tr hf (fx_w2 e5 htk)
  obtain ⟨c1, c2⟩ := sy_mk (X := X) ⟨B, ⟨p, rs, S⟩, W, h26⟩ e4 e2 f2 ps_z h2 ((e5.1 943 26 rfl).1)
  refine ⟨gR1, i1, g2, e1, e3, c1, c2, e5, ?_, fun hc => bn_177 S hi hc e1⟩
  obtain ⟨a1, a2, a3, a4, a5, a6, a7⟩ := fs_in S hi
  have m14 : mc_n g2 14 = mc_n gM 14 := by unfold mc_n; rw [(e5.1 943 14 rfl).1, (hfd 943 14 rfl).1]
  have m15 : mc_n g2 15 = mc_n gM 15 := by unfold mc_n; rw [(e5.1 943 15 rfl).1, (hfd 943 15 rfl).1]
  rw [mu_fs S, mu_fs e4, m14, m15]
  cases rs with
  | nil =>
    have := a6 rfl
    show 3 * (X.2.2.2.2.1 - (p + 1) + 0 + _) + 0 < 3 * (X.2.2.2.2.1 - p + 0 + _) + 0
    omega
  | cons r rest =>
    cases r with
    | nil => exact absurd rfl (a3 rest)
    | cons c r =>
      show 3 * (X.2.2.2.2.1 - p + (r.length + rl_n rest) + _) + (rest.length + 1) < 3 * (X.2.2.2.2.1 - p + (r.length + 1 + rl_n rest) + _) + (rest.length + 1)
      omega
theorem tk_in {o k : Nat} (h : tk_S o k = true) : ct_S o k = true := by
  cases q : ct_S o k with
  | true => rfl
  | false => rw [tk_c q] at h; cases h
/-- M goes to another state -/
theorem sy_pg (h : sy_ok X gR gM i s) (hi : i ≠ -1) (hs : ∀ g, am_i g 943 26 = s → fm_133 g i = some (0, am_si g 943 26 t)) :
    ∃ gR' i' gM', fm_177 gR = some gR' ∧ mv_ok X i gM i' gM' ∧ sy_ok X gR' gM' i' t ∧ sf_ok ps_S ct_S gR gM i gR' gM' i' ∧ mu_n gM' i' < mu_n gM i ∧ (ch_pt i = false → bn_ok gR') := by
  obtain ⟨gR1, i1, g2, e1, e2, e3, e4, e5, e6, e7⟩ := sy_ps (SM := ct_S) h hi (hs (am_si gM 943 29 0) h.2.2.2) rfl (fx_tr (fx_si rfl) (fx_si rfl)) (ag_si rfl (ag_si rfl ag_re)) ct_z (fun _ _ => tk_in)
  exact ⟨gR1, i1, g2, e1, e2, e3, e4, e6, e7⟩
/-- M stays -/
theorem sy_pz (h : sy_ok X gR gM i s) (hi : i ≠ -1) (hs : ∀ g, am_i g 943 26 = s → fm_133 g i = some (0, g)) :
    ∃ gR' i' gM', fm_177 gR = some gR' ∧ mv_ok X i gM i' gM' ∧ sy_ok X gR' gM' i' s ∧ sf_ok ps_S tk_S gR gM i gR' gM' i' ∧ mu_n gM' i' < mu_n gM i ∧ (ch_pt i = false → bn_ok gR') := by
  obtain ⟨gR1, i1, g2, e1, e2, e3, e4, e5, e6, e7⟩ := sy_ps (SM := tk_S) h hi (hs (am_si gM 943 29 0) h.2.2.2) rfl (fx_si rfl) (ag_si rfl ag_re) (fun o k q => ct_z o k (tk_in q)) (fun _ _ q => q)
  rw [show am_i (am_si gM 943 29 0) 943 26 = s from h.2.2.2] at e3
  exact ⟨gR1, i1, g2, e1, e2, e3, e4, e6, e7⟩
-- what R sees
theorem sy_h (h : sy_ok X gR gM i s) : fm_176 gR = some i := by obtain ⟨B, ⟨p, rs, S⟩, _⟩ := h; exact rs_h S
theorem sy_is (h : sy_ok X gR gM i s) (c : Int32) : fm_240 gR c = some (b2 (decide (i = c))) := by obtain ⟨B, ⟨p, rs, S⟩, _⟩ := h; exact cm_240 S c
theorem sy_bl (h : sy_ok X gR gM i s) : fm_241 gR = some (b2 (ch_bl i)) := by obtain ⟨B, ⟨p, rs, S⟩, _⟩ := h; exact cm_241 S
theorem sy_g (h : sy_ok X gR gM i s) : gs_ok gR := h.1.2.2.2.2.2.2.2
theorem sy_c (h : sy_ok X gR gM i s) : i = -1 ∨ ch_ok i := by obtain ⟨B, ⟨p, rs, S⟩, _⟩ := h; rw [S.2.2.2.2.2.1]; exact rf_hc S.1 S.2.2.1
/-- R's need fails -/
theorem sy_nd {Q : Unit → am_G → Int32 → am_G → Prop} (h : sy_ok X gR gM i s) (hst : i = -1 → st_in s) (hc : i ≠ -1 → ∃ g', fm_133 (am_si gM 943 29 0) i = fm_23 g' ∧ ag_3 wr_S gM g' ∧ g'.2.2.2 = gM.2.2.2) : sx_ok X (fm_238 gR 0) i gM Q := by
  obtain ⟨B, ⟨p, rs, S⟩, W, h26⟩ := h
  exact nd_f B S (fun q => h26 ▸ hst q) hc
theorem sy_n1 {Q : Unit → am_G → Int32 → am_G → Prop} (h : sy_ok X gR gM i s) (hst : i = -1 → st_in s) (hw : ∀ g, am_i g 943 26 = s → i ≠ -1 → fm_133 g i = fm_23 g) : sx_ok X (fm_238 gR 0) i gM Q :=
  sy_nd h hst fun q => ⟨am_si gM 943 29 0, hw _ h.2.2.2 q, ag_si rfl ag_re, rfl⟩
/-- one character, with an act of M's -/
theorem sy_oa {c : Int32} (h : sy_ok X gR gM i s) (hc : c ≠ -1) (hst : i = -1 → st_in s) (hs : i = c → fm_133 (am_si gM 943 29 0) c = some (0, g1)) (ha : am_i g1 943 29 = 0) (hf : fx_i SM gM g1) (hfd : ag_3 fd_S gM g1) (h2 : sm_ok SM) (htk : ∀ o k, tk_S o k = true → SM o k = true)
    (hw : i ≠ c → i ≠ -1 → ∃ g', fm_133 (am_si gM 943 29 0) i = fm_23 g' ∧ ag_3 wr_S gM g' ∧ g'.2.2.2 = gM.2.2.2) :
    sx_ok X (fm_244 gR c) i gM fun _ gR' i' gM' => i = c ∧ sy_ok X gR' gM' i' (am_i g1 943 26) ∧ sf_ok ps_S SM gR gM i gR' gM' i' ∧ fx_i tk_S g1 gM' ∧ mu_n gM' i' < mu_n gM i ∧ (ch_pt c = false → bn_ok gR') := by
  unfold fm_244
  rw [sy_is h, lo_ps]
  by_cases q : i = c
  · rw [decide_eq_true q, show b2 true = 1 from rfl, nd_t, lo_tl]
    subst q
    obtain ⟨gR1, i1, g2, e1, e2, e3, e4, e5, e6, e7⟩ := sy_ps h hc (hs rfl) ha hf hfd h2 htk
    rw [e1, lo_ps]
    exact ⟨_, rfl, i1, g2, e2, rfl, e3, e4, e5, e6, e7⟩
  · rw [decide_eq_false q, show b2 false = 0 from rfl]
    exact si_bd (sy_nd (Q := fun _ _ _ _ => False) h hst (hw q)) fun _ _ _ _ z => z.elim
/-- one character -/
theorem sy_on {c : Int32} (h : sy_ok X gR gM i s) (hc : c ≠ -1) (hst : i = -1 → st_in s) (hs : ∀ g, am_i g 943 26 = s → fm_133 g c = some (0, am_si g 943 26 t)) (hw : ∀ g, am_i g 943 26 = s → i ≠ c → i ≠ -1 → fm_133 g i = fm_23 g) :
    sx_ok X (fm_244 gR c) i gM fun _ gR' i' gM' => i = c ∧ sy_ok X gR' gM' i' t ∧ sf_ok ps_S ct_S gR gM i gR' gM' i' ∧ mu_n gM' i' < mu_n gM i ∧ (ch_pt c = false → bn_ok gR') := by
  refine si_wk (sy_oa (SM := ct_S) (g1 := am_si (am_si gM 943 29 0) 943 26 t) h hc hst (fun _ => hs _ h.2.2.2) rfl (fx_tr (fx_si rfl) (fx_si rfl)) (ag_si rfl (ag_si rfl ag_re)) ct_z (fun _ _ => tk_in) (fun q w => ⟨am_si gM 943 29 0, hw _ h.2.2.2 q w, ag_si rfl ag_re, rfl⟩)) ?_
  rintro _ gR' i' gM' ⟨a1, a2, a3, a4, a5, a6⟩
  exact ⟨a1, a2, a3, a5, a6⟩
theorem bl_pt {c : Int32} (h : ch_bl c = true) : ch_pt c = false := by
  have hb : bl_P c.toInt := by unfold ch_bl at h; simpa using h
  have n1 : ch_bg c = false := ch_f (by unfold bg_P; unfold bl_P at hb; omega)
  have n2 : ch_px c = false := ch_f (by unfold px_P; unfold bl_P at hb; omega)
  unfold ch_pt
  rw [n1, n2]
  rfl
/-- blanks, where M stays -/
theorem sy_bp (hb : ∀ (g : am_G) (c : Int32), am_i g 943 26 = s → ch_bl c = true → fm_133 g c = some (0, g)) : ∀ (m fuel : Nat) {gR gM : am_G} {i : Int32} (b : Bool), mu_n gM i ≤ m → m < fuel → sy_ok X gR gM i s →
    ∃ gR' i' gM', lo_it (fun k (x : am_G × Int32) => fb_242_2 k x.1 x.2) fuel (gR, b2 b) = some (b2 (b || ch_bl i), gR') ∧ mv_ok X i gM i' gM' ∧ sy_ok X gR' gM' i' s ∧ sf_ok ps_S tk_S gR gM i gR' gM' i' ∧ ch_bl i' = false ∧ (ch_bl i = true → mu_n gM' i' < mu_n gM i ∧ bn_ok gR') ∧ (ch_bl i = false → gR' = gR ∧ gM' = gM ∧ i' = i) := by
  intro m
  induction m with
  | zero =>
    intro fuel gR gM i b hm hf h
    obtain ⟨fu, rfl⟩ : ∃ m, fuel = m + 1 := ⟨fuel - 1, by omega⟩
    have hb0 : ch_bl i = false := by
      cases q : ch_bl i with
      | false => rfl
      | true =>
        have := bl_n q
        unfold mu_n at hm
        rw [if_neg this] at hm
        omega
    refine ⟨gR, i, gM, ?_, fun _ q => q, h, sf_re, hb0, fun q => (by rw [hb0] at q; cases q), fun _ => ⟨rfl, rfl, rfl⟩⟩
    show fb_242_2 _ _ _ = _
    unfold fb_242_2
    dsimp only
    rw [sy_bl h, lo_ps, hb0, if_pos (show b2 false = 0 from rfl), b2_n, Bool.or_false]
  | succ m ih =>
    intro fuel gR gM i b hm hf h
    obtain ⟨fu, rfl⟩ : ∃ m, fuel = m + 1 := ⟨fuel - 1, by omega⟩
    cases q : ch_bl i with
    | false =>
      refine ⟨gR, i, gM, ?_, fun _ q => q, h, sf_re, q, fun w => (nomatch w), fun _ => ⟨rfl, rfl, rfl⟩⟩
      show fb_242_2 _ _ _ = _
      unfold fb_242_2
      dsimp only
      rw [sy_bl h, lo_ps, q, if_pos (show b2 false = 0 from rfl), b2_n, Bool.or_false]
    | true =>
      have hi := bl_n q
      obtain ⟨gR1, i1, g2, e1, e2, e3, e4, e5, e6⟩ := sy_pz h hi (fun g hg => hb g i hg q)
      obtain ⟨gR', i', gM', f1, f2, f3, f4, f5, f6, f7⟩ := ih fu true (by omega) (by omega) e3
      refine ⟨gR', i', gM', ?_, fun res z => e2 res (f2 res z), f3, sf_tr e4 f4, f5, fun _ => ⟨by have := f4.2.2.2; omega, ?_⟩, fun w => (nomatch w)⟩
      · show fb_242_2 _ _ _ = _
        unfold fb_242_2
        dsimp only
        rw [sy_bl h, lo_ps, q, if_neg (show ¬ b2 true = 0 by decide), e1, lo_ps, Bool.or_true]
        exact f1
      · cases w : ch_bl i1 with
        | true => exact (f6 w).2
        | false => rw [(f7 w).1]; exact e6 (bl_pt q)
theorem mu_b (h : sy_ok X gR gM i s) : mu_n gM i < 1000000 := by
  obtain ⟨B, ⟨p, rs, S⟩, W, _⟩ := h
  obtain ⟨F, En, mt, lim, a1, a2, a3, a4, a5, a6, a7, a8, a9, a10, a11, _⟩ := W.2.2.2
  have hl : mc_n gM 15 = lim := by unfold mc_n; rw [a11, nI_clamp (by omega)]
  have hN := S.1.1
  have hr : rl_n rs ≤ 9000 := by
    have e := rw_n rs
    obtain ⟨s1, s2, s3, s4, s5, s6, s7⟩ := S
    cases rs with
    | nil => exact Nat.zero_le _
    | cons r rest =>
      cases r with
      | nil => have := (show mf_ok gM p ([] :: rest) from s7).2.2.2.1; omega
      | cons c r =>
        have e2 := rw_n (r :: rest)
        have := s7.1.2.2.2.1
        have h1 : rl_n ((c :: r) :: rest) = r.length + 1 + rl_n rest := rfl
        have h2 : rl_n (r :: rest) = r.length + rl_n rest := rfl
        have h3 : (r :: rest).length = rest.length + 1 := rfl
        omega
  have hd := S.2.2.1.2.1
  rw [mu_fs S, hl]
  omega
theorem sy_bk (h : sy_ok X gR gM i s) (hb : ∀ (g : am_G) (c : Int32), am_i g 943 26 = s → ch_bl c = true → fm_133 g c = some (0, g)) :
    ∃ gR' i' gM', fm_242 gR = some (b2 (ch_bl i), gR') ∧ mv_ok X i gM i' gM' ∧ sy_ok X gR' gM' i' s ∧ sf_ok ps_S tk_S gR gM i gR' gM' i' ∧ ch_bl i' = false ∧ (ch_bl i = true → mu_n gM' i' < mu_n gM i ∧ bn_ok gR') ∧ (ch_bl i = false → gR' = gR ∧ gM' = gM ∧ i' = i) := by
  have := mu_b h
  have := nf_le
  exact sy_bp hb (mu_n gM i) nf_F false (Nat.le_refl _) (by omega) h
/-- blanks, of which the first leads M to another state -/
theorem sy_bs (h : sy_ok X gR gM i s) (hs : ∀ (g : am_G) (c : Int32), am_i g 943 26 = s → ch_bl c = true → fm_133 g c = some (0, am_si g 943 26 t)) (hb : ∀ (g : am_G) (c : Int32), am_i g 943 26 = t → ch_bl c = true → fm_133 g c = some (0, g)) :
    ∃ gR' i' gM', fm_242 gR = some (b2 (ch_bl i), gR') ∧ mv_ok X i gM i' gM' ∧ sy_ok X gR' gM' i' (bif ch_bl i then t else s) ∧ sf_ok ps_S ct_S gR gM i gR' gM' i' ∧ ch_bl i' = false ∧ (ch_bl i = true → mu_n gM' i' < mu_n gM i ∧ bn_ok gR') ∧ (ch_bl i = false → gR' = gR ∧ gM' = gM ∧ i' = i) := by
  obtain ⟨m, hm⟩ : ∃ m, nf_F = m + 1 := ⟨nf_F - 1, by have := nf_le; omega⟩
  have hnf := nf_le
  cases q : ch_bl i with
  | false =>
    refine ⟨gR, i, gM, ?_, fun _ z => z, h, sf_re, q, fun z => (nomatch z), fun _ => ⟨rfl, rfl, rfl⟩⟩
    unfold fm_242 fh_242_2
    rw [hm]
    show fb_242_2 _ _ _ = _
    unfold fb_242_2
    dsimp only
    rw [sy_bl h, lo_ps, q, if_pos (show b2 false = 0 from rfl)]
    exact congrArg (fun x => some (x, gR)) (b2_n false)
  | true =>
    obtain ⟨gR1, i1, g2, e1, e2, e3, e4, e5, e6⟩ := sy_pg h (bl_n q) (fun g hg => hs g i hg q)
    have hb1 := mu_b e3
    obtain ⟨gR', i', gM', f1, f2, f3, f4, f5, f6, f7⟩ := sy_bp hb (mu_n g2 i1) m true (Nat.le_refl _) (by omega) e3
    refine ⟨gR', i', gM', ?_, fun res z => e2 res (f2 res z), f3, sf_tr e4 (sf_wk f4 (fun _ _ z => z) (fun _ _ => tk_in)), f5, fun _ => ⟨by have := f4.2.2.2; omega, ?_⟩, fun w => (nomatch w)⟩
    · unfold fm_242 fh_242_2
      rw [hm]
      show fb_242_2 _ _ _ = _
      unfold fb_242_2
      dsimp only
      rw [sy_bl h, lo_ps, q, if_neg (show ¬ b2 true = 0 by decide), e1, lo_ps]
      exact f1
    · cases w : ch_bl i1 with
      | true => exact (f6 w).2
      | false => rw [(f7 w).1]; exact e6 (bl_pt q)
/-- at least one blank -/
theorem sy_sp (h : sy_ok X gR gM i s) (hst : i = -1 → st_in s) (hs : ∀ (g : am_G) (c : Int32), am_i g 943 26 = s → fm_133 g c = bif ch_bl c then some (0, am_si g 943 26 t) else fm_23 g)
    (hb : ∀ (g : am_G) (c : Int32), am_i g 943 26 = t → ch_bl c = true → fm_133 g c = some (0, g)) :
    sx_ok X (fm_243 gR) i gM fun _ gR' i' gM' => sy_ok X gR' gM' i' t ∧ sf_ok ps_S ct_S gR gM i gR' gM' i' ∧ ch_bl i' = false ∧ mu_n gM' i' < mu_n gM i ∧ bn_ok gR' := by
  unfold fm_243
  rw [sy_bl h, lo_ps]
  cases q : ch_bl i with
  | false => exact si_bd (sy_n1 (Q := fun _ _ _ _ => False) h hst (fun g hg _ => by rw [hs g i hg, q]; rfl)) fun _ _ _ _ z => z.elim
  | true =>
    rw [show b2 true = 1 from rfl, nd_t, lo_tl]
    obtain ⟨gR', i', gM', f1, f2, f3, f4, f5, f6, f7⟩ := sy_bs h (fun g c hg hc => by rw [hs g c hg, hc]; rfl) hb
    rw [f1, lo_is]
    rw [q, cond_true] at f3
    exact ⟨_, rfl, i', gM', f2, f3, f4, f5, (f6 q).1, (f6 q).2⟩
/-- R's registers change -/
theorem sy_R (h : sy_ok X gR gM i s) (f : fx_i SR gR gR') (hS : sr_ok SR) (h42 : ∀ k, am_i gR' 42 k = am_i gR 42 k) : sy_ok X gR' gM i s ∧ sf_ok SR SM gR gM i gR' gM i := by
  obtain ⟨B, ⟨p, rs, S⟩, W, h26⟩ := h
  have S' : fs_ok gR' gM X.2.2.2.2.1 X.2.2.2.2.2 p rs i := fs_R S f (tr_s hS) h42
  have := sy_mk (X := X) (SM := fun _ _ => false) (t := s) ⟨B, ⟨p, rs, S⟩, W, h26⟩ S' f fx_re hS (fun _ _ q => (nomatch q)) h26
  exact ⟨this.1, this.2.1, fx_re, this.2.2.2.1, this.2.2.2.2⟩
/-- M's registers change under the item in hand -/
theorem sy_M (h : sy_ok X gR gM i s) (f : fx_i SM gM gM') (hS : sm_ok SM) (hf : ag_3 fd_S gM gM') (h29 : am_i gM' 943 29 = am_i gM 943 29) (h30 : am_i gM' 943 30 = am_i gM 943 30) (ht : am_i gM' 943 26 = t) : sy_ok X gR gM' i t ∧ sf_ok SR SM gR gM i gR gM' i := by
  obtain ⟨B, ⟨p, rs, S⟩, W, h26⟩ := h
  have := sy_mk (X := X) (SR := fun _ _ => false) (t := t) ⟨B, ⟨p, rs, S⟩, W, h26⟩ (fs_mc S hf h29 h30) fx_re f (fun _ _ q => (nomatch q)) hS ht
  exact ⟨this.1, fx_re, this.2.2.1, this.2.2.2.1, this.2.2.2.2⟩
/-- the character in hand is looked at again -/
theorem sy_ag (h : sy_ok X gR gM i s) (hi : i ≠ -1) (hs : fm_133 (am_si gM 943 29 0) i = some (0, gM')) (h29 : am_i gM' 943 29 = 1) (h30 : am_i gM' 943 30 = am_i gM 943 30) (hf : ag_3 fd_S gM gM') (f : fx_i SM gM gM') (hS : sm_ok SM) (ht : am_i gM' 943 26 = t) (hr : rk_n t < rk_n s) :
    mv_ok X i gM i gM' ∧ sy_ok X gR gM' i t ∧ sf_ok SR SM gR gM i gR gM' i := by
  obtain ⟨B, ⟨p, rs, S⟩, W, h26⟩ := h
  have a := fs_ag S hi hs h29 h30 hf (by rw [ht, h26]; exact hr)
  refine ⟨a.1, ?_⟩
  have := sy_mk (X := X) (SR := fun _ _ => false) (t := t) ⟨B, ⟨p, rs, S⟩, W, h26⟩ a.2 fx_re f (fun _ _ q => (nomatch q)) hS ht
  exact ⟨this.1, fx_re, this.2.2.1, this.2.2.2.1, this.2.2.2.2⟩
end
