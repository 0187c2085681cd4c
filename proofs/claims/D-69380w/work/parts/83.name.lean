/-! Names over the core: spelled, numbered, taken. -/
/-- the place of the item at hand -/
def pw_R (g : am_G) : Int32 := if am_i g 39 4 = 0 then am_i g 38 (am_i g 42 0).toNatClampNeg else am_i g 39 5
theorem pw_fs {gR gM : am_G} {N p : Nat} {n i : Int32} {rs : List (List Int32)} (S : fs_ok gR gM N n p rs i) : rf_w gR p rs = pw_R gR := by
  obtain ⟨s1, s2, ⟨f1, f2, f3, f4⟩, s4, s5, s6, s7⟩ := S
  have hN := s1.1
  unfold pw_R
  rw [f1]
  cases rs with
  | nil => rw [if_pos (show nI ([] : List (List Int32)).length = 0 from rfl), f3, nI_clamp (by omega)]; rfl
  | cons r rest => rw [if_neg (nI_ne0 (by rw [List.length_cons]; omega) (by omega))]; rfl
section
variable {X : cx_T} {gR gM gM1 gR' gM' : am_G} {i s : Int32}
theorem sy_w (h : sy_ok X gR gM i s) : fm_178 gR = some (pw_R gR) := by
  obtain ⟨B, ⟨p, rs, S⟩, _⟩ := h
  rw [rs_w S, pw_fs S]
/-- M's place of a fault, for a place of R's that was taken at this depth -/
def wh_ok (g : am_G) (w : Int32) : Prop := am_i g 39 4 = 0 ∨ w = am_i g 39 5
theorem wh_pw (g : am_G) : wh_ok g (pw_R g) := by
  unfold wh_ok pw_R
  by_cases q : am_i g 39 4 = 0
  · exact Or.inl q
  · rw [if_neg q]; exact Or.inr rfl
theorem sy_wh (h : sy_ok X gR gM i s) {w : Int32} (hw : wh_ok gR w) {g' : am_G} (h9 : am_i g' 943 9 = am_i gM 943 9) (h13 : am_i g' 943 13 = am_i gM 943 13) : (if am_i g' 943 9 ≤ 0 then w else am_i g' 943 13) = w := by
  obtain ⟨B, ⟨p, rs, S⟩, W, _⟩ := h
  obtain ⟨F, En, mt, lim, a1, a2, a3, _⟩ := W.2.2.2
  rw [h9, h13, a1]
  by_cases q : F = 0
  · subst q; rw [if_pos (by decide)]
  · rw [if_neg (nI_nle (by omega) (by omega))]
    rcases hw with z | z
    · rw [a2] at z; exact absurd z (nI_ne0 (by omega) (by omega))
    · rw [z]
      refine S.2.2.2.2.1 ?_
      intro e
      have := S.2.2.1.1
      rw [e, a2] at this
      exact nI_ne0 (n := F) (by omega) (by omega) this
/-- R throws, and M has faulted -/
theorem th_fa {α : Type} {Z U : Nat} {G H g2 : am_G} {n f w : Int32} {Q : α → am_G → Int32 → am_G → Prop} (B : bi_ok Z U G H gR gM) (hm : mi_ok n i gM (-1, g2)) (h1 : am_i g2 943 142 = f) (h2 : am_i g2 943 143 = w) (h3 : am_i g2 943 144 = 0) (h4 : ag_3 mx_S gM g2) (h5 : g2.2.2.2 = gM.2.2.2) :
    si_ok n (ft_ok Z U G H) (lo_i (fm_236 gR f w) fun y9 g10 => lo_g (Nat.ble 1008 y9 && Nat.blt y9 (am_sz g10)) (some (.inr y9, g10))) i gM Q := by
  obtain ⟨a, e1, e2⟩ := rt_f (f := f) (w := w) B
  rw [e1, lo_is, e2, lo_gt]
  exact ⟨_, rfl, g2, hm, ft_mk B h1 h2 h3 h4 h5⟩
theorem th_fl {α : Type} {Z U : Nat} {G H g2 : am_G} {n c w : Int32} {Q : α → am_G → Int32 → am_G → Prop} (B : bi_ok Z U G H gR gM) (hm : mi_ok n i gM (-1, g2)) (h1 : am_i g2 943 142 = 15) (h2 : am_i g2 943 143 = w) (h3 : am_i g2 943 144 = c) (h4 : ag_3 mx_S gM g2) (h5 : g2.2.2.2 = gM.2.2.2) :
    si_ok n (ft_ok Z U G H) (lo_i (fm_237 gR c w) fun y9 g10 => lo_g (Nat.ble 1008 y9 && Nat.blt y9 (am_sz g10)) (some (.inr y9, g10))) i gM Q := by
  have e1 : fm_237 gR c w = some (am_sz gR, am_ex (am_si (am_si (am_si gR 33 13 c) 33 11 15) 33 12 w)) := rfl
  have e2 : (Nat.ble 1008 (am_sz gR) && Nat.blt (am_sz gR) (am_sz (am_ex (am_si (am_si (am_si gR 33 13 c) 33 11 15) 33 12 w)))) = true := by
    rw [Bool.and_eq_true]
    exact ⟨Nat.ble_eq_true_of_le (by rw [B.1]; exact B.2.2.1), Nat.blt_eq.mpr (Nat.lt_succ_self _)⟩
  rw [e1, lo_is, e2, lo_gt]
  obtain ⟨b1, b2, b3, b4, b5, b6, b7, b8⟩ := B
  refine ⟨_, rfl, g2, hm, ?_, ?_, ag_ex (ag_si rfl (ag_si rfl (ag_si rfl b4))), ⟨ag_tr b5.1 h4, h5.trans b5.2⟩, ?_, ?_, ?_⟩
  · show am_sz gR + 1 = _; rw [b1]
  · show am_us gR + 6 = _; rw [b2]
  · rw [h1]; rfl
  · rw [h2]; rfl
  · rw [h3]; rfl
theorem cm_22 (g : am_G) (k w : Int32) : fm_22 g k w = some (-1, am_si (am_si (am_si g 943 144 k) 943 142 15) 943 143 (if am_i g 943 9 ≤ 0 then w else am_i g 943 13)) := by
  unfold fm_22
  rw [cm_21]
  rfl
/-- the character in hand is a fault of M's that R throws -/
theorem sy_fa {α : Type} {f w : Int32} {g' : am_G} {Q : α → am_G → Int32 → am_G → Prop} (h : sy_ok X gR gM i s) (hi : i ≠ -1) (hw : wh_ok gR w) (hs : fm_133 (am_si gM 943 29 0) i = fm_21 g' f w) (hg : ag_3 wr_S gM g') (hz : g'.2.2.2 = gM.2.2.2) :
    sx_ok X (lo_i (fm_236 gR f w) fun y9 g10 => lo_g (Nat.ble 1008 y9 && Nat.blt y9 (am_sz g10)) (some (.inr y9, g10))) i gM Q := by
  have hwm := sy_wh h hw (g' := g') ((hg 943 9 rfl).1) ((hg 943 13 rfl).1)
  obtain ⟨B, ⟨p, rs, S⟩, W, _⟩ := h
  refine th_fa B (mi_f hi (fs_in S hi).1 (by decide) (hs.trans (cm_21 _ _ _))) rfl ?_ (((hg 943 144 rfl).1).trans B.2.2.2.2.2.2.1) (ag_si rfl (ag_si rfl (ag_si rfl (ag_wk hg fun _ _ => wr_mx)))) hz
  rw [gi_si, if_neg (by decide), gi_si, if_pos ⟨rfl, rfl⟩, hwm]
theorem sy_fl {α : Type} {c w : Int32} {g' : am_G} {Q : α → am_G → Int32 → am_G → Prop} (h : sy_ok X gR gM i s) (hi : i ≠ -1) (hw : wh_ok gR w) (hs : fm_133 (am_si gM 943 29 0) i = fm_22 g' c w) (hg : ag_3 wr_S gM g') (hz : g'.2.2.2 = gM.2.2.2) :
    sx_ok X (lo_i (fm_237 gR c w) fun y9 g10 => lo_g (Nat.ble 1008 y9 && Nat.blt y9 (am_sz g10)) (some (.inr y9, g10))) i gM Q := by
  have hwm := sy_wh h hw (g' := g') ((hg 943 9 rfl).1) ((hg 943 13 rfl).1)
  obtain ⟨B, ⟨p, rs, S⟩, W, _⟩ := h
  refine th_fl B (mi_f hi (fs_in S hi).1 (by decide) (hs.trans (cm_22 _ _ _))) rfl ?_ rfl (ag_si rfl (ag_si rfl (ag_si rfl (ag_si rfl (ag_wk hg fun _ _ => wr_mx))))) hz
  rw [gi_si, if_neg (by decide), gi_si, if_pos ⟨rfl, rfl⟩, hwm]
-- slices
theorem sl_ap (f : Nat → Int32) (s m : Nat) : ∀ a, sl_l f s (a + m) = sl_l f s a ++ sl_l f (s + a) m
  | 0 => by rw [sl_0, Nat.zero_add, Nat.add_zero]; rfl
  | a + 1 => by
    have : ∀ (a s : Nat), sl_l f s (a + m) = sl_l f s a ++ sl_l f (s + a) m := by
      intro a
      induction a with
      | zero => intro s; rw [sl_0, Nat.zero_add, Nat.add_zero]; rfl
      | succ a ih =>
        intro s
        rw [show a + 1 + m = (a + m) + 1 by omega, sl_s, sl_s, ih (s + 1), show s + 1 + a = s + (a + 1) by omega]
        rfl
    exact this (a + 1) s
theorem sl_la (f : Nat → Int32) (s a : Nat) : (sl_l f s (a + 1)).getLast? = some (f (s + a)) := by
  rw [sl_ap f s 1 a, sl_s, sl_0]
  simp
/-- the text of the entity that is read, with what has been read of it -/
theorem en_top {N p : Nat} {n : Int32} {r : List Int32} {rest : List (List Int32)} (W : cw_ok gR gM) (S : fs_ok gR gM N n p (r :: rest) i) : ∃ j En u, am_i gM 943 95 = nI En ∧ En ≤ 40 ∧ j < En ∧ en_x gM j = u ++ r ∧ (bn_ok gR → ∀ c, u.getLast? = some c → ch_pt c = false) := by
  obtain ⟨w1, w2, w3, w4⟩ := W
  obtain ⟨F, En, mt, lim, a1, a2, a3, a4, a5, a6, a7, a8, a9, a10, a11, a12, a13, a14⟩ := w4
  have hl : rest.length + 1 ≤ 16 := S.2.2.1.2.1
  have f1 : am_i gR 39 4 = nI (rest.length + 1) := S.2.2.1.1
  have hF : F = rest.length + 1 := sz_u a2 f1 (by omega) (by omega)
  obtain ⟨j, pc, hj, b1, b2, b3, b4⟩ := a12 rest.length (by omega)
  obtain ⟨⟨t, e, a, st, z, h1, h2, h3, h4, h5, h6, h7, h8, h9, h10, h11⟩, _⟩ := S.2.2.1.2.2.2
  obtain ⟨En', tS, uG, uP, c1, c2, c3, c4, c5, c6, c7, c8, c9, c10⟩ := w3
  have hE : En' = En := sz_u c2 a4 (by omega) (by omega)
  subst hE
  obtain ⟨pc', sR, sM, z', d1, d2, d3, d4, d5, d6, d7, d8, d9⟩ := c10 j hj
  have hpc : pc' = pc := by
    rw [b2] at d1
    cases pc <;> cases pc' <;> first | rfl | exact absurd d1 (by decide)
  subst hpc
  rw [b3] at h1
  have ht : en_t pc' = t := Option.some.inj h1
  subst ht
  rw [b4] at h3
  have he : en_n gM pc' j = e := by
    have hn : ∀ k, en_n gM pc' k ≤ k := by
      intro k
      induction k with
      | zero => exact Nat.le_refl _
      | succ k ih =>
        show en_n gM pc' k + _ ≤ k + 1
        split <;> omega
    have := hn j
    exact (nI_eq (by omega) (by omega)).mp h3
  subst he
  have hz : z' = z := sz_u d4 h7 (by omega) (by omega)
  subst hz
  have hs : sR = st := sz_u d3 h6 (by omega) (by omega)
  subst hs
  refine ⟨j, En', sl_l (am_i gR (en_t pc' + 5)) sR a, a4, a5, hj, ?_, fun hb c hc => ?_⟩
  · unfold en_x
    rw [d5, d6, nI_clamp (by omega), nI_clamp (by omega), h10, ← sl_ap, show a + (z' - a) = z' by omega]
    exact sl_eq.mpr ⟨rfl, fun k hk => ((d9 k hk).1).symm⟩
  · unfold bn_ok bn_d at hb
    rw [f1, nI_clamp (by omega), if_neg (by omega)] at hb
    obtain ⟨t', e', a', s', q1, q2, q3, q4, q5, q6, q7, q8⟩ := hb
    rw [b3] at q1
    have ht' : en_t pc' = t' := Option.some.inj q1
    subst ht'
    have he' : e' = en_n gM pc' j := sz_u q2 b4 (by omega) (by omega)
    subst he'
    have ha' : a' = a := sz_u q4 h5 (by omega) (by omega)
    subst ha'
    have hs' : s' = sR := sz_u q6 h6 (by omega) (by omega)
    subst hs'
    rcases q8 with q | q
    · subst q
      rw [sl_0] at hc
      cases hc
    · cases a' with
      | zero => rw [sl_0] at hc; cases hc
      | succ k =>
        rw [sl_la] at hc
        cases hc
        rw [show s' + (k + 1) - 1 = s' + k by omega] at q
        exact q
/-- how much of M's pool a name can take -/
theorem cw_bd {N p : Nat} {n : Int32} {rs : List (List Int32)} (W : cw_ok gR gM) (S : fs_ok gR gM N n p rs i) : ∃ uM sM, am_i gM 943 17 = nI uM ∧ uM ≤ 13800 ∧ uM + fl_n N p rs ≤ 14000 ∧ am_i gM 943 21 = nI sM ∧ sM < 5990 := by
  obtain ⟨q, b, sM, uM, h1, h2, h3, h4, h5, h6, h7, h8, h9, h10⟩ := po_nb W.1 W.2.1
  refine ⟨uM, sM, h7, by omega, ?_, h5, h6⟩
  cases rs with
  | nil =>
    have hN := S.1.1
    have hpN := S.2.2.2.1
    have : q = p := sz_u h1 S.2.2.1.2.2.1 (by omega) (by omega)
    subst this
    obtain ⟨b', c1, c2, c3⟩ := pl_by S.1.2.2.2.2 (N - q) q b (by omega) h3 h4
    have c4 := by_l (sl_l (am_i gR 37) q (N - q))
    rw [sl_len] at c4
    show uM + (N - q) ≤ 14000
    omega
  | cons r rest =>
    obtain ⟨j, En, u, e1, e2, e3, e4, _⟩ := en_top W S
    have := (h10 j En e1 e2 e3).1
    rw [e4, List.length_append] at this
    show uM + r.length ≤ 14000
    omega
/-- the potential, with a name that may come to it -/
def pq_w (gR gM : am_G) (w : List Int32) : Prop := ∃ (p b sM En tS : Nat) (T : List (List Int32 × Bool)), am_i gR 42 0 = nI p ∧ p ≤ 6000 ∧ am_i gR 38 p = nI b ∧ am_i gM 943 21 = nI sM ∧ sM ≤ 6000 ∧ am_i gM 943 95 = nI En ∧ En ≤ 40 ∧ am_i gM 943 101 = nI tS ∧ T.map Prod.fst = (List.range En).map (en_x gM) ∧
  po_p (nl_L gM sM) T tS b (bt_c gR p) ∧ (w ∉ nl_L gM sM → po_p (nl_L gM sM ++ [w]) T tS b (bt_c gR p))
/-- a name has been read by both, M has still to number it -/
def pn_ok (X : cx_T) (gR gM : am_G) (i : Int32) (w : List Int32) (k wh : Int32) : Prop := bi_ok X.1 X.2.1 X.2.2.1 X.2.2.2.1 gR gM ∧ (∃ p rs, fs_ok gR gM X.2.2.2.2.1 X.2.2.2.2.2 p rs i) ∧ nm_w gR gM ∧ pq_w gR gM w ∧ en_w gR gM ∧ fr_w gR gM ∧ (∃ ps, mw_q gM ps w ∧ ps + w.length ≤ 14000) ∧
  ch_pt i = false ∧ w ≠ [] ∧ (∀ x ∈ w, ch_pt x = true ∧ ch_ok x) ∧ am_i gM 943 24 = k ∧ am_i gM 943 25 = wh
def pR_S (o k : Nat) : Bool := Nat.beq o 42 || (Nat.ble 44 o && Nat.ble o 48 || (Nat.beq o 884 || (Nat.beq o 43 && (Nat.beq k 5 || (Nat.beq k 6 || Nat.beq k 7)))))
def pM_S (o k : Nat) : Bool := (Nat.ble 951 o && Nat.ble o 955) || (Nat.beq o 943 && (Nat.beq k 5 || (Nat.beq k 8 || (Nat.beq k 17 || (Nat.beq k 18 || (Nat.beq k 21 || (Nat.ble 24 k && Nat.ble k 26 || (Nat.ble 29 k && Nat.ble k 36))))))))
theorem pR_c {o k : Nat} : pR_S o k = true ↔ (o = 42 ∨ (44 ≤ o ∧ o ≤ 48) ∨ o = 884 ∨ (o = 43 ∧ (k = 5 ∨ k = 6 ∨ k = 7))) := by
  unfold pR_S
  simp only [Bool.or_eq_true, Bool.and_eq_true, Nat.beq_eq, Nat.ble_eq]
theorem pM_c {o k : Nat} : pM_S o k = true ↔ ((951 ≤ o ∧ o ≤ 955) ∨ (o = 943 ∧ (k = 5 ∨ k = 8 ∨ k = 17 ∨ k = 18 ∨ k = 21 ∨ (24 ≤ k ∧ k ≤ 26) ∨ (29 ≤ k ∧ k ≤ 36)))) := by
  unfold pM_S
  simp only [Bool.or_eq_true, Bool.and_eq_true, Nat.beq_eq, Nat.ble_eq]
theorem pR_y : tr_ok pR_S := fun o k q => yR_c.mpr (by
  rcases pR_c.mp q with z | z | z | z
  · exact Or.inl (zR_c.mpr (by omega))
  · omega
  · exact Or.inl (zR_c.mpr (by omega))
  · omega)
theorem pM_y : tm_ok pM_S := fun o k q => yM_c.mpr (by
  have := pM_c.mp q
  by_cases z : (o = 943 ∧ (k = 17 ∨ k = 21)) ∨ (951 ≤ o ∧ o ≤ 955)
  · exact Or.inr z
  · exact Or.inl (zM_c.mpr (by omega)))
def os_S (S T : Nat → Nat → Bool) (o k : Nat) : Bool := S o k || T o k
theorem os_l {S T : Nat → Nat → Bool} {o k : Nat} (h : S o k = true) : os_S S T o k = true := by unfold os_S; rw [h]; rfl
theorem os_r {S T : Nat → Nat → Bool} {o k : Nat} (h : T o k = true) : os_S S T o k = true := by unfold os_S; rw [h, Bool.or_true]
theorem os_y {S : Nat → Nat → Bool} (h : sm_ok S) : tm_ok (os_S S pM_S) := fun o k q => by
  unfold os_S at q
  rw [Bool.or_eq_true] at q
  rcases q with q | q
  · exact tm_s h o k q
  · exact pM_y o k q
theorem rs_p {o k : Nat} (h : rs_S o k = true) : pR_S o k = true := pR_c.mpr (by
  unfold rs_S at h
  simp only [Bool.and_eq_true, Bool.or_eq_true, Nat.beq_eq] at h
  omega)
theorem tn_p {o k : Nat} (h : tn_S o k = true) : pR_S o k = true := pR_c.mpr (by
  unfold tn_S at h
  simp only [Bool.and_eq_true, Bool.or_eq_true, Nat.beq_eq] at h
  omega)
theorem mq_p {o k : Nat} (h : mq_S o k = true) : pM_S o k = true := pM_c.mpr (by
  unfold mq_S at h
  simp only [Bool.and_eq_true, Bool.or_eq_true, Nat.beq_eq] at h
  omega)
theorem kn_p {o k : Nat} (h : kn_S o k = true) : pM_S o k = true := pM_c.mpr (by
  unfold kn_S at h
  simp only [Bool.and_eq_true, Bool.or_eq_true, Nat.beq_eq] at h
  omega)
theorem kn_c {o k : Nat} : kn_S o k = true ↔ ((952 ≤ o ∧ o ≤ 955) ∨ (o = 943 ∧ (k = 17 ∨ k = 21))) := by
  unfold kn_S
  simp only [Bool.and_eq_true, Bool.or_eq_true, Nat.beq_eq]
  omega
theorem kn_f {o k : Nat} (h : ¬ ((952 ≤ o ∧ o ≤ 955) ∨ (o = 943 ∧ (k = 17 ∨ k = 21)))) : kn_S o k = false := sb_f fun q => h (kn_c.mp q)
def rt_S (o k : Nat) : Bool := rs_S o k || Nat.beq o 884
theorem rt_c {o k : Nat} : rt_S o k = true ↔ (o = 42 ∨ o = 44 ∨ o = 884 ∨ (o = 43 ∧ k = 7)) := by
  unfold rt_S rs_S
  simp only [Bool.and_eq_true, Bool.or_eq_true, Nat.beq_eq]
  omega
theorem rt_p {o k : Nat} (h : rt_S o k = true) : pR_S o k = true := pR_c.mpr (by have := rt_c.mp h; omega)
theorem rs_t {o k : Nat} (h : rs_S o k = true) : rt_S o k = true := by unfold rt_S; rw [h]; rfl
/-- how much is left of the text at hand -/
def fl_R (g : am_G) : Nat := if am_i g 39 4 = 0 then (am_i g 35 3).toNatClampNeg - (am_i g 42 0).toNatClampNeg else (am_i g ((am_r g 40 (am_i g 39 4).toNatClampNeg).getD 0 + 3) (am_i g 41 (am_i g 39 4).toNatClampNeg).toNatClampNeg).toNatClampNeg - (am_i g 42 (am_i g 39 4).toNatClampNeg).toNatClampNeg
theorem fl_fs {N p : Nat} {n : Int32} {rs : List (List Int32)} (S : fs_ok gR gM N n p rs i) : fl_R gR = fl_n N p rs := by
  obtain ⟨s1, s2, ⟨f1, f2, f3, f4⟩, s4, s5, s6, s7⟩ := S
  have hN := s1.1
  unfold fl_R
  rw [f1]
  cases rs with
  | nil => rw [if_pos (show nI ([] : List (List Int32)).length = 0 from rfl), s1.2.1, f3, nI_clamp (by omega), nI_clamp (by omega)]; rfl
  | cons r rest =>
    have hl : rest.length + 1 ≤ 16 := f2
    obtain ⟨⟨t, e, a, st, z, h1, h2, h3, h4, h5, h6, h7, h8, h9, h10, h11⟩, _⟩ := f4
    rw [if_neg (nI_ne0 (by rw [List.length_cons]; omega) (by omega)), show nI (r :: rest).length = nI (rest.length + 1) from rfl, nI_clamp (by omega), h1, h3, nI_clamp (n := e) (by omega)]
    show (am_i gR (t + 3) e).toNatClampNeg - _ = r.length
    rw [h7, h5, nI_clamp (by omega), nI_clamp (by omega), h10, sl_len]
/-- both read a name -/
theorem sy_pn {SM : Nat → Nat → Bool} {g0 gR' gM' : am_G} {w : List Int32} {p p' u ps : Nat} {rs rs' : List (List Int32)} {i' k wh : Int32} (h : sy_ok X gR gM i s) (hb : bn_ok gR) (S : fs_ok gR gM X.2.2.2.2.1 X.2.2.2.2.2 p rs i) (f0 : fx_i SM gM g0) (hS : sm_ok SM)
    (S' : fs_ok gR' gM' X.2.2.2.2.1 X.2.2.2.2.2 p' rs' i') (hne : w ≠ []) (hv : ∀ x ∈ w, ch_pt x = true ∧ ch_ok x) (hu14 : u ≤ 14540) (hm : mw_q gM' ps w) (hpt : ch_pt i' = false) (fR : fx_i rt_S gR gR') (fM : fx_i mq_S g0 gM') (hk : am_i gM' 943 24 = k) (hwh : am_i gM' 943 25 = wh) (hl : w.length + fl_n X.2.2.2.2.1 p' rs' ≤ fl_n X.2.2.2.2.1 p rs)
    (hp' : p' = ad_p p rs w.length) (hrs' : rs' = ad_r rs w.length) (hcu : cu_l gR X.2.2.2.2.1 p rs = w ++ cu_l gR' X.2.2.2.2.1 p' rs') (h44 : ∀ k, k < u → am_i gR' 44 k = am_i gR 44 k) (h951 : ∀ k, k < ps → am_i gM' 951 k = am_i g0 951 k) (hu : am_i gR 43 6 = nI u) (hps : am_i gM 943 17 = nI ps) (hpl : ps + fl_n X.2.2.2.2.1 p rs ≤ 14000) :
    pn_ok X gR' gM' i' w k wh ∧ sf_ok pR_S (os_S SM pM_S) gR gM i gR' gM' i' ∧ mu_n gM' i' < mu_n gM i := by
  have F1 : fx_i pR_S gR gR' := fx_w2 fR fun _ _ => rt_p
  have F2 : fx_i (os_S SM pM_S) gM gM' := fx_tr (fx_w2 f0 fun _ _ => os_l) (fx_w2 fM fun _ _ q => os_r (mq_p q))
  obtain ⟨B, _, ⟨w1, w2, w3, w4⟩, h26⟩ := h
  have m0 : ∀ o k, zM_S o k = false → am_i g0 o k = am_i gM o k := fun o k q => (f0.1 o k (sb_f fun w => by rw [hS o k w] at q; cases q)).1
  have mM : ∀ o k, zM_S o k = false → mq_S o k = false → am_i gM' o k = am_i gM o k := fun o k q1 q2 => ((fM.1 o k q2).1).trans (m0 o k q1)
  have rR : ∀ o k, rt_S o k = false → am_i gR' o k = am_i gR o k := fun o k q => (fR.1 o k q).1
  have rsf : ∀ {o k}, ¬ (o = 42 ∨ o = 44 ∨ o = 884 ∨ (o = 43 ∧ k = 7)) → rt_S o k = false := fun {o k} q => sb_f fun z => q (rt_c.mp z)
  have mqf : ∀ {o k}, ¬ (o = 951 ∨ (o = 943 ∧ (k = 5 ∨ k = 8 ∨ k = 18 ∨ k = 24 ∨ k = 25 ∨ k = 26 ∨ k = 29 ∨ k = 30))) → mq_S o k = false := fun {o k} q => sb_f fun z => by
    unfold mq_S at z
    simp only [Bool.and_eq_true, Bool.or_eq_true, Nat.beq_eq] at z
    omega
  obtain ⟨n1, n2, n3⟩ := nm_cg (gR' := gR') (gM' := gM') w1 (fun k hk => rR 43 k (rsf (by omega))) (fun u2 k e1 e2 hk => by
      have : u2 = u := sz_u e1 hu (by omega) (by omega)
      subst this
      exact h44 k hk) (fun o k o1 o2 => rR o k (rsf (by omega))) (fun k hk => mM 943 k (zM_f (by omega)) (mqf (by omega))) (fun u2 k e1 e2 hk => by
      have : u2 = ps := sz_u e1 hps (by omega) (by omega)
      subst this
      exact (h951 k hk).trans (m0 951 k rfl)) (fun o k o1 o2 => mM o k (zM_f (by omega)) (mqf (by omega)))
  have mu := mu_le S S' F1 F2 pR_y (os_y hS)
  have hlen : 0 < w.length := by cases w with
    | nil => exact absurd rfl hne
    | cons a l => exact Nat.succ_pos _
  have hmu : mu_n gM' i' < mu_n gM i := by
    have m14 : mc_n gM' 14 = mc_n gM 14 := by unfold mc_n; rw [mM 943 14 rfl rfl]
    have m15 : mc_n gM' 15 = mc_n gM 15 := by unfold mc_n; rw [mM 943 15 rfl rfl]
    rw [mu_fs S, mu_fs S', m14, m15, hp', hrs']
    cases rs with
    | nil =>
      have hl : w.length + (X.2.2.2.2.1 - p') ≤ X.2.2.2.2.1 - p := by rw [hrs'] at hl; exact hl
      show 3 * (X.2.2.2.2.1 - (p + w.length) + 0 + _) + 0 < 3 * (X.2.2.2.2.1 - p + 0 + _) + 0
      omega
    | cons r rest =>
      have hr : r = w ++ (r.drop w.length) := by
        rw [hrs'] at hcu
        exact hcu
      have e := congrArg List.length hr
      rw [List.length_append] at e
      show 3 * (X.2.2.2.2.1 - p + ((r.drop w.length).length + rl_n rest) + _) + (rest.length + 1) < 3 * (X.2.2.2.2.1 - p + (r.length + rl_n rest) + _) + (rest.length + 1)
      omega
  refine ⟨⟨bi_y B F1 F2 pR_y (os_y hS), ⟨p', rs', S'⟩, n1, ?_, ?_, ?_, ⟨ps, hm, by omega⟩, hpt, hne, hv, hk, hwh⟩, ⟨F1, F2, n2, mu.1⟩, hmu⟩
  · -- the potential
    have hx : ∀ j, en_x gM' j = en_x gM j := fun j => en_xc (fun o k o1 o2 => mM o k (zM_f (by omega)) (mqf (by omega))) j
    obtain ⟨q, b, sM, En, tS, T, a1, a2, a3, a4, a5, a6, a7, a8, a9, a10⟩ := w2
    have hN := S.1.1
    have hpN := S.2.2.2.1
    have : q = p := sz_u a1 S.2.2.1.2.2.1 (by omega) (by omega)
    subst this
    have hbt : ∀ x, bt_c gR' x = bt_c gR x := fun x => by unfold bt_c; rw [rR 37 _ (rsf (by omega))]
    cases rs with
    | nil =>
      have hp2 : p' = q + w.length := hp'
      have hr2 : rs' = [] := hrs'
      subst hr2
      have hcu : sl_l (am_i gR 37) q (X.2.2.2.2.1 - q) = w ++ cu_l gR' X.2.2.2.2.1 p' [] := hcu
      have hwl : w.length ≤ X.2.2.2.2.1 - q := by
        have := congrArg List.length hcu
        rw [sl_len, List.length_append] at this
        omega
      have hw : sl_l (am_i gR 37) q w.length = w := by
        rw [show X.2.2.2.2.1 - q = w.length + (X.2.2.2.2.1 - q - w.length) by omega, sl_ap] at hcu
        exact (List.append_inj hcu (sl_len _ _ _)).1
      obtain ⟨b', c1, c2, c3⟩ := pl_by S.1.2.2.2.2 w.length q b (by omega) a3 a10.2.2.2.1
      rw [hw] at c2
      have hbtrue : bt_c gR q = true := by
        unfold bn_ok bn_d at hb
        rw [S.2.2.1.1, show (nI ([] : List (List Int32)).length).toNatClampNeg = 0 from rfl, if_pos rfl, a1, nI_clamp (by omega)] at hb
        exact hb
      rw [hbtrue] at a10
      have hbfalse : bt_c gR (q + w.length) = false := by
        unfold bt_c
        have : am_i gR 37 (q + w.length - 1) ∈ sl_l (am_i gR 37) q w.length := by
          unfold sl_l
          refine List.mem_map.mpr ⟨w.length - 1, List.mem_range.mpr (by omega), ?_⟩
          show am_i gR 37 (q + (w.length - 1)) = _
          congr 1
          omega
        rw [hw] at this
        rw [(hv _ this).1]
        simp
      refine ⟨p', b', sM, En, tS, T, S'.2.2.1.2.2.1, by have := S'.2.2.2.1; omega, by rw [rR 38 _ (rsf (by omega)), hp2]; exact c1, (mM 943 21 rfl rfl).trans a4, a5, (mM 943 95 rfl rfl).trans a6, a7, (mM 943 101 rfl rfl).trans a8, by rw [a9]; exact (List.map_congr_left fun j _ => hx j).symm, ?_, ?_⟩
      · rw [nl_cg (n3 sM a4 a5), hbt, hp2, hbfalse]
        exact po_up a10 (by omega) c3 (fun z => (nomatch z))
      · intro _
        rw [nl_cg (n3 sM a4 a5), hbt, hp2, hbfalse]
        exact po_tx a10 hne c2 c3
    | cons r rest =>
      have hp2 : p' = q := hp'
      subst hp2
      obtain ⟨j, En', uu, e1, e2, e3, e4, e5⟩ := en_top ⟨w1, ⟨p', b, sM, En, tS, T, a1, a2, a3, a4, a5, a6, a7, a8, a9, a10⟩, w3, w4⟩ S
      have hE : En' = En := sz_u e1 a6 (by omega) (by omega)
      subst hE
      have hr2 : rs' = r.drop w.length :: rest := hrs'
      subst hr2
      have hr : r = w ++ r.drop w.length := hcu
      have hrun : w ∈ ru_l (en_x gM j) := by
        rw [e4, hr]
        refine ru_r (e5 hb) (fun x hx => (hv x hx).1) hne (fun c hc => ?_)
        have hi' : i' = (r.drop w.length).head?.getD (-1) := S'.2.2.2.2.2.1
        rw [hc] at hi'
        have : i' = c := hi'
        rw [← this]; exact hpt
      have hmem : w ∈ po_R T := by
        have : en_x gM j ∈ T.map Prod.fst := by rw [a9]; exact List.mem_map_of_mem (List.mem_range.mpr e3)
        obtain ⟨x, hx1, hx2⟩ := List.mem_map.mp this
        exact po_Rm hx1 (by rw [hx2]; exact hrun)
      refine ⟨p', b, sM, En', tS, T, S'.2.2.1.2.2.1, a2, by rw [rR 38 _ (rsf (by omega))]; exact a3, (mM 943 21 rfl rfl).trans a4, a5, (mM 943 95 rfl rfl).trans a6, a7, (mM 943 101 rfl rfl).trans a8, by rw [a9]; exact (List.map_congr_left fun j _ => hx j).symm, ?_, ?_⟩
      · rw [nl_cg (n3 sM a4 a5), hbt]; exact a10
      · rw [nl_cg (n3 sM a4 a5), hbt]; exact fun z => po_en a10 z hmem
  · refine en_cg n2 (fun o k q => ?_) (fun o k q => ?_) w3
    · unfold tR_S at q; simp only [Bool.and_eq_true, Nat.ble_eq] at q
      exact fR.1 o k (rsf (by omega))
    · have z : zM_S o k = false ∧ mq_S o k = false := by
        unfold tM_S at q
        simp only [Bool.or_eq_true, Bool.and_eq_true, Nat.beq_eq, Nat.ble_eq] at q
        exact ⟨zM_f (by omega), mqf (by omega)⟩
      have a := fM.1 o k z.2
      have b := f0.1 o k (sb_f fun w => by have := hS o k w; rw [z.1] at this; cases this)
      exact ⟨a.1.trans b.1, a.2.1.trans b.2.1, a.2.2.trans b.2.2⟩
  · exact fr_cg w4 (fun k hk => rR 39 k (rsf (by omega))) (rR 33 10 rfl) (fun d => (fR.1 40 d rfl).2.2) (fun d => rR 41 d rfl) (fun o k o1 o2 => rR o k (rsf (by omega))) (fun k hk => mM 943 k (zM_f (by omega)) (mqf (by omega))) (fun d => mM 950 d rfl rfl) (fun j => mM 986 j rfl rfl)
/-- R spells -/
theorem sy_sl {SM : Nat → Nat → Bool} {g0 : am_G} {k : Int32} (h : sy_ok X gR gM i s) (hb : bn_ok gR) (hst : i = -1 → st_in s) (h0 : i ≠ -1 → fm_133 (am_si gM 943 29 0) i = fm_27 g0 i k 0) (f0 : fx_i SM gM g0) (hS : sm_ok SM) (hfd : ag_3 fd_S gM g0) (hwr : ag_3 wr_S gM g0) (h29 : am_i g0 943 29 = 0) :
    sx_ok X (fm_248 gR) i gM fun _ gR' i' gM' => ∃ w, pn_ok X gR' gM' i' w k (pw_R gR) ∧ sf_ok pR_S (os_S SM pM_S) gR gM i gR' gM' i' ∧ mu_n gM' i' < mu_n gM i ∧ ch_bg i = true ∧ (∃ v, w = i :: v) ∧ (∃ u, rq_ok gR' u w) ∧ w.length + fl_R gR' ≤ fl_R gR := by
  have h' := h
  obtain ⟨B, ⟨p, rs, S⟩, W, h26⟩ := h
  obtain ⟨sR, uR, sM, uM, w1, w2, w3, w4, w5, w6⟩ := W.1
  obtain ⟨ps, sM', b1, b2, b3, b4, b5⟩ := cw_bd W S
  have h17 : am_i g0 943 17 = nI ps := ((f0.1 943 17 (sb_f fun w => by have := zM_c.mp (hS _ _ w); omega)).1).trans b1
  refine si_wk (sp_l B S w1.2.1 w1.2.2.2.1 (fun q => h26 ▸ hst q) h0 hfd hwr f0.2.1 h17 h29 (by omega)) ?_
  rintro _ gR' i' gM' ⟨p', rs', w, c1, c2, c3, c4, c5, c6, c7, c8, c9, c10, c11, c12, c13, c14, c15, c16, c17, c18⟩
  rw [pw_fs S] at c10
  obtain ⟨d1, d2, d3⟩ := sy_pn h' hb S f0 hS c1 c2 c3 c4.2.1 c5 c6 (fx_w2 c7 fun _ _ => rs_t) c8 c9 c10 c11 c14 c15 c16 c17 c18 w1.2.1 b1 b3
  exact ⟨w, d1, d2, d3, c13, c12, ⟨_, c4⟩, by rw [fl_fs S, fl_fs c1]; exact c11⟩
/-- M numbers the name -/
theorem sy_kn {w : List Int32} {k wh : Int32} (h : pn_ok X gR gM i w k wh) : ∃ m gM1, m < 6000 ∧ fm_29 gM = some (nI m, gM1) ∧ fx_i kn_S gM gM1 ∧ sy_ok X gR gM1 i 5 ∧ mn_s gM1 m = w ∧ (∃ t, am_i gM1 943 21 = nI t ∧ m < t ∧ t ≤ 6000) ∧ (∀ a b, nq_ok gR gM a b → nq_ok gR gM1 a b) ∧ am_i gM1 943 24 = k ∧ am_i gM1 943 25 = wh ∧
    fm_33 gM = fj_33_21 gM1 (nI m) (if w.length ≤ 60 then 0 else 1) ∧ mu_n gM1 i = mu_n gM i ∧ (∃ sM t, am_i gM 943 21 = nI sM ∧ sM ≤ 6000 ∧ am_i gM1 943 21 = nI t ∧ (nl_L gM1 t = nl_L gM sM ∨ (nl_L gM1 t = nl_L gM sM ++ [w] ∧ w ∉ nl_L gM sM))) := by
  obtain ⟨B, ⟨p, rs, S⟩, n1, P, w3, w4, ⟨ps, hm, hl⟩, hpt, hne, hv, hk, hwh⟩ := h
  have P0 : po_w gR gM := by
    obtain ⟨q, b, sM, En, tS, T, a1, a2, a3, a4, a5, a6, a7, a8, a9, a10, a11⟩ := P
    exact ⟨q, b, sM, En, tS, T, a1, a2, a3, a4, a5, a6, a7, a8, a9, a10⟩
  obtain ⟨q, b, sM0, uM, h1, h2, h3, h4, h5, h6, h7, h8, h9, h10⟩ := po_nb n1 P0
  obtain ⟨m, gM1, e1, e2, e3, e4, ⟨t, e5, e6, e7⟩, e8, sM, t', d1, d2, d3, d4⟩ := nt_M n1 hm hne hv (fun s e _ => by have : s = sM0 := sz_u e h5 (by omega) (by omega); omega) (by omega) (by omega)
  have ett : t' = t := sz_u d3 e5 (by rcases d4 with z | z <;> omega) (by omega)
  subst ett
  have c : ∀ o k, kn_S o k = false → am_i gM1 o k = am_i gM o k := fun o k q => (e2.1 o k q).1
  have fd : ag_3 fd_S gM gM1 := fun o k q => e2.1 o k (kn_f (by
    unfold fd_S at q
    simp only [Bool.or_eq_true, Bool.and_eq_true, Nat.beq_eq] at q
    omega))
  have hL : nl_L gM1 t' = nl_L gM sM ∨ (nl_L gM1 t' = nl_L gM sM ++ [w] ∧ w ∉ nl_L gM sM) := by
    rcases d4 with ⟨z1, z2⟩ | ⟨z1, z2, z3, z4⟩
    · left; rw [z1, z2]
    · right
      refine ⟨by rw [z1, nl_s, nl_cg z2, z3], fun y => ?_⟩
      obtain ⟨x, x1, x2⟩ := List.mem_map.mp y
      exact z4 x (List.mem_range.mp x1) x2
  have hx : ∀ j, en_x gM1 j = en_x gM j := fun j => en_xc (fun o k o1 o2 => c o k (kn_f (by omega))) j
  have P1 : po_w gR gM1 := by
    obtain ⟨q, b, sM', En, tS, T, a1, a2, a3, a4, a5, a6, a7, a8, a9, a10, a11⟩ := P
    have : sM' = sM := sz_u a4 d1 (by omega) (by omega)
    subst this
    refine ⟨q, b, t', En, tS, T, a1, a2, a3, e5, e7, (c 943 95 rfl).trans a6, a7, (c 943 101 rfl).trans a8, by rw [a9]; exact (List.map_congr_left fun j _ => hx j).symm, ?_⟩
    rcases hL with z | ⟨z1, z2⟩
    · rw [z]; exact a10
    · rw [z1]; exact a11 z2
  refine ⟨m, gM1, by omega, e1, e2, ⟨?_, ⟨p, rs, fs_mc S fd (c 943 29 rfl) (c 943 30 rfl)⟩, ⟨e3, P1, ?_, ?_⟩, (c 943 26 rfl).trans hm.1⟩, e4, ⟨t', e5, e6, e7⟩, e8, (c 943 24 rfl).trans hk, (c 943 25 rfl).trans hwh, ?_, ?_, sM, t', d1, d2, e5, hL⟩
  · exact bi_y B fx_re e2 (fun _ _ z => (nomatch z) : tr_ok (fun _ _ => false)) (fun o k z => pM_y o k (kn_p z))
  · refine en_cg e8 ag_re (fun o k q => e2.1 o k (kn_f ?_)) w3
    unfold tM_S at q
    simp only [Bool.or_eq_true, Bool.and_eq_true, Nat.beq_eq, Nat.ble_eq] at q
    omega
  · exact fr_cg w4 (fun _ _ => rfl) rfl (fun _ => rfl) (fun _ => rfl) (fun _ _ _ _ => rfl) (fun k hk => c 943 k (kn_f (by omega))) (fun d => c 950 d rfl) (fun j => c 986 j rfl)
  · obtain ⟨sR, uR, sM1, uM1, _, x2, _⟩ := e3
    have ets : sM1 = t' := sz_u x2.1 e5 (by have := x2.2.2.1; omega) (by omega)
    subst ets
    obtain ⟨a, z, y1, y2, y3⟩ := x2.2.2.2.2.1 m e6
    have hu := x2.2.2.2.1
    have hz : z = w.length := by
      have := congrArg List.length e4
      unfold mn_s at this
      rw [sl_len, y2, nI_clamp (by omega)] at this
      exact this
    unfold fm_33
    rw [e1, lo_is, ai_nI (by omega) (by omega), lo_gt, nI_clamp (by omega), y2, hz, show (60 : Int32) = nI 60 from rfl]
    by_cases q : w.length ≤ 60
    · rw [if_pos (nI_le q (by omega)), if_pos q]
    · rw [if_neg (nI_ge (by omega) (by omega)), if_neg q]
  · unfold mu_n
    rw [mm_cg fd]
/-- M is about to do what comes behind a name -/
def nd_ok (X : cx_T) (gR gM gM1 : am_G) (i : Int32) (m : Nat) (x : Int32) : Prop := sy_ok X gR gM1 i 5 ∧ fx_i kn_S gM gM1 ∧ ch_pt i = false ∧ fm_33 gM = fj_33_21 gM1 (nI m) x
theorem kn_fd {g g1 : am_G} (f : fx_i kn_S g g1) : ag_3 fd_S g g1 := fun o k q => f.1 o k (kn_f (by
  unfold fd_S at q
  simp only [Bool.or_eq_true, Bool.and_eq_true, Nat.beq_eq] at q
  omega))
theorem sy_e30 {N p : Nat} {n : Int32} {rs : List (List Int32)} (S : fs_ok gR gM N n p rs i) (hi : i = -1) (h9 : ¬ 0 < am_i gM 943 9) : am_i gM 943 30 = n := by
  obtain ⟨s1, s2, s3, s4, s5, s6, s7⟩ := S
  cases rs with
  | nil =>
    have s7 : if p < N then mf_ok gM (p + 1) [] ∧ am_i gM 943 30 = am_i gR 38 p ∧ am_i gM 943 29 = 1 else mf_ok gM p [] ∧ am_i gM 943 30 = n := s7
    have s6 : i = if p < N then am_i gR 37 p else -1 := s6
    by_cases q : p < N
    · rw [if_pos q] at s6
      exact absurd (s6.symm.trans hi) (ch_n (s1.2.2.2.1 p q)).1
    · rw [if_neg q] at s7; exact s7.2
  | cons r rest =>
    exfalso
    have hl : rest.length + 1 ≤ 16 := s3.2.1
    have h9' : am_i gM 943 9 = nI (rest.length + 1) := by
      cases r with
      | nil => exact (show mf_ok gM p ([] :: rest) from s7).2.1
      | cons c r => exact s7.1.2.1
    rw [h9'] at h9
    exact h9 (nI_lt (a := 0) (by omega) (by omega))
/-- what is in hand is looked at behind the name -/
theorem sy_go {SR SM : Nat → Nat → Bool} {gM3 : am_G} {m : Nat} {t x : Int32} (h : nd_ok X gR gM gM1 i m x) (hn : fj_33_21 gM1 (nI m) x = some (0, gM3)) (f : fx_i SM gM1 gM3) (hS : sm_ok SM) (hfd : ag_3 fd_S gM1 gM3) (h29 : am_i gM3 943 29 = am_i gM1 943 29) (h30 : am_i gM3 943 30 = am_i gM1 943 30) (ht : am_i gM3 943 26 = t) (h5 : t ≠ 5) :
    mv_ok X i gM i gM3 ∧ sy_ok X gR gM3 i t ∧ sf_ok SR SM gR gM1 i gR gM3 i := by
  obtain ⟨h1, h2, h3, h4⟩ := h
  refine ⟨fun res q => ?_, sy_M h1 f hS hfd h29 h30 ht⟩
  obtain ⟨B, ⟨p, rs, S⟩, W, h26⟩ := h1
  have c : ∀ o k, kn_S o k = false → am_i gM1 o k = am_i gM o k := fun o k q => (h2.1 o k q).1
  refine mi_n ((c 943 26 rfl).symm.trans h26) h3 (fun hi => (c 943 29 rfl).symm.trans (fs_in S hi).1) (fun hi h9 => ?_) (h4.trans hn) (ht ▸ h5) (h29.trans (c 943 29 rfl)) (ag_tr (kn_fd h2) hfd) q
  have := sy_e30 S hi (by rw [c 943 9 rfl]; exact h9)
  exact ⟨(c 943 30 rfl).symm.trans this, h30.trans this⟩
theorem sy_gx {gM3 : am_G} {m : Nat} {x : Int32} (h : nd_ok X gR gM gM1 i m x) (hn : fj_33_21 gM1 (nI m) x = some (-1, gM3)) : ∃ g', mi_ok X.2.2.2.2.2 i gM (-1, g') ∧ (g' = gM3 ∨ g' = am_si gM3 943 30 X.2.2.2.2.2) := by
  obtain ⟨h1, h2, h3, h4⟩ := h
  obtain ⟨B, ⟨p, rs, S⟩, W, h26⟩ := h1
  have c : ∀ o k, kn_S o k = false → am_i gM1 o k = am_i gM o k := fun o k q => (h2.1 o k q).1
  refine mi_nf (by decide) (by decide) ((c 943 26 rfl).symm.trans h26) h3 (fun hi => (c 943 29 rfl).symm.trans (fs_in S hi).1) (fun hi h9 => ?_) (fun hi h9 => ?_) (h4.trans hn) rfl
  · have := sy_e30 S hi (by rw [c 943 9 rfl]; exact h9)
    exact (c 943 30 rfl).symm.trans this
  · obtain ⟨F, En, mt, lim, a1, a2, a3, _⟩ := W.2.2.2
    rw [c 943 9 rfl] at a1
    rw [a1] at h9
    unfold mm_n mc_n
    rw [a1, nI_clamp (by omega)]
    have : F ≠ 0 := fun e => by subst e; exact absurd h9 (by decide)
    omega
theorem nd_B {m : Nat} {x : Int32} (h : nd_ok X gR gM gM1 i m x) : bi_ok X.1 X.2.1 X.2.2.1 X.2.2.2.1 gR gM := by
  obtain ⟨b1, b2, b3, b4, b5, b6, b7, b8⟩ := h.1.1
  have f := h.2.1
  refine ⟨b1, b2, b3, b4, ⟨fun o k q => ?_, f.2.1.symm.trans b5.2⟩, b6, ((f.1 943 144 rfl).1).symm.trans b7, b8⟩
  have := f.1 o k (kn_f (by have := mx_c.mp q; omega))
  have b := b5.1 o k q
  exact ⟨this.1.symm.trans b.1, this.2.1.symm.trans b.2.1, this.2.2.symm.trans b.2.2⟩
/-- what comes behind the name is a fault -/
theorem sy_gl {α : Type} {m : Nat} {c w x : Int32} {g' : am_G} {Q : α → am_G → Int32 → am_G → Prop} (h : nd_ok X gR gM gM1 i m x) (hn : fj_33_21 gM1 (nI m) x = fm_22 g' c w) (hw : wh_ok gR w) (hg : ag_3 wr_S gM1 g') (hz : g'.2.2.2 = gM1.2.2.2) :
    sx_ok X (lo_i (fm_237 gR c w) fun y9 g10 => lo_g (Nat.ble 1008 y9 && Nat.blt y9 (am_sz g10)) (some (.inr y9, g10))) i gM Q := by
  have hwm := sy_wh h.1 hw (g' := g') ((hg 943 9 rfl).1) ((hg 943 13 rfl).1)
  rw [cm_22, hwm] at hn
  obtain ⟨g2, e1, e2⟩ := sy_gx h hn
  have f := h.2.1
  have ax : ag_3 mx_S gM gM1 := ag_f2 f fun o k q => kn_f (by have := mx_c.mp q; omega)
  have a3 : ag_3 mx_S gM (am_si (am_si (am_si g' 943 144 c) 943 142 15) 943 143 w) := ag_si rfl (ag_si rfl (ag_si rfl (ag_tr ax (ag_wk hg fun _ _ => wr_mx))))
  have z3 : g'.2.2.2 = gM.2.2.2 := hz.trans f.2.1
  rcases e2 with e2 | e2
  · subst e2
    exact th_fl (nd_B h) e1 rfl rfl rfl a3 z3
  · subst e2
    exact th_fl (nd_B h) e1 rfl rfl rfl (ag_si rfl a3) z3
theorem sy_gf {α : Type} {m : Nat} {c w x : Int32} {g' : am_G} {Q : α → am_G → Int32 → am_G → Prop} (h : nd_ok X gR gM gM1 i m x) (hn : fj_33_21 gM1 (nI m) x = fm_21 g' c w) (hw : wh_ok gR w) (hg : ag_3 wr_S gM1 g') (hz : g'.2.2.2 = gM1.2.2.2) :
    sx_ok X (lo_i (fm_236 gR c w) fun y9 g10 => lo_g (Nat.ble 1008 y9 && Nat.blt y9 (am_sz g10)) (some (.inr y9, g10))) i gM Q := by
  have hwm := sy_wh h.1 hw (g' := g') ((hg 943 9 rfl).1) ((hg 943 13 rfl).1)
  rw [cm_21, hwm] at hn
  obtain ⟨g2, e1, e2⟩ := sy_gx h hn
  have f := h.2.1
  have ax : ag_3 mx_S gM gM1 := ag_f2 f fun o k q => kn_f (by have := mx_c.mp q; omega)
  have a3 : ag_3 mx_S gM (am_si (am_si g' 943 142 c) 943 143 w) := ag_si rfl (ag_si rfl (ag_tr ax (ag_wk hg fun _ _ => wr_mx)))
  have z3 : g'.2.2.2 = gM.2.2.2 := hz.trans f.2.1
  have h0 : am_i g' 943 144 = 0 := ((hg 943 144 rfl).1).trans h.1.1.2.2.2.2.2.2.1
  rcases e2 with e2 | e2
  · subst e2
    exact th_fa (nd_B h) e1 rfl rfl h0 a3 z3
  · subst e2
    exact th_fa (nd_B h) e1 rfl rfl h0 (ag_si rfl a3) z3
/-- R takes the name -/
theorem sy_tk {w : List Int32} {m u : Nat} (h : sy_ok X gR gM1 i s) (hq : rq_ok gR u w) (h60 : w.length ≤ 60) (hm : mn_s gM1 m = w) (ht : ∃ t, am_i gM1 943 21 = nI t ∧ m < t ∧ t ≤ 6000) :
    ∃ r gR1, fm_234 gR = some (nI r, gR1) ∧ fx_i tn_S gR gR1 ∧ nq_ok gR1 gM1 (nI r) (nI m) ∧ sy_ok X gR1 gM1 i s ∧ (∀ a b, nq_ok gR gM1 a b → nq_ok gR1 gM1 a b) := by
  obtain ⟨B, ⟨p, rs, S⟩, W, h26⟩ := h
  obtain ⟨t, t1, t2, t3⟩ := ht
  obtain ⟨uM, sM, b1, b2, b3, b4, b5⟩ := cw_bd W S
  obtain ⟨r, gR1, e1, e2, e3, e4, e5⟩ := nt_R W.1 hq h60 hm t1 t2 t3 (fun u2 e h => by have : u2 = uM := sz_u e b1 (by omega) (by omega); omega)
  have c : ∀ o k, ¬ ((45 ≤ o ∧ o ≤ 48) ∨ (o = 43 ∧ (k = 5 ∨ k = 6))) → tn_S o k = false := fun o k q => sb_f fun z => by
    unfold tn_S at z
    simp only [Bool.and_eq_true, Bool.or_eq_true, Nat.beq_eq] at z
    omega
  have rr : ∀ o k, ¬ ((45 ≤ o ∧ o ≤ 48) ∨ (o = 43 ∧ (k = 5 ∨ k = 6))) → am_i gR1 o k = am_i gR o k := fun o k q => (e2.1 o k (c o k q)).1
  have tny : tr_ok tn_S := fun o k z => pR_y o k (tn_p z)
  refine ⟨r, gR1, e1, e2, e4, ⟨bi_y B e2 fx_re tny (fun _ _ z => (nomatch z) : tm_ok (fun _ _ => false)), ⟨p, rs, fs_R S e2 tny fun k => rr 42 k (by omega)⟩, ⟨e3, ?_, ?_, ?_⟩, h26⟩, e5⟩
  · obtain ⟨q, b, sM, En, tS, T, a1, a2, a3, a4, a5, a6, a7, a8, a9, a10⟩ := W.2.1
    refine ⟨q, b, sM, En, tS, T, (rr 42 0 (by omega)).trans a1, a2, (rr 38 q (by omega)).trans a3, a4, a5, a6, a7, a8, a9, ?_⟩
    have : bt_c gR1 q = bt_c gR q := by unfold bt_c; rw [rr 37 _ (by omega)]
    rw [this]; exact a10
  · refine en_cg e5 (fun o k q => e2.1 o k (c o k ?_)) ag_re W.2.2.1
    unfold tR_S at q; simp only [Bool.and_eq_true, Nat.ble_eq] at q
    omega
  · exact fr_cg W.2.2.2 (fun k hk => rr 39 k (by omega)) (rr 33 10 (by omega)) (fun d => (e2.1 40 d (c 40 d (by omega))).2.2) (fun d => rr 41 d (by omega)) (fun o k o1 o2 => rr o k (by omega)) (fun _ _ => rfl) (fun _ => rfl) (fun _ => rfl)
/-- R's name, up to what M does behind it -/
theorem sy_nm {SM : Nat → Nat → Bool} {g0 : am_G} {k : Int32} (h : sy_ok X gR gM i s) (hb : bn_ok gR) (hst : i = -1 → st_in s) (h0 : i ≠ -1 → fm_133 (am_si gM 943 29 0) i = fm_27 g0 i k 0) (f0 : fx_i SM gM g0) (hS : sm_ok SM) (hfd : ag_3 fd_S gM g0) (hwr : ag_3 wr_S gM g0) (h29 : am_i g0 943 29 = 0)
    (hk : ∀ (gR1 g1 : am_G) (m : Nat), am_i g1 943 24 = k → fx_i (os_S SM pM_S) gM g1 → nm_w gR1 g1 → (∀ a b, nq_ok gR gM a b → nq_ok gR1 g1 a b) → 60 < (mn_s g1 m).length → ∃ g', fj_33_21 g1 (nI m) 1 = fm_22 g' 1 (am_i g1 943 25) ∧ ag_3 wr_S g1 g' ∧ g'.2.2.2 = g1.2.2.2) :
    sx_ok X (fm_247 gR) i gM fun r gR' i' gM' => ∃ m gM1, nd_ok X gR' gM' gM1 i' m 0 ∧ nq_ok gR' gM1 r (nI m) ∧ sf_ok pR_S (os_S SM pM_S) gR gM i gR' gM1 i' ∧ am_i gM1 943 24 = k ∧ am_i gM1 943 25 = pw_R gR ∧ mu_n gM1 i' < mu_n gM i ∧ m < 6000 := by
  unfold fm_247
  rw [sy_w h, lo_ps]
  have hwh := wh_pw gR
  refine si_bd (sy_sl h hb hst h0 f0 hS hfd hwr h29) ?_
  rintro _ gR2 i2 gM2 ⟨w, p1, p2, p3, p4, ⟨v, p5⟩, ⟨u, hq⟩, p6⟩
  obtain ⟨m, gM1, k1, k2, k3, k4, k5, k6, k7, k8, k9, k10, k11, k12⟩ := sy_kn p1
  obtain ⟨B, ⟨p, rs, S⟩, n1, P, w3, w4, ⟨ps, hm, hl⟩, hpt, hne, hv, hk', hwh'⟩ := p1
  have fM1 : fx_i (os_S SM pM_S) gM gM1 := fx_tr p2.2.1 (fx_w2 k3 fun _ _ z => os_r (kn_p z))
  have hwh2 : wh_ok gR2 (pw_R gR) := by
    unfold wh_ok at hwh ⊢
    rw [(p2.1.1 39 4 rfl).1, (p2.1.1 39 5 rfl).1]
    exact hwh
  rw [cm_230 hq.2.2.1 (by omega), lo_ps]
  by_cases q : w.length ≤ 60
  · rw [decide_eq_false (by omega), if_pos (show b2 false = 0 from rfl)]
    obtain ⟨r, gR1, t1, t2, t3, t4, t5⟩ := sy_tk k4 hq q k5 k6
    rw [t1, lo_is]
    rw [if_pos q] at k10
    refine ⟨_, rfl, i2, gM2, fun _ z => z, m, gM1, ⟨t4, k3, hpt, k10⟩, t3, ⟨fx_tr p2.1 (fx_w2 t2 fun _ _ => tn_p), fM1, fun a b z => t5 a b (k7 a b (p2.2.2.1 a b z)), ?_⟩, k8, k9, ?_, k1⟩
    · rw [k11]; exact p2.2.2.2
    · rw [k11]; exact p3
  · rw [decide_eq_true (by omega), if_neg (show ¬ b2 true = 0 by decide)]
    rw [if_neg q] at k10
    obtain ⟨g', e1, e2, e3⟩ := hk gR2 gM1 m k8 fM1 k4.2.2.1.1 (fun a b z => k7 a b (p2.2.2.1 a b z)) (by rw [k5]; omega)
    rw [k9] at e1
    exact sy_gl (m := m) (x := 1) ⟨k4, k3, hpt, k10⟩ e1 hwh2 e2 e3
end
