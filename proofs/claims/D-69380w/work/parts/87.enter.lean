/-! Entities: found by both, entered, left. -/
theorem en_le (g : am_G) (pc : Bool) : ∀ j, en_n g pc j ≤ j
  | 0 => Nat.le_refl _
  | j + 1 => by
    have := en_le g pc j
    show en_n g pc j + _ ≤ j + 1
    split <;> omega
theorem en_mo (g : am_G) (pc : Bool) {j : Nat} : ∀ {k : Nat}, j ≤ k → en_n g pc j ≤ en_n g pc k
  | 0, h => by have : j = 0 := by omega
               subst this; exact Nat.le_refl _
  | k + 1, h => by
    by_cases q : j = k + 1
    · subst q; exact Nat.le_refl _
    · have := en_mo g pc (show j ≤ k by omega)
      show _ ≤ en_n g pc k + _
      omega
theorem en_st {g : am_G} {pc : Bool} {j : Nat} (h : am_i g 986 j = b2 pc) : en_n g pc (j + 1) = en_n g pc j + 1 := by
  show en_n g pc j + (if am_i g 986 j = b2 pc then 1 else 0) = _
  rw [if_pos h]
theorem en_lt {g : am_G} {pc : Bool} {j k : Nat} (h : am_i g 986 j = b2 pc) (hjk : j < k) : en_n g pc j < en_n g pc k := by
  have := en_mo g pc (show j + 1 ≤ k by omega)
  rw [en_st h] at this
  omega
theorem en_su (g : am_G) (pc : Bool) : ∀ (E k : Nat), k < en_n g pc E → ∃ j, j < E ∧ am_i g 986 j = b2 pc ∧ en_n g pc j = k
  | 0, k, h => absurd h (Nat.not_lt_zero _)
  | E + 1, k, h => by
    by_cases q : am_i g 986 E = b2 pc
    · rw [en_st q] at h
      by_cases z : k = en_n g pc E
      · exact ⟨E, by omega, q, z.symm⟩
      · obtain ⟨j, h1, h2, h3⟩ := en_su g pc E k (by omega)
        exact ⟨j, by omega, h2, h3⟩
    · have e : en_n g pc (E + 1) = en_n g pc E := by
        show en_n g pc E + (if am_i g 986 E = b2 pc then 1 else 0) = _
        rw [if_neg q]; rfl
      rw [e] at h
      obtain ⟨j, h1, h2, h3⟩ := en_su g pc E k h
      exact ⟨j, by omega, h2, h3⟩
theorem en_tk (pc : Bool) : Nat.beq (v0_kd (en_t pc)) 12 = true ∧ v0_fr (en_t pc) 0 = some (en_t pc + 1) ∧ v0_fr (en_t pc) 1 = some (en_t pc + 2) ∧ v0_fr (en_t pc) 2 = some (en_t pc + 3) ∧ v0_fr (en_t pc) 3 = some (en_t pc + 4) ∧ v0_fr (en_t pc) 4 = some (en_t pc + 5) := by cases pc <;> exact ⟨rfl, rfl, rfl, rfl, rfl, rfl⟩
theorem en_ti (pc : Bool) {e : Nat} (he : e < 40) : vk_in (en_t pc + 1) 101 (nI e) = true ∧ vk_in (en_t pc + 2) 101 (nI e) = true ∧ vk_in (en_t pc + 3) 101 (nI e) = true ∧ vk_in (en_t pc + 4) 104 (nI e) = true ∧ vk_iw (en_t pc + 4) 104 (nI e) = true := by
  have q : ai_in (nI e) 40 = true := ai_nI he (by omega)
  cases pc <;> exact ⟨q, q, q, q, q⟩
section
variable {gR gM : am_G}
/-- R's find in its table -/
theorem cm_172 {t K : Nat} {a : Int32} (pc : Bool) (ht : t = en_t pc) (hK : am_i gR t 5 = nI K) (hK2 : K ≤ 40) : (∃ k, k < K ∧ am_i gR (t + 1) k = a ∧ (∀ x, x < k → am_i gR (t + 1) x ≠ a) ∧ fm_172 gR t a = some (nI k)) ∨ ((∀ k, k < K → am_i gR (t + 1) k ≠ a) ∧ fm_172 gR t a = some (-1)) := by
  subst ht
  obtain ⟨k1, k2, k3, k4, k5, k6⟩ := en_tk pc
  unfold fm_172 fh_172_2
  refine lo_fst (b := fun k (x : Nat × Int32 × Int32) => fb_172_2 gR k x.1 x.2.1 x.2.2) (fun i => (en_t pc, a, nI i)) (fun i => am_i gR (en_t pc + 1) i = a) K (fun j => some (nI j)) (some (-1)) ?_ ?_ ?_ (by omega) |>.elim (fun h => ?_) (fun h => ?_)
  · intro k
    unfold fb_172_2 fj_172_26
    dsimp only
    rw [k1, lo_gt, hK, if_pos (nI_le (Nat.le_refl _) (by omega)), lo_gt, if_pos (nI_le (Nat.le_refl _) (by omega))]
  · intro k i hi hp
    unfold fb_172_2 fj_172_26
    dsimp only
    rw [k1, lo_gt, hK, if_neg (nI_ge hi (by omega)), k2, lo_ms, (en_ti pc (e := i) (by omega)).1, lo_gt, nI_clamp (by omega), if_pos hp, lo_gt, if_neg (nI_ge hi (by omega))]
  · intro k i hi hp
    unfold fb_172_2
    dsimp only
    rw [k1, lo_gt, hK, if_neg (nI_ge hi (by omega)), k2, lo_ms, (en_ti pc (e := i) (by omega)).1, lo_gt, nI_clamp (by omega), if_neg hp, nI_1]
  · obtain ⟨j, h1, h2, h3, h4⟩ := h
    exact Or.inl ⟨j, h1, h2, h3, h4⟩
  · exact Or.inr h
/-- M's -/
theorem cm_99 {En : Nat} {b : Int32} (pc : Bool) (hE : am_i gM 943 95 = nI En) (hE2 : En ≤ 40) : (∃ j, j < En ∧ (am_i gM 985 j = b ∧ am_i gM 986 j = b2 pc) ∧ (∀ x, x < j → ¬ (am_i gM 985 x = b ∧ am_i gM 986 x = b2 pc)) ∧ fm_99 gM b (b2 pc) = some (nI j)) ∨ ((∀ j, j < En → ¬ (am_i gM 985 j = b ∧ am_i gM 986 j = b2 pc)) ∧ fm_99 gM b (b2 pc) = some (-1)) := by
  unfold fm_99 fh_99_2
  refine lo_fst (b := fun k (x : Int32 × Int32 × Int32) => fb_99_2 gM k x.1 x.2.1 x.2.2) (fun i => (b, b2 pc, nI i)) (fun i => am_i gM 985 i = b ∧ am_i gM 986 i = b2 pc) En (fun j => some (nI j)) (some (-1)) ?_ ?_ ?_ (by omega)
  · intro k
    unfold fb_99_2
    dsimp only
    rw [hE, if_pos (nI_le (Nat.le_refl _) (by omega))]
  · intro k i hi hp
    unfold fb_99_2
    dsimp only
    rw [hE, if_neg (nI_ge hi (by omega)), ai_nI (by omega) (by omega), lo_gt, nI_clamp (by omega), if_pos hp.1, if_pos hp.2]
  · intro k i hi hp
    unfold fb_99_2
    dsimp only
    rw [hE, if_neg (nI_ge hi (by omega)), ai_nI (by omega) (by omega), lo_gt, nI_clamp (by omega), nI_1]
    by_cases q : am_i gM 985 i = b
    · rw [if_pos q, if_neg fun z => hp ⟨q, z⟩]
    · rw [if_neg q]
/-- both find the same entity, or none -/
theorem en_fd {a b : Int32} (pc : Bool) (N : nm_w gR gM) (W : en_w gR gM) (h : (∃ r, a = nI r ∧ nq_ok gR gM a b) ∨ (a = -1 ∧ ∀ x, ¬ nq_ok gR gM x b)) :
    (∃ j En, am_i gM 943 95 = nI En ∧ En ≤ 40 ∧ j < En ∧ am_i gM 986 j = b2 pc ∧ fm_99 gM b (b2 pc) = some (nI j) ∧ a ≠ -1 ∧ fm_172 gR (en_t pc) a = some (nI (en_n gM pc j))) ∨ (fm_99 gM b (b2 pc) = some (-1) ∧ (a ≠ -1 → fm_172 gR (en_t pc) a = some (-1))) := by
  obtain ⟨En, tS, uG, uP, w1, w2, w3, w4, w5, w6, w7, w8, w9, w10⟩ := W
  have hK : am_i gR (en_t pc) 5 = nI (en_n gM pc En) := by cases pc; exact w3; exact w4
  have hle := en_le gM pc En
  have hnq : ∀ j, j < En → am_i gM 986 j = b2 pc → nq_ok gR gM (am_i gR (en_t pc + 1) (en_n gM pc j)) (am_i gM 985 j) := fun j hj hp => by
    obtain ⟨pc', sR, sM, z, d1, d2, _⟩ := w10 j hj
    have : pc' = pc := by rw [hp] at d1; cases pc <;> cases pc' <;> first | rfl | exact absurd d1 (by decide)
    subst this
    exact d2
  rcases h with ⟨r, hr, hq⟩ | ⟨ha, hno⟩
  · have hiff : ∀ j, j < En → am_i gM 986 j = b2 pc → (am_i gR (en_t pc + 1) (en_n gM pc j) = a ↔ am_i gM 985 j = b) := fun j hj hp => nq_eq N (hnq j hj hp) hq
    have ha : a ≠ -1 := by
      obtain ⟨r', _, s1, _, e0, _, e1, _, e3, _, e5, _⟩ := hq
      rw [e0]
      exact fun z => absurd (nI_pos' (n := r') (by omega)) (by rw [z]; decide)
    rcases cm_99 (b := b) pc w2 w1 with ⟨j, j1, j2, j3, j4⟩ | ⟨j1, j2⟩
    · refine Or.inl ⟨j, En, w2, w1, j1, j2.2, j4, ha, ?_⟩
      have hk := en_lt j2.2 j1
      rcases cm_172 (a := a) pc rfl hK (by omega) with ⟨k, k1, k2, k3, k4⟩ | ⟨k1, k2⟩
      · rw [k4]
        obtain ⟨x, x1, x2, x3⟩ := en_su gM pc En k k1
        rw [← x3] at k2
        have hx := (hiff x x1 x2).mp k2
        have : x = j := by
          rcases Nat.lt_trichotomy x j with q | q | q
          · exact absurd ⟨hx, x2⟩ (j3 x q)
          · exact q
          · have h1 := en_lt j2.2 q
            rw [x3] at h1
            exact absurd ((hiff j j1 j2.2).mpr j2.1) (k3 _ h1)
        rw [← x3, this]
      · exact absurd ((hiff j j1 j2.2).mpr j2.1) (k1 _ hk)
    · refine Or.inr ⟨j2, fun _ => ?_⟩
      rcases cm_172 (a := a) pc rfl hK (by omega) with ⟨k, k1, k2, k3, k4⟩ | ⟨k1, k2⟩
      · obtain ⟨x, x1, x2, x3⟩ := en_su gM pc En k k1
        rw [← x3] at k2
        exact absurd ⟨(hiff x x1 x2).mp k2, x2⟩ (j1 x x1)
      · exact k2
  · refine Or.inr ⟨?_, fun z => absurd ha z⟩
    rcases cm_99 (b := b) pc w2 w1 with ⟨j, j1, j2, j3, j4⟩ | ⟨j1, j2⟩
    · exact absurd (j2.1 ▸ hnq j j1 j2.2) (hno _)
    · exact j2
end
/-- what M changes when it puts an entity's text on its row -/
def rw_S (o k : Nat) : Bool := Nat.beq o 947 || (Nat.beq o 943 && (Nat.beq k 8 || (Nat.beq k 26 || Nat.beq k 43)))
theorem nI_sp (a : Nat) : nI a + -1 = nI a - 1 := by rw [← Int32.sub_eq_add_neg]
def eg_s (kd : Int32) : Int32 := if kd = 0 then 50 else if kd = 1 then 58 else 45
/-- the row -/
theorem cm_102l {g : am_G} {j z st R : Nat} {kd : Int32} (hj : j < 40) (hst : am_i g 987 j = nI st) (hs : st + z ≤ 8000) (h8 : am_i g 943 8 = nI R) (hR : R + z ≤ 9000) :
    ∃ g', fh_102_180 (g, nI j, kd, nI z - 1) = some (0, g') ∧ fx_i rw_S g g' ∧ am_i g' 943 8 = nI (R + z) ∧ am_i g' 943 26 = eg_s kd ∧ am_i g' 943 43 = 0 ∧ (∀ m, m < z → am_i g' 947 (R + m) = am_i g 989 (st + (z - 1 - m))) ∧ ∀ k, k < R → am_i g' 947 k = am_i g 947 k := by
  unfold fh_102_180
  have := lo_fo (b := fun k (x : am_G × Int32 × Int32 × Int32) => fb_102_180 k x.1 x.2.1 x.2.2.1 x.2.2.2) (fun i (s : am_G) => (s, nI j, kd, nI (z - i) - 1)) (fun i s => am_si (am_si s 947 (R + i) (am_i s 989 (st + (z - 1 - i)))) 943 8 (nI (R + i + 1)))
    (fun i s => am_i s 943 8 = nI (R + i) ∧ fx_i rw_S g s ∧ (∀ m, m < i → am_i s 947 (R + m) = am_i g 989 (st + (z - 1 - m))) ∧ ∀ k, k < R → am_i s 947 k = am_i g 947 k) z (fun s => some (0, am_si (am_si s 943 43 0) 943 26 (eg_s kd))) ?_ ?_ g ⟨h8, fx_re, fun m hm => absurd hm (Nat.not_lt_zero _), fun _ _ => rfl⟩ (by omega)
  · obtain ⟨e, i1, i2, i3, i4⟩ := this
    rw [Nat.sub_zero] at e
    refine ⟨_, e, fx_tr i2 (fx_tr (fx_si rfl) (fx_si rfl)), ?_, rfl, rfl, fun m hm => ?_, fun k hk => ?_⟩
    · rw [gi_si, if_neg (by decide), gi_si, if_neg (by decide)]; exact i1
    · rw [gi_si, if_neg (by omega), gi_si, if_neg (by omega)]; exact i3 m hm
    · rw [gi_si, if_neg (by omega), gi_si, if_neg (by omega)]; exact i4 k hk
  · intro K s _
    unfold fb_102_180 fj_102_251
    dsimp only
    rw [Nat.sub_self, if_pos (show nI 0 - 1 < 0 by decide)]
    unfold eg_s
    by_cases q : kd = 0
    · rw [if_pos q, if_pos q]; rfl
    · rw [if_neg q, if_neg q]
      by_cases q1 : kd = 1
      · rw [if_pos q1, if_pos q1]; rfl
      · rw [if_neg q1, if_neg q1]; rfl
  · intro K i s hi ⟨i1, i2, i3, i4⟩
    refine ⟨?_, ?_, ?_, fun m hm => ?_, fun k hk => ?_⟩
    · unfold fb_102_180
      try dsimp only
      have e1 : nI (z - i) - 1 = nI (z - 1 - i) := by rw [show z - i = (z - 1 - i) + 1 by omega, nI_pred]
      have e2 : nI (z - 1 - i) + -1 = nI (z - (i + 1)) - 1 := by rw [nI_sp, show z - (i + 1) = z - 1 - i by omega]
      have h7 : am_i s 987 j = nI st := ((i2.1 987 j rfl).1).trans hst
      rw [e1, if_neg (nI_pos (by omega)), ai_nI hj (by omega), lo_gt, nI_clamp (n := j) (by omega), h7, nI_add, ai_nI (by omega) (by omega), lo_gt, i1, ai_nI (by omega) (by omega), lo_gt, nI_clamp (by omega), nI_clamp (by omega), nI_1, e2]
    · rw [gi_si, if_pos ⟨rfl, rfl⟩]; rfl
    · exact fx_tr i2 (fx_tr (fx_si rfl) (fx_si rfl))
    · rw [gi_si, if_neg (by omega), gi_si]
      by_cases q : m = i
      · rw [if_pos ⟨rfl, by rw [q]⟩, q]; exact (i2.1 989 _ rfl).1
      · rw [if_neg (by omega)]; exact i3 m (by omega)
    · rw [gi_si, if_neg (by omega), gi_si, if_neg (by omega)]; exact i4 k hk
/-- what M changes when it enters an entity -/
def eM_Z (o k : Nat) : Bool := (Nat.ble 947 o && Nat.ble o 950) || (Nat.beq o 943 && (Nat.beq k 8 || (Nat.beq k 9 || (Nat.beq k 13 || (Nat.beq k 14 || (Nat.beq k 26 || Nat.beq k 43))))))
theorem eM_c {o k : Nat} : eM_Z o k = true ↔ ((947 ≤ o ∧ o ≤ 950) ∨ (o = 943 ∧ (k = 8 ∨ k = 9 ∨ k = 13 ∨ k = 14 ∨ k = 26 ∨ k = 43))) := by
  unfold eM_Z
  simp only [Bool.or_eq_true, Bool.and_eq_true, Nat.beq_eq, Nat.ble_eq]
theorem eM_f {o k : Nat} (h : ¬ ((947 ≤ o ∧ o ≤ 950) ∨ (o = 943 ∧ (k = 8 ∨ k = 9 ∨ k = 13 ∨ k = 14 ∨ k = 26 ∨ k = 43)))) : eM_Z o k = false := sb_f fun q => h (eM_c.mp q)
theorem rw_e {o k : Nat} (h : rw_S o k = true) : eM_Z o k = true := eM_c.mpr (by
  unfold rw_S at h
  simp only [Bool.or_eq_true, Bool.and_eq_true, Nat.beq_eq] at h
  omega)
/-- M's memory behind an entry -/
def en_M (g g' : am_G) (F j z st R mt : Nat) (kd wh : Int32) : Prop := fx_i eM_Z g g' ∧ am_i g' 943 9 = nI (F + 1) ∧ am_i g' 943 8 = nI (R + 1 + z) ∧ am_i g' 943 14 = nI (mt + z) ∧ am_i g' 943 13 = (if F = 0 then wh else am_i g 943 13) ∧ am_i g' 943 26 = eg_s kd ∧ am_i g' 943 43 = 0 ∧ am_i g' 950 F = nI j ∧ am_i g' 948 F = kd ∧ am_i g' 949 F = am_i g 943 106 ∧
  (∀ d, d < F → am_i g' 950 d = am_i g 950 d ∧ am_i g' 948 d = am_i g 948 d ∧ am_i g' 949 d = am_i g 949 d) ∧ am_i g' 947 R = -1 ∧ (∀ m, m < z → am_i g' 947 (R + 1 + m) = am_i g 989 (st + (z - 1 - m))) ∧ ∀ k, k < R → am_i g' 947 k = am_i g 947 k
theorem cm_102 {g : am_G} {F j z st R mt lim : Nat} {kd wh : Int32} (h9 : am_i g 943 9 = nI F) (hF : F ≤ 16) (hj : j < 40) (hz : am_i g 988 j = nI z) (hst : am_i g 987 j = nI st) (hs : st + z ≤ 8000) (h8 : am_i g 943 8 = nI R) (hR : F < 16 → (∀ f, f < F → am_i g 950 f ≠ nI j) → R + 1 + z ≤ 9000) (hmt : am_i g 943 14 = nI mt) (hlim : am_i g 943 15 = nI lim) (hmt2 : mt ≤ 100000) (hlim2 : lim ≤ 100000) :
    ((∃ f, f < F ∧ am_i g 950 f = nI j) → fm_102 g (nI j) kd wh = fm_21 g 6 wh) ∧ ((∀ f, f < F → am_i g 950 f ≠ nI j) → (F = 16 → fm_102 g (nI j) kd wh = fm_22 g 9 wh) ∧ (F < 16 → lim < mt + z → fm_102 g (nI j) kd wh = fm_21 g 14 wh) ∧ (F < 16 → mt + z ≤ lim → ∃ g', fm_102 g (nI j) kd wh = some (0, g') ∧ en_M g g' F j z st R mt kd wh)) := by
  have hs1 := lo_fst (b := fun k (x : am_G × Int32 × Int32 × Int32 × Int32) => fb_102_3 k x.1 x.2.1 x.2.2.1 x.2.2.2.1 x.2.2.2.2) (fun i => (g, nI j, kd, wh, nI i)) (fun i => am_i g 950 i = nI j) F (fun _ => fm_21 g 6 wh)
    (if (am_i g 943 9) = 16 then lo_i (fm_22 g 9 wh) fun y4 g5 => some (y4, g5) else lo_g (ai_in (nI j) 40) (if ((am_i g 943 14) + (am_i g 988 (nI j).toNatClampNeg)) ≤ (am_i g 943 15) then if (am_i g 943 9) = 0 then fj_102_107 (am_si (am_si g 943 14 ((am_i g 943 14) + (am_i g 988 (nI j).toNatClampNeg))) 943 13 wh) (nI j) kd else fj_102_107 (am_si g 943 14 ((am_i g 943 14) + (am_i g 988 (nI j).toNatClampNeg))) (nI j) kd else lo_i (fm_21 g 14 wh) fun y2 g3 => some (y2, g3))) ?_ ?_ ?_ (by omega)
  · have hfm : fm_102 g (nI j) kd wh = lo_it (fun k (x : am_G × Int32 × Int32 × Int32 × Int32) => fb_102_3 k x.1 x.2.1 x.2.2.1 x.2.2.2.1 x.2.2.2.2) nf_F (g, nI j, kd, wh, nI 0) := rfl
    rw [hfm]
    rcases hs1 with ⟨f, f1, f2, f3, f4⟩ | ⟨f1, f2⟩
    · exact ⟨fun _ => f4, fun z => absurd f2 (z f f1)⟩
    · refine ⟨fun ⟨f, a, b⟩ => absurd b (f1 f a), fun hno => ?_⟩
      rw [f2, h9, ai_nI hj (by omega), lo_gt, nI_clamp (n := j) (by omega), hz, hmt, hlim, nI_add, lo_id, lo_id]
      refine ⟨fun e => by subst e; rw [if_pos (show nI 16 = 16 from rfl)], fun e1 e2 => ?_, fun e1 e2 => ?_⟩
      · rw [if_neg (fun e => by have := (nI_eq (by omega) (by decide)).mp (e.trans (show (16 : Int32) = nI 16 from rfl)); omega), if_neg (nI_ge e2 (by omega))]
      · rw [if_neg (fun e => by have := (nI_eq (by omega) (by decide)).mp (e.trans (show (16 : Int32) = nI 16 from rfl)); omega), if_pos (nI_le e2 (by omega))]
        have hR := hR e1 hno
        -- the entry itself, from a memory gA with the meter (and the outer place) set
        have go : ∀ gA : am_G, fx_i eM_Z g gA → am_i gA 943 9 = nI F → am_i gA 943 8 = nI R → am_i gA 943 14 = nI (mt + z) → (∀ o k, 947 ≤ o → o ≤ 950 → am_i gA o k = am_i g o k) → am_i gA 943 13 = (if F = 0 then wh else am_i g 943 13) → ∃ g', fj_102_107 gA (nI j) kd = some (0, g') ∧ en_M g g' F j z st R mt kd wh := by
          intro gA fA a9 a8 a14 aA a13
          unfold fj_102_107
          have a988 : am_i gA 988 j = nI z := ((fA.1 988 j rfl).1).trans hz
          have a987 : am_i gA 987 j = nI st := ((fA.1 987 j rfl).1).trans hst
          rw [a9, ai_nI e1 (by omega), lo_gt, a8, ai_nI (by omega) (by omega), lo_gt, ai_nI hj (by omega), lo_gt, lo_ll, nI_clamp (n := j) (by omega), nI_clamp (n := F) (by omega), nI_clamp (n := R) (by omega), a988, nI_1, nI_1]
          obtain ⟨g', b1, b2, b3, b4, b5, b6, b7⟩ := cm_102l (g := am_si (am_si (am_si (am_si (am_si (am_si gA 950 F (nI j)) 948 F kd) 949 F (am_i gA 943 106)) 943 9 (nI (F + 1))) 947 R (-1)) 943 8 (nI (R + 1))) (kd := kd) hj (z := z) (st := st) (R := R + 1) a987 hs rfl (by omega)
          refine ⟨g', b1, ?_⟩
          have c : ∀ o k, rw_S o k = false → am_i g' o k = am_i (am_si (am_si (am_si (am_si (am_si (am_si gA 950 F (nI j)) 948 F kd) 949 F (am_i gA 943 106)) 943 9 (nI (F + 1))) 947 R (-1)) 943 8 (nI (R + 1))) o k := fun o k q => (b2.1 o k q).1
          refine ⟨fx_tr fA (fx_tr (fx_tr (fx_tr (fx_tr (fx_tr (fx_tr (fx_si rfl) (fx_si rfl)) (fx_si rfl)) (fx_si rfl)) (fx_si rfl)) (fx_si rfl)) (fx_w2 b2 fun _ _ => rw_e)), (c 943 9 rfl).trans rfl, b3, (c 943 14 rfl).trans a14, (c 943 13 rfl).trans a13, b4, b5, ?_, ?_, ?_, fun d hd => ⟨?_, ?_, ?_⟩, ?_, fun m hm => ?_, fun k hk => ?_⟩
          · rw [c 950 F rfl]; simp [gi_si]
          · rw [c 948 F rfl]; simp [gi_si]
          · rw [c 949 F rfl]
            have : am_i gA 943 106 = am_i g 943 106 := (fA.1 943 106 rfl).1
            simp [gi_si, this]
          · rw [c 950 d rfl, ← aA 950 d (by omega) (by omega)]; simp [gi_si, show d ≠ F by omega]
          · rw [c 948 d rfl, ← aA 948 d (by omega) (by omega)]; simp [gi_si, show d ≠ F by omega]
          · rw [c 949 d rfl, ← aA 949 d (by omega) (by omega)]; simp [gi_si, show d ≠ F by omega]
          · rw [b7 R (by omega)]; simp [gi_si]
          · rw [b6 m hm]
            have : am_i gA 989 (st + (z - 1 - m)) = am_i g 989 (st + (z - 1 - m)) := (fA.1 989 _ rfl).1
            simp [gi_si, this]
          · rw [b7 k (by omega), ← aA 947 k (by omega) (by omega)]; simp [gi_si, show k ≠ R by omega]
        by_cases q0 : F = 0
        · rw [if_pos (by rw [q0]; rfl)]
          exact go _ (fx_tr (fx_si rfl) (fx_si rfl)) (by rw [gi_si, if_neg (by decide), gi_si, if_neg (by decide)]; exact h9) (by rw [gi_si, if_neg (by decide), gi_si, if_neg (by decide)]; exact h8) rfl (fun o k o1 o2 => by rw [gi_si, if_neg (by omega), gi_si, if_neg (by omega)]) (by rw [if_pos q0]; rfl)
        · rw [if_neg (nI_ne0 (by omega) (by omega))]
          exact go _ (fx_si rfl) (by rw [gi_si, if_neg (by decide)]; exact h9) (by rw [gi_si, if_neg (by decide)]; exact h8) rfl (fun o k o1 o2 => by rw [gi_si, if_neg (by omega)]) (by rw [if_neg q0]; rfl)
  · intro K
    unfold fb_102_3
    dsimp only
    rw [h9, if_pos (nI_le (Nat.le_refl _) (by omega))]
  · intro K i hi hp
    unfold fb_102_3
    dsimp only
    rw [h9, if_neg (nI_ge hi (by omega)), ai_nI (by omega) (by omega), lo_gt, nI_clamp (by omega), if_pos hp, lo_id]
  · intro K i hi hp
    unfold fb_102_3
    dsimp only
    rw [h9, if_neg (nI_ge hi (by omega)), ai_nI (by omega) (by omega), lo_gt, nI_clamp (by omega), if_neg hp, nI_1]
def sm_s (a : Nat → Nat) : Nat → Nat
  | 0 => 0
  | n + 1 => sm_s a n + a n
theorem sm_cg {a b : Nat → Nat} : ∀ {n : Nat}, (∀ i, i < n → a i = b i) → sm_s a n = sm_s b n
  | 0, _ => rfl
  | n + 1, h => by
    show sm_s a n + a n = sm_s b n + b n
    rw [sm_cg (fun i hi => h i (by omega)), h n (by omega)]
theorem sm_rm (a : Nat → Nat) (k : Nat) : ∀ m, k < m → sm_s a m = sm_s (fun j => if j = k then 0 else a j) m + a k
  | 0, h => absurd h (Nat.not_lt_zero _)
  | m + 1, h => by
    show sm_s a m + a m = sm_s (fun j => if j = k then 0 else a j) m + (if m = k then 0 else a m) + a k
    by_cases q : m = k
    · rw [if_pos q, ← q, sm_cg (a := a) (b := fun j => if j = m then 0 else a j) fun i hi => by rw [if_neg (by omega)]]
      omega
    · rw [if_neg q, sm_rm a k m (by omega)]
      omega
theorem sm_pg : ∀ (n : Nat) (f a : Nat → Nat) (m : Nat), (∀ i j, i < n → j < n → f i = f j → i = j) → (∀ i, i < n → f i < m) → sm_s (fun i => a (f i)) n ≤ sm_s a m
  | 0, _, _, _, _, _ => Nat.zero_le _
  | n + 1, f, a, m, h1, h2 => by
    show sm_s (fun i => a (f i)) n + a (f n) ≤ _
    rw [sm_rm a (f n) m (h2 n (by omega))]
    have ih := sm_pg n f (fun j => if j = f n then 0 else a j) m (fun i j hi hj => h1 i j (by omega) (by omega)) (fun i hi => h2 i (by omega))
    have e : sm_s (fun i => a (f i)) n = sm_s (fun i => if f i = f n then 0 else a (f i)) n := sm_cg fun i hi => by rw [if_neg fun z => by have := h1 i n (by omega) (by omega) z; omega]
    rw [e]
    omega
theorem po_sm : ∀ T : List (List Int32 × Bool), su_w List.length (T.map Prod.fst) = po_a T + po_n T
  | [] => rfl
  | x :: T => by
    have ih := po_sm T
    show x.1.length + su_w List.length (T.map Prod.fst) = (bif x.2 then 0 else x.1.length) + po_a T + ((bif x.2 then x.1.length else 0) + po_n T)
    cases x.2 with
    | true => rw [cond_true, cond_true]; omega
    | false => rw [cond_false, cond_false]; omega
theorem su_rg (f : Nat → List Int32) : ∀ n, su_w List.length ((List.range n).map f) = sm_s (fun j => (f j).length) n
  | 0 => rfl
  | n + 1 => by
    rw [List.range_succ, List.map_append, su_ap, su_rg f n]
    show _ + ((f n).length + 0) = _ + _
    rfl
section
variable {gR gM : am_G}
/-- an open entity's text, with what has been read -/
theorem en_at {d j En : Nat} {pc : Bool} {r : List Int32} (W : en_w gR gM) (hE : am_i gM 943 95 = nI En) (hE2 : En ≤ 40) (hj : j < En) (e : fr_e gR gM d j pc) (K : rf_t gR (d + 1) r) : r.length ≤ (en_x gM j).length := by
  obtain ⟨b1, b2, b3, b4⟩ := e
  obtain ⟨t, e, a, st, z, h1, h2, h3, h4, h5, h6, h7, h8, h9, h10, h11⟩ := K
  obtain ⟨En', tS, uG, uP, c1, c2, c3, c4, c5, c6, c7, c8, c9, c10⟩ := W
  have hEE : En' = En := sz_u c2 hE (by omega) (by omega)
  subst hEE
  obtain ⟨pc', sR, sM, z', d1, d2, d3, d4, d5, d6, d7, d8, d9⟩ := c10 j hj
  have hpc : pc' = pc := by
    rw [b2] at d1
    cases pc <;> cases pc' <;> first | rfl | exact absurd d1 (by decide)
  subst hpc
  rw [b3] at h1
  have ht : en_t pc' = t := Option.some.inj h1
  subst ht
  rw [b4] at h3
  have he : en_n gM pc' j = e := (nI_eq (by have := en_le gM pc' j; omega) (by omega)).mp h3
  subst he
  have hz : z' = z := sz_u d4 h7 (by omega) (by omega)
  subst hz
  rw [h10]
  unfold en_x
  rw [sl_len, sl_len, d6, nI_clamp (by omega)]
  omega
/-- what is left of the open entities' texts -/
theorem rl_sm {En : Nat} (W : en_w gR gM) (hE : am_i gM 943 95 = nI En) (hE2 : En ≤ 40) : ∀ rs : List (List Int32), rf_l gR rs → (∀ d, d < rs.length → ∃ j pc, j < En ∧ fr_e gR gM d j pc) → rl_n rs ≤ sm_s (fun d => (en_x gM (am_i gM 950 d).toNatClampNeg).length) rs.length
  | [], _, _ => Nat.le_refl _
  | r :: rs, K, h => by
    have ih := rl_sm W hE hE2 rs K.2 (fun d hd => h d (by rw [List.length_cons]; omega))
    obtain ⟨j, pc, hj, e⟩ := h rs.length (by rw [List.length_cons]; omega)
    have := en_at W hE hE2 hj e K.1
    show r.length + rl_n rs ≤ sm_s _ rs.length + (en_x gM (am_i gM 950 rs.length).toNatClampNeg).length
    rw [e.1, nI_clamp (by omega)]
    omega
/-- the row has room for an entity that isn't open -/
theorem rw_bd {N p F En j : Nat} {n i : Int32} {rs : List (List Int32)} (P : po_w gR gM) (W : en_w gR gM) (V : fr_w gR gM) (S : rf_ok gR p rs) (hE : am_i gM 943 95 = nI En) (hE2 : En ≤ 40) (hF : am_i gM 943 9 = nI F) (hF2 : F ≤ 16) (hj : j < En) (hno : ∀ f, f < F → am_i gM 950 f ≠ nI j) : rl_n rs + (en_x gM j).length ≤ 8000 := by
  obtain ⟨F', En', mt, lim, a1, a2, a3, a4, a5, a6, a7, a8, a9, a10, a11, a12, a13, a14⟩ := V
  have e1 : F' = F := sz_u a1 hF (by omega) (by omega)
  subst e1
  have e2 : En' = En := sz_u a4 hE (by omega) (by omega)
  subst e2
  have hl : rs.length = F' := by
    have := S.1
    exact sz_u this a2 (by have := S.2.1; omega) (by omega)
  have r1 := rl_sm W hE hE2 rs S.2.2.2 (fun d hd => a12 d (by omega))
  rw [hl] at r1
  obtain ⟨q, b, sM, En2, tS, T, p1, p2, p3, p4, p5, p6, p7, p8, p9, p10⟩ := P
  have e3 : En2 = En' := sz_u p6 hE (by omega) (by omega)
  subst e3
  have hs : sm_s (fun j => (en_x gM j).length) En2 = tS := by
    rw [← su_rg, ← p9, po_sm]; exact p10.1
  have h8 := p10.2.1
  have pg := sm_pg (F' + 1) (fun d => if d < F' then (am_i gM 950 d).toNatClampNeg else j) (fun j => (en_x gM j).length) En2 (fun x y hx hy e => by
      have idx : ∀ d, d < F' → ∃ k, k < En2 ∧ am_i gM 950 d = nI k := fun d hd => by
        obtain ⟨k, pc, hk, ee⟩ := a12 d hd
        exact ⟨k, hk, ee.1⟩
      try dsimp only at e
      by_cases hx1 : x < F'
      · obtain ⟨kx, x1, x2⟩ := idx x hx1
        rw [if_pos hx1, x2, nI_clamp (by omega)] at e
        by_cases hy1 : y < F'
        · obtain ⟨ky, y1, y2⟩ := idx y hy1
          rw [if_pos hy1, y2, nI_clamp (by omega)] at e
          exact a13 x y hx1 hy1 (by rw [x2, y2, e])
        · rw [if_neg hy1] at e
          exact absurd (by rw [x2, e]) (hno x hx1)
      · rw [if_neg hx1] at e
        by_cases hy1 : y < F'
        · obtain ⟨ky, y1, y2⟩ := idx y hy1
          rw [if_pos hy1, y2, nI_clamp (by omega)] at e
          exact absurd (by rw [y2, e]) (hno y hy1)
        · omega) (fun x hx => by
      try dsimp only
      by_cases hx1 : x < F'
      · obtain ⟨k, pc, hk, ee⟩ := a12 x hx1
        rw [if_pos hx1, ee.1, nI_clamp (by omega)]; exact hk
      · rw [if_neg hx1]; exact hj)
  have e4 : sm_s (fun i => (en_x gM (if i < F' then (am_i gM 950 i).toNatClampNeg else j)).length) (F' + 1) = sm_s (fun d => (en_x gM (am_i gM 950 d).toNatClampNeg).length) F' + (en_x gM j).length := by
    show sm_s _ F' + (en_x gM (if F' < F' then _ else j)).length = _
    rw [if_neg (Nat.lt_irrefl _), sm_cg fun i hi => by rw [if_pos hi]]
  have pg : sm_s (fun i => (en_x gM (if i < F' then (am_i gM 950 i).toNatClampNeg else j)).length) (F' + 1) ≤ sm_s (fun j => (en_x gM j).length) En2 := pg
  rw [e4, hs] at pg
  omega
end
/-- what R changes when it enters or leaves an entity -/
def eR_Z (o k : Nat) : Bool := Nat.beq o 42 || (Nat.beq o 40 || (Nat.beq o 41 || (Nat.beq o 859 || (Nat.beq o 865 || (Nat.beq o 39 && (Nat.beq k 4 || (Nat.beq k 5 || (Nat.beq k 6 || Nat.beq k 100))))))))
theorem eR_c {o k : Nat} : eR_Z o k = true ↔ (o = 42 ∨ o = 40 ∨ o = 41 ∨ o = 859 ∨ o = 865 ∨ (o = 39 ∧ (k = 4 ∨ k = 5 ∨ k = 6 ∨ k = 100))) := by
  unfold eR_Z
  simp only [Bool.or_eq_true, Bool.and_eq_true, Nat.beq_eq]
theorem eR_f {o k : Nat} (h : ¬ (o = 42 ∨ o = 40 ∨ o = 41 ∨ o = 859 ∨ o = 865 ∨ (o = 39 ∧ (k = 4 ∨ k = 5 ∨ k = 6 ∨ k = 100)))) : eR_Z o k = false := sb_f fun q => h (eR_c.mp q)
theorem rf_t2 {g h : am_G} {d : Nat} {r : List Int32} (h40 : am_r h 40 d = am_r g 40 d) (h41 : am_i h 41 d = am_i g 41 d) (h42 : am_i h 42 d = am_i g 42 d) (ht : ∀ o k, 857 ≤ o → o ≤ 866 → o ≠ 859 → o ≠ 865 → am_i h o k = am_i g o k) (K : rf_t g d r) : rf_t h d r := by
  obtain ⟨t, e, a, s, z, h1, h2, h3, h4, h5, h6, h7, h8, h9, h10, h11⟩ := K
  refine ⟨t, e, a, s, z, h40.trans h1, h2, h41.trans h3, h4, h42.trans h5, ?_, ?_, h8, h9, ?_, h11⟩
  · rw [ht _ _ (by omega) (by omega) (by omega) (by omega)]; exact h6
  · rw [ht _ _ (by omega) (by omega) (by omega) (by omega)]; exact h7
  · rw [h10]; exact (sl_cg fun i _ => ht _ _ (by omega) (by omega) (by omega) (by omega)).symm
theorem rf_l2 {g h : am_G} (ht : ∀ o k, 857 ≤ o → o ≤ 866 → o ≠ 859 → o ≠ 865 → am_i h o k = am_i g o k) :
    ∀ (rs : List (List Int32)), (∀ d, 0 < d → d ≤ rs.length → am_r h 40 d = am_r g 40 d ∧ am_i h 41 d = am_i g 41 d ∧ am_i h 42 d = am_i g 42 d) → rf_l g rs → rf_l h rs
  | [], _, _ => trivial
  | r :: rs, h4, K => ⟨rf_t2 (h4 _ (by omega) (by simp)).1 (h4 _ (by omega) (by simp)).2.1 (h4 _ (by omega) (by simp)).2.2 ht K.1, rf_l2 ht rs (fun d h1 h2 => h4 d h1 (by rw [List.length_cons]; omega)) K.2⟩
section
variable {X : cx_T} {gR gM gR1 gX : am_G} {i s : Int32}
/-- R enters -/
theorem cm_179 {F e z mt : Nat} {pc : Bool} {wh : Int32} (h4 : am_i gR 39 4 = nI F) (hF : F < 16) (he : e < 40) (hz : am_i gR (en_t pc + 3) e = nI z) (hm : am_i gR 39 6 = nI mt) :
    ∃ g', fm_179 gR (en_t pc) (nI e) wh = some g' ∧ (∀ o k, eR_Z o k = false → am_i g' o k = am_i gR o k ∧ am_j g' o k = am_j gR o k ∧ am_r g' o k = am_r gR o k) ∧ g'.2.2.2 = gR.2.2.2 ∧ am_i g' 39 4 = nI (F + 1) ∧ am_i g' 39 6 = nI (mt + z) ∧ am_i g' 39 5 = (if F = 0 then wh else am_i gR 39 5) ∧ am_r g' 40 (F + 1) = some (en_t pc) ∧ am_i g' 41 (F + 1) = nI e ∧ am_i g' 42 (F + 1) = nI 0 ∧
      (∀ d, d ≠ F + 1 → am_r g' 40 d = am_r gR 40 d ∧ am_i g' 41 d = am_i gR 41 d ∧ am_i g' 42 d = am_i gR 42 d) ∧ am_i g' (en_t pc + 4) e = 1 ∧ ∀ o k, (o = 859 ∨ o = 865) → ¬ (o = en_t pc + 4 ∧ k = e) → am_i g' o k = am_i gR o k := by
  obtain ⟨k1, k2, k3, k4, k5, k6⟩ := en_tk pc
  obtain ⟨q1, q2, q3, q4, q5⟩ := en_ti pc he
  have ht : en_t pc + 4 = 859 ∨ en_t pc + 4 = 865 := by cases pc <;> decide
  have h32 : Nat.ble 32 (en_t pc) = true := by cases pc <;> rfl
  have go : ∀ gA : am_G, (∀ o k, eR_Z o k = false → am_i gA o k = am_i gR o k ∧ am_j gA o k = am_j gR o k ∧ am_r gA o k = am_r gR o k) → gA.2.2.2 = gR.2.2.2 → am_i gA 39 4 = nI F → am_i gA 39 6 = nI mt → am_i gA 39 5 = (if F = 0 then wh else am_i gR 39 5) → (∀ o k, o ≠ 39 → am_i gA o k = am_i gR o k ∧ am_r gA o k = am_r gR o k) → ∃ g', fj_179_12 gA (en_t pc) (nI e) = some g' ∧ (∀ o k, eR_Z o k = false → am_i g' o k = am_i gR o k ∧ am_j g' o k = am_j gR o k ∧ am_r g' o k = am_r gR o k) ∧ g'.2.2.2 = gR.2.2.2 ∧ am_i g' 39 4 = nI (F + 1) ∧ am_i g' 39 6 = nI (mt + z) ∧ am_i g' 39 5 = (if F = 0 then wh else am_i gR 39 5) ∧ am_r g' 40 (F + 1) = some (en_t pc) ∧ am_i g' 41 (F + 1) = nI e ∧ am_i g' 42 (F + 1) = nI 0 ∧
      (∀ d, d ≠ F + 1 → am_r g' 40 d = am_r gR 40 d ∧ am_i g' 41 d = am_i gR 41 d ∧ am_i g' 42 d = am_i gR 42 d) ∧ am_i g' (en_t pc + 4) e = 1 ∧ ∀ o k, (o = 859 ∨ o = 865) → ¬ (o = en_t pc + 4 ∧ k = e) → am_i g' o k = am_i gR o k := by
    intro gA a1 a2 a3 a4 a5 a6
    have az : am_i gA (en_t pc + 3) e = nI z := ((a6 _ _ (by cases pc <;> decide)).1).trans hz
    refine ⟨am_si (am_si (am_sr (am_si (am_si (am_si gA 39 6 (nI (mt + z))) (en_t pc + 4) e 1) 39 4 (nI (F + 1))) 40 (F + 1) (some (en_t pc))) 41 (F + 1) (nI e)) 42 (F + 1) 0, ?_, fun o k q => ?_, a2, ?_, ?_, ?_, ?_, ?_, ?_, fun d hd => ?_, ?_, fun o k ho hk => ?_⟩
    · unfold fj_179_12
      have e4 : am_i (am_si (am_si gA 39 6 (nI (mt + z))) (en_t pc + 4) e 1) 39 4 = nI F := by
        rw [gi_si, if_neg (by omega), gi_si, if_neg (by omega)]; exact a3
      rw [k1, lo_gt, k4, lo_ms, q3, lo_gt, k5, lo_ms, q5, lo_gt, nI_clamp (n := e) (by omega), az, a4, nI_add, e4, nI_1, ai_nI (by omega) (by omega), h32]
      rw [nI_clamp (by omega)]
      rfl
    · have hq : ¬ (o = 42 ∨ o = 40 ∨ o = 41 ∨ o = 859 ∨ o = 865 ∨ (o = 39 ∧ (k = 4 ∨ k = 5 ∨ k = 6 ∨ k = 100))) := fun z => by rw [eR_c.mpr z] at q; cases q
      refine ⟨?_, (a1 o k q).2.1, ?_⟩
      · rw [gi_si, if_neg (by omega), gi_si, if_neg (by omega), gi_sr, gi_si, if_neg (by omega), gi_si, if_neg (by omega), gi_si, if_neg (by omega)]; exact (a1 o k q).1
      · rw [gr_si, gr_si, gr_sr, if_neg (by omega)]; exact (a1 o k q).2.2
    · simp [gi_si, gi_sr]
    · rw [gi_si, if_neg (by omega), gi_si, if_neg (by omega), gi_sr, gi_si, if_neg (by omega), gi_si, if_neg (by omega), gi_si, if_pos ⟨rfl, rfl⟩]
    · rw [gi_si, if_neg (by omega), gi_si, if_neg (by omega), gi_sr, gi_si, if_neg (by omega), gi_si, if_neg (by omega), gi_si, if_neg (by omega)]; exact a5
    · rw [gr_si, gr_si, gr_sr, if_pos ⟨rfl, rfl⟩]
    · rw [gi_si, if_neg (by omega), gi_si, if_pos ⟨rfl, rfl⟩]
    · rw [gi_si, if_pos ⟨rfl, rfl⟩]; rfl
    · refine ⟨?_, ?_, ?_⟩
      · rw [gr_si, gr_si, gr_sr, if_neg (by omega)]; exact (a6 40 d (by decide)).2
      · rw [gi_si, if_neg (by omega), gi_si, if_neg (by omega), gi_sr, gi_si, if_neg (by omega), gi_si, if_neg (by omega), gi_si, if_neg (by omega)]; exact (a6 41 d (by decide)).1
      · rw [gi_si, if_neg (by omega), gi_si, if_neg (by omega), gi_sr, gi_si, if_neg (by omega), gi_si, if_neg (by omega), gi_si, if_neg (by omega)]; exact (a6 42 d (by decide)).1
    · rw [gi_si, if_neg (by omega), gi_si, if_neg (by omega), gi_sr, gi_si, if_neg (by omega), gi_si, if_pos ⟨rfl, rfl⟩]
    · rw [gi_si, if_neg (by omega), gi_si, if_neg (by omega), gi_sr, gi_si, if_neg (by omega), gi_si, if_neg hk, gi_si, if_neg (by omega)]; exact (a6 o k (by omega)).1
  unfold fm_179
  rw [h4]
  by_cases q0 : F = 0
  · rw [if_pos (by rw [q0]; rfl)]
    refine go (am_si gR 39 5 wh) (fun o k q => ⟨?_, rfl, rfl⟩) rfl ?_ ?_ ?_ (fun o k ho => ⟨?_, rfl⟩)
    · rw [gi_si, if_neg (fun z => by rw [z.1, z.2] at q; cases q)]
    · rw [gi_si, if_neg (by decide)]; exact h4
    · rw [gi_si, if_neg (by decide)]; exact hm
    · rw [gi_si, if_pos ⟨rfl, rfl⟩, if_pos q0]
    · rw [gi_si, if_neg (by omega)]
  · rw [if_neg (nI_ne0 (by omega) (by omega))]
    exact go gR (fun _ _ _ => ⟨rfl, rfl, rfl⟩) rfl h4 hm (by rw [if_neg q0]) (fun _ _ _ => ⟨rfl, rfl⟩)
end
