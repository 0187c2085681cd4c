/-! What characters are: both programs' questions answer alike. -/
def bl_P (x : Int) : Prop := x = 32 ∨ x = 9 ∨ x = 10 ∨ x = 13
def al_P (x : Int) : Prop := x = 9 ∨ x = 10 ∨ x = 13 ∨ (32 ≤ x ∧ x < 55296) ∨ (57344 ≤ x ∧ x < 65534) ∨ (65536 ≤ x ∧ x < 1114112)
def bg_P (x : Int) : Prop := x = 58 ∨ x = 95 ∨ (65 ≤ x ∧ x ≤ 90) ∨ (97 ≤ x ∧ x ≤ 122) ∨ (192 ≤ x ∧ x < 768 ∧ x ≠ 215 ∧ x ≠ 247) ∨ (880 ≤ x ∧ x < 8192 ∧ x ≠ 894) ∨ x = 8204 ∨ x = 8205 ∨ (8304 ≤ x ∧ x < 8592) ∨ (11264 ≤ x ∧ x < 12272) ∨
  (12289 ≤ x ∧ x < 55296) ∨ (63744 ≤ x ∧ x < 64976) ∨ (65008 ≤ x ∧ x < 65534) ∨ (65536 ≤ x ∧ x < 983040)
def px_P (x : Int) : Prop := x = 45 ∨ x = 46 ∨ (48 ≤ x ∧ x ≤ 57) ∨ x = 183 ∨ (768 ≤ x ∧ x < 880) ∨ x = 8255 ∨ x = 8256
noncomputable def ch_bl (c : Int32) : Bool := @decide (bl_P c.toInt) (Classical.propDecidable _)
noncomputable def ch_al (c : Int32) : Bool := @decide (al_P c.toInt) (Classical.propDecidable _)
noncomputable def ch_bg (c : Int32) : Bool := @decide (bg_P c.toInt) (Classical.propDecidable _)
noncomputable def ch_px (c : Int32) : Bool := @decide (px_P c.toInt) (Classical.propDecidable _)
noncomputable def ch_pt (c : Int32) : Bool := ch_bg c || ch_px c
theorem ch_t {p : Prop} (h : p) : @decide p (Classical.propDecidable p) = true := by simp [h]
theorem ch_f {p : Prop} (h : ¬ p) : @decide p (Classical.propDecidable p) = false := by simp [h]
theorem ie_eq (a b : Int32) : a = b ↔ a.toInt = b.toInt := Int32.toInt_inj.symm
theorem cm_16 (g : am_G) (c : Int32) : fm_16 g c = some (b2 (ch_bl c)) := by
  unfold fm_16
  simp only [ie_eq]
  simp only [show (32 : Int32).toInt = 32 from rfl, show (9 : Int32).toInt = 9 from rfl, show (10 : Int32).toInt = 10 from rfl, show (13 : Int32).toInt = 13 from rfl]
  by_cases h : bl_P c.toInt
  · rw [show ch_bl c = true from ch_t h]
    unfold bl_P at h
    repeat' split
    all_goals first | rfl | omega
  · rw [show ch_bl c = false from ch_f h]
    unfold bl_P at h
    repeat' split
    all_goals first | rfl | omega
theorem cm_185 (g : am_G) (c : Int32) : fm_185 g c = some (b2 (ch_bl c)) := cm_16 g c
theorem cm_15 (g : am_G) (c : Int32) : fm_15 g c = some (b2 (ch_al c)) := by
  unfold fm_15 fj_15_30 fj_15_42
  simp only [ie_eq, Int32.lt_iff_toInt_lt, Int32.le_iff_toInt_le]
  simp only [show (9 : Int32).toInt = 9 from rfl, show (10 : Int32).toInt = 10 from rfl, show (13 : Int32).toInt = 13 from rfl, show (32 : Int32).toInt = 32 from rfl, show (55296 : Int32).toInt = 55296 from rfl, show (57344 : Int32).toInt = 57344 from rfl, show (65534 : Int32).toInt = 65534 from rfl, show (65536 : Int32).toInt = 65536 from rfl, show (1114112 : Int32).toInt = 1114112 from rfl]
  by_cases h : al_P c.toInt
  · rw [show ch_al c = true from ch_t h]
    unfold al_P at h
    repeat' split
    all_goals first | rfl | (exfalso; omega)
  · rw [show ch_al c = false from ch_f h]
    unfold al_P at h
    repeat' split
    all_goals first | rfl | (exfalso; omega)
theorem cm_17 (g : am_G) (c : Int32) : fm_17 g c = some (b2 (ch_bg c)) := by
  unfold fm_17 fj_17_31 fj_17_145 fj_17_183 fj_17_195
  simp only [ie_eq, Int32.lt_iff_toInt_lt, Int32.le_iff_toInt_le]
  simp only [show (128 : Int32).toInt = 128 from rfl, show (768 : Int32).toInt = 768 from rfl, show (8192 : Int32).toInt = 8192 from rfl, show (12289 : Int32).toInt = 12289 from rfl, show (55296 : Int32).toInt = 55296 from rfl, show (63744 : Int32).toInt = 63744 from rfl, show (64976 : Int32).toInt = 64976 from rfl, show (8204 : Int32).toInt = 8204 from rfl, show (8205 : Int32).toInt = 8205 from rfl, show (8304 : Int32).toInt = 8304 from rfl, show (8592 : Int32).toInt = 8592 from rfl, show (880 : Int32).toInt = 880 from rfl, show (894 : Int32).toInt = 894 from rfl, show (192 : Int32).toInt = 192 from rfl, show (215 : Int32).toInt = 215 from rfl, show (247 : Int32).toInt = 247 from rfl, show (58 : Int32).toInt = 58 from rfl, show (95 : Int32).toInt = 95 from rfl, show (65 : Int32).toInt = 65 from rfl, show (90 : Int32).toInt = 90 from rfl, show (97 : Int32).toInt = 97 from rfl, show (122 : Int32).toInt = 122 from rfl, show (11264 : Int32).toInt = 11264 from rfl, show (12272 : Int32).toInt = 12272 from rfl, show (65536 : Int32).toInt = 65536 from rfl, show (983040 : Int32).toInt = 983040 from rfl, show (65008 : Int32).toInt = 65008 from rfl, show (65534 : Int32).toInt = 65534 from rfl]
  by_cases h : bg_P c.toInt
  · rw [show ch_bg c = true from ch_t h]
    unfold bg_P at h
    repeat' split
    all_goals first | rfl | (exfalso; omega)
  · rw [show ch_bg c = false from ch_f h]
    unfold bg_P at h
    repeat' split
    all_goals first | rfl | (exfalso; omega)
theorem cm_18 (g : am_G) (c : Int32) : fm_18 g c = some (b2 (ch_pt c)) := by
  unfold fm_18
  rw [cm_17, lo_ps, b2_if]
  unfold ch_pt
  cases ch_bg c with
  | true => rfl
  | false =>
    rw [Bool.false_or, cond_false]
    unfold fj_18_31 fj_18_52
    simp only [ie_eq, Int32.lt_iff_toInt_lt, Int32.le_iff_toInt_le]
    simp only [show (45 : Int32).toInt = 45 from rfl, show (46 : Int32).toInt = 46 from rfl, show (48 : Int32).toInt = 48 from rfl, show (57 : Int32).toInt = 57 from rfl, show (183 : Int32).toInt = 183 from rfl, show (768 : Int32).toInt = 768 from rfl, show (880 : Int32).toInt = 880 from rfl, show (8255 : Int32).toInt = 8255 from rfl, show (8256 : Int32).toInt = 8256 from rfl]
    by_cases h : px_P c.toInt
    · rw [show ch_px c = true from ch_t h]
      unfold px_P at h
      repeat' split
      all_goals first | rfl | (exfalso; omega)
    · rw [show ch_px c = false from ch_f h]
      unfold px_P at h
      repeat' split
      all_goals first | rfl | (exfalso; omega)
/-- the statics are as they were -/
def gs_ok (g : am_G) : Prop := (∀ k, k < 10 → am_i g 17 k = (s0_a 17).getD k 0) ∧ (∀ k, k < 32 → am_i g 18 k = (s0_a 18).getD k 0) ∧ (∀ k, k < 10 → am_i g 19 k = (s0_a 19).getD k 0) ∧ (∀ o, 0 < o → o < 11 → am_i g o 0 = nI (o - 1)) ∧
  am_i g 11 0 = 40 ∧ am_i g 12 0 = 41 ∧ am_i g 13 0 = 65 ∧ am_i g 14 0 = 63 ∧ am_i g 15 0 = 45
/-- the search in a row of ends -/
theorem cm_183 {g : am_G} {o n : Nat} {c : Int32} (hk : v0_kd o = 101) (ho : 0 < o) (hl : v0_ln 0 o = n) (hn : n < 100) (A : Nat → Int32) (hA : ∀ k, k < n → am_i g o k = A k) :
    (∀ i j, i ≤ j → j < n → A i ≤ A j) → ∃ r, r ≤ n ∧ (∀ k, k < r → A k ≤ c) ∧ (∀ k, r ≤ k → k < n → c < A k) ∧ fm_183 g o c = some (nI (r % 2)) := by
  intro hs
  unfold fm_183
  rw [hk, Nat.blt_eq.mpr ho, show (Nat.beq 101 101) = true from rfl, Bool.true_and, lo_gt, lo_ll, hl]
  unfold fh_183_5
  have key := lo_F (b := fun k (x : Nat × Int32 × Int32 × Int32) => fb_183_5 g k x.1 x.2.1 x.2.2.1 x.2.2.2)
    (fun x => x.1 = o ∧ x.2.1 = c ∧ ∃ lo hi : Nat, lo ≤ hi ∧ hi ≤ n ∧ x.2.2.1 = nI lo ∧ x.2.2.2 = nI hi ∧ (∀ k, k < lo → A k ≤ c) ∧ (∀ k, hi ≤ k → k < n → c < A k))
    (fun x => x.2.2.2.toNatClampNeg - x.2.2.1.toNatClampNeg)
    (fun x r => ∃ q, q ≤ n ∧ (∀ k, k < q → A k ≤ c) ∧ (∀ k, q ≤ k → k < n → c < A k) ∧ r = some (nI (q % 2))) ?_ (o, c, 0, nI n) ⟨rfl, rfl, 0, n, Nat.zero_le _, Nat.le_refl _, rfl, rfl, fun k h => absurd h (Nat.not_lt_zero _), fun k h1 h2 => absurd h2 (Nat.not_lt.mpr h1)⟩ ?_
  · obtain ⟨q, h1, h2, h3, h4⟩ := key
    exact ⟨q, h1, h2, h3, h4⟩
  · rintro k ⟨x1, x2, x3, x4⟩ ⟨e1, e2, lo, hi, h1, h2, e3, e4, h5, h6⟩ ih
    dsimp only at e1 e2 e3 e4 ih ⊢
    subst e1 e2 e3 e4
    unfold fb_183_5
    by_cases q : hi ≤ lo
    · have q : lo = hi := by omega
      subst q
      rw [if_pos (nI_le (Nat.le_refl _) (by omega))]
      refine ⟨lo, h2, h5, h6, ?_⟩
      have e : nI lo - nI lo / 2 * 2 = nI (lo % 2) := pk_rem (d := 2) (by omega) (by decide) (by decide)
      rw [e]
      have : lo % 2 = 0 ∨ lo % 2 = 1 := by omega
      rcases this with z | z
      · rw [z]; rfl
      · rw [z]; rfl
    · rw [if_neg (nI_ge (by omega) (by omega)), lo_ll]
      have e : (nI lo + nI hi) / 2 = nI ((lo + hi) / 2) := by rw [nI_add]; exact pk_div (d := 2) (by omega) (by decide) (by decide)
      rw [e]
      have hm : (lo + hi) / 2 < hi := by omega
      have hm2 : lo ≤ (lo + hi) / 2 := by omega
      have hv : vk_in x1 101 (nI ((lo + hi) / 2)) = true := by
        unfold vk_in
        rw [hk, Nat.blt_eq.mpr ho, hl, ai_nI (by omega) (by omega)]
        rfl
      rw [hv, lo_gt, nI_clamp (by omega), hA _ (by omega)]
      have c1 : (nI hi).toNatClampNeg = hi := nI_clamp (by omega)
      have c2 : (nI lo).toNatClampNeg = lo := nI_clamp (by omega)
      have c3 : (nI ((lo + hi) / 2)).toNatClampNeg = (lo + hi) / 2 := nI_clamp (by omega)
      have c4 : (nI ((lo + hi) / 2 + 1)).toNatClampNeg = (lo + hi) / 2 + 1 := nI_clamp (by omega)
      by_cases w : x2 < A ((lo + hi) / 2)
      · rw [if_pos w]
        refine ih _ ⟨rfl, rfl, lo, (lo + hi) / 2, hm2, by omega, rfl, rfl, h5, fun k g1 g2 => ?_⟩ ?_
        · have := hs _ _ g1 g2
          rw [Int32.lt_iff_toInt_lt] at w ⊢
          rw [Int32.le_iff_toInt_le] at this
          omega
        · dsimp only; omega
      · rw [if_neg w, lo_ll, nI_1]
        refine ih _ ⟨rfl, rfl, (lo + hi) / 2 + 1, hi, by omega, h2, rfl, rfl, fun k g1 => ?_, h6⟩ ?_
        · have := hs k _ (show k ≤ (lo + hi) / 2 by omega) (by omega)
          rw [Int32.lt_iff_toInt_lt] at w
          rw [Int32.le_iff_toInt_le] at this ⊢
          omega
        · dsimp only; omega
  · dsimp only
    rw [nI_clamp (by omega)]
    omega
theorem so_17 : ∀ i, i < 10 → ∀ j, j < 10 → i ≤ j → (s0_a 17).getD i 0 ≤ (s0_a 17).getD j 0 := by decide +kernel
theorem cm_183a {g : am_G} (hg : gs_ok g) (c : Int32) : fm_183 g 17 c = some (b2 (ch_al c)) := by
  obtain ⟨r, h1, h2, h3, h4⟩ := cm_183 (g := g) (o := 17) (n := 10) (c := c) rfl (by decide) rfl (by decide) (fun k => (s0_a 17).getD k 0) hg.1 (fun i j hij hj => so_17 i (by omega) j hj hij)
  rw [h4]
  have hr : r = 0 ∨ r = 1 ∨ r = 2 ∨ r = 3 ∨ r = 4 ∨ r = 5 ∨ r = 6 ∨ r = 7 ∨ r = 8 ∨ r = 9 ∨ r = 10 := by omega
  rcases hr with rfl | rfl | rfl | rfl | rfl | rfl | rfl | rfl | rfl | rfl | rfl
  · rw [show ch_al c = false from ch_f (by
      have q2 := h3 0 (by decide) (by decide)
      rw [Int32.lt_iff_toInt_lt] at q2
      have q2 : c.toInt < (9 : Int) := q2
      unfold al_P
      omega)]
    rfl
  · rw [show ch_al c = true from ch_t (by
      have q1 := h2 0 (by decide)
      rw [Int32.le_iff_toInt_le] at q1
      have q1 : (9 : Int) ≤ c.toInt := q1
      have q2 := h3 1 (by decide) (by decide)
      rw [Int32.lt_iff_toInt_lt] at q2
      have q2 : c.toInt < (11 : Int) := q2
      unfold al_P
      omega)]
    rfl
  · rw [show ch_al c = false from ch_f (by
      have q1 := h2 1 (by decide)
      rw [Int32.le_iff_toInt_le] at q1
      have q1 : (11 : Int) ≤ c.toInt := q1
      have q2 := h3 2 (by decide) (by decide)
      rw [Int32.lt_iff_toInt_lt] at q2
      have q2 : c.toInt < (13 : Int) := q2
      unfold al_P
      omega)]
    rfl
  · rw [show ch_al c = true from ch_t (by
      have q1 := h2 2 (by decide)
      rw [Int32.le_iff_toInt_le] at q1
      have q1 : (13 : Int) ≤ c.toInt := q1
      have q2 := h3 3 (by decide) (by decide)
      rw [Int32.lt_iff_toInt_lt] at q2
      have q2 : c.toInt < (14 : Int) := q2
      unfold al_P
      omega)]
    rfl
  · rw [show ch_al c = false from ch_f (by
      have q1 := h2 3 (by decide)
      rw [Int32.le_iff_toInt_le] at q1
      have q1 : (14 : Int) ≤ c.toInt := q1
      have q2 := h3 4 (by decide) (by decide)
      rw [Int32.lt_iff_toInt_lt] at q2
      have q2 : c.toInt < (32 : Int) := q2
      unfold al_P
      omega)]
    rfl
  · rw [show ch_al c = true from ch_t (by
      have q1 := h2 4 (by decide)
      rw [Int32.le_iff_toInt_le] at q1
      have q1 : (32 : Int) ≤ c.toInt := q1
      have q2 := h3 5 (by decide) (by decide)
      rw [Int32.lt_iff_toInt_lt] at q2
      have q2 : c.toInt < (55296 : Int) := q2
      unfold al_P
      omega)]
    rfl
  · rw [show ch_al c = false from ch_f (by
      have q1 := h2 5 (by decide)
      rw [Int32.le_iff_toInt_le] at q1
      have q1 : (55296 : Int) ≤ c.toInt := q1
      have q2 := h3 6 (by decide) (by decide)
      rw [Int32.lt_iff_toInt_lt] at q2
      have q2 : c.toInt < (57344 : Int) := q2
      unfold al_P
      omega)]
    rfl
  · rw [show ch_al c = true from ch_t (by
      have q1 := h2 6 (by decide)
      rw [Int32.le_iff_toInt_le] at q1
      have q1 : (57344 : Int) ≤ c.toInt := q1
      have q2 := h3 7 (by decide) (by decide)
      rw [Int32.lt_iff_toInt_lt] at q2
      have q2 : c.toInt < (65534 : Int) := q2
      unfold al_P
      omega)]
    rfl
  · rw [show ch_al c = false from ch_f (by
      have q1 := h2 7 (by decide)
      rw [Int32.le_iff_toInt_le] at q1
      have q1 : (65534 : Int) ≤ c.toInt := q1
      have q2 := h3 8 (by decide) (by decide)
      rw [Int32.lt_iff_toInt_lt] at q2
      have q2 : c.toInt < (65536 : Int) := q2
      unfold al_P
      omega)]
    rfl
  · rw [show ch_al c = true from ch_t (by
      have q1 := h2 8 (by decide)
      rw [Int32.le_iff_toInt_le] at q1
      have q1 : (65536 : Int) ≤ c.toInt := q1
      have q2 := h3 9 (by decide) (by decide)
      rw [Int32.lt_iff_toInt_lt] at q2
      have q2 : c.toInt < (1114112 : Int) := q2
      unfold al_P
      omega)]
    rfl
  · rw [show ch_al c = false from ch_f (by
      have q1 := h2 9 (by decide)
      rw [Int32.le_iff_toInt_le] at q1
      have q1 : (1114112 : Int) ≤ c.toInt := q1
      unfold al_P
      omega)]
    rfl
theorem so_18 : ∀ i, i < 32 → ∀ j, j < 32 → i ≤ j → (s0_a 18).getD i 0 ≤ (s0_a 18).getD j 0 := by decide +kernel
theorem cm_183b {g : am_G} (hg : gs_ok g) (c : Int32) : fm_183 g 18 c = some (b2 (ch_bg c)) := by
  obtain ⟨r, h1, h2, h3, h4⟩ := cm_183 (g := g) (o := 18) (n := 32) (c := c) rfl (by decide) rfl (by decide) (fun k => (s0_a 18).getD k 0) hg.2.1 (fun i j hij hj => so_18 i (by omega) j hj hij)
  rw [h4]
  have hr : r = 0 ∨ r = 1 ∨ r = 2 ∨ r = 3 ∨ r = 4 ∨ r = 5 ∨ r = 6 ∨ r = 7 ∨ r = 8 ∨ r = 9 ∨ r = 10 ∨ r = 11 ∨ r = 12 ∨ r = 13 ∨ r = 14 ∨ r = 15 ∨ r = 16 ∨ r = 17 ∨ r = 18 ∨ r = 19 ∨ r = 20 ∨ r = 21 ∨ r = 22 ∨ r = 23 ∨ r = 24 ∨ r = 25 ∨ r = 26 ∨ r = 27 ∨ r = 28 ∨ r = 29 ∨ r = 30 ∨ r = 31 ∨ r = 32 := by omega
  rcases hr with rfl | rfl | rfl | rfl | rfl | rfl | rfl | rfl | rfl | rfl | rfl | rfl | rfl | rfl | rfl | rfl | rfl | rfl | rfl | rfl | rfl | rfl | rfl | rfl | rfl | rfl | rfl | rfl | rfl | rfl | rfl | rfl | rfl
  · rw [show ch_bg c = false from ch_f (by
      have q2 := h3 0 (by decide) (by decide)
      rw [Int32.lt_iff_toInt_lt] at q2
      have q2 : c.toInt < (58 : Int) := q2
      unfold bg_P
      omega)]
    rfl
  · rw [show ch_bg c = true from ch_t (by
      have q1 := h2 0 (by decide)
      rw [Int32.le_iff_toInt_le] at q1
      have q1 : (58 : Int) ≤ c.toInt := q1
      have q2 := h3 1 (by decide) (by decide)
      rw [Int32.lt_iff_toInt_lt] at q2
      have q2 : c.toInt < (59 : Int) := q2
      unfold bg_P
      omega)]
    rfl
  · rw [show ch_bg c = false from ch_f (by
      have q1 := h2 1 (by decide)
      rw [Int32.le_iff_toInt_le] at q1
      have q1 : (59 : Int) ≤ c.toInt := q1
      have q2 := h3 2 (by decide) (by decide)
      rw [Int32.lt_iff_toInt_lt] at q2
      have q2 : c.toInt < (65 : Int) := q2
      unfold bg_P
      omega)]
    rfl
  · rw [show ch_bg c = true from ch_t (by
      have q1 := h2 2 (by decide)
      rw [Int32.le_iff_toInt_le] at q1
      have q1 : (65 : Int) ≤ c.toInt := q1
      have q2 := h3 3 (by decide) (by decide)
      rw [Int32.lt_iff_toInt_lt] at q2
      have q2 : c.toInt < (91 : Int) := q2
      unfold bg_P
      omega)]
    rfl
  · rw [show ch_bg c = false from ch_f (by
      have q1 := h2 3 (by decide)
      rw [Int32.le_iff_toInt_le] at q1
      have q1 : (91 : Int) ≤ c.toInt := q1
      have q2 := h3 4 (by decide) (by decide)
      rw [Int32.lt_iff_toInt_lt] at q2
      have q2 : c.toInt < (95 : Int) := q2
      unfold bg_P
      omega)]
    rfl
  · rw [show ch_bg c = true from ch_t (by
      have q1 := h2 4 (by decide)
      rw [Int32.le_iff_toInt_le] at q1
      have q1 : (95 : Int) ≤ c.toInt := q1
      have q2 := h3 5 (by decide) (by decide)
      rw [Int32.lt_iff_toInt_lt] at q2
      have q2 : c.toInt < (96 : Int) := q2
      unfold bg_P
      omega)]
    rfl
  · rw [show ch_bg c = false from ch_f (by
      have q1 := h2 5 (by decide)
      rw [Int32.le_iff_toInt_le] at q1
      have q1 : (96 : Int) ≤ c.toInt := q1
      have q2 := h3 6 (by decide) (by decide)
      rw [Int32.lt_iff_toInt_lt] at q2
      have q2 : c.toInt < (97 : Int) := q2
      unfold bg_P
      omega)]
    rfl
  · rw [show ch_bg c = true from ch_t (by
      have q1 := h2 6 (by decide)
      rw [Int32.le_iff_toInt_le] at q1
      have q1 : (97 : Int) ≤ c.toInt := q1
      have q2 := h3 7 (by decide) (by decide)
      rw [Int32.lt_iff_toInt_lt] at q2
      have q2 : c.toInt < (123 : Int) := q2
      unfold bg_P
      omega)]
    rfl
  · rw [show ch_bg c = false from ch_f (by
      have q1 := h2 7 (by decide)
      rw [Int32.le_iff_toInt_le] at q1
      have q1 : (123 : Int) ≤ c.toInt := q1
      have q2 := h3 8 (by decide) (by decide)
      rw [Int32.lt_iff_toInt_lt] at q2
      have q2 : c.toInt < (192 : Int) := q2
      unfold bg_P
      omega)]
    rfl
  · rw [show ch_bg c = true from ch_t (by
      have q1 := h2 8 (by decide)
      rw [Int32.le_iff_toInt_le] at q1
      have q1 : (192 : Int) ≤ c.toInt := q1
      have q2 := h3 9 (by decide) (by decide)
      rw [Int32.lt_iff_toInt_lt] at q2
      have q2 : c.toInt < (215 : Int) := q2
      unfold bg_P
      omega)]
    rfl
  · rw [show ch_bg c = false from ch_f (by
      have q1 := h2 9 (by decide)
      rw [Int32.le_iff_toInt_le] at q1
      have q1 : (215 : Int) ≤ c.toInt := q1
      have q2 := h3 10 (by decide) (by decide)
      rw [Int32.lt_iff_toInt_lt] at q2
      have q2 : c.toInt < (216 : Int) := q2
      unfold bg_P
      omega)]
    rfl
  · rw [show ch_bg c = true from ch_t (by
      have q1 := h2 10 (by decide)
      rw [Int32.le_iff_toInt_le] at q1
      have q1 : (216 : Int) ≤ c.toInt := q1
      have q2 := h3 11 (by decide) (by decide)
      rw [Int32.lt_iff_toInt_lt] at q2
      have q2 : c.toInt < (247 : Int) := q2
      unfold bg_P
      omega)]
    rfl
  · rw [show ch_bg c = false from ch_f (by
      have q1 := h2 11 (by decide)
      rw [Int32.le_iff_toInt_le] at q1
      have q1 : (247 : Int) ≤ c.toInt := q1
      have q2 := h3 12 (by decide) (by decide)
      rw [Int32.lt_iff_toInt_lt] at q2
      have q2 : c.toInt < (248 : Int) := q2
      unfold bg_P
      omega)]
    rfl
  · rw [show ch_bg c = true from ch_t (by
      have q1 := h2 12 (by decide)
      rw [Int32.le_iff_toInt_le] at q1
      have q1 : (248 : Int) ≤ c.toInt := q1
      have q2 := h3 13 (by decide) (by decide)
      rw [Int32.lt_iff_toInt_lt] at q2
      have q2 : c.toInt < (768 : Int) := q2
      unfold bg_P
      omega)]
    rfl
  · rw [show ch_bg c = false from ch_f (by
      have q1 := h2 13 (by decide)
      rw [Int32.le_iff_toInt_le] at q1
      have q1 : (768 : Int) ≤ c.toInt := q1
      have q2 := h3 14 (by decide) (by decide)
      rw [Int32.lt_iff_toInt_lt] at q2
      have q2 : c.toInt < (880 : Int) := q2
      unfold bg_P
      omega)]
    rfl
  · rw [show ch_bg c = true from ch_t (by
      have q1 := h2 14 (by decide)
      rw [Int32.le_iff_toInt_le] at q1
      have q1 : (880 : Int) ≤ c.toInt := q1
      have q2 := h3 15 (by decide) (by decide)
      rw [Int32.lt_iff_toInt_lt] at q2
      have q2 : c.toInt < (894 : Int) := q2
      unfold bg_P
      omega)]
    rfl
  · rw [show ch_bg c = false from ch_f (by
      have q1 := h2 15 (by decide)
      rw [Int32.le_iff_toInt_le] at q1
      have q1 : (894 : Int) ≤ c.toInt := q1
      have q2 := h3 16 (by decide) (by decide)
      rw [Int32.lt_iff_toInt_lt] at q2
      have q2 : c.toInt < (895 : Int) := q2
      unfold bg_P
      omega)]
    rfl
  · rw [show ch_bg c = true from ch_t (by
      have q1 := h2 16 (by decide)
      rw [Int32.le_iff_toInt_le] at q1
      have q1 : (895 : Int) ≤ c.toInt := q1
      have q2 := h3 17 (by decide) (by decide)
      rw [Int32.lt_iff_toInt_lt] at q2
      have q2 : c.toInt < (8192 : Int) := q2
      unfold bg_P
      omega)]
    rfl
  · rw [show ch_bg c = false from ch_f (by
      have q1 := h2 17 (by decide)
      rw [Int32.le_iff_toInt_le] at q1
      have q1 : (8192 : Int) ≤ c.toInt := q1
      have q2 := h3 18 (by decide) (by decide)
      rw [Int32.lt_iff_toInt_lt] at q2
      have q2 : c.toInt < (8204 : Int) := q2
      unfold bg_P
      omega)]
    rfl
  · rw [show ch_bg c = true from ch_t (by
      have q1 := h2 18 (by decide)
      rw [Int32.le_iff_toInt_le] at q1
      have q1 : (8204 : Int) ≤ c.toInt := q1
      have q2 := h3 19 (by decide) (by decide)
      rw [Int32.lt_iff_toInt_lt] at q2
      have q2 : c.toInt < (8206 : Int) := q2
      unfold bg_P
      omega)]
    rfl
  · rw [show ch_bg c = false from ch_f (by
      have q1 := h2 19 (by decide)
      rw [Int32.le_iff_toInt_le] at q1
      have q1 : (8206 : Int) ≤ c.toInt := q1
      have q2 := h3 20 (by decide) (by decide)
      rw [Int32.lt_iff_toInt_lt] at q2
      have q2 : c.toInt < (8304 : Int) := q2
      unfold bg_P
      omega)]
    rfl
  · rw [show ch_bg c = true from ch_t (by
      have q1 := h2 20 (by decide)
      rw [Int32.le_iff_toInt_le] at q1
      have q1 : (8304 : Int) ≤ c.toInt := q1
      have q2 := h3 21 (by decide) (by decide)
      rw [Int32.lt_iff_toInt_lt] at q2
      have q2 : c.toInt < (8592 : Int) := q2
      unfold bg_P
      omega)]
    rfl
  · rw [show ch_bg c = false from ch_f (by
      have q1 := h2 21 (by decide)
      rw [Int32.le_iff_toInt_le] at q1
      have q1 : (8592 : Int) ≤ c.toInt := q1
      have q2 := h3 22 (by decide) (by decide)
      rw [Int32.lt_iff_toInt_lt] at q2
      have q2 : c.toInt < (11264 : Int) := q2
      unfold bg_P
      omega)]
    rfl
  · rw [show ch_bg c = true from ch_t (by
      have q1 := h2 22 (by decide)
      rw [Int32.le_iff_toInt_le] at q1
      have q1 : (11264 : Int) ≤ c.toInt := q1
      have q2 := h3 23 (by decide) (by decide)
      rw [Int32.lt_iff_toInt_lt] at q2
      have q2 : c.toInt < (12272 : Int) := q2
      unfold bg_P
      omega)]
    rfl
  · rw [show ch_bg c = false from ch_f (by
      have q1 := h2 23 (by decide)
      rw [Int32.le_iff_toInt_le] at q1
      have q1 : (12272 : Int) ≤ c.toInt := q1
      have q2 := h3 24 (by decide) (by decide)
      rw [Int32.lt_iff_toInt_lt] at q2
      have q2 : c.toInt < (12289 : Int) := q2
      unfold bg_P
      omega)]
    rfl
  · rw [show ch_bg c = true from ch_t (by
      have q1 := h2 24 (by decide)
      rw [Int32.le_iff_toInt_le] at q1
      have q1 : (12289 : Int) ≤ c.toInt := q1
      have q2 := h3 25 (by decide) (by decide)
      rw [Int32.lt_iff_toInt_lt] at q2
      have q2 : c.toInt < (55296 : Int) := q2
      unfold bg_P
      omega)]
    rfl
  · rw [show ch_bg c = false from ch_f (by
      have q1 := h2 25 (by decide)
      rw [Int32.le_iff_toInt_le] at q1
      have q1 : (55296 : Int) ≤ c.toInt := q1
      have q2 := h3 26 (by decide) (by decide)
      rw [Int32.lt_iff_toInt_lt] at q2
      have q2 : c.toInt < (63744 : Int) := q2
      unfold bg_P
      omega)]
    rfl
  · rw [show ch_bg c = true from ch_t (by
      have q1 := h2 26 (by decide)
      rw [Int32.le_iff_toInt_le] at q1
      have q1 : (63744 : Int) ≤ c.toInt := q1
      have q2 := h3 27 (by decide) (by decide)
      rw [Int32.lt_iff_toInt_lt] at q2
      have q2 : c.toInt < (64976 : Int) := q2
      unfold bg_P
      omega)]
    rfl
  · rw [show ch_bg c = false from ch_f (by
      have q1 := h2 27 (by decide)
      rw [Int32.le_iff_toInt_le] at q1
      have q1 : (64976 : Int) ≤ c.toInt := q1
      have q2 := h3 28 (by decide) (by decide)
      rw [Int32.lt_iff_toInt_lt] at q2
      have q2 : c.toInt < (65008 : Int) := q2
      unfold bg_P
      omega)]
    rfl
  · rw [show ch_bg c = true from ch_t (by
      have q1 := h2 28 (by decide)
      rw [Int32.le_iff_toInt_le] at q1
      have q1 : (65008 : Int) ≤ c.toInt := q1
      have q2 := h3 29 (by decide) (by decide)
      rw [Int32.lt_iff_toInt_lt] at q2
      have q2 : c.toInt < (65534 : Int) := q2
      unfold bg_P
      omega)]
    rfl
  · rw [show ch_bg c = false from ch_f (by
      have q1 := h2 29 (by decide)
      rw [Int32.le_iff_toInt_le] at q1
      have q1 : (65534 : Int) ≤ c.toInt := q1
      have q2 := h3 30 (by decide) (by decide)
      rw [Int32.lt_iff_toInt_lt] at q2
      have q2 : c.toInt < (65536 : Int) := q2
      unfold bg_P
      omega)]
    rfl
  · rw [show ch_bg c = true from ch_t (by
      have q1 := h2 30 (by decide)
      rw [Int32.le_iff_toInt_le] at q1
      have q1 : (65536 : Int) ≤ c.toInt := q1
      have q2 := h3 31 (by decide) (by decide)
      rw [Int32.lt_iff_toInt_lt] at q2
      have q2 : c.toInt < (983040 : Int) := q2
      unfold bg_P
      omega)]
    rfl
  · rw [show ch_bg c = false from ch_f (by
      have q1 := h2 31 (by decide)
      rw [Int32.le_iff_toInt_le] at q1
      have q1 : (983040 : Int) ≤ c.toInt := q1
      unfold bg_P
      omega)]
    rfl
theorem so_19 : ∀ i, i < 10 → ∀ j, j < 10 → i ≤ j → (s0_a 19).getD i 0 ≤ (s0_a 19).getD j 0 := by decide +kernel
theorem cm_183c {g : am_G} (hg : gs_ok g) (c : Int32) : fm_183 g 19 c = some (b2 (ch_px c)) := by
  obtain ⟨r, h1, h2, h3, h4⟩ := cm_183 (g := g) (o := 19) (n := 10) (c := c) rfl (by decide) rfl (by decide) (fun k => (s0_a 19).getD k 0) hg.2.2.1 (fun i j hij hj => so_19 i (by omega) j hj hij)
  rw [h4]
  have hr : r = 0 ∨ r = 1 ∨ r = 2 ∨ r = 3 ∨ r = 4 ∨ r = 5 ∨ r = 6 ∨ r = 7 ∨ r = 8 ∨ r = 9 ∨ r = 10 := by omega
  rcases hr with rfl | rfl | rfl | rfl | rfl | rfl | rfl | rfl | rfl | rfl | rfl
  · rw [show ch_px c = false from ch_f (by
      have q2 := h3 0 (by decide) (by decide)
      rw [Int32.lt_iff_toInt_lt] at q2
      have q2 : c.toInt < (45 : Int) := q2
      unfold px_P
      omega)]
    rfl
  · rw [show ch_px c = true from ch_t (by
      have q1 := h2 0 (by decide)
      rw [Int32.le_iff_toInt_le] at q1
      have q1 : (45 : Int) ≤ c.toInt := q1
      have q2 := h3 1 (by decide) (by decide)
      rw [Int32.lt_iff_toInt_lt] at q2
      have q2 : c.toInt < (47 : Int) := q2
      unfold px_P
      omega)]
    rfl
  · rw [show ch_px c = false from ch_f (by
      have q1 := h2 1 (by decide)
      rw [Int32.le_iff_toInt_le] at q1
      have q1 : (47 : Int) ≤ c.toInt := q1
      have q2 := h3 2 (by decide) (by decide)
      rw [Int32.lt_iff_toInt_lt] at q2
      have q2 : c.toInt < (48 : Int) := q2
      unfold px_P
      omega)]
    rfl
  · rw [show ch_px c = true from ch_t (by
      have q1 := h2 2 (by decide)
      rw [Int32.le_iff_toInt_le] at q1
      have q1 : (48 : Int) ≤ c.toInt := q1
      have q2 := h3 3 (by decide) (by decide)
      rw [Int32.lt_iff_toInt_lt] at q2
      have q2 : c.toInt < (58 : Int) := q2
      unfold px_P
      omega)]
    rfl
  · rw [show ch_px c = false from ch_f (by
      have q1 := h2 3 (by decide)
      rw [Int32.le_iff_toInt_le] at q1
      have q1 : (58 : Int) ≤ c.toInt := q1
      have q2 := h3 4 (by decide) (by decide)
      rw [Int32.lt_iff_toInt_lt] at q2
      have q2 : c.toInt < (183 : Int) := q2
      unfold px_P
      omega)]
    rfl
  · rw [show ch_px c = true from ch_t (by
      have q1 := h2 4 (by decide)
      rw [Int32.le_iff_toInt_le] at q1
      have q1 : (183 : Int) ≤ c.toInt := q1
      have q2 := h3 5 (by decide) (by decide)
      rw [Int32.lt_iff_toInt_lt] at q2
      have q2 : c.toInt < (184 : Int) := q2
      unfold px_P
      omega)]
    rfl
  · rw [show ch_px c = false from ch_f (by
      have q1 := h2 5 (by decide)
      rw [Int32.le_iff_toInt_le] at q1
      have q1 : (184 : Int) ≤ c.toInt := q1
      have q2 := h3 6 (by decide) (by decide)
      rw [Int32.lt_iff_toInt_lt] at q2
      have q2 : c.toInt < (768 : Int) := q2
      unfold px_P
      omega)]
    rfl
  · rw [show ch_px c = true from ch_t (by
      have q1 := h2 6 (by decide)
      rw [Int32.le_iff_toInt_le] at q1
      have q1 : (768 : Int) ≤ c.toInt := q1
      have q2 := h3 7 (by decide) (by decide)
      rw [Int32.lt_iff_toInt_lt] at q2
      have q2 : c.toInt < (880 : Int) := q2
      unfold px_P
      omega)]
    rfl
  · rw [show ch_px c = false from ch_f (by
      have q1 := h2 7 (by decide)
      rw [Int32.le_iff_toInt_le] at q1
      have q1 : (880 : Int) ≤ c.toInt := q1
      have q2 := h3 8 (by decide) (by decide)
      rw [Int32.lt_iff_toInt_lt] at q2
      have q2 : c.toInt < (8255 : Int) := q2
      unfold px_P
      omega)]
    rfl
  · rw [show ch_px c = true from ch_t (by
      have q1 := h2 8 (by decide)
      rw [Int32.le_iff_toInt_le] at q1
      have q1 : (8255 : Int) ≤ c.toInt := q1
      have q2 := h3 9 (by decide) (by decide)
      rw [Int32.lt_iff_toInt_lt] at q2
      have q2 : c.toInt < (8257 : Int) := q2
      unfold px_P
      omega)]
    rfl
  · rw [show ch_px c = false from ch_f (by
      have q1 := h2 9 (by decide)
      rw [Int32.le_iff_toInt_le] at q1
      have q1 : (8257 : Int) ≤ c.toInt := q1
      unfold px_P
      omega)]
    rfl
theorem cm_184 {g : am_G} (hg : gs_ok g) (c : Int32) : fm_184 g c = some (b2 (ch_al c)) := by
  unfold fm_184
  rw [cm_183a hg, lo_ps, b2_n]
theorem cm_186 {g : am_G} (hg : gs_ok g) (c : Int32) : fm_186 g c = some (b2 (ch_bg c)) := by
  unfold fm_186
  rw [cm_183b hg, lo_ps, b2_n]
theorem cm_187 {g : am_G} (hg : gs_ok g) (c : Int32) : fm_187 g c = some (b2 (ch_pt c)) := by
  unfold fm_187
  rw [cm_186 hg, lo_ps, b2_if, cm_183c hg, lo_ps]
  unfold ch_pt
  cases ch_bg c <;> cases ch_px c <;> rfl
