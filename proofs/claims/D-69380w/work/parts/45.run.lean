/-! M's run from the place where it has an item in hand; how R's steps go along with it. -/
noncomputable def mr_B (k : (am_G × Int32 × Int32) → Option (Int32 × am_G)) (x : am_G × Int32 × Int32) : Option (Int32 × am_G) := fb_137_108 k x.1 x.2.1 x.2.2
noncomputable def mr_I (k : (am_G × Int32 × Int32) → Option (Int32 × am_G)) (x : am_G × Int32 × Int32) : Option (Int32 × am_G) := fb_134_104 k x.1 x.2.1 x.2.2
def mc_n (g : am_G) (k : Nat) : Nat := (am_i g 943 k).toNatClampNeg
/-- how much M still has to do -/
def mm_n (g : am_G) : Nat := 3 * ((mc_n g 4 - mc_n g 5) + (mc_n g 8 - mc_n g 9) + (mc_n g 15 - mc_n g 14)) + mc_n g 9
/-- how often the character at hand can be looked at again -/
def rk_n (s : Int32) : Nat := if s = 5 then 12 else if s = 42 then 8 else if s = 43 then 8 else if s = 48 then 6 else if s = 6 then 2 else if s = 38 then 2 else if s = 90 then 2 else if s = 88 then 2 else if s = 92 then 2 else if s = 108 then 2 else if s = 23 then 2 else
  if s = 135 then 2 else if s = 152 then 2 else if s = 119 then 2 else if s = 44 then 2 else 4
theorem rk_i {p : Prop} [Decidable p] {a b : Nat} (h1 : 2 ≤ a ∧ a ≤ 12) (h2 : 2 ≤ b ∧ b ≤ 12) : 2 ≤ (if p then a else b) ∧ (if p then a else b) ≤ 12 := by
  by_cases h : p
  · rw [if_pos h]; exact h1
  · rw [if_neg h]; exact h2
theorem rk_b (s : Int32) : 2 ≤ rk_n s ∧ rk_n s ≤ 12 := by
  unfold rk_n
  iterate 15 refine rk_i (by decide) ?_
  decide
theorem rk_2 (s : Int32) : 2 ≤ rk_n s := (rk_b s).1
theorem rk_12 (s : Int32) : rk_n s ≤ 12 := (rk_b s).2
theorem mr_s (k : Nat) (g : am_G) (n y : Int32) : lo_it mr_B (k + 1) (g, n, y) = fb_137_108 (lo_it mr_B k) g n y := rfl
theorem mr_i (k : Nat) (g : am_G) (c y : Int32) : lo_it mr_I (k + 1) (g, c, y) = fb_134_104 (lo_it mr_I k) g c y := rfl
/-- with the item i in hand (a character; -1: the end of an entity's text or of the text) M reads to this result -/
def mi_ok (n i : Int32) (g : am_G) (res : Int32 × am_G) : Prop :=
  if i = -1 then (if 0 < am_i g 943 9 then ∀ k, mm_n g ≤ k → lo_i (fm_103 g) (fun y g2 => lo_it mr_B k (g2, n, y)) = some res else fj_137_138 g n 0 = some res)
  else am_i g 943 29 = 1 ∧ ∀ k j, mm_n g + 2 ≤ k → rk_n (am_i g 943 26) ≤ j → lo_i (lo_it mr_I j (g, i, 0)) (fun y g2 => lo_it mr_B k (g2, n, y)) = some res
/-- M at the head of its loop -/
def mr_ok (n : Int32) (g : am_G) (res : Int32 × am_G) : Prop := ∀ k, mm_n g < k → lo_it mr_B k (g, n, 0) = some res
section
variable {n c : Int32} {g g1 g2 : am_G} {res : Int32 × am_G}
/-- a fault -/
theorem mr_f (k : Nat) {y : Int32} (hk : 0 < k) (hy : y ≠ 0) : lo_it mr_B k (g, n, y) = some (y, am_si g 943 30 n) := by
  obtain ⟨m, rfl⟩ : ∃ m, k = m + 1 := ⟨k - 1, by omega⟩
  rw [mr_s]
  unfold fb_137_108
  rw [if_neg hy]
  unfold fj_137_138
  rw [if_neg hy]
  unfold fj_137_160
  rw [if_neg hy]
  unfold fj_137_184
  rw [if_neg hy]
/-- the character is looked at again in another state -/
theorem mi_a (hc : c ≠ -1) (ha : am_i g 943 29 = 1) (hs : fm_133 (am_si g 943 29 0) c = some (0, g1)) (ha1 : am_i g1 943 29 = 1) (hr : rk_n (am_i g1 943 26) < rk_n (am_i g 943 26)) (hm : mm_n g1 ≤ mm_n g) (h : mi_ok n c g1 res) : mi_ok n c g res := by
  unfold mi_ok at h ⊢
  rw [if_neg hc] at h ⊢
  refine ⟨ha, fun k j hk hj => ?_⟩
  obtain ⟨m, rfl⟩ : ∃ m, j = m + 1 := ⟨j - 1, by have := rk_2 (am_i g 943 26); omega⟩
  have e : lo_it mr_I (m + 1) (g, c, 0) = lo_it mr_I m (g1, c, 0) := by
    rw [mr_i]
    unfold fb_134_104
    rw [ha, if_neg (by decide), if_pos rfl, hs, lo_is]
  rw [e]
  exact h.2 k m (by omega) (by omega)
/-- the character is done with -/
theorem mi_d (hc : c ≠ -1) (ha : am_i g 943 29 = 1) (hs : fm_133 (am_si g 943 29 0) c = some (0, g1)) (ha1 : am_i g1 943 29 = 0) (hm : mm_n g1 ≤ mm_n g + 1) (h : mr_ok n g1 res) : mi_ok n c g res := by
  unfold mi_ok
  rw [if_neg hc]
  refine ⟨ha, fun k j hk hj => ?_⟩
  obtain ⟨m, rfl⟩ : ∃ m, j = m + 2 := ⟨j - 2, by have := rk_2 (am_i g 943 26); omega⟩
  have e : lo_it mr_I (m + 2) (g, c, 0) = some (0, g1) := by
    rw [mr_i]
    unfold fb_134_104
    rw [ha, if_neg (by decide), if_pos rfl, hs, lo_is]
    rw [mr_i]
    unfold fb_134_104
    rw [ha1, if_pos rfl]
  rw [e, lo_is]
  exact h k (by omega)
/-- the character is a fault -/
theorem mi_f (hc : c ≠ -1) (ha : am_i g 943 29 = 1) {y : Int32} (hy : y ≠ 0) (hs : fm_133 (am_si g 943 29 0) c = some (y, g1)) : mi_ok n c g (y, am_si g1 943 30 n) := by
  unfold mi_ok
  rw [if_neg hc]
  refine ⟨ha, fun k j hk hj => ?_⟩
  obtain ⟨m, rfl⟩ : ∃ m, j = m + 2 := ⟨j - 2, by have := rk_2 (am_i g 943 26); omega⟩
  have e : lo_it mr_I (m + 2) (g, c, 0) = some (y, g1) := by
    rw [mr_i]
    unfold fb_134_104
    rw [ha, if_neg (by decide), if_pos rfl, hs, lo_is, mr_i]
    unfold fb_134_104
    rw [if_neg hy]
    split
    · rfl
    · rfl
  rw [e, lo_is]
  exact mr_f k (by omega) hy
/-- the next item is taken: a character of the text -/
theorem mr_c {p N : Nat} (h5 : am_i g 943 5 = nI p) (h4 : am_i g 943 4 = nI N) (hp : p < N) (hN : N ≤ 6000) (h9 : am_i g 943 9 = 0)
    (h : mi_ok n (am_i g 945 p) (am_si (am_si (am_si g 943 30 (am_i g 946 p)) 943 5 (nI (p + 1))) 943 29 1) res) (hc : am_i g 945 p ≠ -1) : mr_ok n g res := by
  intro k hk
  obtain ⟨k, rfl⟩ : ∃ m, k = m + 1 := ⟨k - 1, by omega⟩
  rw [mr_s]
  unfold fb_137_108
  rw [if_pos rfl, h5, h4, if_pos (nI_lt hp (by omega))]
  unfold fj_137_130 fm_134
  rw [h9, if_pos (by decide)]
  unfold fj_134_26
  rw [h9, if_pos (by decide), h5, ai_nI (by omega) (by omega), lo_gt, lo_ll, nI_clamp (by omega), nI_1]
  unfold fj_134_97
  unfold mi_ok at h
  rw [if_neg hc] at h
  have e1 : mm_n (am_si (am_si (am_si g 943 30 (am_i g 946 p)) 943 5 (nI (p + 1))) 943 29 1) + 3 = mm_n g := by
    unfold mm_n mc_n
    simp only [gi_si, h4, h5]
    simp
    rw [nI_clamp (by omega), nI_clamp (by omega), nI_clamp (by omega)]
    omega
  have := h.2 k nf_F (by omega) (by have := rk_12 (am_i (am_si (am_si (am_si g 943 30 (am_i g 946 p)) 943 5 (nI (p + 1))) 943 29 1) 943 26); have := nf_le; omega)
  exact this
/-- a character of an entity's text -/
theorem mr_e {r : Nat} (h8 : am_i g 943 8 = nI (r + 1)) (hr : r + 1 ≤ 9000) {d : Nat} (h9 : am_i g 943 9 = nI d) (hd : 0 < d) (hd2 : d ≤ r) (hx : 0 ≤ am_i g 947 r)
    (h : mi_ok n (am_i g 947 r) (am_si (am_si (am_si g 943 8 (nI r)) 943 30 (am_i g 943 13)) 943 29 1) res) : mr_ok n g res := by
  intro k hk
  have hc : am_i g 947 r ≠ -1 := fun e => by rw [e] at hx; exact absurd hx (by decide)
  have hd0 : ¬ nI d ≤ 0 := nI_nle hd (by omega)
  have hx : (0 : Int32) ≤ am_i g 947 r := hx
  obtain ⟨k, rfl⟩ : ∃ m, k = m + 1 := ⟨k - 1, by omega⟩
  have body : lo_i (fm_134 g) (fun y1 g2 => lo_it mr_B k (g2, n, y1)) = some res := by
    unfold fm_134
    rw [h9, if_neg hd0, h8, nI_pred, ai_nI (by omega) (by omega), lo_gt, nI_clamp (by omega), if_pos hx]
    unfold fj_134_26
    rw [h9, if_neg hd0, h8, nI_pred, ai_nI (by omega) (by omega), lo_gt, lo_ll, nI_clamp (by omega)]
    unfold fj_134_97
    unfold mi_ok at h
    rw [if_neg hc] at h
    have e1 : mm_n (am_si (am_si (am_si g 943 8 (nI r)) 943 30 (am_i g 943 13)) 943 29 1) + 3 = mm_n g := by
      unfold mm_n mc_n
      simp only [gi_si, h8, h9]
      simp
      rw [nI_clamp (by omega), nI_clamp (by omega), nI_clamp (by omega)]
      omega
    exact h.2 k nf_F (by omega) (by have := rk_12 (am_i (am_si (am_si (am_si g 943 8 (nI r)) 943 30 (am_i g 943 13)) 943 29 1) 943 26); have := nf_le; omega)
  rw [mr_s]
  unfold fb_137_108
  rw [if_pos rfl]
  unfold fj_137_130
  rw [h9, if_neg hd0]
  split
  · exact body
  · exact body
/-- an entity's text has ended -/
theorem mr_l {r : Nat} (h8 : am_i g 943 8 = nI (r + 1)) (hr : r + 1 ≤ 9000) {d : Nat} (h9 : am_i g 943 9 = nI d) (hd : 0 < d) (hd2 : d < 2 ^ 31) (hx : am_i g 947 r < 0) (h : mi_ok n (-1) g res) : mr_ok n g res := by
  intro k hk
  have hd0 : ¬ nI d ≤ 0 := nI_nle hd (by omega)
  have hx1 : ¬ (0 : Int32) ≤ am_i g 947 r := by
    rw [Int32.le_iff_toInt_le]
    rw [Int32.lt_iff_toInt_lt] at hx
    omega
  obtain ⟨k, rfl⟩ : ∃ m, k = m + 1 := ⟨k - 1, by omega⟩
  unfold mi_ok at h
  rw [if_pos rfl, h9, if_pos (show (0 : Int32) < nI d from nI_lt (a := 0) hd hd2)] at h
  have body : lo_i (fm_134 g) (fun y1 g2 => lo_it mr_B k (g2, n, y1)) = some res := by
    unfold fm_134
    rw [h9, if_neg hd0, h8, nI_pred, ai_nI (by omega) (by omega), lo_gt, nI_clamp (by omega), if_neg hx1]
    have := h k (by omega)
    cases e : fm_103 g with
    | none => rw [e] at this; cases this
    | some q => rw [e] at this; exact this
  rw [mr_s]
  unfold fb_137_108
  rw [if_pos rfl]
  unfold fj_137_130
  rw [h9, if_neg hd0]
  split
  · exact body
  · exact body
/-- the text has ended -/
theorem mr_z {N : Nat} (h5 : am_i g 943 5 = nI N) (h4 : am_i g 943 4 = nI N) (hN : N ≤ 6000) (h9 : am_i g 943 9 = 0) (h : mi_ok n (-1) g res) : mr_ok n g res := by
  intro k hk
  obtain ⟨k, rfl⟩ : ∃ m, k = m + 1 := ⟨k - 1, by omega⟩
  unfold mi_ok at h
  rw [if_pos rfl, h9, if_neg (by decide)] at h
  rw [mr_s]
  unfold fb_137_108
  rw [if_pos rfl, h5, h4, if_neg (nI_nlt (Nat.le_refl _) (by omega)), h9, if_pos (by decide)]
  exact h
end
/-! R along with M. -/
/-- what an R computation that may throw does, with M's item and memory: it returns, and M gets to where they fit again; or both fault alike -/
def si_ok {α : Type} (n : Int32) (Ft : am_G → am_G → Prop) (F : Option ((α ⊕ Nat) × am_G)) (i : Int32) (gM : am_G) (Q : α → am_G → Int32 → am_G → Prop) : Prop :=
  ∃ r, F = some r ∧ match r with
    | (.inl a, g) => ∃ i' g', (∀ res, mi_ok n i' g' res → mi_ok n i gM res) ∧ Q a g i' g'
    | (.inr _, g) => ∃ g', mi_ok n i gM (-1, g') ∧ Ft g g'
section
variable {α β : Type} {n : Int32} {Ft : am_G → am_G → Prop} {i : Int32} {gM : am_G}
theorem si_rt {a : α} {g : am_G} {Q : α → am_G → Int32 → am_G → Prop} (h : Q a g i gM) : si_ok n Ft (some (.inl a, g)) i gM Q := ⟨_, rfl, i, gM, fun _ q => q, h⟩
theorem si_bd {F : Option ((α ⊕ Nat) × am_G)} {K : α → am_G → Option ((β ⊕ Nat) × am_G)} {Q : α → am_G → Int32 → am_G → Prop} {Q2 : β → am_G → Int32 → am_G → Prop} (h : si_ok n Ft F i gM Q)
    (hk : ∀ a g i' g', Q a g i' g' → si_ok n Ft (K a g) i' g' Q2) : si_ok n Ft (lo_t F K) i gM Q2 := by
  obtain ⟨r, e, h⟩ := h
  subst e
  obtain ⟨a | x, g⟩ := r
  · obtain ⟨i', g', h1, h2⟩ := h
    obtain ⟨r2, e2, h3⟩ := hk a g i' g' h2
    refine ⟨r2, e2, ?_⟩
    obtain ⟨b | y, g3⟩ := r2
    · obtain ⟨i2, g4, h4, h5⟩ := h3
      exact ⟨i2, g4, fun res q => h1 res (h4 res q), h5⟩
    · obtain ⟨g4, h4, h5⟩ := h3
      exact ⟨g4, h1 _ h4, h5⟩
  · exact ⟨_, rfl, h⟩
/-- M goes on by itself -/
theorem si_m {F : Option ((α ⊕ Nat) × am_G)} {Q : α → am_G → Int32 → am_G → Prop} {i' : Int32} {g' : am_G} (hm : ∀ res, mi_ok n i' g' res → mi_ok n i gM res) (h : si_ok n Ft F i' g' Q) : si_ok n Ft F i gM Q := by
  obtain ⟨r, e, h⟩ := h
  refine ⟨r, e, ?_⟩
  obtain ⟨a | x, g⟩ := r
  · obtain ⟨i2, g2, h1, h2⟩ := h
    exact ⟨i2, g2, fun res q => hm res (h1 res q), h2⟩
  · obtain ⟨g2, h1, h2⟩ := h
    exact ⟨g2, hm _ h1, h2⟩
theorem si_wk {F : Option ((α ⊕ Nat) × am_G)} {Q Q2 : α → am_G → Int32 → am_G → Prop} (h : si_ok n Ft F i gM Q) (w : ∀ a g i' g', Q a g i' g' → Q2 a g i' g') : si_ok n Ft F i gM Q2 := by
  obtain ⟨r, e, h⟩ := h
  refine ⟨r, e, ?_⟩
  obtain ⟨a | x, g⟩ := r
  · obtain ⟨i2, g2, h1, h2⟩ := h
    exact ⟨i2, g2, h1, w _ _ _ _ h2⟩
  · exact h
end
