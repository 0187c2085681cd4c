/-! What is left: the law's model, from the memory that the constructors leave, answers 1 and makes few exceptions. -/
def fm_claim : Prop := ∀ (L : Nat) (xs : Nat → Int32) (g : am_G), L ≤ 24576 → g0_ok xs g → ∃ g', fm_1 L g = some (1, g') ∧ am_sz g' ≤ 608224 ∧ am_us g' ≤ 7228522
theorem fm_of (h : fm_claim) : ai_claim := by
  intro L xs hL
  obtain ⟨g, hg, run⟩ := g0_run L xs
  obtain ⟨g', e, s1, s2⟩ := h L xs g hL hg
  exact ⟨(v0 L, g'), run _ _ (dm_1 L g (1, g') e), s1, s2⟩
theorem vc_fm (h : fm_claim) : Claimed_1_1 ∧ Claimed_1_2 := vc_of (fm_of h)
