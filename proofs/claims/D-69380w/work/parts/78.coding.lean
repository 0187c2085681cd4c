/-! The name of a coding. -/
def lt_P (c : Int32) : Prop := (¬ c < 65 ∧ c ≤ 90) ∨ (¬ c < 97 ∧ ¬ (122 : Int32) < c)
def cd_P (c : Int32) : Prop := lt_P c ∨ dg_P c ∨ c = 46 ∨ c = 95 ∨ c = 45
def lw_c (c : Int32) : Int32 := if c < 65 then c else if (90 : Int32) < c then c else c + 32
theorem cm_260 (g : am_G) (c : Int32) : (lt_P c → fm_260 g c = some 1) ∧ (¬ lt_P c → fm_260 g c = some 0) := by
  have i12 : (¬ c < 97 ∧ ¬ (122 : Int32) < c → fj_260_12 g c = some 1) ∧ (¬ (¬ c < 97 ∧ ¬ (122 : Int32) < c) → fj_260_12 g c = some 0) := by
    unfold fj_260_12
    constructor
    · intro h; rw [if_neg h.1, if_neg h.2]
    · intro h
      by_cases q : c < 97
      · rw [if_pos q]
      · rw [if_neg q, if_pos (Classical.not_not.mp fun w => h ⟨q, w⟩)]
  unfold fm_260 lt_P
  by_cases q : c < 65
  · rw [if_pos q]
    exact ⟨fun h => i12.1 (h.resolve_left fun w => w.1 q), fun h => i12.2 fun w => h (Or.inr w)⟩
  · rw [if_neg q]
    by_cases q2 : c ≤ 90
    · rw [if_pos q2]
      exact ⟨fun _ => rfl, fun h => absurd (Or.inl ⟨q, q2⟩) h⟩
    · rw [if_neg q2]
      exact ⟨fun h => i12.1 (h.resolve_left fun w => q2 w.2), fun h => i12.2 fun w => h (Or.inr w)⟩
theorem cm_261 (g : am_G) (c : Int32) : fm_261 g c = some (lw_c c) := by
  unfold fm_261 lw_c
  by_cases q : c < 65
  · rw [if_pos q, if_pos q]
  · rw [if_neg q, if_neg q]
    by_cases q2 : (90 : Int32) < c
    · rw [if_pos q2, if_pos q2]
    · rw [if_neg q2, if_neg q2]
/-- M's step inside the coding's name -/
theorem cm_119 {g : am_G} {c : Int32} (hq : c ≠ am_i g 943 38) : (cd_P c → fm_119 g c = fj_119_165 g c 1) ∧ (¬ cd_P c → fm_119 g c = fm_23 g) := by
  have z : fj_119_165 g c 0 = fm_23 g := by unfold fj_119_165; rw [if_pos rfl]; exact lo_id _
  have a142 : ((c = 46 ∨ c = 95 ∨ c = 45) → fj_119_142 g c = fj_119_165 g c 1) ∧ (¬ (c = 46 ∨ c = 95 ∨ c = 45) → fj_119_142 g c = fm_23 g) := by
    unfold fj_119_142 fj_119_160
    by_cases h1 : c = 46
    · rw [if_pos h1]; exact ⟨fun _ => rfl, fun h => absurd (Or.inl h1) h⟩
    · by_cases h2 : c = 95
      · rw [if_neg h1, if_pos h2]; exact ⟨fun _ => rfl, fun h => absurd (Or.inr (Or.inl h2)) h⟩
      · by_cases h3 : c = 45
        · rw [if_neg h1, if_neg h2, if_pos h3]; exact ⟨fun _ => rfl, fun h => absurd (Or.inr (Or.inr h3)) h⟩
        · rw [if_neg h1, if_neg h2, if_neg h3, z]; exact ⟨fun h => absurd h (by rintro (e | e | e) <;> contradiction), fun _ => rfl⟩
  have a130 : ((dg_P c ∨ c = 46 ∨ c = 95 ∨ c = 45) → fj_119_130 g c = fj_119_165 g c 1) ∧ (¬ (dg_P c ∨ c = 46 ∨ c = 95 ∨ c = 45) → fj_119_130 g c = fm_23 g) := by
    unfold fj_119_130 fj_119_160 dg_P
    by_cases h1 : c < 48
    · rw [if_pos h1]
      exact ⟨fun h => a142.1 (h.resolve_left fun w => w.1 h1), fun h => a142.2 fun w => h (Or.inr w)⟩
    · rw [if_neg h1]
      by_cases h2 : c ≤ 57
      · rw [if_pos h2]
        refine ⟨fun _ => rfl, fun h => absurd (Or.inl ⟨h1, fun w => ?_⟩) h⟩
        rw [Int32.le_iff_toInt_le] at h2
        rw [Int32.lt_iff_toInt_lt] at w
        omega
      · rw [if_neg h2]
        refine ⟨fun h => a142.1 (h.resolve_left fun w => h2 ?_), fun h => a142.2 fun w => h (Or.inr w)⟩
        have := w.2
        rw [Int32.lt_iff_toInt_lt] at this
        rw [Int32.le_iff_toInt_le]
        omega
  have a118 : (((¬ c < 97 ∧ ¬ (122 : Int32) < c) ∨ dg_P c ∨ c = 46 ∨ c = 95 ∨ c = 45) → fj_119_118 g c = fj_119_165 g c 1) ∧ (¬ ((¬ c < 97 ∧ ¬ (122 : Int32) < c) ∨ dg_P c ∨ c = 46 ∨ c = 95 ∨ c = 45) → fj_119_118 g c = fm_23 g) := by
    unfold fj_119_118 fj_119_160
    by_cases h1 : c < 97
    · rw [if_pos h1]
      exact ⟨fun h => a130.1 (h.resolve_left fun w => w.1 h1), fun h => a130.2 fun w => h (Or.inr w)⟩
    · rw [if_neg h1]
      by_cases h2 : c ≤ 122
      · rw [if_pos h2]
        refine ⟨fun _ => rfl, fun h => absurd (Or.inl ⟨h1, fun w => ?_⟩) h⟩
        rw [Int32.le_iff_toInt_le] at h2
        rw [Int32.lt_iff_toInt_lt] at w
        omega
      · rw [if_neg h2]
        refine ⟨fun h => a130.1 (h.resolve_left fun w => h2 ?_), fun h => a130.2 fun w => h (Or.inr w)⟩
        have := w.2
        rw [Int32.lt_iff_toInt_lt] at this
        rw [Int32.le_iff_toInt_le]
        omega
  unfold fm_119
  rw [if_neg hq]
  unfold cd_P lt_P
  by_cases h1 : c < 65
  · rw [if_pos h1]
    refine ⟨fun h => a118.1 ?_, fun h => a118.2 fun w => h ?_⟩
    · rcases h with (h | h) | h
      · exact absurd h1 h.1
      · exact Or.inl h
      · exact Or.inr h
    · rcases w with w | w
      · exact Or.inl (Or.inr w)
      · exact Or.inr w
  · rw [if_neg h1]
    by_cases h2 : c ≤ 90
    · rw [if_pos h2]
      unfold fj_119_160
      exact ⟨fun _ => rfl, fun h => absurd (Or.inl (Or.inl ⟨h1, h2⟩)) h⟩
    · rw [if_neg h2]
      refine ⟨fun h => a118.1 ?_, fun h => a118.2 fun w => h ?_⟩
      · rcases h with (h | h) | h
        · exact absurd h.2 h2
        · exact Or.inl h
        · exact Or.inr h
      · rcases w with w | w
        · exact Or.inl (Or.inr w)
        · exact Or.inr w
