/-! M's decoding, and both together. -/
theorem ub_lo {b : Nat} : (ub_z b = 2 → 192 ≤ b) ∧ (ub_z b = 3 → 224 ≤ b) ∧ (ub_z b = 4 → 240 ≤ b) := by
  unfold ub_z
  repeat' split
  all_goals omega
section
variable {gm : am_G} {B : Nat → Nat} {n p : Nat}
theorem m_33 (g : am_G) (u : Int32) : fj_20_33 g u = fm_21 g 1 u := by unfold fj_20_33; exact lo_id _
theorem m_141 (g : am_G) (u : Int32) : fj_20_141 g u = fm_21 g 1 u := by unfold fj_20_141; exact lo_id _
theorem m_220 (g : am_G) (u : Int32) : fj_20_220 g u = fm_21 g 1 u := by unfold fj_20_220; exact lo_id _
/-- behind a character that is right -/
noncomputable def mc_a (k7 : (am_G × Int32 × Int32) → Option (Int32 × am_G)) (g : am_G) (n p z c : Int32) : Option (Int32 × am_G) := if c = 10 then if p ≤ 0 then fj_20_255 k7 g n p z c else lo_g (ai_in (p - 1) 6020) (if am_i g 944 (p - 1).toNatClampNeg = 13 then fj_20_256 k7 g n p z c 1 else fj_20_255 k7 g n p z c) else fj_20_255 k7 g n p z c
theorem mc_lp (k7 : (am_G × Int32 × Int32) → Option (Int32 × am_G)) (hB : ∀ k, B k < 256) (hg : ∀ k, k < n → am_i gm 944 k = nI (B k)) (hn : n ≤ 6000) {z : Nat} (hz : z = ub_z (B p)) (h0 : z ≠ 0) (hpz : p + z ≤ n) : ∀ (d k fuel : Nat), k + d = z → 0 < k → d < fuel → (∀ i, 0 < i → i < k → ub_t (B (p + i))) →
    (((∀ i, 0 < i → i < z → ub_t (B (p + i))) ∧ ub_v z (nI (ub_c B p z (z - 1)))) → lo_it (fun k (x : am_G × Int32 × Int32 × Int32 × Int32 × Int32) => fb_20_105 k7 k x.1 x.2.1 x.2.2.1 x.2.2.2.1 x.2.2.2.2.1 x.2.2.2.2.2) fuel (gm, nI n, nI p, nI z, nI (ub_c B p z (k - 1)), nI k) = mc_a k7 gm (nI n) (nI p) (nI z) (nI (ub_c B p z (z - 1)))) ∧
    (¬ ((∀ i, 0 < i → i < z → ub_t (B (p + i))) ∧ ub_v z (nI (ub_c B p z (z - 1)))) → lo_it (fun k (x : am_G × Int32 × Int32 × Int32 × Int32 × Int32) => fb_20_105 k7 k x.1 x.2.1 x.2.2.1 x.2.2.2.1 x.2.2.2.2.1 x.2.2.2.2.2) fuel (gm, nI n, nI p, nI z, nI (ub_c B p z (k - 1)), nI k) = fm_21 gm 1 (nI p)) := by
  have hz4 := ub_z4 (B p)
  rw [← hz] at hz4
  intro d
  induction d with
  | zero =>
    intro k fuel hk h1 hf ht
    obtain ⟨m, rfl⟩ : ∃ m, fuel = m + 1 := ⟨fuel - 1, by omega⟩
    have hkz : k = z := by omega
    subst hkz
    have hcl := (ub_cl hB hz h0 (k - 1) (by omega) (fun i i1 i2 => ht i i1 (by omega))).1
    have hti : (nI (ub_c B p k (k - 1))).toInt = ub_c B p k (k - 1) := nI_toInt (by omega)
    have e : ∀ j : Nat, j < 2 ^ 31 → (nI j ≤ nI (ub_c B p k (k - 1)) ↔ j ≤ ub_c B p k (k - 1)) := fun j hj => nI_leI hj (by omega)
    have f : ∀ j : Nat, j < 2 ^ 31 → (nI (ub_c B p k (k - 1)) < nI j ↔ ub_c B p k (k - 1) < j) := fun j hj => nI_ltI (by omega) hj
    have zq : ∀ a : Nat, a < 10 → (nI k = nI a ↔ k = a) := fun a ha => nI_eq (by omega) (by omega)
    have bad : fj_20_205 k7 gm (nI n) (nI p) (nI k) (nI (ub_c B p k (k - 1))) 1 = fm_21 gm 1 (nI p) := by
      unfold fj_20_205
      rw [if_neg (by decide), m_220]
    have good : fj_20_205 k7 gm (nI n) (nI p) (nI k) (nI (ub_c B p k (k - 1))) 0 = bif ch_al (nI (ub_c B p k (k - 1))) then mc_a k7 gm (nI n) (nI p) (nI k) (nI (ub_c B p k (k - 1))) else fm_21 gm 1 (nI p) := by
      unfold fj_20_205
      rw [if_pos rfl, cm_15, lo_ps, b2_if, m_220]
      rfl
    have main : fb_20_105 k7 (lo_it (fun k (x : am_G × Int32 × Int32 × Int32 × Int32 × Int32) => fb_20_105 k7 k x.1 x.2.1 x.2.2.1 x.2.2.2.1 x.2.2.2.2.1 x.2.2.2.2.2) m) gm (nI n) (nI p) (nI k) (nI (ub_c B p k (k - 1))) (nI k) =
        if (k = 3 → 2048 ≤ ub_c B p k (k - 1)) ∧ (k = 4 → 65536 ≤ ub_c B p k (k - 1)) then fj_20_205 k7 gm (nI n) (nI p) (nI k) (nI (ub_c B p k (k - 1))) 0 else fm_21 gm 1 (nI p) := by
      unfold fb_20_105 fj_20_188 fj_20_200 fj_20_204
      rw [if_pos (nI_le (Nat.le_refl _) (by omega)), bad]
      simp only [show (3 : Int32) = nI 3 from rfl, show (4 : Int32) = nI 4 from rfl, show (2048 : Int32) = nI 2048 from rfl, show (65536 : Int32) = nI 65536 from rfl, zq 3 (by decide), zq 4 (by decide), f 2048 (by decide), e 65536 (by decide)]
      by_cases y3 : k = 3
      · rw [if_pos y3, if_neg (show ¬ k = 4 by omega)]
        by_cases y : ub_c B p k (k - 1) < 2048
        · rw [if_pos y, if_neg (by omega)]
        · rw [if_neg y, if_pos (by omega)]
      · rw [if_neg y3]
        by_cases y4 : k = 4
        · rw [if_pos y4]
          by_cases y : 65536 ≤ ub_c B p k (k - 1)
          · rw [if_pos y, if_pos (by omega)]
          · rw [if_neg y, if_neg (by omega)]
        · rw [if_neg y4, if_pos (by omega)]
    constructor
    · rintro ⟨_, v1, v2, v3⟩
      rw [hti] at v2 v3
      refine main.trans ?_
      rw [if_pos ⟨fun y => by have := v2 y; omega, fun y => by have := v3 y; omega⟩, good, v1]
      rfl
    · intro w
      refine main.trans ?_
      by_cases y : (k = 3 → 2048 ≤ ub_c B p k (k - 1)) ∧ (k = 4 → 65536 ≤ ub_c B p k (k - 1))
      · rw [if_pos y, good]
        have : ch_al (nI (ub_c B p k (k - 1))) = false := by
          cases x : ch_al (nI (ub_c B p k (k - 1))) with
          | false => rfl
          | true =>
            refine absurd ⟨fun i i1 i2 => ht i i1 i2, x, ?_, ?_⟩ w
            · intro z3; rw [hti]; have := y.1 z3; omega
            · intro z4; rw [hti]; have := y.2 z4; omega
        rw [this]
        rfl
      · rw [if_neg y]
  | succ d ih =>
    intro k fuel hk h1 hf ht
    obtain ⟨m, rfl⟩ : ∃ m, fuel = m + 1 := ⟨fuel - 1, by omega⟩
    have hkz : k < z := by omega
    have hd := hB (p + k)
    have hcl := (ub_cl hB hz h0 (k - 1) (by omega) (fun i i1 i2 => ht i i1 (by omega))).1
    have body : ∀ K : (am_G × Int32 × Int32 × Int32 × Int32 × Int32) → Option (Int32 × am_G), fb_20_105 k7 K gm (nI n) (nI p) (nI z) (nI (ub_c B p z (k - 1))) (nI k) = if 128 ≤ B (p + k) ∧ B (p + k) ≤ 191 then K (gm, nI n, nI p, nI z, nI (ub_c B p z k), nI (k + 1)) else fm_21 gm 1 (nI p) := by
      intro K
      unfold fb_20_105
      rw [if_neg (nI_ge hkz (by omega)), nI_add, ai_nI (by omega) (by omega), lo_gt, nI_clamp (by omega), hg _ (by omega), show (128 : Int32) = nI 128 from rfl, show (191 : Int32) = nI 191 from rfl, m_141]
      by_cases q1 : B (p + k) < 128
      · rw [if_pos (nI_lt q1 (by decide)), if_neg (by omega)]
      · rw [if_neg (nI_nlt (by omega) (by omega))]
        by_cases q2 : B (p + k) ≤ 191
        · rw [if_pos (nI_le q2 (by decide)), if_pos ⟨by omega, q2⟩, lo_ll, nI_1, show (64 : Int32) = nI 64 from rfl, pk_mul, nI_add, pk_sub (by omega)]
          have e3 : ub_c B p z k = 64 * ub_c B p z (k - 1) + B (p + k) - 128 := by
            obtain ⟨j, rfl⟩ : ∃ j, k = j + 1 := ⟨k - 1, by omega⟩
            show 64 * ub_c B p z j + (B (p + (j + 1)) - 128) = 64 * ub_c B p z j + _ - 128
            omega
          rw [← e3]
        · rw [if_neg (nI_ge (by omega) (by omega)), if_neg (by omega)]
    have unf : lo_it (fun k (x : am_G × Int32 × Int32 × Int32 × Int32 × Int32) => fb_20_105 k7 k x.1 x.2.1 x.2.2.1 x.2.2.2.1 x.2.2.2.2.1 x.2.2.2.2.2) (m + 1) (gm, nI n, nI p, nI z, nI (ub_c B p z (k - 1)), nI k) =
        fb_20_105 k7 (lo_it (fun k (x : am_G × Int32 × Int32 × Int32 × Int32 × Int32) => fb_20_105 k7 k x.1 x.2.1 x.2.2.1 x.2.2.2.1 x.2.2.2.2.1 x.2.2.2.2.2) m) gm (nI n) (nI p) (nI z) (nI (ub_c B p z (k - 1))) (nI k) := rfl
    rw [unf, body]
    by_cases q : 128 ≤ B (p + k) ∧ B (p + k) ≤ 191
    · rw [if_pos q]
      exact ih (k + 1) m (by omega) (by omega) (by omega) (fun i i1 i2 => by
        by_cases y : i = k
        · rw [y]; exact q
        · exact ht i i1 (by omega))
    · rw [if_neg q]
      exact ⟨fun w => absurd (w.1 k h1 hkz) q, fun _ => rfl⟩
/-- one character of M's decoding -/
theorem mc_s (k7 : (am_G × Int32 × Int32) → Option (Int32 × am_G)) (hB : ∀ k, B k < 256) (hg : ∀ k, k < n → am_i gm 944 k = nI (B k)) (hn : n ≤ 6000) (hp : p < n) :
    (ub_ok B p n → fb_20_7 k7 gm (nI n) (nI p) = mc_a k7 gm (nI n) (nI p) (nI (ub_z (B p))) (nI (ub_c B p (ub_z (B p)) (ub_z (B p) - 1)))) ∧ (¬ ub_ok B p n → fb_20_7 k7 gm (nI n) (nI p) = fm_21 gm 1 (nI p)) := by
  generalize hz : ub_z (B p) = z
  have hz4 := ub_z4 (B p)
  have hb := hB p
  unfold fb_20_7
  rw [if_neg (nI_ge hp (by omega)), ai_nI (by omega) (by omega), lo_gt, nI_clamp (by omega), hg p hp, cm_19 gm (hB p), lo_ps, hz, m_33]
  by_cases q0 : z = 0
  · subst q0
    rw [if_pos (show nI 0 = 0 from rfl)]
    exact ⟨fun w => absurd hz w.1, fun _ => rfl⟩
  rw [if_neg (nI_ne0 (by omega) (by omega)), nI_add]
  by_cases q1 : p + z ≤ n
  · rw [if_pos (nI_le q1 (by omega))]
    have L := mc_lp k7 hB hg hn hz.symm q0 q1 (z - 1) 1 nf_F (by omega) (by decide) (by have := nf_le; omega) (fun i i1 i2 => absurd i2 (by omega))
    have e0 : (if nI z = 1 then lo_l (nI (B p)) fun x7 => fh_20_105 k7 (gm, nI n, nI p, nI z, x7, 1) else if nI z = 2 then lo_l (nI (B p) - 192) fun x6 => fh_20_105 k7 (gm, nI n, nI p, nI z, x6, 1) else if nI z = 3 then lo_l (nI (B p) - 224) fun x5 => fh_20_105 k7 (gm, nI n, nI p, nI z, x5, 1) else lo_l (nI (B p) - 240) fun x4 => fh_20_105 k7 (gm, nI n, nI p, nI z, x4, 1)) =
        fh_20_105 k7 (gm, nI n, nI p, nI z, nI (ub_c B p z (1 - 1)), nI 1) := by
      show _ = fh_20_105 k7 (gm, nI n, nI p, nI z, nI (ub_0 (B p) z), nI 1)
      have : z = 1 ∨ z = 2 ∨ z = 3 ∨ z = 4 := by omega
      rcases this with rfl | rfl | rfl | rfl
      · rw [if_pos (show nI 1 = 1 from rfl)]; rfl
      · rw [if_neg (by decide), if_pos (show nI 2 = 2 from rfl), lo_ll, show (192 : Int32) = nI 192 from rfl, pk_sub (ub_lo.1 hz)]
        rfl
      · rw [if_neg (by decide), if_neg (by decide), if_pos (show nI 3 = 3 from rfl), lo_ll, show (224 : Int32) = nI 224 from rfl, pk_sub (ub_lo.2.1 hz)]
        rfl
      · rw [if_neg (by decide), if_neg (by decide), if_neg (by decide), lo_ll, show (240 : Int32) = nI 240 from rfl, pk_sub (ub_lo.2.2 hz)]
        rfl
    rw [e0]
    constructor
    · intro w
      refine L.1 ⟨by have := w.2.2.1; rw [hz] at this; exact this, by have := w.2.2.2; rw [hz] at this; exact this⟩
    · intro w
      refine L.2 (fun y => w ⟨by rw [hz]; exact q0, by rw [hz]; exact q1, by rw [hz]; exact y.1, by rw [hz]; exact y.2⟩)
  · rw [if_neg (nI_ge (by omega) (by omega))]
    exact ⟨fun w => absurd (by have := w.2.1; rw [hz] at this; exact this) q1, fun _ => rfl⟩
end
