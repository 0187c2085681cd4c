/-! The law's loop: if a judgement is right, the law holds. -/
theorem iv_up {xs : Nat → Int32} {j : Nat} {g : am_G} (K : iv_ok xs j g) : iv_ok xs (j + 1) g := by
  obtain ⟨k1, k2, k3, k4, k5, k6, k7, k8, k9, k10, k11, k12⟩ := K
  exact ⟨k1, k2, k3, k4, k5, k6, k7, k8, k9, k10, by omega, by omega⟩
theorem lg_eq (a : Int64) : lg_cmp a a = 0 := by
  unfold lg_cmp
  simp
/-- one call of the script -/
theorem lw_s {L i j : Nat} {xs : Nat → Int32} {g : am_G} (J : jd_ok) (hL : L ≤ 24576) (hi : i + 6 ≤ L) (K : iv_ok xs j g) (k : (am_G × Int32) → Option (Int32 × am_G)) : ∃ g', iv_ok xs (j + 1) g' ∧ fb_1_18 L k g (nI i) = k (g', nI (i + 6)) := by
  have hx : ∀ {h : am_G}, (∀ q, am_i h 0 q = xs q) → ∀ d, am_i h 0 d = xs d := fun h d => h d
  have a : ∀ d, d < 6 → ai_in (nI (i + d)) L = true := fun d hd => ai_nI (by omega) (by omega)
  have c : ∀ d, d < 6 → (nI (i + d)).toNatClampNeg = i + d := fun d hd => nI_clamp (by omega)
  unfold fb_1_18
  have a0 : ai_in (nI i) L = true := ai_nI (by omega) (by omega)
  rw [show (6 : Int32) = nI 6 from rfl, pk_sub (by omega), if_neg (nI_nlt (show i ≤ L - 6 by omega) (by omega)), a0, lo_gt]
  simp only [show (1 : Int32) = nI 1 from rfl, show (2 : Int32) = nI 2 from rfl, show (3 : Int32) = nI 3 from rfl, show (4 : Int32) = nI 4 from rfl, show (5 : Int32) = nI 5 from rfl, nI_add, a 1 (by decide), a 2 (by decide), a 3 (by decide), a 4 (by decide), a 5 (by decide), lo_gt, c 1 (by decide), c 2 (by decide), c 3 (by decide), c 4 (by decide), c 5 (by decide)]
  have K1 := iv_up K
  obtain ⟨f0, f1, f2, f3, f4, f5, f6, _⟩ := id K
  split
  · obtain ⟨r, g1, g2, e1, e2, e3, e4⟩ := iv_feed K (am_i g 0 (i + 1)) (am_i g 0 (i + 2)) (am_i g 0 (i + 3)) (am_i g 0 (i + 4)) (am_i g 0 (i + 5))
    refine ⟨g2, iv_up e4, ?_⟩
    rw [e1, lo_is, e2 (i + 1), e2 (i + 2), e2 (i + 3), e2 (i + 4), e2 (i + 5), ← f1 (i + 1), ← f1 (i + 2), ← f1 (i + 3), ← f1 (i + 4), ← f1 (i + 5), e3, lo_is, if_pos rfl]
  · split
    · obtain ⟨r, g1, g2, e1, e2, e3, e4⟩ := J xs j g (am_i g 0 (i + 1)) (am_i g 0 (i + 2)) K
      refine ⟨g2, e4, ?_⟩
      rw [e1, lo_is, e2 (i + 1), e2 (i + 2), ← f1 (i + 1), ← f1 (i + 2), e3, lo_is, if_pos rfl]
    · split
      · refine ⟨g, K1, ?_⟩
        unfold fm_6 fm_139
        rw [lo_ps, lo_ps, if_pos f3.symm]
      · split
        · refine ⟨g, K1, ?_⟩
          unfold fm_7 fm_140
          rw [lo_ps, lo_ps, if_pos f4.symm]
        · split
          · refine ⟨g, K1, ?_⟩
            unfold fm_8 fm_141
            rw [lo_ps, lo_ps, if_pos f5.symm]
          · split
            · refine ⟨g, K1, ?_⟩
              unfold fm_9 fm_142
              rw [lo_ps, lo_ps, if_pos f6.symm]
            · split
              · obtain ⟨r, g1, g2, e1, e2, e3, e4⟩ := iv_fetch K
                refine ⟨g2, iv_up e4, ?_⟩
                rw [e1, lo_is, e3, lo_is, lg_eq, if_pos rfl]
              · split
                · obtain ⟨r, e1, e2⟩ := iv_count K (am_i g 0 (i + 1))
                  refine ⟨g, K1, ?_⟩
                  rw [e1, lo_ps, e2, lo_ps, if_pos rfl]
                · exact ⟨g, K1, rfl⟩
theorem iv_0 {xs : Nat → Int32} {g : am_G} (h : g0_ok xs g) : iv_ok xs 0 g := by
  obtain ⟨h1, h2, h3, h4, h5⟩ := h
  have z : ∀ o k, 32 ≤ o → aj_i cq_m o k = 0 → am_i g o k = 0 := fun o k ho e => (h3 o k ho).trans e
  have st : gs_ok g := by
    refine ⟨fun k hk => (h5 17 k (by decide)).trans (h0_i3 xs (by decide) (by decide)), fun k hk => (h5 18 k (by decide)).trans (h0_i3 xs (by decide) (by decide)), fun k hk => (h5 19 k (by decide)).trans (h0_i3 xs (by decide) (by decide)), fun o o1 o2 => (h5 o 0 (by omega)).trans (h0_i1 xs o1 o2), ?_, ?_, ?_, ?_, ?_⟩
    · rw [h5 11 0 (by decide)]; rfl
    · rw [h5 12 0 (by decide)]; rfl
    · rw [h5 13 0 (by decide)]; rfl
    · rw [h5 14 0 (by decide)]; rfl
    · rw [h5 15 0 (by decide)]; rfl
  refine ⟨st, fun k => (h5 0 k (by decide)).trans rfl, ⟨0, z 32 1 (by decide) rfl, z 943 1 (by decide) rfl, by decide, fun k hk => absurd hk (Nat.not_lt_zero _)⟩, ?_, ?_, ?_, ?_, ⟨[], ⟨z 872 2 (by decide) rfl, fun i b q => (nomatch q)⟩, z 872 3 (by decide) rfl, by decide, fun b q => (nomatch q), 0, z 943 139 (by decide) rfl, z 943 138 (by decide) rfl, by decide, fun i b q => (nomatch q)⟩, ?_, by omega, by omega, by omega⟩
  · rw [z 943 142 (by decide) rfl, z 33 11 (by decide) rfl]
  · rw [h3 943 143 (by decide), h3 33 12 (by decide)]; rfl
  · rw [z 943 144 (by decide) rfl, z 33 13 (by decide) rfl]
  · rw [z 943 145 (by decide) rfl, z 33 14 (by decide) rfl]
  · left
    refine ⟨z 943 146 (by decide) rfl, z 39 6 (by decide) rfl, z 49 5 (by decide) rfl, ?_, z 49 6 (by decide) rfl, z 33 15 (by decide) rfl⟩
    rw [z 855 5 (by decide) rfl, z 861 5 (by decide) rfl]
    rfl
/-- a right judgement gives the claim -/
theorem fc_jd (J : jd_ok) : fm_claim := by
  intro L xs g hL hg
  unfold fm_1 fh_1_18
  have := lo_F (b := fun k (x : am_G × Int32) => fb_1_18 L k x.1 x.2) (fun x => ∃ j, 6 * j ≤ L + 6 ∧ x.2 = nI (6 * j) ∧ iv_ok xs j x.1) (fun x => L + 12 - x.2.toNatClampNeg) (fun _ r => ∃ g', r = some (1, g') ∧ am_sz g' ≤ 608224 ∧ am_us g' ≤ 7228522) ?_ (g, 0) ⟨0, by omega, rfl, iv_0 hg⟩ ?_
  · obtain ⟨g', e, h1, h2⟩ := this
    exact ⟨g', e, h1, h2⟩
  · rintro k ⟨g, u⟩ ⟨j, hj, e, K⟩ ih
    dsimp only at e K ih ⊢
    subst e
    by_cases q : 6 * j + 6 ≤ L
    · obtain ⟨g', K', e⟩ := lw_s J hL q K k
      rw [e]
      refine ih _ ⟨j + 1, by omega, by rw [show 6 * (j + 1) = 6 * j + 6 by omega], K'⟩ ?_
      dsimp only
      rw [nI_clamp (by omega), nI_clamp (by omega)]
      omega
    · refine ⟨g, ?_, by have := K.2.2.2.2.2.2.2.2.2.2.1; omega, by have := K.2.2.2.2.2.2.2.2.2.2.2; omega⟩
      unfold fb_1_18
      rw [if_pos]
      rw [Int32.lt_iff_toInt_lt, show (6 : Int32) = nI 6 from rfl, pk_sub_toInt (by omega) (by decide), nI_toInt (by omega)]
      omega
  · show L + 12 - (0 : Int32).toNatClampNeg < 1000000000
    omega
theorem vc_jd (J : jd_ok) : Claimed_1_1 ∧ Claimed_1_2 := vc_fm (fc_jd J)
