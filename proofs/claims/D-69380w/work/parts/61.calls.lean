/-! The calls other than judge keep what the law sees. -/
def ft_S (o k : Nat) : Bool := fe_S o k || ff_S o k
theorem ft_1 {g h : am_G} (f : fx_i fe_S g h) : fx_i ft_S g h := fx_wk f fun o k q => by
  unfold ft_S at q
  cases z : fe_S o k with
  | false => rfl
  | true => rw [z] at q; cases q
theorem ft_2 {g h : am_G} (f : fx_i ff_S g h) : fx_i ft_S g h := fx_wk f fun o k q => by
  unfold ft_S at q
  cases z : ff_S o k with
  | false => rfl
  | true => rw [z, Bool.or_true] at q; cases q
theorem iv_f {xs : Nat → Int32} {j f : Nat} {g h : am_G} (K : iv_ok xs j g) (F : fx_i ft_S g h) (b : by_ok h f) : iv_ok xs j h := by
  obtain ⟨k1, k2, k3, k4, k5, k6, k7, ⟨bs, k8⟩, k9, k10, k11, k12⟩ := K
  have lo : ∀ o k, o < 32 → am_i h o k = am_i g o k := fun o k ho => (F.1 o k (by
    unfold ft_S fe_S ff_S
    rw [beq_f (show o ≠ 34 by omega), beq_f (show o ≠ 32 by omega), beq_f (show o ≠ 944 by omega), beq_f (show o ≠ 943 by omega)]
    rfl)).1
  have c : ∀ o k, ft_S o k = false → am_i h o k = am_i g o k := fun o k q => (F.1 o k q).1
  have z : am_sz h = am_sz g ∧ am_us h = am_us g := ⟨congrArg (fun x => x.1) F.2.1, congrArg (fun x => x.2) F.2.1⟩
  refine ⟨gs_lo k1 lo, fun k => (lo 0 k (by decide)).trans (k2 k), ⟨f, b⟩, ?_, ?_, ?_, ?_, ⟨bs, ?_⟩, ?_, by rw [z.1]; exact k10, by rw [z.1]; exact k11, by rw [z.2]; exact k12⟩
  · rw [c 943 142 rfl, c 33 11 rfl]; exact k4
  · rw [c 943 143 rfl, c 33 12 rfl]; exact k5
  · rw [c 943 144 rfl, c 33 13 rfl]; exact k6
  · rw [c 943 145 rfl, c 33 14 rfl]; exact k7
  · obtain ⟨l1, l2, l3, l4, t, l5, l6, l7, l8⟩ := k8
    refine ⟨re_cg l1 (c 872 2 rfl) (fun k => c 873 k rfl), (c 872 3 rfl).trans l2, l3, l4, t, (c 943 139 rfl).trans l5, (c 943 138 rfl).trans l6, l7, fun i b q => ?_⟩
    have := l8 i b q
    exact ⟨fun y => (c 1006 _ rfl).trans (this.1 y), fun y => (c 1007 _ rfl).trans (this.2 y)⟩
  · unfold cn_ok at k9 ⊢
    rw [c 943 146 rfl, c 39 6 rfl, c 49 5 rfl, c 855 5 rfl, c 861 5 rfl, c 49 6 rfl, c 33 15 rfl, c 943 14 rfl, c 943 49 rfl, c 943 95 rfl, c 943 77 rfl, c 943 112 rfl]
    exact k9
/-- five words on each side -/
theorem iv_feed {xs : Nat → Int32} {j : Nat} {g : am_G} (K : iv_ok xs j g) (a b c d e : Int32) : ∃ r g1 g2, fm_4 g a b c d e = some (r, g1) ∧ (∀ k, am_i g1 0 k = xs k) ∧ fm_14 g1 a b c d e = some (r, g2) ∧ iv_ok xs j g2 := by
  obtain ⟨f, b1, b2, b3, b4⟩ := K.2.2.1
  unfold fm_4 fm_14
  by_cases q : f + 20 ≤ 6000
  · obtain ⟨r1, a1, a2, a3, _, _⟩ := cm_3 a b1 (by omega)
    obtain ⟨r2, c1, c2, c3, _, _⟩ := cm_3 b a3 (by omega)
    obtain ⟨r3, d1, d2, d3, _, _⟩ := cm_3 c c3 (by omega)
    obtain ⟨r4, e1, e2, e3, _, _⟩ := cm_3 d d3 (by omega)
    obtain ⟨r5, f1, f2, f3, _, _⟩ := cm_3 e e3 (by omega)
    have F : fx_i fe_S g r5 := fx_tr (fx_tr (fx_tr (fx_tr a2 c2) d2) e2) f2
    have m0 : am_i r5 943 1 = nI f := ((F.1 943 1 rfl).1).trans b2
    have mb : ∀ k, k < f → ∃ b, b < 256 ∧ am_i g 34 k = e8_b b ∧ am_i r5 944 k = nI b := fun k hk => by
      obtain ⟨x, x1, x2, x3⟩ := b4 k hk
      exact ⟨x, x1, x2, ((F.1 944 k rfl).1).trans x3⟩
    obtain ⟨s1, m1, t1, u1, _, v1, w1, x1, y1⟩ := by_w a b1 m0 (by omega) mb
    obtain rfl : r1 = s1 := Option.some.inj (a1.symm.trans t1)
    obtain ⟨s2, m2, t2, u2, _, v2, w2, x2, y2⟩ := by_w b w1 x1 (by omega) y1
    obtain rfl : r2 = s2 := Option.some.inj (c1.symm.trans t2)
    obtain ⟨s3, m3, t3, u3, _, v3, w3, x3, y3⟩ := by_w c w2 x2 (by omega) y2
    obtain rfl : r3 = s3 := Option.some.inj (d1.symm.trans t3)
    obtain ⟨s4, m4, t4, u4, _, v4, w4, x4, y4⟩ := by_w d w3 x3 (by omega) y3
    obtain rfl : r4 = s4 := Option.some.inj (e1.symm.trans t4)
    obtain ⟨s5, m5, t5, u5, _, v5, w5, x5, y5⟩ := by_w e w4 x4 (by omega) y4
    obtain rfl : r5 = s5 := Option.some.inj (f1.symm.trans t5)
    have F2 : fx_i ff_S r5 m5 := fx_tr (fx_tr (fx_tr (fx_tr v1 v2) v3) v4) v5
    refine ⟨1, r5, m5, ?_, ?_, ?_, ?_⟩
    · rw [b1, show (20 : Int32) = nI 20 from rfl, nI_add, show (6000 : Int32) = nI 6000 from rfl, if_pos (nI_le q (by decide)), a1, lo_ps, c1, lo_ps, d1, lo_ps, e1, lo_ps, f1, lo_ps]
    · intro k; exact ((F.1 0 k rfl).1).trans (K.2.1 k)
    · rw [m0, show (20 : Int32) = nI 20 from rfl, nI_add, show (6000 : Int32) = nI 6000 from rfl, if_pos (nI_le q (by decide)), u1, lo_ps, u2, lo_ps, u3, lo_ps, u4, lo_ps, u5, lo_ps]
    · refine iv_f K (fx_tr (ft_1 F) (ft_2 F2)) (f := f + 20) ⟨((F2.1 32 1 rfl).1).trans w5, x5, q, fun k hk => ?_⟩
      obtain ⟨x, z1, z2, z3⟩ := y5 k hk
      exact ⟨x, z1, ((F2.1 34 k rfl).1).trans z2, z3⟩
  · refine ⟨0, g, g, ?_, K.2.1, ?_, K⟩
    · rw [b1, show (20 : Int32) = nI 20 from rfl, nI_add, show (6000 : Int32) = nI 6000 from rfl, if_neg (nI_ge (by omega) (by omega))]
    · rw [b2, show (20 : Int32) = nI 20 from rfl, nI_add, show (6000 : Int32) = nI 6000 from rfl, if_neg (nI_ge (by omega) (by omega))]
theorem iv_count {xs : Nat → Int32} {j : Nat} {g : am_G} (K : iv_ok xs j g) (a : Int32) : ∃ r, fm_11 g a = some r ∧ fm_144 g a = some r := by
  obtain ⟨_, _, ⟨f, b1, b2, _⟩, _, _, _, _, ⟨bs, l1, _, _, _, t, l5, l6, l7, _⟩, k9, _⟩ := K
  have el : am_i g 943 138 - am_i g 943 139 = am_i g 872 2 := by
    rw [l5, l6, l1.1, pk_sub (by omega)]
    congr 1
    omega
  unfold fm_11 fm_144
  rw [el, b1, b2]
  by_cases h0 : a = 0
  · rw [if_pos h0, if_pos h0]; exact ⟨_, rfl, rfl⟩
  rw [if_neg h0, if_neg h0]
  by_cases h1 : a = 1
  · rw [if_pos h1, if_pos h1]; exact ⟨_, rfl, rfl⟩
  rw [if_neg h1, if_neg h1]
  rcases k9 with ⟨r, c2, c3, c4, c5, c6⟩ | ⟨r, c2, c3, c4, c5, c6⟩
  · rw [r, c2, c3, c4, c5, c6]
    repeat' split
    all_goals first | exact ⟨_, rfl, rfl⟩ | (rename_i h; exact absurd rfl h)
  · rw [r, c2, c3, c4, c5, c6]
    simp only [if_neg (show ¬ (1 : Int32) = 0 by decide)]
    repeat' split
    all_goals exact ⟨_, rfl, rfl⟩
