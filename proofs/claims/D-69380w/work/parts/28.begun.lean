/-! The law's first steps: both constructors have run. -/
def cq_f (l : List (Nat × Nat × Nat)) (o : Nat) : List (Nat × Nat) := l.filterMap (fun q => bif Nat.beq q.1 o then some q.2 else none)
theorem cq_ff (o k : Nat) : ∀ l : List (Nat × Nat × Nat), (l.find? (fun q => Nat.beq q.1 o && Nat.beq q.2.1 k)).map (fun q => q.2.2) = ((cq_f l o).find? (fun q => Nat.beq q.1 k)).map (fun q => q.2)
  | [] => rfl
  | q :: l => by
    unfold cq_f
    rw [List.find?_cons, List.filterMap_cons]
    have ih := cq_ff o k l
    unfold cq_f at ih
    cases h1 : Nat.beq q.1 o with
    | false =>
      simp only [Bool.false_and, cond_false]
      exact ih
    | true =>
      simp only [Bool.true_and, cond_true, List.find?_cons]
      cases h2 : Nat.beq q.2.1 k with
      | false => exact ih
      | true => rfl
theorem cq_kl : ((List.range 976).all fun n => vq_2 [aj_kl cq_m (n + 32)] [v0_kl (n + 32)]) = true := by decide +kernel
theorem cq_bk_a : ((List.range 61).all fun n => vq_2 (cq_f cq_m.2.2.1 (n + 32)) (v0_bk (n + 32))) = true := by decide +kernel
theorem cq_bk_b : ((List.range 61).all fun n => vq_2 (cq_f cq_m.2.2.1 (n + 93)) (v0_bk (n + 93))) = true := by decide +kernel
theorem cq_bk_c : ((List.range 61).all fun n => vq_2 (cq_f cq_m.2.2.1 (n + 154)) (v0_bk (n + 154))) = true := by decide +kernel
theorem cq_bk_d : ((List.range 61).all fun n => vq_2 (cq_f cq_m.2.2.1 (n + 215)) (v0_bk (n + 215))) = true := by decide +kernel
theorem cq_bk_e : ((List.range 61).all fun n => vq_2 (cq_f cq_m.2.2.1 (n + 276)) (v0_bk (n + 276))) = true := by decide +kernel
theorem cq_bk_f : ((List.range 61).all fun n => vq_2 (cq_f cq_m.2.2.1 (n + 337)) (v0_bk (n + 337))) = true := by decide +kernel
theorem cq_bk_g : ((List.range 61).all fun n => vq_2 (cq_f cq_m.2.2.1 (n + 398)) (v0_bk (n + 398))) = true := by decide +kernel
theorem cq_bk_h : ((List.range 61).all fun n => vq_2 (cq_f cq_m.2.2.1 (n + 459)) (v0_bk (n + 459))) = true := by decide +kernel
theorem cq_bk_i : ((List.range 61).all fun n => vq_2 (cq_f cq_m.2.2.1 (n + 520)) (v0_bk (n + 520))) = true := by decide +kernel
theorem cq_bk_j : ((List.range 61).all fun n => vq_2 (cq_f cq_m.2.2.1 (n + 581)) (v0_bk (n + 581))) = true := by decide +kernel
theorem cq_bk_k : ((List.range 61).all fun n => vq_2 (cq_f cq_m.2.2.1 (n + 642)) (v0_bk (n + 642))) = true := by decide +kernel
theorem cq_bk_l : ((List.range 61).all fun n => vq_2 (cq_f cq_m.2.2.1 (n + 703)) (v0_bk (n + 703))) = true := by decide +kernel
theorem cq_bk_m : ((List.range 61).all fun n => vq_2 (cq_f cq_m.2.2.1 (n + 764)) (v0_bk (n + 764))) = true := by decide +kernel
theorem cq_bk_n : ((List.range 61).all fun n => vq_2 (cq_f cq_m.2.2.1 (n + 825)) (v0_bk (n + 825))) = true := by decide +kernel
theorem cq_bk_o : ((List.range 61).all fun n => vq_2 (cq_f cq_m.2.2.1 (n + 886)) (v0_bk (n + 886))) = true := by decide +kernel
theorem cq_bk_p : ((List.range 61).all fun n => vq_2 (cq_f cq_m.2.2.1 (n + 947)) (v0_bk (n + 947))) = true := by decide +kernel
theorem cq_bk {i : Nat} (h1 : 32 ≤ i) (h2 : i < 1008) : cq_f cq_m.2.2.1 i = v0_bk i := by
  rcases Nat.lt_or_ge i 93 with q | q
  · have := vq_2s (List.all_eq_true.mp cq_bk_a (i - 32) (List.mem_range.mpr (by omega)))
    rw [show i - 32 + 32 = i by omega] at this
    exact this
  rcases Nat.lt_or_ge i 154 with q | q
  · have := vq_2s (List.all_eq_true.mp cq_bk_b (i - 93) (List.mem_range.mpr (by omega)))
    rw [show i - 93 + 93 = i by omega] at this
    exact this
  rcases Nat.lt_or_ge i 215 with q | q
  · have := vq_2s (List.all_eq_true.mp cq_bk_c (i - 154) (List.mem_range.mpr (by omega)))
    rw [show i - 154 + 154 = i by omega] at this
    exact this
  rcases Nat.lt_or_ge i 276 with q | q
  · have := vq_2s (List.all_eq_true.mp cq_bk_d (i - 215) (List.mem_range.mpr (by omega)))
    rw [show i - 215 + 215 = i by omega] at this
    exact this
  rcases Nat.lt_or_ge i 337 with q | q
  · have := vq_2s (List.all_eq_true.mp cq_bk_e (i - 276) (List.mem_range.mpr (by omega)))
    rw [show i - 276 + 276 = i by omega] at this
    exact this
  rcases Nat.lt_or_ge i 398 with q | q
  · have := vq_2s (List.all_eq_true.mp cq_bk_f (i - 337) (List.mem_range.mpr (by omega)))
    rw [show i - 337 + 337 = i by omega] at this
    exact this
  rcases Nat.lt_or_ge i 459 with q | q
  · have := vq_2s (List.all_eq_true.mp cq_bk_g (i - 398) (List.mem_range.mpr (by omega)))
    rw [show i - 398 + 398 = i by omega] at this
    exact this
  rcases Nat.lt_or_ge i 520 with q | q
  · have := vq_2s (List.all_eq_true.mp cq_bk_h (i - 459) (List.mem_range.mpr (by omega)))
    rw [show i - 459 + 459 = i by omega] at this
    exact this
  rcases Nat.lt_or_ge i 581 with q | q
  · have := vq_2s (List.all_eq_true.mp cq_bk_i (i - 520) (List.mem_range.mpr (by omega)))
    rw [show i - 520 + 520 = i by omega] at this
    exact this
  rcases Nat.lt_or_ge i 642 with q | q
  · have := vq_2s (List.all_eq_true.mp cq_bk_j (i - 581) (List.mem_range.mpr (by omega)))
    rw [show i - 581 + 581 = i by omega] at this
    exact this
  rcases Nat.lt_or_ge i 703 with q | q
  · have := vq_2s (List.all_eq_true.mp cq_bk_k (i - 642) (List.mem_range.mpr (by omega)))
    rw [show i - 642 + 642 = i by omega] at this
    exact this
  rcases Nat.lt_or_ge i 764 with q | q
  · have := vq_2s (List.all_eq_true.mp cq_bk_l (i - 703) (List.mem_range.mpr (by omega)))
    rw [show i - 703 + 703 = i by omega] at this
    exact this
  rcases Nat.lt_or_ge i 825 with q | q
  · have := vq_2s (List.all_eq_true.mp cq_bk_m (i - 764) (List.mem_range.mpr (by omega)))
    rw [show i - 764 + 764 = i by omega] at this
    exact this
  rcases Nat.lt_or_ge i 886 with q | q
  · have := vq_2s (List.all_eq_true.mp cq_bk_n (i - 825) (List.mem_range.mpr (by omega)))
    rw [show i - 825 + 825 = i by omega] at this
    exact this
  rcases Nat.lt_or_ge i 947 with q | q
  · have := vq_2s (List.all_eq_true.mp cq_bk_o (i - 886) (List.mem_range.mpr (by omega)))
    rw [show i - 886 + 886 = i by omega] at this
    exact this
  rcases Nat.lt_or_ge i 1008 with q | q
  · have := vq_2s (List.all_eq_true.mp cq_bk_p (i - 947) (List.mem_range.mpr (by omega)))
    rw [show i - 947 + 947 = i by omega] at this
    exact this
  omega
theorem cq_hi {i : Nat} (h : 1008 ≤ i) : v0_kl i = (99, 0) ∧ v0_bk i = [] := by
  have q : ∀ n, n ≤ 1008 → Nat.blt i n = false := fun n hn => blt_f (by omega)
  have e : ∀ n, n < 1008 → Nat.beq i n = false := fun n hn => beq_f (by omega)
  constructor
  · unfold v0_kl
    simp only [q 55 (by decide), q 775 (by decide), q 855 (by decide), q 903 (by decide), q 943 (by decide), q 1008 (by decide), cond_false]
  · unfold v0_bk
    simp only [e 50 (by decide), e 51 (by decide), e 879 (by decide), e 886 (by decide), e 889 (by decide), q 775 (by decide), q 855 (by decide), q 872 (by decide), q 874 (by decide), q 943 (by decide), e 943 (by decide), Bool.and_false, cond_false]
theorem cq_V {L : Nat} {xs : Nat → Int32} {H : am_M} (K : aj_ok cq_m (h0 L xs) H) : H.1 = v0 L := by
  obtain ⟨⟨k1, k2, k3, k4, k5, k6, k7, k8⟩, c1, c2, c3, c4, c5⟩ := K
  have hm : cq_m.1 = 1008 := rfl
  have kl : ∀ i, 32 ≤ i → i < 1008 → aj_kl cq_m i = v0_kl i := fun i h1 h2 => by
    have := vq_2s (List.all_eq_true.mp cq_kl (i - 32) (List.mem_range.mpr (by omega)))
    rw [show i - 32 + 32 = i by omega] at this
    exact (List.cons.inj this).1
  have bk : ∀ i, 32 ≤ i → i < 1008 → cq_f cq_m.2.2.1 i = v0_bk i := fun i h1 h2 => cq_bk h1 h2
  refine Prod.ext (funext fun i => ?_) (Prod.ext (funext fun i => ?_) (funext fun o => funext fun k => ?_))
  · show am_kd H.1 i = v0_kd i
    unfold v0_kd
    rcases Nat.lt_or_ge i 32 with h | h
    · rw [blt_t h, (c5 i h).1]; rfl
    · rw [blt_f (show ¬ i < 32 by omega)]
      rcases Nat.lt_or_ge i 1008 with h2 | h2
      · rw [(k4 i h (by omega)).1, kl i h h2]; rfl
      · rw [(k8 i (by omega)).1, (cq_hi h2).1]; exact h0_big i h
  · show am_ln H.1 i = v0_ln L i
    unfold v0_ln
    rcases Nat.lt_or_ge i 32 with h | h
    · rw [blt_t h, (c5 i h).2.1]; rfl
    · rw [blt_f (show ¬ i < 32 by omega)]
      rcases Nat.lt_or_ge i 1008 with h2 | h2
      · rw [(k4 i h (by omega)).2, kl i h h2]; rfl
      · rw [(k8 i (by omega)).2, (cq_hi h2).1]
        show h0_ln L i = 0
        unfold h0_ln
        rw [beq_f (show i ≠ 0 by omega), blt_f (show ¬ i < 16 by omega), beq_f (show i ≠ 16 by omega), blt_f (show ¬ i < 20 by omega)]
        rfl
  · show am_fr H.1 o k = v0_fr o k
    unfold v0_fr
    rcases Nat.lt_or_ge o 32 with h | h
    · rw [blt_t h, ((c5 o h).2.2 k).1]; rfl
    · rw [blt_f (show ¬ o < 32 by omega), k6 o k h]
      rcases Nat.lt_or_ge o 1008 with h2 | h2
      · unfold aj_fr
        rw [cq_ff, bk o h h2]
        rfl
      · rw [aj_fr_no k7 (by omega), (cq_hi h2).2]; rfl
/-- the changing memory when both constructors have run -/
def g0_ok (xs : Nat → Int32) (g : am_G) : Prop := am_sz g = 1008 ∧ am_us g = 388717 ∧ (∀ o k, 32 ≤ o → am_i g o k = aj_i cq_m o k) ∧ (∀ o k, 32 ≤ o → am_j g o k = 0 ∧ am_r g o k = none) ∧
  ∀ o k, o < 32 → am_i g o k = h0_i xs o k
theorem g0_run (L : Nat) (xs : Nat → Int32) : ∃ g, g0_ok xs g ∧ ∀ o h', ai_ev ap_P 1 (16, [some (.ref 0), some (.ref 32), some (.ref 943), none], [], (v0 L, g)) o h' → ai_ev ap_P 1 (0, ai_fil (ai_ar [.ref 0]) 4, [], h0 L xs) o h' := by
  have K0 : aj_ok (32, [], [], [], 0) (h0 L xs) (h0 L xs) := by
    refine ⟨⟨rfl, Nat.le_refl _, rfl, fun i h1 h2 => absurd h2 (Nat.not_lt.mpr h1), ⟨rfl, rfl, fun _ => rfl⟩, fun o k h => ?_, fun q hq => (nomatch hq), fun i _ => ⟨rfl, rfl⟩⟩, fun o k h => ?_, fun q hq => (nomatch hq), fun o k h => ⟨rfl, rfl⟩, rfl, fun o h => ⟨rfl, rfl, fun k => ⟨rfl, rfl, rfl, rfl⟩⟩⟩
    · show h0_fr o k = none
      unfold h0_fr
      rw [beq_f (show o ≠ 16 by omega)]; rfl
    · show h0_i xs o k = 0
      unfold h0_i
      rw [beq_f (show o ≠ 0 by omega), blt_f (show ¬ o < 11 by omega), blt_f (show ¬ o < 16 by omega), blt_f (show ¬ o < 20 by omega)]; rfl
  have j1 : cq_j 1 (0, [some (.ref 0), none, none, none], [], (32, [], [], [], 0)) (7, [some (.ref 0), none, none, none], [.ref 32], cq_r) := by
    refine cq_tr (cq_un 10 (q := 4) (t := (4, [some (.ref 0), none, none, none], [.ref 32, .ref 32], cq_h)) (vq_qs (by decide +kernel))) ?_
    exact cq_cl (cal := 2) (as := [.ref 32]) (t := (7, [some (.ref 0), none, none, none], [.ref 32], cq_h)) (v := none) (m := cq_r) (vq_cs (by decide +kernel)) cq_2
  obtain ⟨H1, K1, e1⟩ := j1 _ _ K0
  have j2 : cq_j 1 (8, [some (.ref 0), some (.ref 32), none, none], [], cq_r) (15, [some (.ref 0), some (.ref 32), none, none], [.ref 943], cq_m) := by
    refine cq_tr (cq_un 10 (q := 12) (t := (12, [some (.ref 0), some (.ref 32), none, none], [.ref 943, .ref 943], cq_m0)) (vq_qs (by decide +kernel))) ?_
    exact cq_cl (cal := 12) (as := [.ref 943]) (t := (15, [some (.ref 0), some (.ref 32), none, none], [.ref 943], cq_m0)) (v := none) (m := cq_m) (vq_cs (by decide +kernel)) cq_12
  obtain ⟨H2, K2, e2⟩ := j2 _ _ K1
  refine ⟨H2.2, ⟨K2.1.1, K2.2.2.2.2.1, K2.2.1, K2.2.2.2.1, fun o k h => ((K2.2.2.2.2.2 o h).2.2 k).2.1⟩, fun o h' q => ?_⟩
  refine e1 o h' (ev_step (t := (8, [some (.ref 0), some (.ref 32), none, none], [], H1)) rfl (e2 o h' (ev_step (t := (16, [some (.ref 0), some (.ref 32), some (.ref 943), none], [], H2)) rfl ?_)))
  rw [show H2 = (v0 L, H2.2) from Prod.ext (cq_V K2) rfl]
  exact q
