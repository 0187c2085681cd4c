/-! The constructors' run: AI over a list of operations, which the kernel can run. -/
/-- the size; kinds and lengths, references, ints, the latest first; slots -/
abbrev aj_M : Type := Nat × List (Nat × Nat) × List (Nat × Nat × Nat) × List (Nat × Nat × Int32) × Nat
def aj_kl (m : aj_M) (i : Nat) : Nat × Nat := bif Nat.blt i m.1 then m.2.1.getD (m.1 - 1 - i) (99, 0) else (99, 0)
def aj_fr (m : aj_M) (o k : Nat) : Option Nat := (m.2.2.1.find? (fun q => Nat.beq q.1 o && Nat.beq q.2.1 k)).map (fun q => q.2.2)
def aj_i (m : aj_M) (o k : Nat) : Int32 := ((m.2.2.2.1.find? (fun q => Nat.beq q.1 o && Nat.beq q.2.1 k)).map (fun q => q.2.2)).getD 0
def aj_new (m : aj_M) (k l n : Nat) : aj_M := (m.1 + 1, (k, l) :: m.2.1, m.2.2.1, m.2.2.2.1, m.2.2.2.2 + n)
def aj_set (m : aj_M) (a k v : Nat) : aj_M := (m.1, m.2.1, (a, k, v) :: m.2.2.1, m.2.2.2)
def aj_int (m : aj_M) (a k : Nat) (x : Int32) : aj_M := (m.1, m.2.1, m.2.2.1, (a, k, x) :: m.2.2.2.1, m.2.2.2.2)
def aj_cln (m : aj_M) : aj_M := (m.1 + 1, (127, 10) :: m.2.1, (m.1, 0, 1) :: (m.1, 1, 2) :: (m.1, 2, 3) :: (m.1, 3, 4) :: (m.1, 4, 5) :: (m.1, 5, 6) :: (m.1, 6, 7) :: (m.1, 7, 8) :: (m.1, 8, 9) :: (m.1, 9, 10) :: m.2.2.1, m.2.2.2.1, m.2.2.2.2 + 10)
abbrev aj_S : Type := Nat × List (Option Value) × List Value × aj_M
abbrev aj_R : Type := aj_S ⊕ ((Nat × List Value × aj_S) ⊕ (ai_O × aj_M))
def aj_r (R : aj_R) (H : am_M) : ai_R := match R with
  | .inl s => .inl (s.1, s.2.1, s.2.2.1, H)
  | .inr (.inl q) => .inr (.inl (q.1, q.2.1, (q.2.2.1, q.2.2.2.1, q.2.2.2.2.1, H)))
  | .inr (.inr q) => .inr (.inr (q.1, H))
def aj_rm (R : aj_R) : aj_M := match R with
  | .inl s => s.2.2.2
  | .inr (.inl q) => q.2.2.2.2.2
  | .inr (.inr q) => q.2
def aj_pi (i : Instr) : Bool := match i with
  | .iconst _ => true
  | .bipush _ => true
  | .sipush _ => true
  | .aload_n _ => true
  | .iload_n _ => true
  | .istore_n _ => true
  | .iinc _ _ => true
  | .iadd => true
  | .dup => true
  | .goto _ => true
  | .if_icmp _ _ => true
  | .getstatic _ => true
  | _ => false
def aj_dm : am_M := ((fun _ => 0, fun _ => 0, fun _ _ => none), (fun _ _ => 0, fun _ _ => 0, fun _ _ => none, 0, 0))
def aj_sx (i : ai_J) (rz pc : Nat) (L : List (Option Value)) (st : List Value) (m : aj_M) : Option aj_R :=
  match i.1, st with
  | .getfield _, .ref o :: st => bif (Nat.beq (aj_kl m o).1 (ai_a i) && Nat.blt o m.1) && (Nat.beq (ai_c i) 3 && Nat.ble 32 o) then (match aj_fr m o (ai_b i) with
    | some v => some (.inl (pc + 3, L, .ref v :: st, m))
    | none => none) else none
  | .putfield _, .ref q :: .ref o :: st => bif (Nat.beq (aj_kl m o).1 (ai_a i) && Nat.blt o m.1) && (Nat.beq (ai_c i) 3 && Nat.ble 32 o) then some (.inl (pc + 3, L, st, aj_set m o (ai_b i) q)) else none
  | .putfield _, .int x :: .ref o :: st => bif ((Nat.beq (aj_kl m o).1 (ai_a i) && Nat.blt o m.1) && Nat.ble 32 o) && (Nat.beq (ai_c i) 0 || (Nat.beq (ai_c i) 4 && (decide (x = 0) || decide (x = 1)))) then some (.inl (pc + 3, L, st, aj_int m o (ai_b i) x)) else none
  | .newarray _, .int n :: st => bif decide (0 ≤ n) && Nat.ble n.toNatClampNeg 100000 then some (.inl (pc + 2, L, .ref m.1 :: st, aj_new m (ai_a i) n.toNatClampNeg n.toNatClampNeg)) else none
  | .anewarray _, .int n :: st => bif decide (0 ≤ n) && Nat.ble n.toNatClampNeg 100000 then some (.inl (pc + 3, L, .ref m.1 :: st, aj_new m (ai_a i) n.toNatClampNeg n.toNatClampNeg)) else none
  | .new _, st => bif Nat.beq (ai_a i) 0 then none else some (.inl (pc + 3, L, .ref m.1 :: st, aj_new m (ai_a i) 0 (ai_b i)))
  | .aastore, .ref q :: .int j :: .ref o :: st => bif (((Nat.beq (aj_kl m o).1 (ai_a i) && Nat.ble 32 o) && Nat.beq (aj_kl m q).1 (ai_b i)) && (Nat.ble 32 q && ai_in j (aj_kl m o).2)) && ((Nat.blt o m.1 && Nat.blt q m.1) && Nat.beq (ai_c i) 3) then some (.inl (pc + 1, L, st, aj_set m o j.toNatClampNeg q)) else none
  | .checkcast _, .ref o :: st => bif (Nat.beq (aj_kl m o).1 (ai_a i) && Nat.ble 32 o) && Nat.blt o m.1 then some (.inl (pc + 3, L, .ref o :: st, m)) else none
  | .invokespecial _, st => bif Nat.beq (ai_a i) 0 then (match st with
    | .ref _ :: st => bif Nat.ble (ai_cat st) 8 then some (.inl (pc + 3, L, st, m)) else none
    | _ => none) else match ai_pop (ai_b i) [] st with
      | some (.ref o :: as, r) => bif Nat.ble (ai_cat r) 8 then some (.inr (.inl (ai_a i, .ref o :: as, (pc + 3, L, r, m)))) else none
      | _ => none
  | .invokestatic _, st => match ai_pop (ai_b i) [] st with
    | some (as, r) => bif Nat.ble (ai_cat r) 8 then some (.inr (.inl (ai_a i, as, (pc + 3, L, r, m)))) else none
    | none => none
  | .invokevirtual _, .ref o :: st => bif Nat.beq (ai_a i) 0 && ((Nat.beq o 16 && Nat.beq (ai_c i) 127) && Nat.ble (ai_cat st) 8) then some (.inl (pc + 3, L, .ref m.1 :: st, aj_cln m)) else none
  | .return_, [] => bif Nat.beq rz 0 then some (.inr (.inr (.inl none, m))) else none
  | .areturn, [.ref x] => bif Nat.beq rz 4 then some (.inr (.inr (.inl (some (.ref x)), m))) else none
  | _, _ => bif aj_pi i.1 then (match ai_sx i rz pc L st aj_dm with
    | some (.inl s) => some (.inl (s.1, s.2.1, s.2.2.1, m))
    | _ => none) else none
def aj_oA (m : aj_M) (h H : am_M) : Prop := am_sz H.2 = m.1 ∧ 32 ≤ m.1 ∧ m.2.1.length = m.1 - 32 ∧
  (∀ i, 32 ≤ i → i < m.1 → am_kd H.1 i = (aj_kl m i).1 ∧ am_ln H.1 i = (aj_kl m i).2) ∧ (am_kd H.1 16 = 127 ∧ am_ln H.1 16 = 10 ∧ ∀ k, am_fr H.1 16 k = h0_fr 16 k) ∧
  (∀ o k, 32 ≤ o → am_fr H.1 o k = aj_fr m o k) ∧ (∀ q ∈ m.2.2.1, q.1 < m.1) ∧ ∀ i, m.1 ≤ i → am_kd H.1 i = am_kd h.1 i ∧ am_ln H.1 i = am_ln h.1 i
section
variable {m : aj_M} {h H : am_M}
theorem aj_kl_new {k l n i : Nat} (hi : i < m.1) (hl : m.2.1.length = m.1 - 32) (h3 : 32 ≤ i) : aj_kl (aj_new m k l n) i = aj_kl m i := by
  unfold aj_kl aj_new
  dsimp only
  rw [blt_t (show i < m.1 + 1 by omega), blt_t hi]
  dsimp only [cond_true]
  rw [show m.1 + 1 - 1 - i = (m.1 - 1 - i) + 1 by omega]
  rfl
theorem aj_kl_top {k l n : Nat} : aj_kl (aj_new m k l n) m.1 = (k, l) := by
  unfold aj_kl aj_new
  dsimp only
  rw [blt_t (show m.1 < m.1 + 1 by omega)]
  dsimp only [cond_true]
  rw [show m.1 + 1 - 1 - m.1 = 0 by omega]
  rfl
theorem aj_fr_lt {o k v : Nat} (hq : ∀ q ∈ m.2.2.1, q.1 < m.1) (hf : aj_fr m o k = some v) : o < m.1 := by
  unfold aj_fr at hf
  cases hc : m.2.2.1.find? (fun q => Nat.beq q.1 o && Nat.beq q.2.1 k) with
  | none => rw [hc] at hf; cases hf
  | some q =>
    have h1 := List.find?_some hc
    rw [Bool.and_eq_true] at h1
    rw [← Nat.eq_of_beq_eq_true h1.1]
    exact hq q (List.mem_of_find?_eq_some hc)
theorem aj_fr_no {o k : Nat} (hq : ∀ q ∈ m.2.2.1, q.1 < m.1) (ho : m.1 ≤ o) : aj_fr m o k = none := by
  cases hf : aj_fr m o k with
  | none => rfl
  | some v => have := aj_fr_lt hq hf; omega
theorem aj_oA.mk (K : aj_oA m h H) (k l n : Nat) : aj_oA (aj_new m k l n) h (am_new H k l n) := by
  obtain ⟨k1, k2, k3, k4, k5, k6, k7, k8⟩ := K
  have hs : H.2.2.2.2.1 = m.1 := k1
  refine ⟨?_, ?_, ?_, fun i h1 h2 => ?_, ?_, fun o p h3 => ?_, fun q hq => Nat.lt_succ_of_lt (k7 q hq), fun i hi => ?_⟩
  · show H.2.2.2.2.1 + 1 = m.1 + 1; rw [hs]
  · show 32 ≤ m.1 + 1; omega
  · show m.2.1.length + 1 = m.1 + 1 - 32; omega
  · skip
    have h2 : i < m.1 + 1 := h2
    by_cases hi : i = m.1
    · rw [hi, aj_kl_top]
      constructor
      · show am_u1 _ H.2.2.2.2.1 k m.1 = k; rw [hs, u1_eq]
      · show am_u1 _ H.2.2.2.2.1 l m.1 = l; rw [hs, u1_eq]
    · rw [aj_kl_new (by omega) k3 h1]
      have := k4 i h1 (by omega)
      constructor
      · show am_u1 _ H.2.2.2.2.1 k i = _; rw [hs, u1_ne hi]; exact this.1
      · show am_u1 _ H.2.2.2.2.1 l i = _; rw [hs, u1_ne hi]; exact this.2
  · skip
    refine ⟨?_, ?_, fun p => ?_⟩
    · show am_u1 _ H.2.2.2.2.1 k 16 = _; rw [hs, u1_ne (by omega)]; exact k5.1
    · show am_u1 _ H.2.2.2.2.1 l 16 = _; rw [hs, u1_ne (by omega)]; exact k5.2.1
    · show am_u1 H.1.2.2 H.2.2.2.2.1 (fun _ => none) 16 p = _
      rw [hs, u1_ne (by omega)]; exact k5.2.2 p
  · skip
    show am_u1 H.1.2.2 H.2.2.2.2.1 (fun _ => none) o p = aj_fr m o p
    by_cases ho : o = m.1
    · rw [hs, ho, u1_eq, aj_fr_no k7 (Nat.le_refl _)]
    · rw [hs, u1_ne ho]
      exact k6 o p h3
  · skip
    have hi : m.1 + 1 ≤ i := hi
    have := k8 i (by omega)
    constructor
    · show am_u1 _ H.2.2.2.2.1 k i = _; rw [hs, u1_ne (by omega)]; exact this.1
    · show am_u1 _ H.2.2.2.2.1 l i = _; rw [hs, u1_ne (by omega)]; exact this.2
theorem aj_fr_cl {o k : Nat} (hq : ∀ q ∈ m.2.2.1, q.1 < m.1) : aj_fr (aj_cln m) o k = if o = m.1 then h0_fr 16 k else aj_fr m o k := by
  unfold aj_fr
  by_cases ho : o = m.1
  · rw [if_pos ho, ho]
    have hno := aj_fr_no (k := k) hq (Nat.le_refl _)
    unfold aj_fr at hno
    show (List.find? _ ((m.1, 0, 1) :: (m.1, 1, 2) :: (m.1, 2, 3) :: (m.1, 3, 4) :: (m.1, 4, 5) :: (m.1, 5, 6) :: (m.1, 6, 7) :: (m.1, 7, 8) :: (m.1, 8, 9) :: (m.1, 9, 10) :: m.2.2.1)).map _ = _
    simp only [List.find?_cons, show Nat.beq m.1 m.1 = true from Nat.beq_refl _, Bool.true_and]
    match k with
    | 0 => rfl
    | 1 => rfl
    | 2 => rfl
    | 3 => rfl
    | 4 => rfl
    | 5 => rfl
    | 6 => rfl
    | 7 => rfl
    | 8 => rfl
    | 9 => rfl
    | k + 10 =>
      have e : h0_fr 16 (k + 10) = none := by unfold h0_fr; rw [blt_f (show ¬ k + 10 < 10 by omega)]; rfl
      rw [e, ← hno]
      simp only [beq_f (show 0 ≠ k + 10 by omega), beq_f (show 1 ≠ k + 10 by omega), beq_f (show 2 ≠ k + 10 by omega), beq_f (show 3 ≠ k + 10 by omega), beq_f (show 4 ≠ k + 10 by omega), beq_f (show 5 ≠ k + 10 by omega), beq_f (show 6 ≠ k + 10 by omega), beq_f (show 7 ≠ k + 10 by omega), beq_f (show 8 ≠ k + 10 by omega), beq_f (show 9 ≠ k + 10 by omega)]
  · rw [if_neg ho]
    show (List.find? _ ((m.1, 0, 1) :: (m.1, 1, 2) :: (m.1, 2, 3) :: (m.1, 3, 4) :: (m.1, 4, 5) :: (m.1, 5, 6) :: (m.1, 6, 7) :: (m.1, 7, 8) :: (m.1, 8, 9) :: (m.1, 9, 10) :: m.2.2.1)).map _ = _
    simp only [List.find?_cons, beq_f (fun z => ho z.symm : m.1 ≠ o), Bool.false_and]
theorem aj_oA.cl (K : aj_oA m h H) : aj_oA (aj_cln m) h (am_cp H 16) := by
  obtain ⟨k1, k2, k3, k4, k5, k6, k7, k8⟩ := K
  have hs : H.2.2.2.2.1 = m.1 := k1
  have f1 : ∀ i, aj_kl (aj_cln m) i = aj_kl (aj_new m 127 10 10) i := fun _ => rfl
  refine ⟨?_, ?_, ?_, fun i h1 h2 => ?_, ?_, fun o p h3 => ?_, fun q hq => ?_, fun i hi => ?_⟩
  · show H.2.2.2.2.1 + 1 = m.1 + 1; rw [hs]
  · show 32 ≤ m.1 + 1; omega
  · show m.2.1.length + 1 = m.1 + 1 - 32; omega
  · rw [f1]
    have h2 : i < m.1 + 1 := h2
    by_cases hi : i = m.1
    · rw [hi, aj_kl_top]
      constructor
      · show am_u1 _ H.2.2.2.2.1 _ m.1 = 127; rw [hs, u1_eq]; exact k5.1
      · show am_u1 _ H.2.2.2.2.1 _ m.1 = 10; rw [hs, u1_eq]; exact k5.2.1
    · rw [aj_kl_new (by omega) k3 h1]
      have := k4 i h1 (by omega)
      constructor
      · show am_u1 _ H.2.2.2.2.1 _ i = _; rw [hs, u1_ne hi]; exact this.1
      · show am_u1 _ H.2.2.2.2.1 _ i = _; rw [hs, u1_ne hi]; exact this.2
  · skip
    refine ⟨?_, ?_, fun p => ?_⟩
    · show am_u1 _ H.2.2.2.2.1 _ 16 = _; rw [hs, u1_ne (by omega)]; exact k5.1
    · show am_u1 _ H.2.2.2.2.1 _ 16 = _; rw [hs, u1_ne (by omega)]; exact k5.2.1
    · show am_u1 H.1.2.2 H.2.2.2.2.1 (H.1.2.2 16) 16 p = _
      rw [hs, u1_ne (by omega)]; exact k5.2.2 p
  · rw [aj_fr_cl k7]
    show am_u1 H.1.2.2 H.2.2.2.2.1 (H.1.2.2 16) o p = _
    by_cases ho : o = m.1
    · rw [hs, ho, u1_eq, if_pos rfl]
      exact k5.2.2 p
    · rw [hs, u1_ne ho, if_neg ho]
      exact k6 o p h3
  · have hq : q ∈ (m.1, 0, 1) :: (m.1, 1, 2) :: (m.1, 2, 3) :: (m.1, 3, 4) :: (m.1, 4, 5) :: (m.1, 5, 6) :: (m.1, 6, 7) :: (m.1, 7, 8) :: (m.1, 8, 9) :: (m.1, 9, 10) :: m.2.2.1 := hq
    show q.1 < m.1 + 1
    simp only [List.mem_cons] at hq
    rcases hq with z | z | z | z | z | z | z | z | z | z | z
    all_goals first | (rw [z]; exact Nat.lt_succ_self _) | exact Nat.lt_succ_of_lt (k7 q z)
  · skip
    have hi : m.1 + 1 ≤ i := hi
    have := k8 i (by omega)
    constructor
    · show am_u1 _ H.2.2.2.2.1 _ i = _; rw [hs, u1_ne (by omega)]; exact this.1
    · show am_u1 _ H.2.2.2.2.1 _ i = _; rw [hs, u1_ne (by omega)]; exact this.2
theorem aj_oA.st (K : aj_oA m h H) {a : Nat} (k v : Nat) (ha : a < m.1) (h32 : 32 ≤ a) : aj_oA (aj_set m a k v) h (am_sf H a k (some v)) := by
  obtain ⟨k1, k2, k3, k4, k5, k6, k7, k8⟩ := K
  refine ⟨k1, k2, k3, k4, ⟨k5.1, k5.2.1, fun p => ?_⟩, fun o p h3 => ?_, fun q hq => ?_, k8⟩
  · show am_up _ a k (some v) 16 p = _
    unfold am_up
    rw [if_neg (fun z => by omega)]
    exact k5.2.2 p
  · show am_up _ a k (some v) o p = _
    unfold aj_fr
    rw [show (aj_set m a k v).2.2.1 = (a, k, v) :: m.2.2.1 from rfl, List.find?_cons]
    unfold am_up
    cases hc : (Nat.beq a o && Nat.beq k p) with
    | true =>
      rw [Bool.and_eq_true] at hc
      rw [if_pos ⟨(Nat.eq_of_beq_eq_true hc.1).symm, (Nat.eq_of_beq_eq_true hc.2).symm⟩]
      rfl
    | false =>
      rw [if_neg (fun z => by rw [z.1, z.2] at hc; simp at hc)]
      exact k6 o p h3
  · rcases List.mem_cons.mp hq with z | z
    · rw [z]; exact ha
    · exact k7 q z
theorem aj_oA.si (K : aj_oA m h H) (a k : Nat) (x : Int32) : aj_oA (aj_int m a k x) h (H.1, am_si H.2 a k x) := K
/-- ints, longs, changing references, slots; what was there before stays -/
def aj_oB (m : aj_M) (h H : am_M) : Prop := (∀ o k, 32 ≤ o → am_i H.2 o k = aj_i m o k) ∧ (∀ q ∈ m.2.2.2.1, q.1 < m.1) ∧ (∀ o k, 32 ≤ o → am_j H.2 o k = 0 ∧ am_r H.2 o k = none) ∧ am_us H.2 = m.2.2.2.2 ∧
  ∀ o, o < 32 → am_kd H.1 o = am_kd h.1 o ∧ am_ln H.1 o = am_ln h.1 o ∧ ∀ k, am_fr H.1 o k = am_fr h.1 o k ∧ am_i H.2 o k = am_i h.2 o k ∧ am_j H.2 o k = am_j h.2 o k ∧ am_r H.2 o k = am_r h.2 o k
def aj_ok (m : aj_M) (h H : am_M) : Prop := aj_oA m h H ∧ aj_oB m h H
theorem aj_i_no {o k : Nat} (hq : ∀ q ∈ m.2.2.2.1, q.1 < m.1) (ho : m.1 ≤ o) : aj_i m o k = 0 := by
  unfold aj_i
  cases hc : m.2.2.2.1.find? (fun q => Nat.beq q.1 o && Nat.beq q.2.1 k) with
  | none => rfl
  | some q =>
    have h1 := List.find?_some hc
    rw [Bool.and_eq_true] at h1
    have h2 := Nat.eq_of_beq_eq_true h1.1
    have h3 := hq q (List.mem_of_find?_eq_some hc)
    omega
theorem aj_oB.mk (A : aj_oA m h H) (K : aj_oB m h H) (k l n : Nat) : aj_oB (aj_new m k l n) h (am_new H k l n) := by
  obtain ⟨k1, k2, k3, k4, k5⟩ := K
  have hs : H.2.2.2.2.1 = m.1 := A.1
  have h32 := A.2.1
  refine ⟨fun o p h3 => ?_, fun q hq => Nat.lt_succ_of_lt (k2 q hq), fun o p h3 => ?_, ?_, fun o ho => ⟨?_, ?_, fun p => ⟨?_, ?_, ?_, ?_⟩⟩⟩
  · show am_u1 H.2.1 H.2.2.2.2.1 (fun _ => 0) o p = aj_i m o p
    by_cases q : o = m.1
    · rw [hs, q, u1_eq, aj_i_no k2 (Nat.le_refl _)]
    · rw [hs, u1_ne q]; exact k1 o p h3
  · constructor
    · show am_u1 H.2.2.1 H.2.2.2.2.1 (fun _ => 0) o p = 0
      by_cases q : o = m.1
      · rw [hs, q, u1_eq]
      · rw [hs, u1_ne q]; exact (k3 o p h3).1
    · show am_u1 H.2.2.2.1 H.2.2.2.2.1 (fun _ => none) o p = none
      by_cases q : o = m.1
      · rw [hs, q, u1_eq]
      · rw [hs, u1_ne q]; exact (k3 o p h3).2
  · show H.2.2.2.2.2 + n = m.2.2.2.2 + n
    rw [show H.2.2.2.2.2 = m.2.2.2.2 from k4]
  · show am_u1 _ H.2.2.2.2.1 k o = _; rw [hs, u1_ne (by omega)]; exact (k5 o ho).1
  · show am_u1 _ H.2.2.2.2.1 l o = _; rw [hs, u1_ne (by omega)]; exact (k5 o ho).2.1
  · show am_u1 H.1.2.2 H.2.2.2.2.1 (fun _ => none) o p = _; rw [hs, u1_ne (by omega)]; exact ((k5 o ho).2.2 p).1
  · show am_u1 H.2.1 H.2.2.2.2.1 (fun _ => 0) o p = _; rw [hs, u1_ne (by omega)]; exact ((k5 o ho).2.2 p).2.1
  · show am_u1 H.2.2.1 H.2.2.2.2.1 (fun _ => 0) o p = _; rw [hs, u1_ne (by omega)]; exact ((k5 o ho).2.2 p).2.2.1
  · show am_u1 H.2.2.2.1 H.2.2.2.2.1 (fun _ => none) o p = _; rw [hs, u1_ne (by omega)]; exact ((k5 o ho).2.2 p).2.2.2
theorem aj_oB.cl (A : aj_oA m h H) (K : aj_oB m h H) : aj_oB (aj_cln m) h (am_cp H 16) := by
  obtain ⟨k1, k2, k3, k4, k5⟩ := K
  have hs : H.2.2.2.2.1 = m.1 := A.1
  have h32 := A.2.1
  have hl : H.1.2.1 16 = 10 := A.2.2.2.2.1.2.1
  refine ⟨fun o p h3 => ?_, fun q hq => Nat.lt_succ_of_lt (k2 q hq), fun o p h3 => ?_, ?_, fun o ho => ⟨?_, ?_, fun p => ⟨?_, ?_, ?_, ?_⟩⟩⟩
  · show am_u1 H.2.1 H.2.2.2.2.1 (fun _ => 0) o p = aj_i m o p
    by_cases q : o = m.1
    · rw [hs, q, u1_eq, aj_i_no k2 (Nat.le_refl _)]
    · rw [hs, u1_ne q]; exact k1 o p h3
  · constructor
    · show am_u1 H.2.2.1 H.2.2.2.2.1 (fun _ => 0) o p = 0
      by_cases q : o = m.1
      · rw [hs, q, u1_eq]
      · rw [hs, u1_ne q]; exact (k3 o p h3).1
    · show am_u1 H.2.2.2.1 H.2.2.2.2.1 (fun _ => none) o p = none
      by_cases q : o = m.1
      · rw [hs, q, u1_eq]
      · rw [hs, u1_ne q]; exact (k3 o p h3).2
  · show H.2.2.2.2.2 + H.1.2.1 16 = m.2.2.2.2 + 10
    rw [show H.2.2.2.2.2 = m.2.2.2.2 from k4, hl]
  · show am_u1 _ H.2.2.2.2.1 _ o = _; rw [hs, u1_ne (by omega)]; exact (k5 o ho).1
  · show am_u1 _ H.2.2.2.2.1 _ o = _; rw [hs, u1_ne (by omega)]; exact (k5 o ho).2.1
  · show am_u1 H.1.2.2 H.2.2.2.2.1 _ o p = _; rw [hs, u1_ne (by omega)]; exact ((k5 o ho).2.2 p).1
  · show am_u1 H.2.1 H.2.2.2.2.1 _ o p = _; rw [hs, u1_ne (by omega)]; exact ((k5 o ho).2.2 p).2.1
  · show am_u1 H.2.2.1 H.2.2.2.2.1 _ o p = _; rw [hs, u1_ne (by omega)]; exact ((k5 o ho).2.2 p).2.2.1
  · show am_u1 H.2.2.2.1 H.2.2.2.2.1 _ o p = _; rw [hs, u1_ne (by omega)]; exact ((k5 o ho).2.2 p).2.2.2
theorem aj_oB.st (K : aj_oB m h H) {a : Nat} (k v : Nat) (h32 : 32 ≤ a) : aj_oB (aj_set m a k v) h (am_sf H a k (some v)) := by
  obtain ⟨k1, k2, k3, k4, k5⟩ := K
  refine ⟨k1, k2, k3, k4, fun o ho => ⟨(k5 o ho).1, (k5 o ho).2.1, fun p => ⟨?_, ((k5 o ho).2.2 p).2⟩⟩⟩
  show am_up _ a k (some v) o p = _
  unfold am_up
  rw [if_neg (fun z => by omega)]
  exact ((k5 o ho).2.2 p).1
theorem aj_oB.si (K : aj_oB m h H) {a : Nat} (k : Nat) (x : Int32) (ha : a < m.1) (h32 : 32 ≤ a) : aj_oB (aj_int m a k x) h (H.1, am_si H.2 a k x) := by
  obtain ⟨k1, k2, k3, k4, k5⟩ := K
  refine ⟨fun o p h3 => ?_, fun q hq => ?_, k3, k4, fun o ho => ⟨(k5 o ho).1, (k5 o ho).2.1, fun p => ⟨((k5 o ho).2.2 p).1, ?_, ((k5 o ho).2.2 p).2.2⟩⟩⟩
  · show am_up _ a k x o p = _
    unfold aj_i
    rw [show (aj_int m a k x).2.2.2.1 = (a, k, x) :: m.2.2.2.1 from rfl, List.find?_cons]
    unfold am_up
    cases hc : (Nat.beq a o && Nat.beq k p) with
    | true =>
      rw [Bool.and_eq_true] at hc
      rw [if_pos ⟨(Nat.eq_of_beq_eq_true hc.1).symm, (Nat.eq_of_beq_eq_true hc.2).symm⟩]
      rfl
    | false =>
      rw [if_neg (fun z => by rw [z.1, z.2] at hc; simp at hc)]
      exact k1 o p h3
  · rcases List.mem_cons.mp hq with z | z
    · rw [z]; exact ha
    · exact k2 q z
  · show am_up _ a k x o p = _
    unfold am_up
    rw [if_neg (fun z => by omega)]
    exact ((k5 o ho).2.2 p).2.1
theorem aj_ok.mk (K : aj_ok m h H) (k l n : Nat) : aj_ok (aj_new m k l n) h (am_new H k l n) := ⟨K.1.mk k l n, K.2.mk K.1 k l n⟩
theorem aj_ok.cl (K : aj_ok m h H) : aj_ok (aj_cln m) h (am_cp H 16) := ⟨K.1.cl, K.2.cl K.1⟩
theorem aj_ok.st (K : aj_ok m h H) {a : Nat} (k v : Nat) (ha : a < m.1) (h32 : 32 ≤ a) : aj_ok (aj_set m a k v) h (am_sf H a k (some v)) := ⟨K.1.st k v ha h32, K.2.st k v h32⟩
theorem aj_ok.si (K : aj_ok m h H) {a : Nat} (k : Nat) (x : Int32) (ha : a < m.1) (h32 : 32 ≤ a) : aj_ok (aj_int m a k x) h (H.1, am_si H.2 a k x) := ⟨K.1.si a k x, K.2.si k x ha h32⟩
end
