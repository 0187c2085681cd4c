/-! Plain Lean over the models: reads and writes, guards, loops. -/
theorem gi_si (g : am_G) (a k b j : Nat) (x : Int32) : am_i (am_si g a k x) b j = if b = a ∧ j = k then x else am_i g b j := rfl
theorem gi_sj (g : am_G) (a k b j : Nat) (x : Int64) : am_i (am_sj g a k x) b j = am_i g b j := rfl
theorem gi_sr (g : am_G) (a k b j : Nat) (x : Option Nat) : am_i (am_sr g a k x) b j = am_i g b j := rfl
theorem gi_ex (g : am_G) (b j : Nat) : am_i (am_ex g) b j = am_i g b j := rfl
theorem gj_si (g : am_G) (a k b j : Nat) (x : Int32) : am_j (am_si g a k x) b j = am_j g b j := rfl
theorem gj_sj (g : am_G) (a k b j : Nat) (x : Int64) : am_j (am_sj g a k x) b j = if b = a ∧ j = k then x else am_j g b j := rfl
theorem gj_sr (g : am_G) (a k b j : Nat) (x : Option Nat) : am_j (am_sr g a k x) b j = am_j g b j := rfl
theorem gj_ex (g : am_G) (b j : Nat) : am_j (am_ex g) b j = am_j g b j := rfl
theorem gr_si (g : am_G) (a k b j : Nat) (x : Int32) : am_r (am_si g a k x) b j = am_r g b j := rfl
theorem gr_sj (g : am_G) (a k b j : Nat) (x : Int64) : am_r (am_sj g a k x) b j = am_r g b j := rfl
theorem gr_sr (g : am_G) (a k b j : Nat) (x : Option Nat) : am_r (am_sr g a k x) b j = if b = a ∧ j = k then x else am_r g b j := rfl
theorem gr_ex (g : am_G) (b j : Nat) : am_r (am_ex g) b j = am_r g b j := rfl
theorem gz_si (g : am_G) (a k : Nat) (x : Int32) : am_sz (am_si g a k x) = am_sz g := rfl
theorem gz_sj (g : am_G) (a k : Nat) (x : Int64) : am_sz (am_sj g a k x) = am_sz g := rfl
theorem gz_sr (g : am_G) (a k : Nat) (x : Option Nat) : am_sz (am_sr g a k x) = am_sz g := rfl
theorem gz_ex (g : am_G) : am_sz (am_ex g) = am_sz g + 1 := rfl
theorem gu_si (g : am_G) (a k : Nat) (x : Int32) : am_us (am_si g a k x) = am_us g := rfl
theorem gu_sj (g : am_G) (a k : Nat) (x : Int64) : am_us (am_sj g a k x) = am_us g := rfl
theorem gu_sr (g : am_G) (a k : Nat) (x : Option Nat) : am_us (am_sr g a k x) = am_us g := rfl
theorem gu_ex (g : am_G) : am_us (am_ex g) = am_us g + 6 := rfl
/-- all reads over writes, for simp -/
theorem gm_rw : (∀ (g : am_G) (a k b j : Nat) (x : Int32), am_i (am_si g a k x) b j = if b = a ∧ j = k then x else am_i g b j) ∧ (∀ (g : am_G) (a k b j : Nat) (x : Int64), am_i (am_sj g a k x) b j = am_i g b j) ∧
    (∀ (g : am_G) (a k b j : Nat) (x : Option Nat), am_i (am_sr g a k x) b j = am_i g b j) ∧ (∀ (g : am_G) (b j : Nat), am_i (am_ex g) b j = am_i g b j) ∧ (∀ (g : am_G) (a k b j : Nat) (x : Int32), am_j (am_si g a k x) b j = am_j g b j) ∧
    (∀ (g : am_G) (a k b j : Nat) (x : Int64), am_j (am_sj g a k x) b j = if b = a ∧ j = k then x else am_j g b j) ∧ (∀ (g : am_G) (a k b j : Nat) (x : Option Nat), am_j (am_sr g a k x) b j = am_j g b j) ∧ (∀ (g : am_G) (b j : Nat), am_j (am_ex g) b j = am_j g b j) ∧
    (∀ (g : am_G) (a k b j : Nat) (x : Int32), am_r (am_si g a k x) b j = am_r g b j) ∧ (∀ (g : am_G) (a k b j : Nat) (x : Int64), am_r (am_sj g a k x) b j = am_r g b j) ∧
    (∀ (g : am_G) (a k b j : Nat) (x : Option Nat), am_r (am_sr g a k x) b j = if b = a ∧ j = k then x else am_r g b j) ∧ (∀ (g : am_G) (b j : Nat), am_r (am_ex g) b j = am_r g b j) :=
  ⟨gi_si, gi_sj, gi_sr, gi_ex, gj_si, gj_sj, gj_sr, gj_ex, gr_si, gr_sj, gr_sr, gr_ex⟩
theorem gm_zu : (∀ (g : am_G) (a k : Nat) (x : Int32), am_sz (am_si g a k x) = am_sz g) ∧ (∀ (g : am_G) (a k : Nat) (x : Int64), am_sz (am_sj g a k x) = am_sz g) ∧ (∀ (g : am_G) (a k : Nat) (x : Option Nat), am_sz (am_sr g a k x) = am_sz g) ∧ (∀ g : am_G, am_sz (am_ex g) = am_sz g + 1) ∧
    (∀ (g : am_G) (a k : Nat) (x : Int32), am_us (am_si g a k x) = am_us g) ∧ (∀ (g : am_G) (a k : Nat) (x : Int64), am_us (am_sj g a k x) = am_us g) ∧ (∀ (g : am_G) (a k : Nat) (x : Option Nat), am_us (am_sr g a k x) = am_us g) ∧ (∀ g : am_G, am_us (am_ex g) = am_us g + 6) :=
  ⟨gz_si, gz_sj, gz_sr, gz_ex, gu_si, gu_sj, gu_sr, gu_ex⟩
theorem lo_g1 {α : Type} {c : Bool} {x : Option α} (h : c = true) : lo_g c x = x := by rw [h]; rfl
/-- the parts of models, for simp -/
theorem lo_gt {α : Type} (x : Option α) : lo_g true x = x := rfl
theorem lo_ms {α : Type} (v : Nat) (a : Option α) (b : Nat → Option α) : lo_m (some v) a b = b v := rfl
theorem lo_mn {α : Type} (a : Option α) (b : Nat → Option α) : lo_m none a b = a := rfl
theorem lo_ll {α β : Type} (x : α) (f : α → Option β) : lo_l x f = f x := rfl
theorem lo_ps {α β : Type} (x : α) (f : α → Option β) : lo_p (some x) f = f x := rfl
theorem lo_is {α β : Type} (x : α) (g : am_G) (f : α → am_G → Option β) : lo_i (some (x, g)) f = f x g := rfl
theorem lo_tl {α β : Type} (x : α) (g : am_G) (f : α → am_G → Option ((β ⊕ Nat) × am_G)) : lo_t (some (.inl x, g)) f = f x g := rfl
theorem lo_tr {α β : Type} (x : Nat) (g : am_G) (f : α → am_G → Option ((β ⊕ Nat) × am_G)) : lo_t (some (.inr x, g)) f = some (.inr x, g) := rfl
/-- a loop with enough fuel: by a measure -/
theorem lo_ind {α β : Type} {b : (α → Option β) → α → Option β} (I : α → Prop) (μ : α → Nat) (Q : α → Option β → Prop)
    (hb : ∀ (k : α → Option β) (x : α), I x → (∀ y, I y → μ y < μ x → Q y (k y)) → Q x (b k x)) : ∀ (n : Nat) (x : α), I x → μ x < n → Q x (lo_it b n x)
  | 0, x, _, h => absurd h (Nat.not_lt_zero _)
  | n + 1, x, hI, h => hb (lo_it b n) x hI fun y hy hm => lo_ind I μ Q hb n y hy (by omega)
theorem lo_F {α β : Type} {b : (α → Option β) → α → Option β} (I : α → Prop) (μ : α → Nat) (Q : α → Option β → Prop)
    (hb : ∀ (k : α → Option β) (x : α), I x → (∀ y, I y → μ y < μ x → Q y (k y)) → Q x (b k x)) (x : α) (hI : I x) (hm : μ x < 1000000000) : Q x (lo_it b nf_F x) :=
  lo_ind I μ Q hb nf_F x hI (Nat.lt_of_lt_of_le hm nf_le)
theorem ai_nI {a n : Nat} (h : a < n) (hn : a < 2 ^ 31) : ai_in (nI a) n = true := by
  unfold ai_in
  rw [nI_clamp hn, decide_eq_true (nI_pos' hn), Nat.blt_eq.mpr h]
  rfl
theorem ai_inc {x : Int32} {n : Nat} (h : ai_in x n = true) (hn : n ≤ 2 ^ 31) : ∃ a, a < n ∧ x = nI a := by
  unfold ai_in at h
  rw [Bool.and_eq_true] at h
  obtain ⟨j, hj, e⟩ := nI_of (x := x) (by
    intro q
    have := of_decide_eq_true h.1
    rw [Int32.le_iff_toInt_le] at this
    rw [Int32.lt_iff_toInt_lt] at q
    omega)
  subst e
  rw [nI_clamp hj] at h
  exact ⟨j, Nat.blt_eq.mp h.2, rfl⟩
/-- a truth as an int -/
def b2 (b : Bool) : Int32 := bif b then 1 else 0
theorem b2_0 (b : Bool) : b2 b = 0 ↔ b = false := by cases b <;> decide
theorem b2_1 (b : Bool) : b2 b = 1 ↔ b = true := by cases b <;> decide
theorem b2_n (b : Bool) : vp_nar .boolean (b2 b) = b2 b := by cases b <;> rfl
theorem b2_or (b : Bool) : (decide (b2 b = 0) || decide (b2 b = 1)) = true := by cases b <;> rfl
theorem b2_if {α : Type} (b : Bool) (x y : α) : (if b2 b = 0 then x else y) = bif b then y else x := by cases b <;> rfl
/-- counted loops: a fold -/
def fo_n {σ : Type} (f : Nat → σ → σ) : Nat → σ → σ
  | 0, s => s
  | n + 1, s => f n (fo_n f n s)
theorem lo_fo1 {α β σ : Type} {b : (α → Option β) → α → Option β} (X : Nat → σ → α) (f : Nat → σ → σ) (I : Nat → σ → Prop) (n : Nat) (e : σ → Option β) (hx : ∀ K s, I n s → b K (X n s) = e s)
    (hs : ∀ K i s, i < n → I i s → b K (X i s) = K (X (i + 1) (f i s)) ∧ I (i + 1) (f i s)) (s0 : σ) (h0 : I 0 s0) : ∀ (d i : Nat), i + d = n → I i (fo_n f i s0) → ∀ k, d < k → lo_it b k (X i (fo_n f i s0)) = e (fo_n f n s0) ∧ I n (fo_n f n s0)
  | 0, i, hd, hI, k, hk => by
    have : i = n := by omega
    subst this
    obtain ⟨m, rfl⟩ : ∃ m, k = m + 1 := ⟨k - 1, by omega⟩
    exact ⟨hx _ _ hI, hI⟩
  | d + 1, i, hd, hI, k, hk => by
    obtain ⟨m, rfl⟩ : ∃ m, k = m + 1 := ⟨k - 1, by omega⟩
    obtain ⟨q1, q2⟩ := hs (lo_it b m) i _ (by omega) hI
    have := lo_fo1 X f I n e hx hs s0 h0 d (i + 1) (by omega) q2 m (by omega)
    refine ⟨?_, this.2⟩
    show b (lo_it b m) _ = _
    rw [q1]
    exact this.1
theorem lo_fo {α β σ : Type} {b : (α → Option β) → α → Option β} (X : Nat → σ → α) (f : Nat → σ → σ) (I : Nat → σ → Prop) (n : Nat) (e : σ → Option β) (hx : ∀ K s, I n s → b K (X n s) = e s)
    (hs : ∀ K i s, i < n → I i s → b K (X i s) = K (X (i + 1) (f i s)) ∧ I (i + 1) (f i s)) (s0 : σ) (h0 : I 0 s0) (hn : n < 1000000000) : lo_it b nf_F (X 0 s0) = e (fo_n f n s0) ∧ I n (fo_n f n s0) :=
  lo_fo1 X f I n e hx hs s0 h0 n 0 (by omega) h0 nf_F (Nat.lt_of_lt_of_le hn nf_le)
/-- a loop that goes on while all is well -/
theorem lo_all1 {α β : Type} {b : (α → Option β) → α → Option β} (X : Nat → Bool → α) (p : Nat → Bool) (n : Nat) (e : Bool → Option β) (hx : ∀ K l, b K (X n l) = e l) (hf : ∀ K i, i ≤ n → b K (X i false) = e false)
    (hs : ∀ K i, i < n → b K (X i true) = K (X (i + 1) (p i))) : ∀ (d i : Nat), i + d = n → ∀ k l, d < k → lo_it b k (X i l) = e (l && (List.range' i d).all p)
  | 0, i, hd, k, l, hk => by
    have : i = n := by omega
    subst this
    obtain ⟨m, rfl⟩ : ∃ m, k = m + 1 := ⟨k - 1, by omega⟩
    show b _ _ = _
    rw [hx]
    simp
  | d + 1, i, hd, k, l, hk => by
    obtain ⟨m, rfl⟩ : ∃ m, k = m + 1 := ⟨k - 1, by omega⟩
    show b (lo_it b m) _ = _
    cases l with
    | false => rw [hf _ _ (by omega)]; rfl
    | true =>
      rw [hs _ _ (by omega), lo_all1 X p n e hx hf hs d (i + 1) (by omega) m (p i) (by omega)]
      rfl
theorem lo_all {α β : Type} {b : (α → Option β) → α → Option β} (X : Nat → Bool → α) (p : Nat → Bool) (n : Nat) (e : Bool → Option β) (hx : ∀ K l, b K (X n l) = e l) (hf : ∀ K i, i ≤ n → b K (X i false) = e false)
    (hs : ∀ K i, i < n → b K (X i true) = K (X (i + 1) (p i))) (l : Bool) (hn : n < 1000000000) : lo_it b nf_F (X 0 l) = e (l && (List.range n).all p) := by
  rw [lo_all1 X p n e hx hf hs n 0 (by omega) nf_F l (Nat.lt_of_lt_of_le hn nf_le), List.range_eq_range']
/-- a loop that looks for the first one -/
theorem lo_fst1 {α β : Type} {b : (α → Option β) → α → Option β} (X : Nat → α) (p : Nat → Prop) (n : Nat) (r : Nat → Option β) (d : Option β) (hx : ∀ K, b K (X n) = d) (hp : ∀ K i, i < n → p i → b K (X i) = r i)
    (hs : ∀ K i, i < n → ¬ p i → b K (X i) = K (X (i + 1))) : ∀ (m i : Nat), i + m = n → ∀ k, m < k → (∃ j, i ≤ j ∧ j < n ∧ p j ∧ (∀ a, i ≤ a → a < j → ¬ p a) ∧ lo_it b k (X i) = r j) ∨ ((∀ j, i ≤ j → j < n → ¬ p j) ∧ lo_it b k (X i) = d)
  | 0, i, hd, k, hk => by
    have : i = n := by omega
    subst this
    obtain ⟨m, rfl⟩ : ∃ m, k = m + 1 := ⟨k - 1, by omega⟩
    exact Or.inr ⟨fun j h1 h2 => absurd h2 (Nat.not_lt.mpr h1), hx _⟩
  | m + 1, i, hd, k, hk => by
    obtain ⟨k, rfl⟩ : ∃ m, k = m + 1 := ⟨k - 1, by omega⟩
    by_cases q : p i
    · exact Or.inl ⟨i, Nat.le_refl _, by omega, q, fun a h1 h2 => absurd h2 (Nat.not_lt.mpr h1), hp _ _ (by omega) q⟩
    · have e : lo_it b (k + 1) (X i) = lo_it b k (X (i + 1)) := hs _ _ (by omega) q
      rw [e]
      rcases lo_fst1 X p n r d hx hp hs m (i + 1) (by omega) k (by omega) with ⟨j, h1, h2, h3, h4, h5⟩ | ⟨h1, h2⟩
      · refine Or.inl ⟨j, by omega, h2, h3, fun a g1 g2 => ?_, h5⟩
        by_cases z : a = i
        · rw [z]; exact q
        · exact h4 a (by omega) g2
      · refine Or.inr ⟨fun j g1 g2 => ?_, h2⟩
        by_cases z : j = i
        · rw [z]; exact q
        · exact h1 j (by omega) g2
theorem lo_fst {α β : Type} {b : (α → Option β) → α → Option β} (X : Nat → α) (p : Nat → Prop) (n : Nat) (r : Nat → Option β) (d : Option β) (hx : ∀ K, b K (X n) = d) (hp : ∀ K i, i < n → p i → b K (X i) = r i)
    (hs : ∀ K i, i < n → ¬ p i → b K (X i) = K (X (i + 1))) (hn : n < 1000000000) : (∃ j, j < n ∧ p j ∧ (∀ a, a < j → ¬ p a) ∧ lo_it b nf_F (X 0) = r j) ∨ ((∀ j, j < n → ¬ p j) ∧ lo_it b nf_F (X 0) = d) := by
  rcases lo_fst1 X p n r d hx hp hs n 0 (by omega) nf_F (Nat.lt_of_lt_of_le hn nf_le) with ⟨j, h1, h2, h3, h4, h5⟩ | ⟨h1, h2⟩
  · exact Or.inl ⟨j, h2, h3, fun a q => h4 a (Nat.zero_le _) q, h5⟩
  · exact Or.inr ⟨fun j q => h1 j (Nat.zero_le _) q, h2⟩
/-- some cells in a row -/
def sl_l (f : Nat → Int32) (a n : Nat) : List Int32 := (List.range n).map fun i => f (a + i)
theorem sl_len (f : Nat → Int32) (a n : Nat) : (sl_l f a n).length = n := by unfold sl_l; simp
theorem sl_at (f : Nat → Int32) (a n : Nat) {i : Nat} (h : i < n) : (sl_l f a n)[i]? = some (f (a + i)) := by unfold sl_l; simp [h]
theorem sl_eq {f h : Nat → Int32} {a b n m : Nat} : sl_l f a n = sl_l h b m ↔ n = m ∧ ∀ i, i < n → f (a + i) = h (b + i) := by
  constructor
  · intro q
    have e : n = m := by have := congrArg List.length q; rwa [sl_len, sl_len] at this
    subst e
    refine ⟨rfl, fun i hi => ?_⟩
    have := congrArg (fun l => l[i]?) q
    rw [sl_at f a n hi, sl_at h b n hi] at this
    exact Option.some.inj this
  · rintro ⟨rfl, q⟩
    unfold sl_l
    exact List.map_congr_left fun i hi => q i (List.mem_range.mp hi)
theorem sl_cg {f h : Nat → Int32} {a n : Nat} (q : ∀ i, i < n → f (a + i) = h (a + i)) : sl_l f a n = sl_l h a n := sl_eq.mpr ⟨rfl, q⟩
