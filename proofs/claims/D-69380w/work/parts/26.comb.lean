/-! What the printed models are made of, and how AI's runs follow them. -/
def lo_g {α : Type} (c : Bool) (x : Option α) : Option α := bif c then x else none
def lo_m {α : Type} (o : Option Nat) (a : Option α) (b : Nat → Option α) : Option α := match o with
  | none => a
  | some x => b x
def lo_l {α β : Type} (x : α) (f : α → Option β) : Option β := f x
def lo_p {α β : Type} (x : Option α) (f : α → Option β) : Option β := match x with
  | some a => f a
  | none => none
def lo_i {α β : Type} (x : Option (α × am_G)) (f : α → am_G → Option β) : Option β := match x with
  | some (a, g) => f a g
  | none => none
def lo_t {α β : Type} (x : Option ((α ⊕ Nat) × am_G)) (f : α → am_G → Option ((β ⊕ Nat) × am_G)) : Option ((β ⊕ Nat) × am_G) := match x with
  | some (.inl a, g) => f a g
  | some (.inr n, g) => some (.inr n, g)
  | none => none
def lo_c {α β : Type} (x : Option ((α ⊕ Nat) × am_G)) (f : α → am_G → Option β) (q : Nat → am_G → Option β) : Option β := match x with
  | some (.inl a, g) => f a g
  | some (.inr n, g) => q n g
  | none => none
/-- a loop, with so much fuel -/
def lo_it {α β : Type} (b : (α → Option β) → α → Option β) : Nat → α → Option β
  | 0, _ => none
  | n + 1, x => b (lo_it b n) x
theorem nf_ex : ∃ n : Nat, 1000000000 ≤ n := ⟨1000000000, Nat.le_refl _⟩
/-- the fuel of every loop: large, and no numeral -/
noncomputable def nf_F : Nat := Classical.choose nf_ex
theorem nf_le : 1000000000 ≤ nf_F := Classical.choose_spec nf_ex
def ez_v (_ : Unit) : Option Value := none
def ez_i (x : Int32) : Option Value := some (.int x)
def ez_j (x : Int64) : Option Value := some (.long x)
def ez_a (x : Nat) : Option Value := some (.ref x)
def ez_o (x : Option Nat) : Option Value := some (am_v x)
def oz_r {α : Type} (e : α → Option Value) (r : α ⊕ Nat) : ai_O := match r with
  | .inl a => .inl (e a)
  | .inr n => .inr n
/-- a place of an array that isn't known by its number -/
def vk_in (o k : Nat) (j : Int32) : Bool := Nat.blt 0 o && (Nat.beq (v0_kd o) k && ai_in j (v0_ln 0 o))
def vk_iw (o k : Nat) (j : Int32) : Bool := Nat.ble 32 o && (Nat.beq (v0_kd o) k && ai_in j (v0_ln 0 o))
theorem v0_ln0 (L : Nat) {o : Nat} (h : 0 < o) : v0_ln L o = v0_ln 0 o := by
  unfold v0_ln
  cases hb : Nat.blt o 32 with
  | false => rfl
  | true =>
    show h0_ln L o = h0_ln 0 o
    unfold h0_ln
    match o, h with
    | n + 1, _ => rfl
theorem vk_ld {L o k : Nat} {j : Int32} (h : vk_in o k j = true) : (Nat.beq (v0_kd o) k && ai_in j (v0_ln L o)) = true := by
  unfold vk_in at h
  rw [Bool.and_eq_true] at h
  rw [v0_ln0 L (Nat.le_of_ble_eq_true h.1)]
  exact h.2
theorem vk_st {L o k : Nat} {j : Int32} (h : vk_iw o k j = true) : ((Nat.beq (v0_kd o) k && Nat.ble 32 o) && ai_in j (v0_ln L o)) = true := by
  unfold vk_iw at h
  rw [Bool.and_eq_true, Bool.and_eq_true] at h
  have h1 : 32 ≤ o := Nat.le_of_ble_eq_true h.1
  rw [v0_ln0 L (by omega), h.2.1, h.2.2, h.1]
  rfl
theorem vk_l1 {o k : Nat} (h : (Nat.blt 0 o && Nat.beq (v0_kd o) k) = true) : Nat.beq (v0_kd o) k = true := by
  rw [Bool.and_eq_true] at h; exact h.2
theorem vk_l2 {L o k : Nat} (h : (Nat.blt 0 o && Nat.beq (v0_kd o) k) = true) : v0_ln L o = v0_ln 0 o := by
  rw [Bool.and_eq_true] at h; exact v0_ln0 L (Nat.le_of_ble_eq_true h.1)
theorem ai_lt {j : Int32} {n : Nat} (h : ai_in j n = true) : j.toNatClampNeg < n := by
  unfold ai_in at h
  rw [Bool.and_eq_true] at h
  exact Nat.le_of_ble_eq_true h.2
theorem fr_all50 : ((List.range 40).all fun n => decide (v0_fr 50 n = some (55 + 18 * n))) = true := by decide +kernel
theorem fr_all51 : ((List.range 80).all fun n => decide (v0_fr 51 n = some (775 + n))) = true := by decide +kernel
theorem fr_all879 : ((List.range 40).all fun n => decide (v0_fr 879 n = some (903 + n))) = true := by decide +kernel
theorem fr_50 {j : Int32} (h : ai_in j 40 = true) : v0_fr 50 j.toNatClampNeg = some (55 + 18 * j.toNatClampNeg) :=
  of_decide_eq_true (List.all_eq_true.mp fr_all50 _ (List.mem_range.mpr (ai_lt h)))
theorem fr_51 {j : Int32} (h : ai_in j 80 = true) : v0_fr 51 j.toNatClampNeg = some (775 + j.toNatClampNeg) :=
  of_decide_eq_true (List.all_eq_true.mp fr_all51 _ (List.mem_range.mpr (ai_lt h)))
theorem fr_879 {j : Int32} (h : ai_in j 40 = true) : v0_fr 879 j.toNatClampNeg = some (903 + j.toNatClampNeg) :=
  of_decide_eq_true (List.all_eq_true.mp fr_all879 _ (List.mem_range.mpr (ai_lt h)))
theorem ai_ct {c : Bool} (h : c = true) : (c && true) = true := by rw [h]; rfl
/-- k straight steps, and one more -/
def ai_sk (P : ai_P) (mid : Nat) : Nat → ai_S → Option ai_R
  | 0, s => ai_s P mid s
  | k + 1, s => match ai_s P mid s with
    | some (.inl t) => ai_sk P mid k t
    | _ => none
theorem ai_gd {α : Type} {x y : Option α} {c : Bool} (h : x = (bif c then y else none)) (hc : c = true) : x = y := by rw [h, hc]; rfl
section
variable {P : ai_P} {mid : Nat} {o : ai_O} {h : am_M} {s : ai_S}
theorem sk_ev {r : ai_R} : ∀ (k : Nat) {s : ai_S}, ai_sk P mid k s = some r → (∀ u, ai_s P mid u = some r → ai_ev P mid u o h) → ai_ev P mid s o h
  | 0, s, hs, hk => hk s hs
  | k + 1, s, hs, hk => by
    unfold ai_sk at hs
    cases hx : ai_s P mid s with
    | none => rw [hx] at hs; cases hs
    | some q =>
      rw [hx] at hs
      rcases q with t | t | t
      · exact ev_step hx (sk_ev k hs hk)
      · cases hs
      · cases hs
theorem ev_jm {α : Type} {X : Option α} {R : α} (k : Nat) {t : ai_S} (hs : ai_sk P mid k s = some (.inl t)) (hk : X = some R → ai_ev P mid t o h) : X = some R → ai_ev P mid s o h :=
  fun hx => sk_ev k hs fun _ hu => ev_step hu (hk hx)
theorem ev_gd {α : Type} {X : Option α} {R : α} {c : Bool} (hk : c = true → X = some R → ai_ev P mid s o h) : lo_g c X = some R → ai_ev P mid s o h := by
  intro hx
  unfold lo_g at hx
  cases c with
  | false => cases hx
  | true => exact hk rfl hx
theorem ev_rt (k : Nat) (hs : ai_sk P mid k s = some (.inr (.inr (o, h)))) : ai_ev P mid s o h := sk_ev k hs fun _ hu => ev_end hu
theorem ev_if {α : Type} {A B : Option α} {R : α} (k : Nat) {p : Prop} [hp : Decidable p] {a b : Nat} {T : List (Option Value) × List Value × am_M} (hs : ai_sk P mid k s = some (.inl (bif decide p then a else b, T)))
    (ha : A = some R → ai_ev P mid (a, T) o h) (hb : B = some R → ai_ev P mid (b, T) o h) : (if p then A else B) = some R → ai_ev P mid s o h := by
  intro hx
  by_cases q : p
  · rw [if_pos q] at hx; rw [decide_eq_true q] at hs; exact sk_ev k hs fun _ hu => ev_step hu (ha hx)
  · rw [if_neg q] at hx; rw [decide_eq_false q] at hs; exact sk_ev k hs fun _ hu => ev_step hu (hb hx)
theorem ev_in {α : Type} {A B : Option α} {R : α} (k : Nat) {p : Prop} [hp : Decidable p] {a b : Nat} {T : List (Option Value) × List Value × am_M} (hs : ai_sk P mid k s = some (.inl (bif decide (¬ p) then a else b, T)))
    (hb : B = some R → ai_ev P mid (b, T) o h) (ha : A = some R → ai_ev P mid (a, T) o h) : (if p then B else A) = some R → ai_ev P mid s o h := by
  intro hx
  by_cases q : p
  · rw [if_pos q] at hx; rw [decide_eq_false (not_not_intro q)] at hs; exact sk_ev k hs fun _ hu => ev_step hu (hb hx)
  · rw [if_neg q] at hx; rw [decide_eq_true q] at hs; exact sk_ev k hs fun _ hu => ev_step hu (ha hx)
theorem ev_ac {α : Type} {A B : Option α} {R : α} (k : Nat) {x y : Option Nat} {a b : Nat} {T : List (Option Value) × List Value × am_M} (hs : ai_sk P mid k s = some (.inl (bif decide (x = y) then a else b, T)))
    (ha : A = some R → ai_ev P mid (a, T) o h) (hb : B = some R → ai_ev P mid (b, T) o h) : (if x = y then A else B) = some R → ai_ev P mid s o h := ev_if k hs ha hb
theorem ev_sw {α : Type} {X : Option α} {R : α} (k : Nat) {ps : List (Int32 × Nat)} {d : Nat} {x : Int32} {T : List (Option Value) × List Value × am_M} (hs : ai_sk P mid k s = some (.inl (ai_sw ps d x, T)))
    (hk : X = some R → ai_ev P mid (ai_sw ps d x, T) o h) : X = some R → ai_ev P mid s o h := ev_jm k hs hk
theorem sw_c {α : Type} {A B : Option α} {R : α} {ps : List (Int32 × Nat)} {d t : Nat} {x y : Int32} {T : List (Option Value) × List Value × am_M}
    (ha : A = some R → ai_ev P mid (t, T) o h) (hb : B = some R → ai_ev P mid (ai_sw ps d x, T) o h) : (if x = y then A else B) = some R → ai_ev P mid (ai_sw ((y, t) :: ps) d x, T) o h := by
  intro hx
  unfold ai_sw
  by_cases q : x = y
  · rw [if_pos q] at hx; rw [decide_eq_true q]; exact ha hx
  · rw [if_neg q] at hx; rw [decide_eq_false q]; exact hb hx
theorem sw_n {α : Type} {A : Option α} {R : α} {d : Nat} {x : Int32} {T : List (Option Value) × List Value × am_M} (ha : A = some R → ai_ev P mid (d, T) o h) : A = some R → ai_ev P mid (ai_sw [] d x, T) o h := ha
theorem lo_e {α β : Type} {f : α → Option β} {R : β} {x : α} {S : α → ai_S} (hk : ∀ y, f y = some R → ai_ev P mid (S y) o h) : lo_l x f = some R → ai_ev P mid (S x) o h := hk x
theorem ev_om {α : Type} {A : Option α} {B : Nat → Option α} {R : α} {e : Option Nat} {S : Option Nat → ai_S} (hn : A = some R → ai_ev P mid (S none) o h) (hs : ∀ x, B x = some R → ai_ev P mid (S (some x)) o h) :
    lo_m e A B = some R → ai_ev P mid (S e) o h := by
  cases e with
  | none => exact hn
  | some x => exact hs x
theorem ev_fr {α : Type} {X : Option α} {R : α} {S : Option Nat → ai_S} (k : Nat) {e : Option Nat} {q : Nat} (hs : ai_sk P mid k s = some (.inl (S e))) (he : e = some q) (hk : X = some R → ai_ev P mid (S (some q)) o h) : X = some R → ai_ev P mid s o h := by
  subst he; exact ev_jm k hs hk
theorem ev_ln {α : Type} {X : Option α} {R : α} {S : Nat → ai_S} (k : Nat) {e q : Nat} (hs : ai_sk P mid k s = some (.inl (S e))) (he : e = q) (hk : X = some R → ai_ev P mid (S q) o h) : X = some R → ai_ev P mid s o h := by
  subst he; exact ev_jm k hs hk
theorem ev_pb {α : Type} {X : Option α} {R : α} (k : Nat) {d : Bool} {h2 : am_M} {pc : Nat} {Lc : List (Option Value)} {st : List Value}
    (hs : ai_sk P mid k s = (match (bif d then some h2 else none) with
      | some h' => ai_nx pc Lc st h'
      | none => none)) (hd : d = true) (hk : X = some R → ai_ev P mid (pc, Lc, st, h2) o h) : X = some R → ai_ev P mid s o h := by
  subst hd; exact ev_jm k hs hk
theorem ev_at {α : Type} (k : Nat) {L a : Nat} {g1 : am_G} {e : α → Option Value} {R : (α ⊕ Nat) × am_G} (hs : ai_sk P mid k s = (bif (Nat.beq (am_kd (v0 L) a) 99 && Nat.ble 32 a) && Nat.blt a (am_sz g1) then some (.inr (.inr (.inr a, (v0 L, g1)))) else none)) :
    lo_g (Nat.ble 1008 a && Nat.blt a (am_sz g1)) (some (.inr a, g1)) = some R → ai_ev P mid s (oz_r e R.1) (v0 L, R.2) := by
  refine ev_gd fun hc hR => ?_
  cases hR
  rw [Bool.and_eq_true] at hc
  have h1 : 1008 ≤ a := Nat.le_of_ble_eq_true hc.1
  refine ev_rt k ?_
  rw [hs]
  have h2 : am_kd (v0 L) a = 99 := by
    show v0_kd a = 99
    unfold v0_kd v0_kl
    have q : ∀ n, n ≤ 1008 → Nat.blt a n = false := fun n hn => by
      cases hb : Nat.blt a n with
      | false => rfl
      | true => have := Nat.le_of_ble_eq_true hb; omega
    rw [q 32 (by omega), q 55 (by omega), q 775 (by omega), q 855 (by omega), q 903 (by omega), q 943 (by omega), q 1008 (by omega)]
    rfl
  rw [h2, hc.2, show Nat.ble 32 a = true from Nat.ble_eq_true_of_le (by omega)]
  rfl
theorem sk_cl {cal : Nat} {as : List Value} {pc : Nat} {Lc : List (Option Value)} {st : List Value} {h1 h2 : am_M} {v : Option Value} (k : Nat) (hs : ai_sk P mid k s = some (.inr (.inl (cal, as, (pc, Lc, st, h1)))))
    (hc : ai_ev P cal (ai_e0 P cal as h1) (.inl v) h2) (hk : ai_ev P mid (pc, Lc, v.toList ++ st, h2) o h) : ai_ev P mid s o h :=
  sk_ev k hs fun _ hu => ev_call hu hc hk
theorem ev_op {α β : Type} {F : Option α} {K : α → Option β} {R : β} {e : α → Option Value} {cal : Nat} {as : List Value} {pc : Nat} {Lc : List (Option Value)} {st : List Value} {h1 : am_M} (k : Nat)
    (hs : ai_sk P mid k s = some (.inr (.inl (cal, as, (pc, Lc, st, h1))))) (hc : ∀ r, F = some r → ai_ev P cal (ai_e0 P cal as h1) (.inl (e r)) h1)
    (hk : ∀ x, K x = some R → ai_ev P mid (pc, Lc, (e x).toList ++ st, h1) o h) : lo_p F K = some R → ai_ev P mid s o h := by
  intro hx
  unfold lo_p at hx
  cases F with
  | none => cases hx
  | some a => exact sk_cl k hs (hc a rfl) (hk a hx)
theorem ev_ov0 {V : am_V} {β : Type} {F : Option am_G} {K : am_G → Option β} {R : β} {cal : Nat} {as : List Value} {pc : Nat} {Lc : List (Option Value)} {st : List Value} {g1 : am_G} (k : Nat)
    (hs : ai_sk P mid k s = some (.inr (.inl (cal, as, (pc, Lc, st, (V, g1)))))) (hc : ∀ r, F = some r → ai_ev P cal (ai_e0 P cal as (V, g1)) (.inl none) (V, r))
    (hk : ∀ x, K x = some R → ai_ev P mid (pc, Lc, st, (V, x)) o h) : lo_p F K = some R → ai_ev P mid s o h := by
  intro hx
  unfold lo_p at hx
  cases F with
  | none => cases hx
  | some a => exact sk_cl k hs (hc a rfl) (hk a hx)
theorem ev_oi {V : am_V} {α β : Type} {F : Option (α × am_G)} {K : α → am_G → Option β} {R : β} {e : α → Option Value} {cal : Nat} {as : List Value} {pc : Nat} {Lc : List (Option Value)} {st : List Value} {g1 : am_G} (k : Nat)
    (hs : ai_sk P mid k s = some (.inr (.inl (cal, as, (pc, Lc, st, (V, g1)))))) (hc : ∀ r, F = some r → ai_ev P cal (ai_e0 P cal as (V, g1)) (.inl (e r.1)) (V, r.2))
    (hk : ∀ x g, K x g = some R → ai_ev P mid (pc, Lc, (e x).toList ++ st, (V, g)) o h) : lo_i F K = some R → ai_ev P mid s o h := by
  intro hx
  unfold lo_i at hx
  cases F with
  | none => cases hx
  | some a => exact sk_cl k hs (hc a rfl) (hk a.1 a.2 hx)
theorem ev_ot {V : am_V} {α β : Type} {F : Option ((α ⊕ Nat) × am_G)} {K : α → am_G → Option ((β ⊕ Nat) × am_G)} {R : (β ⊕ Nat) × am_G} {e : α → Option Value} {e1 : β → Option Value} {cal : Nat} {as : List Value} {pc : Nat} {Lc : List (Option Value)} {st : List Value} {g1 : am_G} (k : Nat)
    (hs : ai_sk P mid k s = some (.inr (.inl (cal, as, (pc, Lc, st, (V, g1)))))) (hc : ∀ r, F = some r → ai_ev P cal (ai_e0 P cal as (V, g1)) (oz_r e r.1) (V, r.2)) (hq : ∀ p, P.2.2.2 mid p = none)
    (hk : ∀ x g, K x g = some R → ai_ev P mid (pc, Lc, (e x).toList ++ st, (V, g)) (oz_r e1 R.1) (V, R.2)) : lo_t F K = some R → ai_ev P mid s (oz_r e1 R.1) (V, R.2) := by
  intro hx
  unfold lo_t at hx
  cases F with
  | none => cases hx
  | some a =>
    rcases a with ⟨a | a, g⟩
    · exact sk_cl k hs (hc _ rfl) (hk a g hx)
    · cases hx; exact sk_ev k hs fun u hu => ev_thr hu (hc _ rfl) (hq u.1)
theorem ev_oc {V : am_V} {α β : Type} {F : Option ((α ⊕ Nat) × am_G)} {K : α → am_G → Option β} {Q : Nat → am_G → Option β} {R : β} {e : α → Option Value} {cal q : Nat} {as : List Value} {pc : Nat} {Lc : List (Option Value)} {st : List Value} {g1 : am_G}
    (hs : ai_s P mid s = some (.inr (.inl (cal, as, (pc, Lc, st, (V, g1)))))) (hc : ∀ r, F = some r → ai_ev P cal (ai_e0 P cal as (V, g1)) (oz_r e r.1) (V, r.2)) (hq : P.2.2.2 mid s.1 = some q)
    (hk : ∀ x g, K x g = some R → ai_ev P mid (pc, Lc, (e x).toList ++ st, (V, g)) o h) (hj : ∀ x g, Q x g = some R → ai_ev P mid (q, Lc, [.ref x], (V, g)) o h) : lo_c F K Q = some R → ai_ev P mid s o h := by
  intro hx
  unfold lo_c at hx
  cases F with
  | none => cases hx
  | some a =>
    rcases a with ⟨a | a, g⟩
    · exact ev_call hs (hc _ rfl) (hk a g hx)
    · exact ev_cat hs (hc _ rfl) hq (hj a g hx)
end
theorem lo_ev {α β : Type} {E : α → β → Prop} {b : (α → Option β) → α → Option β} (hb : ∀ k, (∀ x R, k x = some R → E x R) → ∀ x R, b k x = some R → E x R) : ∀ (n : Nat) (x : α) (R : β), lo_it b n x = some R → E x R
  | 0, _, _, h => nomatch h
  | n + 1, x, R, h => hb (lo_it b n) (lo_ev hb n) x R h
