/-! Variables; AI's memory grows. -/
def sm_l (w : sm_T) (L : List (Option Value)) (ls : Array Slot) (nL : Nat) : Prop := ls.size = nL ∧ lv_wf ls ∧ L.length = nL ∧ ∀ k v, ai_ld L k = some v → ls[k]? = some (.val (sm_v w v))
theorem ai_ld_lt : ∀ (L : List (Option Value)) (k : Nat) (v : Value), ai_ld L k = some v → k < L.length
  | [], _, _, h => by simp [ai_ld] at h
  | _ :: _, 0, _, _ => by simp
  | _ :: t, k + 1, v, h => by
    have := ai_ld_lt t k v (by simpa [ai_ld] using h)
    simp; omega
theorem ai_nl_some {x : Option Value} {u : Value} (h : ai_nl x = some u) : x = some u ∧ u.category = 1 := by
  cases x with
  | none => simp [ai_nl] at h
  | some v => cases v <;> simp_all [ai_nl] <;> (subst h; rfl)
theorem ai_s1_ld : ∀ (L : List (Option Value)) (i : Nat) (v : Value) (L' : List (Option Value)), ai_s1 L i v = some L' → i < L.length ∧ L'.length = L.length ∧ ∀ k u, ai_ld L' k = some u → (k = i ∧ u = v) ∨ (k ≠ i ∧ ai_ld L k = some u ∧ (k + 1 = i → u.category = 1))
  | [], _, _, _, h => by simp [ai_s1] at h
  | x :: t, 0, v, L', h => by
    simp only [ai_s1, Option.some.injEq] at h
    subst h
    refine ⟨by simp, by simp, fun k u hk => ?_⟩
    cases k with
    | zero => left; simp only [ai_ld, Option.some.injEq] at hk; exact ⟨rfl, hk.symm⟩
    | succ k => right; exact ⟨by omega, by simpa [ai_ld] using hk, by omega⟩
  | x :: t, i + 1, v, L', h => by
    simp only [ai_s1, Option.map_eq_some_iff] at h
    obtain ⟨t', ht, rfl⟩ := h
    obtain ⟨a1, a2, a3⟩ := ai_s1_ld t i v t' ht
    refine ⟨by simp; omega, by simp [a2], fun k u hk => ?_⟩
    cases k with
    | zero =>
      right
      simp only [ai_ld] at hk
      by_cases hi : i = 0
      · subst hi
        simp only [show Nat.beq 0 0 = true from rfl, cond_true] at hk
        obtain ⟨b1, b2⟩ := ai_nl_some hk
        exact ⟨by omega, by simp [ai_ld, b1], fun _ => b2⟩
      · have : Nat.beq i 0 = false := by rw [Bool.eq_false_iff]; intro q; exact hi (Nat.eq_of_beq_eq_true q)
        simp only [this, cond_false] at hk
        exact ⟨by omega, by simpa [ai_ld] using hk, fun q => by omega⟩
    | succ k =>
      rcases a3 k u (by simpa [ai_ld] using hk) with ⟨b1, b2⟩ | ⟨b1, b2, b3⟩
      · left; exact ⟨by omega, b2⟩
      · right; exact ⟨by omega, by simpa [ai_ld] using b2, fun q => b3 (by omega)⟩
theorem ai_s2_ld : ∀ (L : List (Option Value)) (i : Nat) (v : Value) (L' : List (Option Value)), ai_s2 L i v = some L' → i + 1 < L.length ∧ L'.length = L.length ∧ ∀ k u, ai_ld L' k = some u → (k = i ∧ u = v) ∨ (k ≠ i ∧ k ≠ i + 1 ∧ ai_ld L k = some u ∧ (k + 1 = i → u.category = 1))
  | [], 0, _, _, h => by simp [ai_s2] at h
  | [], _ + 1, _, _, h => by simp [ai_s2] at h
  | [_], 0, _, _, h => by simp [ai_s2] at h
  | x :: y :: t, 0, v, L', h => by
    simp only [ai_s2, Option.some.injEq] at h
    subst h
    refine ⟨by simp, by simp, fun k u hk => ?_⟩
    match k, hk with
    | 0, hk => left; simp only [ai_ld, Option.some.injEq] at hk; exact ⟨rfl, hk.symm⟩
    | 1, hk => simp [ai_ld] at hk
    | k + 2, hk => right; exact ⟨by omega, by omega, by simpa [ai_ld] using hk, by omega⟩
  | x :: t, i + 1, v, L', h => by
    simp only [ai_s2, Option.map_eq_some_iff] at h
    obtain ⟨t', ht, rfl⟩ := h
    obtain ⟨a1, a2, a3⟩ := ai_s2_ld t i v t' ht
    refine ⟨by simp; omega, by simp [a2], fun k u hk => ?_⟩
    cases k with
    | zero =>
      right
      simp only [ai_ld] at hk
      by_cases hi : i = 0
      · subst hi
        simp only [show Nat.beq 0 0 = true from rfl, cond_true] at hk
        obtain ⟨b1, b2⟩ := ai_nl_some hk
        exact ⟨by omega, by omega, by simp [ai_ld, b1], fun _ => b2⟩
      · have : Nat.beq i 0 = false := by rw [Bool.eq_false_iff]; intro q; exact hi (Nat.eq_of_beq_eq_true q)
        simp only [this, cond_false] at hk
        exact ⟨by omega, by omega, by simpa [ai_ld] using hk, fun q => by omega⟩
    | succ k =>
      rcases a3 k u (by simpa [ai_ld] using hk) with ⟨b1, b2⟩ | ⟨b1, b2, b3, b4⟩
      · left; exact ⟨by omega, b2⟩
      · right; exact ⟨by omega, by omega, by simpa [ai_ld] using b3, fun q => b4 (by omega)⟩
theorem ai_km_ld : ∀ (m : List Bool) (L : List (Option Value)) (k : Nat) (v : Value), ai_ld (ai_km m L) k = some v → ai_ld L k = some v
  | [], L, k, v, h => by simpa [ai_km] using h
  | b :: m, [], k, v, h => by simpa [ai_km] using h
  | b :: m, x :: t, 0, v, h => by
    cases b <;> simp [ai_km, ai_ld] at h ⊢
    exact h
  | b :: m, x :: t, k + 1, v, h => by
    simp only [ai_km, ai_ld] at h ⊢
    exact ai_km_ld m t k v h
theorem ai_km_len : ∀ (m : List Bool) (L : List (Option Value)), (ai_km m L).length = L.length
  | [], L => by simp [ai_km]
  | b :: m, [] => by simp [ai_km]
  | b :: m, x :: t => by simp [ai_km, ai_km_len m t]
theorem sm_l.km {w : sm_T} {L : List (Option Value)} {ls : Array Slot} {nL : Nat} (h : sm_l w L ls nL) (m : List Bool) : sm_l w (ai_km m L) ls nL :=
  ⟨h.1, h.2.1, by rw [ai_km_len]; exact h.2.2.1, fun k v q => h.2.2.2 k v (ai_km_ld m L k v q)⟩
/-- the known variables, as the kit lists them -/
def sm_lp (w : sm_T) : Nat → List (Option Value) → List (Nat × Value)
  | _, [] => []
  | k, none :: t => sm_lp w (k + 1) t
  | k, some v :: t => (k, sm_v w v) :: sm_lp w (k + 1) t
theorem sm_lp_mem (w : sm_T) : ∀ (L : List (Option Value)) (k0 : Nat) (q : Nat × Value), q ∈ sm_lp w k0 L ↔ ∃ j v, ai_ld L j = some v ∧ q = (k0 + j, sm_v w v)
  | [], k0, q => by simp [sm_lp, ai_ld]
  | none :: t, k0, q => by
    rw [sm_lp, sm_lp_mem w t (k0 + 1) q]
    constructor
    · rintro ⟨j, v, a, b⟩; exact ⟨j + 1, v, by simpa [ai_ld] using a, by rw [b]; congr 1; omega⟩
    · rintro ⟨j, v, a, b⟩
      cases j with
      | zero => simp [ai_ld] at a
      | succ j => exact ⟨j, v, by simpa [ai_ld] using a, by rw [b]; congr 1; omega⟩
  | some u :: t, k0, q => by
    rw [sm_lp, List.mem_cons, sm_lp_mem w t (k0 + 1) q]
    constructor
    · rintro (rfl | ⟨j, v, a, b⟩)
      · exact ⟨0, u, by simp [ai_ld], rfl⟩
      · exact ⟨j + 1, v, by simpa [ai_ld] using a, by rw [b]; congr 1; omega⟩
    · rintro ⟨j, v, a, b⟩
      cases j with
      | zero => left; simp only [ai_ld, Option.some.injEq] at a; subst a; exact b
      | succ j => right; exact ⟨j, v, by simpa [ai_ld] using a, by rw [b]; congr 1; omega⟩
theorem sm_l.has {w : sm_T} {L : List (Option Value)} {ls : Array Slot} {nL : Nat} (h : sm_l w L ls nL) : lv_has ls nL (sm_lp w 0 L) :=
  ⟨h.1, h.2.1, fun q hq => by
    obtain ⟨j, v, a, rfl⟩ := (sm_lp_mem w L 0 q).mp hq
    simpa using h.2.2.2 j v a⟩
theorem sm_l.s1 {w : sm_T} {L L' : List (Option Value)} {ls' : Array Slot} {nL i : Nat} {v : Value} (hL : L.length = nL) (hs : ai_s1 L i v = some L') (h : lv_has ls' nL ((i, sm_v w v) :: (sm_lp w 0 L).filter (fun q => !(q.1 == i) && !(q.1 + 1 == i && q.2.category == 2)))) : sm_l w L' ls' nL := by
  obtain ⟨a1, a2, a3⟩ := ai_s1_ld L i v L' hs
  refine ⟨h.1, h.2.1, a2.trans hL, fun k u hk => ?_⟩
  rcases a3 k u hk with ⟨rfl, rfl⟩ | ⟨b1, b2, b3⟩
  · exact h.2.2 _ List.mem_cons_self
  · refine h.2.2 (k, sm_v w u) (List.mem_cons_of_mem _ (List.mem_filter.mpr ⟨(sm_lp_mem w L 0 _).mpr ⟨k, u, b2, by simp⟩, ?_⟩))
    simp only [Bool.and_eq_true, Bool.not_eq_true', beq_eq_false_iff_ne, ne_eq, Bool.and_eq_false_iff]
    refine ⟨b1, ?_⟩
    by_cases q : k + 1 = i
    · right; rw [sm_v_cat, b3 q]; decide
    · left; exact q
theorem sm_l.s2 {w : sm_T} {L L' : List (Option Value)} {ls' : Array Slot} {nL i : Nat} {v : Value} (hL : L.length = nL) (hs : ai_s2 L i v = some L') (h : lv_has ls' nL ((i, sm_v w v) :: (sm_lp w 0 L).filter (fun q => !(q.1 == i) && (!(q.1 == i + 1) && !(q.1 + 1 == i && q.2.category == 2))))) : sm_l w L' ls' nL := by
  obtain ⟨a1, a2, a3⟩ := ai_s2_ld L i v L' hs
  refine ⟨h.1, h.2.1, a2.trans hL, fun k u hk => ?_⟩
  rcases a3 k u hk with ⟨rfl, rfl⟩ | ⟨b1, b0, b2, b3⟩
  · exact h.2.2 _ List.mem_cons_self
  · refine h.2.2 (k, sm_v w u) (List.mem_cons_of_mem _ (List.mem_filter.mpr ⟨(sm_lp_mem w L 0 _).mpr ⟨k, u, b2, by simp⟩, ?_⟩))
    simp only [Bool.and_eq_true, Bool.not_eq_true', beq_eq_false_iff_ne, ne_eq, Bool.and_eq_false_iff]
    refine ⟨b1, b0, ?_⟩
    by_cases q : k + 1 = i
    · right; rw [sm_v_cat, b3 q]; decide
    · left; exact q
/-! growth -/
theorem le_si {h : am_M} {o k : Nat} {x : Int32} (ho : 32 ≤ o) : am_le h (h.1, am_si h.2 o k x) := by
  refine ⟨Nat.le_refl _, Nat.le_refl _, fun i hi => ⟨rfl, rfl, fun _ => rfl, fun q => ?_, fun _ => rfl, fun _ => rfl⟩⟩
  show am_up h.2.1 o k x i q = h.2.1 i q
  unfold am_up
  rw [if_neg (by omega)]
theorem le_sj {h : am_M} {o k : Nat} {x : Int64} (ho : 32 ≤ o) : am_le h (h.1, am_sj h.2 o k x) := by
  refine ⟨Nat.le_refl _, Nat.le_refl _, fun i hi => ⟨rfl, rfl, fun _ => rfl, fun _ => rfl, fun q => ?_, fun _ => rfl⟩⟩
  show am_up h.2.2.1 o k x i q = h.2.2.1 i q
  unfold am_up
  rw [if_neg (by omega)]
theorem le_sr {h : am_M} {o k : Nat} {x : Option Nat} (ho : 32 ≤ o) : am_le h (h.1, am_sr h.2 o k x) := by
  refine ⟨Nat.le_refl _, Nat.le_refl _, fun i hi => ⟨rfl, rfl, fun _ => rfl, fun _ => rfl, fun _ => rfl, fun q => ?_⟩⟩
  show am_up h.2.2.2.1 o k x i q = h.2.2.2.1 i q
  unfold am_up
  rw [if_neg (by omega)]
theorem le_sf {h : am_M} {o k : Nat} {x : Option Nat} (ho : 32 ≤ o) : am_le h (am_sf h o k x) := by
  refine ⟨Nat.le_refl _, Nat.le_refl _, fun i hi => ⟨rfl, rfl, fun q => ?_, fun _ => rfl, fun _ => rfl, fun _ => rfl⟩⟩
  show am_up h.1.2.2 o k x i q = h.1.2.2 i q
  unfold am_up
  rw [if_neg (by omega)]
theorem le_put {h h' : am_M} {o k pl : Nat} {v : Value} (ho : 32 ≤ o) (hp : ai_put h o k pl v = some h') : am_le h h' := by
  unfold ai_put at hp
  split at hp
  · cases hp; exact le_si ho
  · rename_i x
    cases hx : (decide (x = 0) || decide (x = 1)) <;> rw [hx] at hp
    · cases hp
    · cases hp; exact le_si ho
  · cases hp; exact le_sj ho
  · cases hp; exact le_sr ho
  · cases hp; exact le_sr ho
  · cases hp; exact le_sf ho
  · cases hp
theorem u1_ne {α : Type} {f : Nat → α} {a i : Nat} {v : α} (h : i ≠ a) : am_u1 f a v i = f i := by unfold am_u1; rw [if_neg h]
theorem u1_eq {α : Type} {f : Nat → α} {a : Nat} {v : α} : am_u1 f a v a = v := by unfold am_u1; rw [if_pos rfl]
theorem le_new {h : am_M} {kind len n : Nat} (hz : 32 ≤ am_sz h.2) : am_le h (am_new h kind len n) := by
  refine ⟨Nat.le_succ _, Nat.le_add_right _ _, fun i hi => ?_⟩
  have hne : i ≠ h.2.2.2.2.1 := by have : 32 ≤ h.2.2.2.2.1 := hz; omega
  exact ⟨u1_ne hne, u1_ne hne, fun k => congrFun (u1_ne hne) k, fun k => congrFun (u1_ne hne) k, fun k => congrFun (u1_ne hne) k, fun k => congrFun (u1_ne hne) k⟩
theorem le_cp {h : am_M} {o : Nat} (hz : 32 ≤ am_sz h.2) : am_le h (am_cp h o) := by
  refine ⟨Nat.le_succ _, Nat.le_add_right _ _, fun i hi => ?_⟩
  have hne : i ≠ h.2.2.2.2.1 := by have : 32 ≤ h.2.2.2.2.1 := hz; omega
  exact ⟨u1_ne hne, u1_ne hne, fun k => congrFun (u1_ne hne) k, fun k => congrFun (u1_ne hne) k, fun k => congrFun (u1_ne hne) k, fun k => congrFun (u1_ne hne) k⟩
theorem le_ex {h : am_M} : am_le h (h.1, am_ex h.2) := ⟨Nat.le_succ _, Nat.le_add_right _ _, fun _ _ => ⟨rfl, rfl, fun _ => rfl, fun _ => rfl, fun _ => rfl, fun _ => rfl⟩⟩

def ai_rm (r : ai_R) : am_M := match r with
  | .inl s => s.2.2.2
  | .inr (.inl q) => q.2.2.2.2.2
  | .inr (.inr q) => q.2
section
variable {Q : ai_R → Prop} {L : List (Option Value)} {k : Nat} {r : ai_R}
theorem q_ldi {f : Int32 → Option ai_R} (h : ∀ x r, f x = some r → Q r) (hr : ai_ldi L k f = some r) : Q r := by
  unfold ai_ldi at hr
  split at hr
  · exact h _ _ hr
  · cases hr
theorem q_ldl {f : Int64 → Option ai_R} (h : ∀ x r, f x = some r → Q r) (hr : ai_ldl L k f = some r) : Q r := by
  unfold ai_ldl at hr
  split at hr
  · exact h _ _ hr
  · cases hr
theorem q_lda {f : Option Nat → Option ai_R} (h : ∀ x r, f x = some r → Q r) (hr : ai_lda L k f = some r) : Q r := by
  unfold ai_lda at hr
  split at hr
  · exact h _ _ hr
  · exact h _ _ hr
  · cases hr
theorem q_sto {o : Option (List (Option Value))} {f : List (Option Value) → Option ai_R} (h : ∀ x r, f x = some r → Q r) (hr : ai_sto o f = some r) : Q r := by
  unfold ai_sto at hr
  split at hr
  · exact h _ _ hr
  · cases hr
theorem q_bif {c : Bool} {A : Option ai_R} (h : c = true → ∀ r, A = some r → Q r) (hr : (bif c then A else none) = some r) : Q r := by
  cases c
  · cases hr
  · exact h rfl _ hr
theorem q_bi2 {c : Bool} {A B : Option ai_R} (h : c = true → ∀ r, A = some r → Q r) (h2 : c = false → ∀ r, B = some r → Q r) (hr : (bif c then A else B) = some r) : Q r := by
  cases c
  · exact h2 rfl _ hr
  · exact h rfl _ hr
end
theorem b32 {a : Bool} {o : Nat} (h : (a && Nat.ble 32 o) = true) : 32 ≤ o := by
  rw [Bool.and_eq_true] at h
  exact Nat.le_of_ble_eq_true h.2
set_option maxHeartbeats 4000000 in
theorem le_sx {i : ai_J} {rz pc : Nat} {L : List (Option Value)} {st : List Value} {h : am_M} {r : ai_R} (hz : 32 ≤ am_sz h.2) (hr : ai_sx i rz pc L st h = some r) : am_le h (ai_rm r) := by
  unfold ai_sx at hr
  split at hr
  all_goals first
    | (cases hr; done)
    | (refine q_bi2 (Q := fun r => am_le h (ai_rm r)) (fun hc r hr => ?_) (fun hc r hr => ?_) hr; (· cases hr); (· cases hr; exact am_le.rf _))
    | (cases hr; exact am_le.rf _)
    | (refine q_ldi (Q := fun r => am_le h (ai_rm r)) (fun x r hr => ?_) hr; first | (cases hr; exact am_le.rf _) | (refine q_sto (Q := fun r => am_le h (ai_rm r)) (fun x r hr => ?_) hr; cases hr; exact am_le.rf _))
    | (refine q_ldl (Q := fun r => am_le h (ai_rm r)) (fun x r hr => ?_) hr; cases hr; exact am_le.rf _)
    | (refine q_lda (Q := fun r => am_le h (ai_rm r)) (fun x r hr => ?_) hr; cases hr; exact am_le.rf _)
    | (refine q_sto (Q := fun r => am_le h (ai_rm r)) (fun x r hr => ?_) hr; cases hr; exact am_le.rf _)
    | (refine q_bif (Q := fun r => am_le h (ai_rm r)) (fun hc r hr => ?_) hr; cases hr; exact am_le.rf _)
    | (refine q_bif (Q := fun r => am_le h (ai_rm r)) (fun hc r hr => ?_) hr; cases hr; exact le_new hz)
    | (refine q_bif (Q := fun r => am_le h (ai_rm r)) (fun hc r hr => ?_) hr; cases hr; simp only [Bool.and_eq_true] at hc; exact le_si (Nat.le_of_ble_eq_true hc.1.2))
    | (refine q_bif (Q := fun r => am_le h (ai_rm r)) (fun hc r hr => ?_) hr; cases hr; simp only [Bool.and_eq_true] at hc; exact le_sj (Nat.le_of_ble_eq_true hc.1.2))
    | (refine q_bif (Q := fun r => am_le h (ai_rm r)) (fun hc r hr => ?_) hr; split at hr; (· cases hr; simp only [Bool.and_eq_true] at hc; rename_i hp; first | exact le_put (Nat.le_of_ble_eq_true hc.2) hp | exact le_put (Nat.le_of_ble_eq_true hc.1.1.2) hp); cases hr)
    | (split at hr; (· cases hr; exact am_le.rf _); cases hr)
    | (refine q_bi2 (Q := fun r => am_le h (ai_rm r)) (fun hc r hr => ?_) (fun hc r hr => ?_) hr; (· refine q_bif (Q := fun r => am_le h (ai_rm r)) (fun hc r hr => ?_) hr; cases hr; exact le_ex); (· cases hr; exact le_new hz))
    | (refine q_bi2 (Q := fun r => am_le h (ai_rm r)) (fun hc r hr => ?_) (fun hc r hr => ?_) hr; (· cases hr; exact am_le.rf _); (· refine q_bif (Q := fun r => am_le h (ai_rm r)) (fun hc r hr => ?_) hr; cases hr; exact am_le.rf _))
    | (split at hr; (· refine q_bif (Q := fun r => am_le h (ai_rm r)) (fun hc r hr => ?_) hr; cases hr; exact am_le.rf _); cases hr)
    | (refine q_bi2 (Q := fun r => am_le h (ai_rm r)) (fun hc r hr => ?_) (fun hc r hr => ?_) hr; (· split at hr; (· refine q_bif (Q := fun r => am_le h (ai_rm r)) (fun hc r hr => ?_) hr; cases hr; exact am_le.rf _); cases hr); (· split at hr; (· refine q_bif (Q := fun r => am_le h (ai_rm r)) (fun hc r hr => ?_) hr; cases hr; exact am_le.rf _); cases hr))
    | (refine q_bi2 (Q := fun r => am_le h (ai_rm r)) (fun hc r hr => ?_) (fun hc r hr => ?_) hr; (· split at hr; (· refine q_bif (Q := fun r => am_le h (ai_rm r)) (fun hc r hr => ?_) hr; cases hr; exact le_cp hz); cases hr); (· split at hr; (· refine q_bif (Q := fun r => am_le h (ai_rm r)) (fun hc r hr => ?_) hr; cases hr; exact am_le.rf _); cases hr))
theorem le_go {P : ai_P} : ∀ (n mid : Nat) (s : ai_S) (o : ai_O) (h : am_M), ai_go P n mid s = some (o, h) → 32 ≤ am_sz s.2.2.2.2 → am_le s.2.2.2 h := by
  intro n
  induction n with
  | zero => intro mid s o h hg; simp [ai_go] at hg
  | succ n ih =>
    intro mid s o h hg hz
    unfold ai_go at hg
    cases hs : ai_s P mid s with
    | none => rw [hs] at hg; cases hg
    | some x =>
      rw [hs] at hg
      have hx : am_le s.2.2.2 (ai_rm x) := by
        unfold ai_s at hs
        split at hs
        · exact le_sx hz hs
        · cases hs
      rcases x with t | ⟨cal, as, t⟩ | q
      · exact hx.tr (ih _ _ _ _ hg (Nat.le_trans hz hx.1))
      · simp only at hg
        have hx' : am_le s.2.2.2 t.2.2.2 := hx
        cases hc : ai_go P n cal (ai_e0 P cal as t.2.2.2) with
        | none => rw [hc] at hg; cases hg
        | some y =>
          rw [hc] at hg
          obtain ⟨o1, h1⟩ := y
          have h2 : am_le t.2.2.2 h1 := ih cal (ai_e0 P cal as t.2.2.2) o1 h1 hc (Nat.le_trans hz hx'.1)
          have hz1 : 32 ≤ am_sz h1.2 := Nat.le_trans hz (Nat.le_trans hx'.1 h2.1)
          rcases o1 with v | a
          · exact (hx'.tr h2).tr (ih _ _ _ _ hg hz1)
          · simp only at hg
            cases hq : P.2.2.2 mid s.1 with
            | none => rw [hq] at hg; cases hg; exact hx'.tr h2
            | some q => rw [hq] at hg; exact (hx'.tr h2).tr (ih _ _ _ _ hg hz1)
      · cases hg; exact hx
