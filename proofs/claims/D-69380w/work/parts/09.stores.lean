/-! A store in AI's memory, and in the heap. -/
theorem up_get {α : Type} {f : Nat → Nat → α} {a k : Nat} {v : α} (i j : Nat) : am_up f a k v i j = if i = a ∧ j = k then v else f i j := rfl
theorem ai_put_spec {h h' : am_M} {o k pl : Nat} {v : Value} (hp : ai_put h o k pl v = some h') :
    (am_kd h'.1 = am_kd h.1 ∧ am_ln h'.1 = am_ln h.1 ∧ am_sz h'.2 = am_sz h.2 ∧ am_us h'.2 = am_us h.2) ∧ np pl < 4 ∧ ∀ i f q, q < 4 → ai_get h' i f q = if i = o ∧ f = k ∧ q = np pl then v else ai_get h i f q := by
  have q4 : ∀ q : Nat, q < 4 → q = 0 ∨ q = 1 ∨ q = 2 ∨ q = 3 := by intro q h; omega
  unfold ai_put at hp
  split at hp
  · cases hp
    refine ⟨⟨rfl, rfl, rfl, rfl⟩, by decide, fun i f q hq => ?_⟩
    rename_i x
    rcases q4 q hq with rfl | rfl | rfl | rfl
    · show Value.int (am_up h.2.1 o k x i f) = _
      rw [up_get]
      by_cases e : i = o ∧ f = k
      · rw [if_pos e, if_pos ⟨e.1, e.2, rfl⟩]
      · rw [if_neg e, if_neg (fun z => e ⟨z.1, z.2.1⟩)]; rfl
    all_goals (rw [if_neg (fun z => absurd z.2.2 (by decide))]; rfl)
  · rename_i x
    cases hx : (decide (x = 0) || decide (x = 1)) <;> rw [hx] at hp
    · cases hp
    · cases hp
      refine ⟨⟨rfl, rfl, rfl, rfl⟩, by decide, fun i f q hq => ?_⟩
      rcases q4 q hq with rfl | rfl | rfl | rfl
      · show Value.int (am_up h.2.1 o k x i f) = _
        rw [up_get]
        by_cases e : i = o ∧ f = k
        · rw [if_pos e, if_pos ⟨e.1, e.2, rfl⟩]
        · rw [if_neg e, if_neg (fun z => e ⟨z.1, z.2.1⟩)]; rfl
      all_goals (rw [if_neg (fun z => absurd z.2.2 (by decide))]; rfl)
  · cases hp
    refine ⟨⟨rfl, rfl, rfl, rfl⟩, by decide, fun i f q hq => ?_⟩
    rename_i x
    rcases q4 q hq with rfl | rfl | rfl | rfl
    · rw [if_neg (fun z => absurd z.2.2 (by decide))]; rfl
    · show Value.long (am_up h.2.2.1 o k x i f) = _
      rw [up_get]
      by_cases e : i = o ∧ f = k
      · rw [if_pos e, if_pos ⟨e.1, e.2, rfl⟩]
      · rw [if_neg e, if_neg (fun z => e ⟨z.1, z.2.1⟩)]; rfl
    all_goals (rw [if_neg (fun z => absurd z.2.2 (by decide))]; rfl)
  · cases hp
    refine ⟨⟨rfl, rfl, rfl, rfl⟩, by decide, fun i f q hq => ?_⟩
    rcases q4 q hq with rfl | rfl | rfl | rfl
    · rw [if_neg (fun z => absurd z.2.2 (by decide))]; rfl
    · rw [if_neg (fun z => absurd z.2.2 (by decide))]; rfl
    · show am_v (am_up h.2.2.2.1 o k none i f) = _
      rw [up_get]
      by_cases e : i = o ∧ f = k
      · rw [if_pos e, if_pos ⟨e.1, e.2, rfl⟩]; rfl
      · rw [if_neg e, if_neg (fun z => e ⟨z.1, z.2.1⟩)]; rfl
    · rw [if_neg (fun z => absurd z.2.2 (by decide))]; rfl
  · cases hp
    refine ⟨⟨rfl, rfl, rfl, rfl⟩, by decide, fun i f q hq => ?_⟩
    rename_i x
    rcases q4 q hq with rfl | rfl | rfl | rfl
    · rw [if_neg (fun z => absurd z.2.2 (by decide))]; rfl
    · rw [if_neg (fun z => absurd z.2.2 (by decide))]; rfl
    · show am_v (am_up h.2.2.2.1 o k (some x) i f) = _
      rw [up_get]
      by_cases e : i = o ∧ f = k
      · rw [if_pos e, if_pos ⟨e.1, e.2, rfl⟩]; rfl
      · rw [if_neg e, if_neg (fun z => e ⟨z.1, z.2.1⟩)]; rfl
    · rw [if_neg (fun z => absurd z.2.2 (by decide))]; rfl
  · cases hp
    refine ⟨⟨rfl, rfl, rfl, rfl⟩, by decide, fun i f q hq => ?_⟩
    rename_i x
    rcases q4 q hq with rfl | rfl | rfl | rfl
    · rw [if_neg (fun z => absurd z.2.2 (by decide))]; rfl
    · rw [if_neg (fun z => absurd z.2.2 (by decide))]; rfl
    · rw [if_neg (fun z => absurd z.2.2 (by decide))]; rfl
    · show am_v (am_up h.1.2.2 o k (some x) i f) = _
      rw [up_get]
      by_cases e : i = o ∧ f = k
      · rw [if_pos e, if_pos ⟨e.1, e.2, rfl⟩]; rfl
      · rw [if_neg e, if_neg (fun z => e ⟨z.1, z.2.1⟩)]; rfl
  · cases hp
theorem sm_a_inj {w : sm_T} {i j : Nat} (hi : 32 ≤ i) (hj : 32 ≤ j) (h : sm_a w i = sm_a w j) : i = j := by
  rw [sm_a_new w hi, sm_a_new w hj] at h
  omega
theorem jp_lt : ∀ c, c < 17 → ∀ k, k < jnf c → jp c k < 4 := by decide +kernel
theorem ja_lt (k : Nat) : ja k < 4 := by unfold ja; split <;> omega
/-- the same picture of a cell that was not written -/
theorem sm_c.same {w : sm_T} {h h' : am_M} {i : Nat} {H H' : Heap} (k : sm_c w h i H) (hk : jk_ok (am_kd h.1 i)) (e1 : am_kd h'.1 = am_kd h.1) (e2 : am_ln h'.1 = am_ln h.1) (e3 : ∀ f q, q < 4 → ai_get h' i f q = ai_get h i f q) (e4 : H'[sm_a w i]? = H[sm_a w i]?) : sm_c w h' i H' := by
  refine ⟨fun q => ?_, fun q => ?_, fun q => ?_⟩
  · rw [e1] at q
    obtain ⟨cell, a, b⟩ := k.1 q
    exact ⟨cell, by rw [e4]; exact a, b⟩
  · rw [e1] at q
    have h2 := (k.2.1 q).kept e4
    unfold sm_obj
    rw [e1]
    have hc : am_kd h.1 i < 17 := by rcases hk with a | a | a; exact a.2; omega; rcases a with a | a | a | a | a | a | a <;> omega
    exact h2.to (fun f hf => by rw [e3 f _ (jp_lt _ hc f hf)])
  · rw [e1] at q
    have h2 := k.2.2 q
    unfold sm_arr at h2 ⊢
    rw [e4, e1, e2, h2]
    congr 2
    funext j
    rw [e3 j _ (ja_lt _)]
theorem sm_N.put {w : sm_T} {h h' : am_M} {o : Nat} {H H' : Heap} (N : sm_N w h H) (ho : 32 ≤ o) (e1 : am_kd h'.1 = am_kd h.1) (e2 : am_ln h'.1 = am_ln h.1) (ez : am_sz h'.2 = am_sz h.2) (e3 : ∀ i, i ≠ o → ∀ f q, q < 4 → ai_get h' i f q = ai_get h i f q)
    (hs : H'.size = H.size) (hq : ∀ q, q ≠ sm_a w o → H'[q]? = H[q]?) (hc : sm_c w h' o H') : sm_N w h' H' := by
  obtain ⟨n1, n2, n3, n4, n5, n6⟩ := N
  refine ⟨fun i hi hl => ?_, by rw [hs, ez]; exact n2, by rw [ez]; exact n3, fun i hi => by rw [e1]; exact n4 i hi, fun i hi => by rw [e1]; rw [ez] at hi; exact n5 i hi, fun i hi hl hk => by rw [e2]; rw [ez] at hl; rw [e1] at hk; exact n6 i hi hl hk⟩
  rw [ez] at hl
  by_cases e : i = o
  · subst e; exact hc
  · exact (n1 i hi hl).same (n4 i hi) e1 e2 (e3 i e) (hq _ (fun z => e (sm_a_inj hi ho z)))
/-- a field -/
theorem sm_N.putf {w : sm_T} {h h' : am_M} {o ci k pl : Nat} {v : Value} {H H' : Heap} (N : sm_N w h H) (ho : 32 ≤ o) (hc : am_kd h.1 o = ci) (h0 : 0 < ci) (h1 : ci < 17) (hk : k < jnf ci) (hp : ai_put h o k pl v = some h') (hpl : np pl = jp ci k)
    (hT : t_OB (sm_a w o) (w.2.2.1.1 ci) (jnf ci) (w.2.2.1.2 ci) H' (updV (fun f => sm_v w (ai_get h o f (jp ci f))) k (sm_v w v))) (hs : H'.size = H.size) (hq : ∀ q, q ≠ sm_a w o → H'[q]? = H[q]?) : sm_N w h' H' := by
  obtain ⟨⟨e1, e2, ez, -⟩, hn, eg⟩ := ai_put_spec hp
  refine N.put ho e1 e2 ez (fun i hi f q hq' => by rw [eg i f q hq', if_neg (fun z => hi z.1)]) hs hq ⟨fun q => by rw [e1, hc] at q; omega, fun _ => ?_, fun q => by rw [e1, hc] at q; omega⟩
  unfold sm_obj
  rw [e1, hc]
  refine hT.to (fun f hf => ?_)
  have hj := jp_lt ci h1 f hf
  rw [eg o f _ hj]
  unfold updV
  by_cases e : f = k
  · subst e; rw [if_pos rfl, if_pos ⟨rfl, rfl, hpl.symm⟩]
  · rw [if_neg e, if_neg (fun z => e z.2.1)]
/-- an array's place -/
theorem sm_N.puta {w : sm_T} {h h' : am_M} {o k j pl : Nat} {v : Value} {H H' : Heap} (N : sm_N w h H) (ho : 32 ≤ o) (hc : am_kd h.1 o = k) (h1 : 100 ≤ k) (hp : ai_put h o j pl v = some h') (hpl : np pl = ja k)
    (hT : H'[sm_a w o]? = some ((arrV (w.2.2.2 k) (am_ln h.1 o) (fun j => sm_v w (ai_get h o j (ja k)))).setSlot j (sm_v w v))) (hs : H'.size = H.size) (hq : ∀ q, q ≠ sm_a w o → H'[q]? = H[q]?) : sm_N w h' H' := by
  obtain ⟨⟨e1, e2, ez, -⟩, hn, eg⟩ := ai_put_spec hp
  refine N.put ho e1 e2 ez (fun i hi f q hq' => by rw [eg i f q hq', if_neg (fun z => hi z.1)]) hs hq ⟨fun q => by rw [e1, hc] at q; omega, fun q => by rw [e1, hc] at q; omega, fun _ => ?_⟩
  unfold sm_arr
  rw [e1, e2, hc, hT, arrV_store]
  congr 2
  funext i
  unfold updV
  rw [eg o i _ (ja_lt _)]
  by_cases e : i = j
  · subst e; rw [if_pos rfl, if_pos ⟨rfl, rfl, hpl.symm⟩]
  · rw [if_neg e, if_neg (fun z => e z.2.1)]
/-- the walk's world -/
def sm_I (w : sm_T) (h : am_M) (s : State) (H : Heap) (locs : List Loc) : Prop := sm_N w h H ∧ sm_S w h s s.heap ∧ va_S (sm_A w) s.heap H locs ∧ w.1 ≤ s.heap.size
theorem sm_I.low {w : sm_T} {h : am_M} {s : State} {H : Heap} {locs : List Loc} (I : sm_I w h s H locs) {q : Nat} (hq : q < w.1) : H[q]? = s.heap[q]? :=
  I.2.2.1.2.1 q (Nat.lt_of_lt_of_le hq I.2.2.2) (Nat.not_le.mpr hq)
/-- an object of a class of ours is a new one -/
theorem sm_I.obj {w : sm_T} {h : am_M} {s : State} {H : Heap} {locs : List Loc} (I : sm_I w h s H locs) {o ci : Nat} (hc : am_kd h.1 o = ci) (h0 : 0 < ci) (h1 : ci < 17) : 32 ≤ o ∧ o < am_sz h.2 ∧ sm_obj w h o H := by
  obtain ⟨⟨n1, n2, n3, n4, n5, n6⟩, ⟨a1, a2, a3, a4, a5, a6, a7, a8⟩, -⟩ := I
  have ho : 32 ≤ o := by
    rcases Nat.lt_or_ge o 32 with q | q
    · exfalso
      rcases Nat.lt_or_ge o 1 with r | r
      · rcases (a4 o (by omega)).1 with z | z <;> omega
      · rcases Nat.lt_or_ge o 11 with r | r
        · have := (a2 o (by omega) r).1; omega
        · rcases Nat.lt_or_ge o 16 with t | t
          · have := (a3 o r t).1; omega
          · rcases Nat.lt_or_ge o 20 with u | u
            · rcases (a4 o (by omega)).1 with z | z <;> omega
            · have := a7 o u q; omega
    · exact q
  have hl : o < am_sz h.2 := by
    rcases Nat.lt_or_ge o (am_sz h.2) with q | q
    · exact q
    · have := n5 o q; omega
  exact ⟨ho, hl, (n1 o ho hl).2.1 (by omega)⟩
/-- an array, old or new, as it is read -/
theorem sm_I.arr {w : sm_T} {h : am_M} {s : State} {H : Heap} {locs : List Loc} (I : sm_I w h s H locs) (hK : sm_K w s) {o k : Nat} (hc : am_kd h.1 o = k) (hk : jk_ar k) : sm_al w h o s H ∧ am_ln h.1 o < 2 ^ 31 := by
  have hk1 : 100 ≤ k := by rcases hk with a | a | a | a | a | a | a <;> omega
  obtain ⟨⟨n1, n2, n3, n4, n5, n6⟩, ⟨a1, a2, a3, a4, a5, a6, a7, a8⟩, hS, hw⟩ := id I
  rcases Nat.lt_or_ge o 32 with q | q
  · have hh : o = 0 ∨ (16 ≤ o ∧ o < 20) := by
      rcases Nat.lt_or_ge o 1 with r | r
      · omega
      · rcases Nat.lt_or_ge o 11 with r | r
        · have := (a2 o (by omega) r).1; omega
        · rcases Nat.lt_or_ge o 16 with t | t
          · have := (a3 o r t).1; omega
          · rcases Nat.lt_or_ge o 20 with u | u
            · omega
            · have := a7 o u q; omega
    obtain ⟨b1, b2, b3⟩ := a4 o hh
    exact ⟨b3.moved (Vm.Alike.refl s.vm) (I.low (by rw [sm_a_old w q]; exact a6 o (by omega))), b2⟩
  · have hl : o < am_sz h.2 := by
      rcases Nat.lt_or_ge o (am_sz h.2) with r | r
      · exact r
      · have := n5 o r; omega
    have h2 := (n1 o q hl).2.2 (by omega)
    refine ⟨⟨_, h2, ?_, fun z => (by cases z), ⟨Nat.le_of_eq (arrV_size _ _ _).symm, by rw [arrV_size]; rfl⟩, fun j hj => arrV_read _ _ hj⟩, n6 o q hl (by omega)⟩
    rw [hc]
    exact (hK.2.1 k hk).1 _ _
