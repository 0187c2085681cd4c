/-! One step of AI that makes nothing and calls nothing, in the machine. -/
theorem x_ldi {L : List (Option Value)} {k : Nat} {f : Int32 → Option ai_R} {r : ai_R} (hr : ai_ldi L k f = some r) : ∃ x, ai_ld L k = some (.int x) ∧ f x = some r := by
  unfold ai_ldi at hr
  split at hr
  · rename_i q; exact ⟨_, q, hr⟩
  · cases hr
theorem x_ldl {L : List (Option Value)} {k : Nat} {f : Int64 → Option ai_R} {r : ai_R} (hr : ai_ldl L k f = some r) : ∃ x, ai_ld L k = some (.long x) ∧ f x = some r := by
  unfold ai_ldl at hr
  split at hr
  · rename_i q; exact ⟨_, q, hr⟩
  · cases hr
theorem x_lda {L : List (Option Value)} {k : Nat} {f : Option Nat → Option ai_R} {r : ai_R} (hr : ai_lda L k f = some r) : ∃ x, ai_ld L k = some (am_v x) ∧ f x = some r := by
  unfold ai_lda at hr
  split at hr
  · rename_i q; exact ⟨some _, q, hr⟩
  · rename_i q; exact ⟨none, q, hr⟩
  · cases hr
theorem x_sto {o : Option (List (Option Value))} {f : List (Option Value) → Option ai_R} {r : ai_R} (hr : ai_sto o f = some r) : ∃ L, o = some L ∧ f L = some r := by
  unfold ai_sto at hr
  split at hr
  · exact ⟨_, rfl, hr⟩
  · cases hr
theorem x_bif {c : Bool} {A : Option ai_R} {r : ai_R} (hr : (bif c then A else none) = some r) : c = true ∧ A = some r := by
  cases c
  · cases hr
  · exact ⟨rfl, hr⟩
theorem ai_in_spec {j : Int32} {n : Nat} (h : ai_in j n = true) : ¬ (j < 0 ∨ n ≤ j.toNatClampNeg) := by
  simp only [ai_in, Bool.and_eq_true, decide_eq_true_eq] at h
  rintro (q | q)
  · exact absurd h.1 (Int32.not_le.mpr q)
  · have := Nat.blt_eq.mp h.2; omega
theorem ai_cat_sum (w : sm_T) (st : List Value) : ((st.map (sm_v w)).map fun v => v.category).sum = ai_cat st := by
  induction st with
  | nil => rfl
  | cons v t ih => simp only [List.map_cons, List.sum_cons, ih, ai_cat, sm_v_cat]
/-- what is fixed in a method's walk -/
def sm_F (w : sm_T) (p : Program) (s : State) (m : MethodId) (args : Array Value) (meth : Method) (c : Code) (R : Room) (mid : Nat) : Prop :=
  p.tables.exec = Jvm.exec ∧ c.code = jb mid ∧ c.maxLocals = ac_ml mid ∧ s.vm.findClass (jo (jow mid)) = some m.cls ∧ (∀ x ∈ sm_tbl, x.before args s = true) ∧ sm_K w s ∧ ((jy mid).name = "<init>" → meth.name = "<init>") ∧ jq mid ≤ R.frames ∧ jlo mid ≤ R.locals
theorem ck_ar_spec {k : Nat} (h : ck_ar k = true) : jk_ar k := by
  simp only [ck_ar, Bool.or_eq_true, Bool.and_eq_true, Nat.ble_eq, Nat.beq_eq] at h
  exact h
section
variable {s : State} {args : Array Value}
theorem fo_spec {own k a b : Nat} (hts : ∀ x ∈ sm_tbl, x.before args s = true) (h : ck_fo own k a b = true) : sm_fl s args (jo own) k (jf a b).1 (jf a b).2.1 (jf a b).2.2.1 ∧ b < jnf a := by
  obtain ⟨⟨o, k', n, a', b', t⟩, he, h1⟩ := List.any_eq_true.mp h
  simp only [Bool.and_eq_true, Nat.beq_eq] at h1
  obtain ⟨⟨rfl, rfl⟩, rfl, rfl⟩ := h1
  have h2 := List.all_eq_true.mp ck_fl _ he
  simp only [ck_f, Bool.and_eq_true] at h2
  obtain ⟨h3, h4⟩ := h2
  refine ⟨?_, Nat.blt_eq.mp h4⟩
  cases hn : Nat.beq n 0 <;> rw [hn] at h3
  · exact Or.inr (hts _ (sm_at_in h3))
  · exact Or.inl (hts _ (sm_at_in h3))
theorem fn_spec {own k a b : Nat} (hts : ∀ x ∈ sm_tbl, x.before args s = true) (h : ck_fn own k a b = true) : (Cond.fieldLink (jo own) k (jf a b).1 (jf a b).2.1 (jf a b).2.2.1).before args s = true := by
  obtain ⟨⟨o, k', n, a', b', t⟩, he, h1⟩ := List.any_eq_true.mp h
  simp only [Bool.and_eq_true, Nat.beq_eq] at h1
  obtain ⟨⟨⟨rfl, rfl⟩, rfl, rfl⟩, rfl⟩ := h1
  have h2 := List.all_eq_true.mp ck_fl _ he
  simp only [ck_f, Bool.and_eq_true] at h2
  exact hts _ (sm_at_in h2.1)
theorem so_spec {own k b : Nat} (hts : ∀ x ∈ sm_tbl, x.before args s = true) (h : ck_so own k b = true) : sm_fl s args (jo own) k (js b).1 (js b).2.1 (js b).2.2 ∧ 0 < b ∧ b < 20 := by
  obtain ⟨⟨o, k', n, b', t⟩, he, h1⟩ := List.any_eq_true.mp h
  simp only [Bool.and_eq_true, Nat.beq_eq] at h1
  obtain ⟨⟨rfl, rfl⟩, rfl⟩ := h1
  have h2 := List.all_eq_true.mp ck_sl _ he
  simp only [ck_s, Bool.and_eq_true] at h2
  obtain ⟨h3, h4, h5⟩ := h2
  refine ⟨?_, Nat.blt_eq.mp h4, Nat.blt_eq.mp h5⟩
  cases hn : Nat.beq n 0 <;> rw [hn] at h3
  · exact Or.inr (hts _ (sm_at_in h3))
  · exact Or.inl (hts _ (sm_at_in h3))
theorem kc_spec {own k : Nat} {v : Int32} (hts : ∀ x ∈ sm_tbl, x.before args s = true) (h : (jkc.any fun e => (Nat.beq e.1 own && Nat.beq e.2.1 k) && decide (e.2.2.1 = v)) = true) : (Cond.constant (jo own) k v).before args s = true := by
  obtain ⟨⟨o, k', v', t⟩, he, h1⟩ := List.any_eq_true.mp h
  simp only [Bool.and_eq_true, Nat.beq_eq, decide_eq_true_eq] at h1
  obtain ⟨⟨rfl, rfl⟩, rfl⟩ := h1
  have h2 := List.all_eq_true.mp ck_kc _ he
  exact hts _ (sm_at_in h2)
theorem kl_spec {own k : Nat} {v : Int64} (hts : ∀ x ∈ sm_tbl, x.before args s = true) (h : (jkl.any fun e => (Nat.beq e.1 own && Nat.beq e.2.1 k) && decide (e.2.2.1 = v)) = true) : (Cond.constantLong (jo own) k v).before args s = true := by
  obtain ⟨⟨o, k', v', t⟩, he, h1⟩ := List.any_eq_true.mp h
  simp only [Bool.and_eq_true, Nat.beq_eq, decide_eq_true_eq] at h1
  obtain ⟨⟨rfl, rfl⟩, rfl⟩ := h1
  have h2 := List.all_eq_true.mp ck_kl _ he
  exact hts _ (sm_at_in h2)
theorem co_spec {own k a : Nat} (hts : ∀ x ∈ sm_tbl, x.before args s = true) (h : ck_co own k a = true) : (Cond.classLink (jo own) k (jo a)).before args s = true := by
  obtain ⟨⟨o, k', a', t⟩, he, h1⟩ := List.any_eq_true.mp h
  simp only [Bool.and_eq_true, Nat.beq_eq] at h1
  obtain ⟨⟨rfl, rfl⟩, rfl⟩ := h1
  have h2 := List.all_eq_true.mp ck_cl _ he
  exact hts _ (sm_at_in h2)
theorem mo0_spec {own k : Nat} (hts : ∀ x ∈ sm_tbl, x.before args s = true) (h : ck_mo own k 0 = true) : (Cond.methodLink (jo own) k Lib.objectInit).before args s = true := by
  obtain ⟨⟨o, k', n, a', t⟩, he, h1⟩ := List.any_eq_true.mp h
  simp only [Bool.and_eq_true, Nat.beq_eq] at h1
  obtain ⟨⟨rfl, rfl⟩, rfl⟩ := h1
  have h2 := List.all_eq_true.mp ck_ml _ he
  exact hts _ (sm_at_in h2)
theorem mo_spec {own k a : Nat} (ha : 0 < a) (hts : ∀ x ∈ sm_tbl, x.before args s = true) (h : ck_mo own k a = true) : (Cond.methodLink (jo own) k (jy a)).before args s = true ∨ (Cond.methodLinkNest (jo own) k (jy a) "DeclaredMarkup").before args s = true := by
  obtain ⟨⟨o, k', n, a', t⟩, he, h1⟩ := List.any_eq_true.mp h
  simp only [Bool.and_eq_true, Nat.beq_eq] at h1
  obtain ⟨⟨rfl, rfl⟩, rfl⟩ := h1
  have h2 := List.all_eq_true.mp ck_ml _ he
  simp only [ck_m] at h2
  rw [show Nat.beq a' 0 = false from by rw [Bool.eq_false_iff]; intro q; have := Nat.eq_of_beq_eq_true q; omega] at h2
  cases hn : Nat.beq n 0 <;> rw [hn] at h2
  · exact Or.inr (hts _ (sm_at_in h2))
  · exact Or.inl (hts _ (sm_at_in h2))
end
section
variable {w : sm_T} {h h' : am_M} {s : State} {H H' : Heap} {locs : List Loc}
theorem sm_I.put (I : sm_I w h s H locs) {o k : Nat} (N : sm_N w h' H') (le : am_le h h') (ho : 32 ≤ o) (e2 : H'.size = H.size) (e3 : ∀ q, q ≠ sm_a w o → H'[q]? = H[q]?) : sm_I w h' s H' (locs ++ [⟨sm_a w o, k⟩]) :=
  ⟨N, I.2.1.le le, I.2.2.1.put e2 e3 (by show w.1 ≤ sm_a w o; rw [sm_a_new w ho]; omega), I.2.2.2⟩
theorem sm_I.lt (I : sm_I w h s H locs) {o k : Nat} (hk : am_kd h.1 o = k) (h9 : k ≠ 99) : o < am_sz h.2 := by
  rcases Nat.lt_or_ge o (am_sz h.2) with q | q
  · exact q
  · exact absurd ((I.1.2.2.2.2.1 o q).symm.trans hk) (fun z => h9 z.symm)
theorem sm_I.c17 (I : sm_I w h s H locs) {o : Nat} (hk : am_kd h.1 o = 17) : 0 < o ∧ o < 11 := by
  obtain ⟨⟨n1, n2, n3, n4, n5, n6⟩, ⟨a1, a2, a3, a4, a5, a6, a7, a8⟩, -⟩ := I
  rcases Nat.lt_or_ge o 32 with q | q
  · rcases Nat.lt_or_ge o 1 with r | r
    · rcases (a4 o (by omega)).1 with z | z <;> omega
    · rcases Nat.lt_or_ge o 11 with r | r
      · omega
      · rcases Nat.lt_or_ge o 16 with t | t
        · have := (a3 o r t).1; omega
        · rcases Nat.lt_or_ge o 20 with u | u
          · rcases (a4 o (by omega)).1 with z | z <;> omega
          · have := a7 o u q; omega
  · exfalso
    rcases n4 o q with z | z | z | z | z | z | z | z | z <;> omega
theorem sm_I.c18 (I : sm_I w h s H locs) {o : Nat} (hk : am_kd h.1 o = 18) : 11 ≤ o ∧ o < 16 := by
  obtain ⟨⟨n1, n2, n3, n4, n5, n6⟩, ⟨a1, a2, a3, a4, a5, a6, a7, a8⟩, -⟩ := I
  rcases Nat.lt_or_ge o 32 with q | q
  · rcases Nat.lt_or_ge o 1 with r | r
    · rcases (a4 o (by omega)).1 with z | z <;> omega
    · rcases Nat.lt_or_ge o 11 with r | r
      · have := (a2 o (by omega) r).1; omega
      · rcases Nat.lt_or_ge o 16 with t | t
        · omega
        · rcases Nat.lt_or_ge o 20 with u | u
          · rcases (a4 o (by omega)).1 with z | z <;> omega
          · have := a7 o u q; omega
  · exfalso
    rcases n4 o q with z | z | z | z | z | z | z | z | z <;> omega
end
