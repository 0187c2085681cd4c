/-! How AI's memory lies in the machine's heap. -/
/-- the world: the first new cell, where the old objects lie, the classes' numbers and slots, the arrays' classes (0: the exception's) -/
abbrev sm_T : Type := Nat × (Nat → Nat) × va_G × (Nat → ClassId)
def sm_a (w : sm_T) (i : Nat) : Nat := bif Nat.blt i 32 then w.2.1 i else w.1 + (i - 32)
def sm_v (w : sm_T) (v : Value) : Value := match v with
  | .ref i => .ref (sm_a w i)
  | v => v
theorem sm_v_int (w : sm_T) (x : Int32) : sm_v w (.int x) = .int x := rfl
theorem sm_v_long (w : sm_T) (x : Int64) : sm_v w (.long x) = .long x := rfl
theorem sm_v_null (w : sm_T) : sm_v w .null = .null := rfl
theorem sm_v_ref (w : sm_T) (i : Nat) : sm_v w (.ref i) = .ref (sm_a w i) := rfl
theorem sm_v_cat (w : sm_T) (v : Value) : (sm_v w v).category = v.category := by cases v <;> rfl
theorem sm_a_new (w : sm_T) {i : Nat} (h : 32 ≤ i) : sm_a w i = w.1 + (i - 32) := by
  unfold sm_a
  rw [show Nat.blt i 32 = false from by rw [Bool.eq_false_iff]; intro q; have := Nat.blt_eq.mp q; omega]
  rfl
theorem sm_a_old (w : sm_T) {i : Nat} (h : i < 32) : sm_a w i = w.2.1 i := by
  unfold sm_a
  rw [show Nat.blt i 32 = true from Nat.blt_eq.mpr h]
  rfl
def sm_obj (w : sm_T) (h : am_M) (i : Nat) (H : Heap) : Prop := t_OB (sm_a w i) (w.2.2.1.1 (am_kd h.1 i)) (jnf (am_kd h.1 i)) (w.2.2.1.2 (am_kd h.1 i)) H (fun f => sm_v w (ai_get h i f (jp (am_kd h.1 i) f)))
def sm_arr (w : sm_T) (h : am_M) (i : Nat) (H : Heap) : Prop := H[sm_a w i]? = some (arrV (w.2.2.2 (am_kd h.1 i)) (am_ln h.1 i) (fun j => sm_v w (ai_get h i j (ja (am_kd h.1 i)))))
def sm_exc (w : sm_T) (i : Nat) (H : Heap) : Prop := ∃ cell : Cell, H[sm_a w i]? = some cell ∧ cell.cls = w.2.2.2 0 ∧ cell.vm = .none
def sm_c (w : sm_T) (h : am_M) (i : Nat) (H : Heap) : Prop :=
  (am_kd h.1 i = 99 → sm_exc w i H) ∧ (am_kd h.1 i < 99 → sm_obj w h i H) ∧ (100 ≤ am_kd h.1 i → sm_arr w h i H)
theorem sm_c.kept {w : sm_T} {h : am_M} {i : Nat} {H H1 : Heap} (k : sm_c w h i H) (e : H1[sm_a w i]? = H[sm_a w i]?) : sm_c w h i H1 :=
  ⟨fun q => by obtain ⟨cell, a, b⟩ := k.1 q; exact ⟨cell, by rw [e]; exact a, b⟩, fun q => (k.2.1 q).kept e, fun q => by unfold sm_arr; rw [e]; exact k.2.2 q⟩
/-- the kinds of arrays; the kinds that there are: 1..16 classes, 99 an exception or nothing, arrays -/
def jk_ar (k : Nat) : Prop := (101 ≤ k ∧ k ≤ 105) ∨ k = 118 ∨ k = 120 ∨ k = 121 ∨ k = 122 ∨ k = 125 ∨ k = 127
def jk_ok (k : Nat) : Prop := (0 < k ∧ k < 17) ∨ k = 99 ∨ jk_ar k
/-- the new cells -/
def sm_N (w : sm_T) (h : am_M) (H : Heap) : Prop := (∀ i, 32 ≤ i → i < am_sz h.2 → sm_c w h i H) ∧ H.size = w.1 + (am_sz h.2 - 32) ∧ 32 ≤ am_sz h.2 ∧ (∀ i, 32 ≤ i → jk_ok (am_kd h.1 i)) ∧ (∀ i, am_sz h.2 ≤ i → am_kd h.1 i = 99) ∧ ∀ i, 32 ≤ i → i < am_sz h.2 → 100 ≤ am_kd h.1 i → am_ln h.1 i < 2 ^ 31
/-- an array, as it is read -/
def sm_al (w : sm_T) (h : am_M) (i : Nat) (s : State) (H : Heap) : Prop := ∃ cell : Cell, H[sm_a w i]? = some cell ∧ s.isArrayOf cell (jt (am_kd h.1 i)) ∧ cell.vm ≠ .unknown ∧ (am_ln h.1 i ≤ cell.slots.size ∧ cell.slots.size.toInt32 = nI (am_ln h.1 i)) ∧
  ∀ j, j < am_ln h.1 i → cell.slots[j]? = some (sm_v w (ai_get h i j (ja (am_kd h.1 i))))
def sm_A (w : sm_T) : Nat → Prop := fun q => w.1 ≤ q
/-- a static reference of Throwable's -/
def sm_Z (w : sm_T) (C n d : String) (U : State) (H : Heap) : Prop := ∃ (c : ClassId) (k : Class) (i : Nat) (f : Field) (a : Nat) (cell : Cell) (v : Value), U.vm.findClass C = some c ∧ U.fieldFound? C n d = some (c, k, i, f) ∧ f.isStatic = true ∧ k.statics = some a ∧ H[a]? = some cell ∧ cell.vm.isStatics = true ∧ cell.cls = c ∧ f.slot < cell.slots.size ∧ k.staticTypes[f.slot]? = some f.type ∧ cell.slots[f.slot]? = some v ∧ v.isRef = true ∧ a < w.1
theorem sm_Z.moved {w : sm_T} {C n d : String} {s s' : State} {H H' : Heap} (hvm : s.vm.Alike s'.vm) (hq : ∀ a : Nat, a < w.1 → H'[a]? = H[a]?) (k : sm_Z w C n d s H) : sm_Z w C n d s' H' := by
  obtain ⟨c, k, i, f, a, cell, v, h1, h2, h3, h4, h5, h6, h7, h8, h9, h10, h11, h12⟩ := k
  obtain ⟨k', hi', he⟩ := State.fieldFound?_setVm hvm h2
  exact ⟨c, k', i, f, a, cell, v, by rw [hvm.findClass]; exact h1, hi', h3, by rw [he]; exact h4, by rw [hq a h12]; exact h5, h6, h7, h8, by rw [he]; exact h9, h10, h11, h12⟩
theorem sm_Z.lays {w : sm_T} {C n d : String} {s : State} {args : Array Value} (k : sm_Z w C n d s s.heap) : (Cond.laysStatic C n d).before args s = true := by
  obtain ⟨c, k, i, f, a, cell, v, h1, h2, h3, h4, h5, h6, h7, h8, h9, h10, h11, h12⟩ := k
  exact Cond.laysStatic_of h1 h2 h3 h4 h5 h6 h7 h8 h9
theorem sm_Z.isr {w : sm_T} {C n d : String} {s : State} {args : Array Value} (k : sm_Z w C n d s s.heap) : (Cond.isRef (.static C n d)).before args s = true := by
  obtain ⟨c, k, i, f, a, cell, v, h1, h2, h3, h4, h5, h6, h7, h8, h9, h10, h11, h12⟩ := k
  have hv : (Term.static C n d).eval args s none [] s = some v := by
    simp [Term.eval, State.fieldNamed?, h2, h3, h4, h5, h6, h10]
  cases v <;> simp [Value.isRef] at h11 <;> simp [Cond.before, Cond.holds, Cond.value, hv]
/-- what was there at the start: statics, constants, arrays, the script (number 0) -/
def sm_S (w : sm_T) (h : am_M) (s : State) (H : Heap) : Prop :=
  (∀ i, 0 < i → i < 20 → va_Z (js i).1 (js i).2.1 (js i).2.2 (.ref (w.2.1 i)) (sm_A w) s H) ∧
  (∀ i, 0 < i → i < 11 → am_kd h.1 i = 17 ∧ va_O "DeclaredMarkup$AttType" (w.2.1 i) (sm_A w) s H ∧ va_OF "java/lang/Enum" "ordinal" "I" (.int (am_i h.2 i 0)) (w.2.1 i) (sm_A w) s H) ∧
  (∀ i, 11 ≤ i → i < 16 → am_kd h.1 i = 18 ∧ va_O "DeclaredMarkup$LineKind" (w.2.1 i) (sm_A w) s H ∧ va_OF "DeclaredMarkup$LineKind" "letter" "I" (.int (am_i h.2 i 0)) (w.2.1 i) (sm_A w) s H) ∧
  (∀ i, i = 0 ∨ (16 ≤ i ∧ i < 20) → (am_kd h.1 i = 101 ∨ am_kd h.1 i = 127) ∧ am_ln h.1 i < 2 ^ 31 ∧ sm_al w h i s H) ∧
  (∀ i j, 0 < i → i < 16 → 0 < j → j < 16 → w.2.1 i = w.2.1 j → i = j) ∧ (∀ i, i < 20 → w.2.1 i < w.1) ∧ (∀ i, 20 ≤ i → i < 32 → am_kd h.1 i = 99) ∧
  vk_R "DeclaredMarkup$Processor" 135 "fault" (w.2.1 20) s ∧ (∃ cell : Cell, H[w.2.1 16]? = some cell ∧ cell.cls = w.2.2.2 127 ∧ cell.slots.size = am_ln h.1 16) ∧
  sm_Z w "java/lang/Throwable" "UNASSIGNED_STACK" "[Ljava/lang/StackTraceElement;" s H ∧ sm_Z w "java/lang/Throwable" "SUPPRESSED_SENTINEL" "Ljava/util/List;" s H
/-- the classes -/
def sm_K (w : sm_T) (s : State) : Prop :=
  (∀ c, 0 < c → c < 17 → u_Kn s (jo c) (jf c) (jnf c) (w.2.2.1.1 c) (w.2.2.1.2 c)) ∧
  (∀ k, jk_ar k → ArrOfT s (w.2.2.2 k) (jt k) ∧ va_RA s (w.2.2.2 k) (jt k)) ∧
  s.vm.findClass "java/lang/IllegalStateException" = some (w.2.2.2 0)
theorem sm_K.moved {w : sm_T} {u U : State} (hvm : u.vm.Alike U.vm) (h : sm_K w u) : sm_K w U :=
  ⟨fun c a b => u_Kn_moved hvm (h.1 c a b), fun k q => ⟨arrOfT_moved hvm (h.2.1 k q).1, (h.2.1 k q).2.moved hvm⟩, by rw [hvm.findClass]; exact h.2.2⟩
theorem va_O.keptS {w : sm_T} {E : String} {t : Nat} {U : State} {H H1 : Heap} (h : va_O E t (sm_A w) U H) (hq : ∀ a : Nat, a < w.1 → H1[a]? = H[a]?) : va_O E t (sm_A w) U H1 := by
  obtain ⟨cell, h1, h2, h3, h4⟩ := h
  exact ⟨cell, by rw [hq t (Nat.not_le.mp h4)]; exact h1, h2, h3, h4⟩
theorem sm_al.moved {w : sm_T} {h : am_M} {i : Nat} {s s' : State} {H H' : Heap} (hvm : s.vm.Alike s'.vm) (e : H'[sm_a w i]? = H[sm_a w i]?) (k : sm_al w h i s H) : sm_al w h i s' H' := by
  obtain ⟨cell, a, b, c⟩ := k
  exact ⟨cell, by rw [e]; exact a, State.isArrayOf_alike hvm b, c⟩
/-- the start's facts hold on, in warmer tables, in a heap that is the old one below the first new cell -/
theorem sm_S.moved {w : sm_T} {h : am_M} {s s' : State} {H H' : Heap} (hW : s.WarmedH s'.vm) (hq : ∀ a : Nat, a < w.1 → H'[a]? = H[a]?) (k : sm_S w h s H) : sm_S w h s' H' := by
  obtain ⟨a1, a2, a3, a4, a5, a6, a7, a8⟩ := k
  refine ⟨fun i p q => ?_, fun i p q => ?_, fun i p q => ?_, fun i p => ?_, a5, a6, a7, a8.1.warm hW, ?_, a8.2.2.1.moved hW.alike hq, a8.2.2.2.moved hW.alike hq⟩
  · refine va_Z.moved hW.alike ?_
    exact (a1 i p q).kept (fun a _ hA => hq a (Nat.not_le.mp hA))
  · obtain ⟨b1, b2, b3⟩ := a2 i p q
    exact ⟨b1, va_O.moved hW.alike (va_O.keptS b2 hq), va_OF.moved hW.alike (b3.kept (fun a _ hA => hq a (Nat.not_le.mp hA)))⟩
  · obtain ⟨b1, b2, b3⟩ := a3 i p q
    exact ⟨b1, va_O.moved hW.alike (va_O.keptS b2 hq), va_OF.moved hW.alike (b3.kept (fun a _ hA => hq a (Nat.not_le.mp hA)))⟩
  · obtain ⟨b1, b2, b3⟩ := a4 i p
    have hi : i < 20 := by omega
    exact ⟨b1, b2, b3.moved hW.alike (hq _ (by rw [sm_a_old w (by omega)]; exact a6 i hi))⟩
  · obtain ⟨cell, c1, c2⟩ := a8.2.1
    exact ⟨cell, by rw [hq _ (a6 16 (by omega))]; exact c1, c2⟩
/-- AI's memory only grows, and what was there at the start stays -/
def am_le (h h' : am_M) : Prop := am_sz h.2 ≤ am_sz h'.2 ∧ am_us h.2 ≤ am_us h'.2 ∧ ∀ i, i < 32 → am_kd h'.1 i = am_kd h.1 i ∧ am_ln h'.1 i = am_ln h.1 i ∧ (∀ k, am_fr h'.1 i k = am_fr h.1 i k) ∧ (∀ k, am_i h'.2 i k = am_i h.2 i k) ∧ (∀ k, am_j h'.2 i k = am_j h.2 i k) ∧ ∀ k, am_r h'.2 i k = am_r h.2 i k
theorem am_le.rf (h : am_M) : am_le h h := ⟨Nat.le_refl _, Nat.le_refl _, fun _ _ => ⟨rfl, rfl, fun _ => rfl, fun _ => rfl, fun _ => rfl, fun _ => rfl⟩⟩
theorem am_le.tr {a b c : am_M} (h : am_le a b) (k : am_le b c) : am_le a c :=
  ⟨Nat.le_trans h.1 k.1, Nat.le_trans h.2.1 k.2.1, fun i hi => by
    obtain ⟨p1, p2, p3, p4, p5, p6⟩ := h.2.2 i hi
    obtain ⟨q1, q2, q3, q4, q5, q6⟩ := k.2.2 i hi
    exact ⟨q1.trans p1, q2.trans p2, fun k => (q3 k).trans (p3 k), fun k => (q4 k).trans (p4 k), fun k => (q5 k).trans (p5 k), fun k => (q6 k).trans (p6 k)⟩⟩
theorem ai_get_le {h h' : am_M} (k : am_le h h') {i : Nat} (hi : i < 32) (f pl : Nat) : ai_get h' i f pl = ai_get h i f pl := by
  obtain ⟨q1, q2, q3, q4, q5, q6⟩ := k.2.2 i hi
  unfold ai_get
  split
  · rw [q4]
  · rw [q5]
  · rw [q6]
  · rw [q3]
theorem sm_S.le {w : sm_T} {h h' : am_M} {s : State} {H : Heap} (k : am_le h h') (S : sm_S w h s H) : sm_S w h' s H := by
  obtain ⟨a1, a2, a3, a4, a5, a6, a7, a8⟩ := S
  refine ⟨a1, fun i p q => ?_, fun i p q => ?_, fun i p => ?_, a5, a6, fun i p q => ?_, a8.1, ?_, a8.2.2⟩
  · obtain ⟨q1, -, -, q4, -⟩ := k.2.2 i (by omega)
    rw [q1, q4]; exact a2 i p q
  · obtain ⟨q1, -, -, q4, -⟩ := k.2.2 i (by omega)
    rw [q1, q4]; exact a3 i p q
  · have hi : i < 32 := by omega
    obtain ⟨q1, q2, -⟩ := k.2.2 i hi
    obtain ⟨b1, b2, cell, c1, c2, c3, c4, c5⟩ := a4 i p
    rw [q1, q2]
    exact ⟨b1, b2, cell, c1, by rw [q1]; exact c2, c3, by rw [q2]; exact c4, fun j hj => by rw [ai_get_le k hi, q1]; rw [q2] at hj; exact c5 j hj⟩
  · rw [(k.2.2 i q).1]; exact a7 i p q
  · obtain ⟨cell, c1, c2, c3⟩ := a8.2.1
    exact ⟨cell, c1, c2, by rw [(k.2.2 16 (by omega)).2.1]; exact c3⟩
