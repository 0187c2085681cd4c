/-! Calls: what a called method is, and how it is entered. -/
def cm_ok (s : State) (k : Nat) (mk : MethodId) (mM : Method) (cM : Code) : Prop :=
  s.methodNamed? (jy k) = some mk ∧ s.vm.method? mk = some mM ∧ mM.code = some cM ∧ cM.code = jb k ∧ cM.maxLocals = ac_ml k ∧ mM.sig.returnType = jr k ∧ mM.locks = false ∧
  cM.exceptionTable.toList.map (fun h => (h.startPc, h.endPc, h.handlerPc, h.catchType)) = jh k ∧ parseMethodDescriptor (jy k).desc = some mM.sig
theorem beq_f {a b : Nat} (h : a ≠ b) : Nat.beq a b = false := by rw [Bool.eq_false_iff]; intro q; exact h (Nat.eq_of_beq_eq_true q)
/-- the words of a method, said -/
def cy_W (k : Nat) : Prop := (∀ sig, parseMethodDescriptor (jy k).desc = some sig → sig.parameters.length = (jm k).getD 5 0) ∧ ((jy k).cls ≠ "java/lang/invoke/MethodHandle" ∧ (jy k).cls ≠ "java/lang/invoke/VarHandle") ∧ plainFor (jy k) = true ∧ (jy k).cls = jo (jow k) ∧
  ((jy k).name = "<init>" → jr k = none ∧ k ≠ 251) ∧ ck_r k = true ∧
  (Nat.beq ((jm k).getD 0 9) 1 = true → Cond.instanceMethod (jy k) ∈ sm_tbl ∧ ((jy k).name ≠ "<init>" → k ≠ 335 → Cond.selects (jo (jow k)) (jy k) (jy k) ∈ sm_tbl)) ∧
  (Nat.beq ((jm k).getD 0 9) 0 = true → Cond.static (jy k) ∈ sm_tbl ∧ Cond.initialized (jy k).cls ∈ sm_tbl) ∧
  (k = 251 → Cond.codeWith (jy k) (jb k) (ac_ml k) (jr k) (jh k) ∈ sm_tbl) ∧ (k ≠ 251 → Cond.code (jy k) (jb k) (ac_ml k) (jr k) ∈ sm_tbl)
theorem cy_spec {k : Nat} (h0 : 1 < k) (h1 : k < 336) : cy_W k := by
  have hy := ck_ys h0 h1
  unfold ck_y at hy
  simp only [Bool.and_eq_true] at hy
  obtain ⟨⟨⟨⟨a1, a2⟩, a3, a4⟩, a5⟩, ⟨a6, a7, a8⟩, a9⟩ := hy
  refine ⟨fun sig hs => ?_, ⟨of_decide_eq_true a7, of_decide_eq_true a8⟩, a6, of_decide_eq_true a3, fun hn => ?_, a1, fun hi => ?_, fun hi => ?_, fun h => ?_, fun h => ?_⟩
  · unfold ck_n at a2
    rw [hs] at a2
    exact Nat.eq_of_beq_eq_true a2
  · rw [Bool.or_eq_true] at a4
    rcases a4 with a4 | a4
    · rw [Bool.not_eq_true', decide_eq_false_iff_not] at a4
      exact absurd hn a4
    · rw [Bool.and_eq_true, Option.isNone_iff_eq_none, Bool.not_eq_true'] at a4
      exact ⟨a4.1, fun q => by rw [q] at a4; exact absurd a4.2 (by decide)⟩
  · rw [hi] at a9
    rw [cond_true, Bool.and_eq_true] at a9
    refine ⟨sm_at_in a9.1, fun hn h3 => ?_⟩
    have a := a9.2
    rw [Bool.or_eq_true, Bool.or_eq_true] at a
    rcases a with a | a | a
    · exact absurd (of_decide_eq_true a) hn
    · exact absurd (Nat.eq_of_beq_eq_true a) h3
    · exact sm_at_in a
  · rw [show Nat.beq ((jm k).getD 0 9) 1 = false from beq_f (by rw [Nat.eq_of_beq_eq_true hi]; decide)] at a9
    rw [cond_false, Bool.and_eq_true, Bool.and_eq_true] at a9
    exact ⟨sm_at_in a9.2.1, sm_at_in a9.2.2⟩
  · rw [show Nat.beq k 251 = true from by rw [h]; rfl, cond_true] at a5
    exact sm_at_in a5
  · rw [beq_f h, cond_false] at a5
    exact sm_at_in a5
theorem cm_of {s : State} {args : Array Value} {k : Nat} (hts : ∀ x ∈ sm_tbl, x.before args s = true) (h0 : 1 < k) (h1 : k < 336) : ∃ mk mM cM, cm_ok s k mk mM cM := by
  obtain ⟨-, -, -, -, -, -, -, -, y1, y2⟩ := cy_spec h0 h1
  by_cases h : k = 251
  · obtain ⟨mk, mM, cM, q1, q2, q3, q4, q5, q6, q7, q8, q9⟩ := Cond.codeWith_spec (hts _ (y1 h))
    exact ⟨mk, mM, cM, q1, q2, q3, q4, q5, q7, q8, q6, q9⟩
  · have hw := hts _ (y2 h)
    obtain ⟨mk, hn⟩ := Cond.code_named hw
    obtain ⟨mM, cM, q2, q3, q4, q5, q6, q7, q8, q9⟩ := Cond.code_spec hn hw
    refine ⟨mk, mM, cM, hn, q2, q3, q4, q5, q6, q7, ?_, q9⟩
    have : cM.exceptionTable = #[] := by simpa using q8
    rw [this, jh, beq_f h]
    rfl
section
variable {p : Program} {l : Launch} {e : Env} {R : Room} {s : State} {m : MethodId} {args : Array Value} {below : List Frame} {meth : Method} {c : Code} {T : State} {locs : List Loc} {cells slots : Nat}
/-- a call, up to the entry -/
def cc_R (p : Program) (l : Launch) (e : Env) (R : Room) (s : State) (m : MethodId) (args : Array Value) (below : List Frame) (meth : Method) (c : Code) (T : State) (locs : List Loc) (cells slots : Nat) (g : JFrame) (k : Nat) (as rest : List Value) : Prop :=
  ∃ vm₁ mk mM cM, cm_ok s k mk mM cM ∧ Stand p l e R s m args below meth c (T.setVm vm₁) locs cells slots ∧
    ∀ target, (∀ acts, Steps p.tables e below (doInvoke e ((T.setVm vm₁).setTop { g with stack := rest }) acts mk as.toArray).1 target) → Steps p.tables e below (T.setTop g) target
theorem cs_ok (X : Stand p l e R s m args below meth c T locs cells slots) (hx : p.tables.exec = Jvm.exec) {own index k : Nat} (hown : s.vm.findClass (jo own) = some m.cls) (hts : ∀ x ∈ sm_tbl, x.before args s = true)
    (hmo : ck_mo own index k = true) (h0 : 1 < k) (h1 : k < 336) (hst : Nat.beq ((jm k).getD 0 9) 0 = true) {g : JFrame} (hg : g.method = m) {as rest : List Value} (hn : as.length = (jm k).getD 5 0) (hstack : g.stack = as.reverse ++ rest)
    (hdg : decode c.code g.pc = .ok (.invokestatic index, 3)) : cc_R p l e R s m args below meth c T locs cells slots g k as rest := by
  obtain ⟨mk, mM, cM, hc⟩ := cm_of hts h0 h1
  obtain ⟨hna, hme, -, -, -, -, -, -, hsig⟩ := id hc
  obtain ⟨y1, y2, -, -, -, -, -, y8, -, -⟩ := cy_spec h0 h1
  obtain ⟨z1, z2⟩ := y8 hst
  obtain ⟨kP, hkP, -⟩ := className_of_methodNamed hna
  have hstat := Cond.static_spec hna hme (hts _ z1)
  have hini := Cond.initialized_spec (findClass_of_methodNamed hna) hkP (hts _ z2)
  rcases mo_spec (by omega) hts hmo with hl | hl
  · obtain ⟨vm₁, X₁, st⟩ := X.invokestatic hx hown hl hna hme hstat hkP hini y2 (g := g) hg (argsL := as) (rest := rest) (by rw [hn, y1 _ hsig]) hstack hdg
    exact ⟨vm₁, mk, mM, cM, hc, X₁, st⟩
  · obtain ⟨vm₁, X₁, st⟩ := X.invokestaticNest hx hown hl hna hme hstat hkP hini y2 (g := g) hg (argsL := as) (rest := rest) (by rw [hn, y1 _ hsig]) hstack hdg
    exact ⟨vm₁, mk, mM, cM, hc, X₁, st⟩
theorem cv_ok (X : Stand p l e R s m args below meth c T locs cells slots) (hx : p.tables.exec = Jvm.exec) {own index k : Nat} (hown : s.vm.findClass (jo own) = some m.cls) (hts : ∀ x ∈ sm_tbl, x.before args s = true)
    (hmo : ck_mo own index k = true) (h0 : 1 < k) (h1 : k < 335) (hst : Nat.beq ((jm k).getD 0 9) 1 = true) (hni : (jy k).name ≠ "<init>") {b : Addr} {cell : Cell} (hcell : T.heap[b]? = some cell) (hvm : cell.vm = .none) (hcls : s.vm.findClass (jo (jow k)) = some cell.cls)
    {g : JFrame} (hg : g.method = m) {as rest : List Value} (hn : as.length = (jm k).getD 5 0) (hstack : g.stack = as.reverse ++ .ref b :: rest)
    (hdg : decode c.code g.pc = .ok (.invokevirtual index, 3)) : cc_R p l e R s m args below meth c T locs cells slots g k (.ref b :: as) rest := by
  obtain ⟨mk, mM, cM, hc⟩ := cm_of hts h0 (by omega)
  obtain ⟨hna, hme, -, -, -, -, -, -, hsig⟩ := id hc
  obtain ⟨y1, y2, -, -, -, -, y7, -, -, -⟩ := cy_spec h0 (show k < 336 by omega)
  obtain ⟨z1, z2⟩ := y7 hst
  obtain ⟨mk', mM', hna', hme', hstM, habM⟩ := Cond.instanceMethod_spec (hts _ z1)
  cases hna.symm.trans hna'
  cases hme.symm.trans hme'
  obtain ⟨c2, r2, m2, q1, q2, q3, q4, kP, hkP, hkPi⟩ := Cond.selects_spec (hts _ (z2 hni (by omega)))
  cases hcls.symm.trans q1
  cases (State.methodFound?_of_named hna y2).symm.trans q2
  cases hna.symm.trans q3
  have hsel : selectMethod e.platform s.vm cell.cls mk = .method mk := by rw [Launch.admits_selectMethod X.admits]; exact q4
  have hobj : ∀ z, cell.vm ≠ .statics z := fun z h => by rw [hvm] at h; cases h
  rcases mo_spec (by omega) hts hmo with hl | hl
  · obtain ⟨vm₁, X₁, st⟩ := X.invokevirtual hx hown hl hna hme hstM hkP hkPi y2 hcell hobj hsel hme habM hkP hkPi (g := g) hg (argsL := as) (rest := rest) (by rw [hn, y1 _ hsig]) hstack hdg
    exact ⟨vm₁, mk, mM, cM, hc, X₁, st⟩
  · obtain ⟨vm₁, X₁, st⟩ := X.invokevirtualNest hx hown hl hna hme hstM hkP hkPi y2 hcell hobj hsel hme habM hkP hkPi (g := g) hg (argsL := as) (rest := rest) (by rw [hn, y1 _ hsig]) hstack hdg
    exact ⟨vm₁, mk, mM, cM, hc, X₁, st⟩
theorem ci_ok (X : Stand p l e R s m args below meth c T locs cells slots) (hx : p.tables.exec = Jvm.exec) {own index k : Nat} (hown : s.vm.findClass (jo own) = some m.cls) (hts : ∀ x ∈ sm_tbl, x.before args s = true)
    (hmo : ck_mo own index k = true) (h0 : 1 < k) (h1 : k < 336) (hst : Nat.beq ((jm k).getD 0 9) 1 = true) (hni : (jy k).name = "<init>") {b : Addr} 
    {g : JFrame} (hg : g.method = m) {as rest : List Value} (hn : as.length = (jm k).getD 5 0) (hstack : g.stack = as.reverse ++ .ref b :: rest)
    (hdg : decode c.code g.pc = .ok (.invokespecial index, 3)) : cc_R p l e R s m args below meth c T locs cells slots g k (.ref b :: as) rest := by
  obtain ⟨mk, mM, cM, hc⟩ := cm_of hts h0 h1
  obtain ⟨hna, hme, -, -, -, -, -, -, hsig⟩ := id hc
  obtain ⟨y1, y2, -, -, y5, -, y7, -, -, y10⟩ := cy_spec h0 h1
  obtain ⟨z1, z2⟩ := y7 hst
  obtain ⟨n1, n2⟩ := y5 hni
  have hcode := hts _ (y10 n2)
  rw [n1] at hcode
  subst hg
  have hpl : e.platform.magicAccessors = ({} : Platform).magicAccessors := by rw [X.admits.platform]
  rcases mo_spec (by omega) hts hmo with hl | hl
  · obtain ⟨mk', methM, cM', kP, vm₁, hnamed, -, -, -, -, -, -, -, hW₁, st⟩ := Steps.initColdArgs (e := e) X.here hx X.warmed hpl hown hni y2 hl (hts _ z1) hcode (f := g) rfl (fun sig h => by rw [hn, y1 _ h]) hstack hdg
    cases hna.symm.trans hnamed
    exact ⟨vm₁, mk, mM, cM, hc, X.noted hW₁, st⟩
  · obtain ⟨mk', methM, cM', kP, vm₁, hnamed, -, -, -, -, -, -, -, hW₁, st⟩ := Steps.initColdArgsNest (e := e) X.here hx X.warmed hpl hown hni y2 hl (hts _ z1) hcode (f := g) rfl (fun sig h => by rw [hn, y1 _ h]) hstack hdg
    cases hna.symm.trans hnamed
    exact ⟨vm₁, mk, mM, cM, hc, X.noted hW₁, st⟩
theorem od_link : Cond.methodLink "DeclaredMarkup$Processor" 573 ⟨"DeclaredMarkup$AttType", "ordinal", "()I"⟩ ∈ sm_tbl := sm_at_in (i := 1334) (by decide +kernel)
theorem od_same : Cond.sameMethod "DeclaredMarkup$AttType" "java/lang/Enum" "ordinal" "()I" ∈ sm_tbl := sm_at_in (i := 1335) (by decide +kernel)
theorem od_sel : Cond.selects "DeclaredMarkup$AttType" ⟨"DeclaredMarkup$AttType", "ordinal", "()I"⟩ ⟨"java/lang/Enum", "ordinal", "()I"⟩ ∈ sm_tbl := sm_at_in (i := 1337) (by decide +kernel)
theorem co_ok (X : Stand p l e R s m args below meth c T locs cells slots) (hx : p.tables.exec = Jvm.exec) (hown : s.vm.findClass "DeclaredMarkup$Processor" = some m.cls) (hts : ∀ x ∈ sm_tbl, x.before args s = true)
    {b : Addr} {cell : Cell} (hcell : T.heap[b]? = some cell) (hvm : cell.vm.isStatics = false) (hcls : s.vm.findClass "DeclaredMarkup$AttType" = some cell.cls)
    {g : JFrame} (hg : g.method = m) {rest : List Value} (hstack : g.stack = .ref b :: rest)
    (hdg : decode c.code g.pc = .ok (.invokevirtual 573, 3)) : cc_R p l e R s m args below meth c T locs cells slots g 335 [.ref b] rest := by
  obtain ⟨mk, mM, cM, hc⟩ := cm_of hts (show 1 < 335 by decide) (show 335 < 336 by decide)
  obtain ⟨hna, hme, -, -, -, -, -, -, hsig⟩ := id hc
  obtain ⟨y1, y2, -, -, -, -, y7, -, -, -⟩ := cy_spec (show 1 < 335 by decide) (show 335 < 336 by decide)
  obtain ⟨z1, z2⟩ := y7 (by decide +kernel)
  obtain ⟨mk', mM', hna', hme', hstM, habM⟩ := Cond.instanceMethod_spec (hts _ z1)
  cases hna.symm.trans hna'
  cases hme.symm.trans hme'
  obtain ⟨c2, r2, m2, q1, q2, q3, q4, kP, hkP, hkPi⟩ := Cond.selects_spec (hts _ od_sel)
  cases hcls.symm.trans q1
  have hna2 : s.methodNamed? ⟨"java/lang/Enum", "ordinal", "()I"⟩ = some mk := hna
  cases hna2.symm.trans q3
  obtain ⟨cn, ck, r1, hcn, hck, -, hf, hn1⟩ := Cond.sameMethod_found (hts _ od_same)
  cases hna2.symm.trans hn1
  cases hf.symm.trans q2
  have hsel : selectMethod e.platform s.vm cell.cls mk = .method mk := by rw [Launch.admits_selectMethod X.admits]; exact q4
  have hobj : ∀ z, cell.vm ≠ .statics z := fun z h => by rw [h] at hvm; cases hvm
  obtain ⟨vm₁, X₁, st⟩ := X.invokevirtualUp hx hown (hts _ od_link) (hts _ od_same) (by decide) hna2 hme hstM hcell hobj hsel hme habM hkP hkPi (g := g) hg (argsL := []) (rest := rest) (by rw [y1 _ hsig]; decide +kernel) hstack hdg
  exact ⟨vm₁, mk, mM, cM, hc, X₁, st⟩
end
