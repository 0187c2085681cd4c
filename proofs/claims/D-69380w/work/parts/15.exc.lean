/-! The clone of an array, an exception, and all steps together. -/
theorem jk127 : jk_ar 127 := Or.inr (Or.inr (Or.inr (Or.inr (Or.inr (Or.inr rfl)))))
def ex_pl : List Nat := [236, 951, 960, 962, 965, 967, 952, 953, 250, 251, 954, 959, 963, 983, 941, 984, 943, 985, 945, 955, 9999, 957, 9999, 947, 979, 980, 982, 947, 970, 971, 972, 973, 933, 973, 974, 975, 976, 935, 976, 977, 978, 979, 937, 969, 930, 931, 938, 939, 940, 942, 944, 946, 9999, 9999, 950, 949, 948]
def ex_ns : List String := ["java/lang/RuntimeException", "java/lang/Exception"]
def ex_z (k : Nat) (a : Jvm.Cond) : Bool := bif Nat.beq k 9999 then (decide (a = .laysStatic "java/lang/Throwable" "UNASSIGNED_STACK" "[Ljava/lang/StackTraceElement;") || decide (a = .laysStatic "java/lang/Throwable" "SUPPRESSED_SENTINEL" "Ljava/util/List;")) ||
  (decide (a = .isRef (.static "java/lang/Throwable" "UNASSIGNED_STACK" "[Ljava/lang/StackTraceElement;")) || decide (a = .isRef (.static "java/lang/Throwable" "SUPPRESSED_SENTINEL" "Ljava/util/List;"))) else sm_at k a
def ex_all : List Jvm.Cond → List Nat → Bool
  | [], _ => true
  | a :: t, k :: ks => ex_z k a && ex_all t ks
  | _ :: _, [] => false
theorem ex_mem : ∀ (l : List Jvm.Cond) (ks : List Nat), ex_all l ks = true → ∀ a ∈ l, ∃ k, ex_z k a = true
  | [], _, _, a, h => by cases h
  | b :: t, [], h, _, _ => by cases h
  | b :: t, k :: ks, h, a, ha => by
    unfold ex_all at h
    rw [Bool.and_eq_true] at h
    rcases List.mem_cons.mp ha with q | q
    · exact ⟨k, by rw [q]; exact h.1⟩
    · exact ex_mem t ks h.2 a q
set_option maxRecDepth 100000 in
theorem ex_ck : ex_all (Bundle.ownAtoms "DeclaredMarkup$Processor" 136 "java/lang/IllegalStateException" ex_ns) ex_pl = true := by decide +kernel
theorem ex_at {w : sm_T} {s : State} {args : Array Value} (hts : ∀ x ∈ sm_tbl, x.before args s = true) (z1 : sm_Z w "java/lang/Throwable" "UNASSIGNED_STACK" "[Ljava/lang/StackTraceElement;" s s.heap) (z2 : sm_Z w "java/lang/Throwable" "SUPPRESSED_SENTINEL" "Ljava/util/List;" s s.heap) :
    ∀ a ∈ Bundle.ownAtoms "DeclaredMarkup$Processor" 136 "java/lang/IllegalStateException" ex_ns, a.before args s = true := by
  intro a ha
  obtain ⟨k, hk⟩ := ex_mem _ _ ex_ck a ha
  unfold ex_z at hk
  cases hb : Nat.beq k 9999 <;> rw [hb] at hk
  · exact hts _ (sm_at_in hk)
  · rw [cond_true, Bool.or_eq_true, Bool.or_eq_true, Bool.or_eq_true] at hk
    rcases hk with (hk | hk) | (hk | hk)
    · rw [of_decide_eq_true hk]; exact z1.lays
    · rw [of_decide_eq_true hk]; exact z2.lays
    · rw [of_decide_eq_true hk]; exact z1.isr
    · rw [of_decide_eq_true hk]; exact z2.isr
theorem ex_cl : Cond.classLink "DeclaredMarkup$Processor" 133 "java/lang/IllegalStateException" ∈ sm_tbl := sm_at_in (i := 814) (by decide +kernel)
theorem ex_in : Cond.instantiable "java/lang/IllegalStateException" 6 ∈ sm_tbl := sm_at_in (i := 930) (by decide +kernel)
theorem ex_it : Cond.initialized "java/lang/IllegalStateException" ∈ sm_tbl := sm_at_in (i := 239) (by decide +kernel)
theorem ex_ca : Cond.castable "java/lang/IllegalStateException" "java/lang/IllegalStateException" ∈ sm_tbl := sm_at_in (i := 931) (by decide +kernel)
theorem ex_d10 : decode (jb 236) 10 = .ok (.new 133, 3) := ck_d_spec (by decide +kernel)
theorem ex_d13 : decode (jb 236) 13 = .ok (.dup, 1) := ck_d_spec (by decide +kernel)
theorem ex_d14 : decode (jb 236) 14 = .ok (.ldc 135, 2) := ck_d_spec (by decide +kernel)
theorem ex_d16 : decode (jb 236) 16 = .ok (.invokespecial 136, 3) := ck_d_spec (by decide +kernel)
theorem ex_q : 6 ≤ jq 236 ∧ 90 ≤ jlo 236 ∧ jow 236 = 2 := by decide +kernel
section
variable {p : Program} {l : Launch} {e : Env} {R : Room} {s : State} {m : MethodId} {args : Array Value} {below : List Frame} {meth : Method} {c : Code} {T : State} {locs : List Loc} {cells slots : Nat}
/-- the constructor of an exception with a message, and on -/
theorem ex_ctor (X : Stand p l e R s m args below meth c T locs cells slots) (hexec : p.tables.exec = Jvm.exec) (htr : e.platform.stackTraces = false) {own cls : String} {names : List String} {ic : Nat}
    (hown : s.vm.findClass own = some m.cls) (hcls : Bundle.fit cls = true) (hnames : ∀ n ∈ names, Bundle.fit n = true)
    (h : ∀ a ∈ Bundle.ownAtoms own ic cls names, a.before args s = true)
    (hold : ∀ (c : ClassId) (k : Class) (i : Nat) (f : Field) (a : Addr), s.fieldFound? "java/lang/Throwable" "UNASSIGNED_STACK" "[Ljava/lang/StackTraceElement;" = some (c, k, i, f) → k.statics = some a → ∀ i, (⟨a, i⟩ : Loc) ∉ locs)
    {a : Addr} {cX : ClassId} {kX : Class} (hfoundX : s.vm.findClass cls = some cX) (hkX : s.vm.classes[cX]? = some kX) (hcell : T.heap[a]? = some (freshCell cX kX)) (hnew : s.heap.size ≤ a)
    {msg : Value} (hmsg : msg.isRef = true)
    {g : JFrame} (hg : g.method = m) (hsize : g.locals.size = c.maxLocals) {rest : List Value} (hstack : g.stack = msg :: .ref a :: .ref a :: rest)
    (hd6 : decode c.code g.pc = .ok (.invokespecial ic, 3))
    (hRframes : names.length + 3 < R.frames) (hRlocals : 2 * g.monitorRoom + ((Value.ref a :: rest).map fun v => v.category).sum + (13 * (names.length + 1) + 42) ≤ R.locals) :
    ∃ (U : State) (L : List Loc) (ce : Cell), Stand p l e R s m args below meth c U (locs ++ L) cells slots ∧ (∀ y ∈ L, y.base = a) ∧ U.heap = T.heap.setIfInBounds a ce ∧ ce.cls = cX ∧ ce.vm = .none ∧
      ∀ target, Steps p.tables e below (U.setTop { g with pc := g.pc + 3, stack := .ref a :: rest }) target → Steps p.tables e below (T.setTop g) target := by
  have howns : e.platform.frameOwnsMonitors = true := by rw [X.admits.platform]
  have hfin : e.platform.finalization = false := by rw [X.admits.platform]
  have hpl : e.platform.magicAccessors = ({} : Platform).magicAccessors := by rw [X.admits.platform]
  have a' : ∀ x, x ∈ Bundle.ownAtoms own ic cls names → x.holds args s none s [] = true := fun x hx => h x hx
  obtain ⟨T0, Z0, L, -, Y⟩ := ThrowableC.of_atoms (args := args) howns hfin hpl (fun x hx => h x (by simp [Bundle.ownAtoms, hx]))
  obtain ⟨Z, M, LZ, LM, hnZ⟩ := Init0T.ofS_atoms (args := args) hpl L Y (fun x hx => h x (by simp [Bundle.ownAtoms, hx]))
  obtain ⟨P1, Ps, hlen, L1, hL, hP1m, hlink1, hlink⟩ := Bundle.chainS (args := args) hpl hnZ names cls hcls hnames (fun x hx => h x (by simp [Bundle.ownAtoms, hx]))
  have hfound : s.vm.findClass cls = some P1.m.cls := findClass_of_methodNamed hP1m
  cases Option.some.inj (hfoundX.symm.trans hfound)
  obtain ⟨c1, kX', hc1, hk, hord, -, -, hn6⟩ := Cond.instantiable_spec (a' (.instantiable cls 6) (by simp [Bundle.ownAtoms]))
  cases Option.some.inj (hc1.symm.trans hfound)
  cases Option.some.inj (hkX.symm.trans hk)
  have hsel0 : selectMethod e.platform s.vm P1.m.cls T0.fill0 = .method T0.fill0 := by
    obtain ⟨c2, r2, m2, q1, q2, q3, q4, -⟩ := Cond.selects_spec (a' (.selects cls Bundle.tFill0 Bundle.tFill0) (by simp [Bundle.ownAtoms]))
    cases Option.some.inj (q1.symm.trans hfound)
    cases Option.some.inj (q2.symm.trans (State.methodFound?_of_named Y.fill0 (by decide)))
    cases Option.some.inj (q3.symm.trans Y.fill0)
    rw [Launch.admits_selectMethod X.admits]; exact q4
  have hselF : selectMethod e.platform s.vm P1.m.cls T0.fill = .method T0.fill := by
    obtain ⟨c2, r2, m2, q1, q2, q3, q4, -⟩ := Cond.selects_spec (a' (.selects cls Bundle.tFill Bundle.tFill) (by simp [Bundle.ownAtoms]))
    cases Option.some.inj (q1.symm.trans hfound)
    cases Option.some.inj (q2.symm.trans (State.methodFound?_of_named Y.fill (by decide)))
    cases Option.some.inj (q3.symm.trans Y.fill)
    rw [Launch.admits_selectMethod X.admits]; exact q4
  obtain ⟨cellS0, hcS0, hiss⟩ := Y.statics
  obtain ⟨u0, hu0⟩ := Cond.staticRefV Y.unassigned L.unassignedStatic L.statics hcS0 hiss (a' (.isRef (.static Bundle.tN "UNASSIGNED_STACK" Bundle.steD)) (by simp [Bundle.ownAtoms]))
  obtain ⟨sen, hsen⟩ := Cond.staticRefV Y.sentinel L.sentinelStatic L.statics hcS0 hiss (a' (.isRef (.static Bundle.tN "SUPPRESSED_SENTINEL" Bundle.listD)) (by simp [Bundle.ownAtoms]))
  obtain ⟨ci198, i198, fB, hk198, hg198, ha198, hsB, -, hnB, htB, hffB⟩ := Cond.ownField (t := .object "java/lang/Object") Y.found L.cls (by decide +kernel) (a' (.fieldLink Bundle.tN 198 Bundle.tN "backtrace" "Ljava/lang/Object;") (by simp [Bundle.ownAtoms])) (a' (.lays Bundle.tN Bundle.tN "backtrace" "Ljava/lang/Object;") (by simp [Bundle.ownAtoms])) e.platform hpl
  obtain ⟨cellS, hcS', heS, -, hkeep⟩ := X.same.2.2.2.2.2 T0.aS cellS0 hcS0
  have hcellS : T.heap[T0.aS]? = some cellS := hcS'
  have hout' : ∀ i, (⟨T0.aS, i⟩ : Loc) ∉ locs := hold _ _ _ _ _ Y.unassigned L.statics
  have hknownS : cellS.vm ≠ .unknown := by
    rw [heS]; intro hu
    rw [show cellS0.vm = .unknown from hu] at hiss
    cases hiss
  have hneS : T0.aS ≠ a := Nat.ne_of_lt (Nat.lt_of_lt_of_le (Array.getElem?_eq_some_iff.mp hcS0).1 hnew)
  obtain ⟨iM, hffM⟩ := Y.msg
  obtain ⟨tyC, dC, hdC, hdnC⟩ := Cond.laysAt hfound hk Y.cause (a' (.lays cls Bundle.tN "cause" "Ljava/lang/Throwable;") (by simp [Bundle.ownAtoms]))
  obtain ⟨tyS, dS, hdS, hdnS⟩ := Cond.laysAt hfound hk Y.stack (a' (.lays cls Bundle.tN "stackTrace" Bundle.steD) (by simp [Bundle.ownAtoms]))
  obtain ⟨tyP, dP, hdP, hdnP⟩ := Cond.laysAt hfound hk Y.supp (a' (.lays cls Bundle.tN "suppressedExceptions" Bundle.listD) (by simp [Bundle.ownAtoms]))
  obtain ⟨tyM, dM, hdM, hdnM⟩ := Cond.laysAt hfound hk hffM (a' (.lays cls Bundle.tN "detailMessage" "Ljava/lang/String;") (by simp [Bundle.ownAtoms]))
  obtain ⟨tyB, dB, hdB, hdnB⟩ := Cond.laysAt hfound hk hffB (a' (.lays cls Bundle.tN "backtrace" "Ljava/lang/Object;") (by simp [Bundle.ownAtoms]))
  have bC := Cond.laysApart hdB hdC hdnB hdnC (by rw [hnB, Y.causeName]; decide)
  have bS := Cond.laysApart hdB hdS hdnB hdnS (by rw [hnB, Y.stackName]; decide)
  have bP := Cond.laysApart hdB hdP hdnB hdnP (by rw [hnB, Y.suppName]; decide)
  have hskip : SkipFacts T0 e.platform s (fun u => u) u0 ((preparedCellV T0.toThrowableT (freshCell P1.m.cls kX) a u0 sen).withEntry T.cur) :=
    ⟨{ ci198 := ci198, i198 := i198, fBack := fB }, ⟨hk198, hg198, ha198, hsB⟩, by
      have := fresh_default (c := P1.m.cls) tyB
      rw [htB] at this
      simpa [preparedCellV, Cell.setSlot, Cell.withEntry, Array.getElem?_setIfInBounds, bC, bS, bP, bC.symm, bS.symm, bP.symm, defaultValue] using this, fun _ _ => rfl⟩
  obtain ⟨tm, methC, cdC, kC, vm₁, hnC, -, -, -, -, -, -, -, hW₁, st1⟩ := Steps.initColdS (tb := p.tables) (e := e) (below := below) (s := s) (U := T) X.here hexec X.warmed hpl hown (t := Bundle.initS cls) rfl rfl (Bundle.fit_spec hcls).2
    (a' (.methodLink own ic (Bundle.initS cls)) (by simp [Bundle.ownAtoms])) (h (.instanceMethod (Bundle.initS cls)) (by cases names <;> simp [Bundle.ownAtoms, Bundle.chainSAtoms, Bundle.passSAtoms])) (bytes := Bundle.six) (maxL := 2) (h (.code (Bundle.initS cls) Bundle.six 2 none) (by cases names <;> simp [Bundle.ownAtoms, Bundle.chainSAtoms, Bundle.passSAtoms]))
    (f := g) hg (a := a) (msg := msg) (rest := .ref a :: rest) hstack hd6
  cases Option.some.inj (hnC.symm.trans hP1m)
  have X₁ := X.noted hW₁
  obtain ⟨vm₂, X₂, st2⟩ := X₁.ctorMessageOffV hexec (g := { g with stack := .ref a :: rest }) hg hsize T0 L Z LZ M LM (P1 :: Ps)
    (fun P hP => by rcases List.mem_cons.mp hP with rfl | hP; exact L1; exact hL P hP) ⟨hlink1, hlink⟩ (u0 := u0) (sen := sen) (self := a) hmsg (cell := freshCell P1.m.cls kX) (cellS := cellS)
    hcell (fun _ => by simp) (by simp) rfl rfl hsel0 hselF hcellS hneS hknownS (by rw [hkeep _ (hout' _)]; exact hu0) (by rw [hkeep _ (hout' _)]; exact hsen)
    (Takes.of_laid hk hord tyC (by rw [Y.causeType]; rfl)) (Takes.of_laid hk hord tyS (by rw [Y.stackType]; exact fits_refV_array _ u0)) (Takes.of_laid hk hord tyP (by rw [Y.suppType]; exact fits_refV_object _ sen))
    (Takes.of_laid hk hord tyM (by rw [Y.msgType]; exact fits_refV_object _ ⟨msg, hmsg⟩)) Y.objLocals hskip htr [] hd6
    (by simp only [List.length_cons, hlen]; omega) (by simp only [List.length_cons, hlen]; exact hRlocals)
  refine ⟨_, _, _, X₂, fun y hy => ?_, rfl, rfl, rfl, fun target hrest => st1 _ (fun acts => ?_)⟩
  · simp only [List.mem_cons, List.not_mem_nil, or_false] at hy
    rcases hy with rfl | rfl | rfl | rfl | rfl <;> rfl
  · rw [doInvoke_state]
    exact st2 _ hrest
end
section
variable {p : Program} {l : Launch} {e : Env} {R : Room} {s : State} {m : MethodId} {args : Array Value} {below : List Frame} {meth : Method} {c : Code} {H : Heap} {locs : List Loc} {cells slots : Nat} {Q : State → Prop}
variable {w : sm_T} {h h' : am_M} {mid pc pc' : Nat} {ls : Array Slot} {st st' : List Value} {L L' : List (Option Value)} {rest : List Value} {cc : ByteArray}
theorem ex_get (i f q : Nat) : ai_get (h.1, am_ex h.2) i f q = ai_get h i f q := by
  unfold ai_get
  split <;> rfl
theorem al_exc (F : sm_F w p s m args meth c R 236) (htr : e.platform.stackTraces = false) (I : sm_I w h s H locs) (hls : ls.size = ac_ml 236) (hcat : (rest.map fun v => v.category).sum ≤ 8) (hcell : cells + 1 ≤ R.cells) (hslot : slots + 6 ≤ R.slots)
    (kk : ∀ (H' : Heap) (locs' : List Loc), sm_I w (h.1, am_ex h.2) s H' locs' → W p l e R s m args below meth c H' locs' (cells + 1) (slots + 6) Q (F0 m 19 ls (.ref (sm_a w (am_sz h.2)) :: rest))) :
    W p l e R s m args below meth c H locs cells slots Q (F0 m 10 ls rest) := by
  obtain ⟨hx, hb, hml, hown, hts, hK, hini, hRf, hRl⟩ := F
  obtain ⟨g1, g2, g3⟩ := ex_q
  rw [g3] at hown
  have hown : s.vm.findClass "DeclaredMarkup$Processor" = some m.cls := hown
  obtain ⟨N, S, hS, hw⟩ := id I
  obtain ⟨a1, a2, a3, a4, a5, a6, a7, a8, a9, z1, z2⟩ := S
  refine W.newcK hx hb hown (hts _ ex_cl) (hts _ ex_in) (hts _ ex_it) rfl ex_d10 hcell hslot hK.2.2 rfl fun H1 kC hkC e1 e2 e3 => ?_
  refine lv_dup hx hb ex_d13 rfl ?_
  refine va_ldcS hx hb hown a8 ex_d14 ?_
  have hold : ∀ (c : ClassId) (k : Class) (i : Nat) (f : Field) (a : Addr), s.fieldFound? "java/lang/Throwable" "UNASSIGNED_STACK" "[Ljava/lang/StackTraceElement;" = some (c, k, i, f) → k.statics = some a → ∀ i, (⟨a, i⟩ : Loc) ∉ locs := by
    intro c0 k0 i0 f0 b0 y1 y2 j hj
    obtain ⟨c', k', i', f', b', cell', v', q1, q2, q3, q4, q5, q6, q7, q8, q9, q10, q11, q12⟩ := z1
    cases y1.symm.trans q2
    cases y2.symm.trans q4
    have hb2 : w.1 ≤ b0 := hS.2.2 _ hj
    omega
  intro T hT X
  obtain ⟨U, L5, ce, XU, hL5, hU, hcc, hcv, st5⟩ := ex_ctor X hx htr (own := "DeclaredMarkup$Processor") (cls := "java/lang/IllegalStateException") (names := ex_ns) (ic := 136) hown (by decide +kernel) (by decide +kernel) (ex_at hts z1 z2) hold (a := H.size) hK.2.2 hkC (by rw [hT]; exact e1) hS.1 (msg := .ref (w.2.1 20)) rfl (g := F0 m 16 ls (.ref (w.2.1 20) :: .ref H.size :: .ref H.size :: rest)) rfl (by rw [hml]; exact hls) (rest := rest) rfl (by rw [hb]; exact ex_d16) (by show 2 + 3 < _; omega) (by show 2 * 0 + (1 + (rest.map fun v => v.category).sum) + (13 * 3 + 42) ≤ _; omega)
  have hH : U.heap.size = H.size + 1 := by rw [hU, hT]; simp [e2]
  have hq : ∀ q, q < H.size → U.heap[q]? = H[q]? := fun q hq => by
    rw [hU, hT, Array.getElem?_setIfInBounds_ne (Nat.ne_of_gt hq)]; exact e3 q hq
  have hce : U.heap[H.size]? = some ce := by rw [hU, hT, Array.getElem?_setIfInBounds_self, if_pos (by rw [e2]; omega)]
  have N' : sm_N w (h.1, am_ex h.2) U.heap := by
    refine N.grow rfl (fun _ _ => rfl) (fun _ _ => rfl) (fun i _ f q _ => ex_get i f q) ?_ ?_ hH hq ?_
    · exact Or.inr (Or.inl (N.2.2.2.2.1 _ (Nat.le_refl _)))
    · intro z
      rw [show am_kd (h.1, am_ex h.2).1 (am_sz h.2) = 99 from N.2.2.2.2.1 _ (Nat.le_refl _)] at z
      omega
    · have hk9 : am_kd (h.1, am_ex h.2).1 (am_sz h.2) = 99 := N.2.2.2.2.1 _ (Nat.le_refl _)
      refine ⟨fun _ => ⟨ce, by rw [N.at]; exact hce, hcc, hcv⟩, fun z => ?_, fun z => ?_⟩ <;> rw [hk9] at z <;> omega
  have I' : sm_I w (h.1, am_ex h.2) s U.heap (locs ++ L5) := by
    refine ⟨N', I.2.1.le le_ex, ⟨by rw [hH]; exact Nat.le_succ_of_le hS.1, fun q b1 b2 => (hq q (Nat.lt_of_lt_of_le b1 hS.1)).trans (hS.2.1 q b1 b2), fun y hy => ?_⟩, hw⟩
    rcases List.mem_append.mp hy with hy | hy
    · exact hS.2.2 y hy
    · show w.1 ≤ y.base
      rw [hL5 y hy, N.2.1]
      omega
  obtain ⟨t, b1, b2⟩ := kk U.heap (locs ++ L5) I' U rfl XU
  rw [N.at] at b1
  exact ⟨t, st5 t b1, b2⟩
theorem cp_kd {o : Nat} : am_kd (am_cp h o).1 (am_sz h.2) = am_kd h.1 o := u1_eq
theorem cp_ln {o : Nat} : am_ln (am_cp h o).1 (am_sz h.2) = am_ln h.1 o := u1_eq
theorem al_cln (hx : p.tables.exec = Jvm.exec) (hb : c.code = cc) (hown : s.vm.findClass (jo (jow mid)) = some m.cls) (hts : ∀ x ∈ sm_tbl, x.before args s = true) (hK : sm_K w s) (I : sm_I w h s H locs) (h17 : jow mid = 17) (hkd : am_kd h.1 16 = 127)
    (hls : ls.size = c.maxLocals) (hRf : 1 ≤ R.frames) (hcat : 2 * 0 + (rest.map fun v => v.category).sum + 14 ≤ R.locals) (hcell : cells + 1 ≤ R.cells) (hslot : slots + am_ln h.1 16 ≤ R.slots) (hd : decode cc pc = .ok (.invokevirtual 38, 3))
    (kk : ∀ H' : Heap, sm_I w (am_cp h 16) s H' locs → W p l e R s m args below meth c H' locs (cells + 1) (slots + am_ln h.1 16) Q (F0 m (pc + 3) ls (.ref (sm_a w (am_sz h.2)) :: rest))) :
    W p l e R s m args below meth c H locs cells slots Q (F0 m pc ls (.ref (sm_a w 16) :: rest)) := by
  intro T hT X
  obtain ⟨N, S, hS, hw⟩ := id I
  obtain ⟨a1, a2, a3, a4, a5, a6, a7, a8, ⟨cell, c1, c2, d4⟩, -⟩ := S
  have h16 : sm_a w 16 = w.2.1 16 := sm_a_old w (by decide)
  have hc : H[w.2.1 16]? = some cell := (I.low (a6 16 (by decide))).trans c1
  obtain ⟨b1, b2, cell', d1, d2, d3, -, d5⟩ := a4 16 (by omega)
  rw [h16] at d1
  cases c1.symm.trans d1
  obtain ⟨kA, comp, k1, k2, k3, k4⟩ := (show va_RA s (w.2.2.2 127) (.object "DeclaredMarkup$AttType") from (hK.2.1 127 jk127).2)
  obtain ⟨c3, c4, hc3, hc4, hasg⟩ := Cond.castable_spec (hts _ cl_cast)
  have hcls : s.vm.findClass "[LDeclaredMarkup$AttType;" = some cell.cls := by rw [c2]; exact k4
  cases hcls.symm.trans hc3
  have hval : ∀ (i : Nat) (v : Value), cell.slots[i]? = some v → v = .null ∨ ∃ r, v = .ref r := by
    intro i v hv
    have hi : i < am_ln h.1 16 := by rw [← d4]; exact (Array.getElem?_eq_some_iff.mp hv).1
    have := d5 i hi
    rw [hv, hkd] at this
    have e : v = sm_v w (am_v (am_fr h.1 16 i)) := Option.some.inj this
    rw [e]
    cases am_fr h.1 16 i with
    | none => exact Or.inl rfl
    | some r => exact Or.inr ⟨_, rfl⟩
  obtain ⟨k₁, hk₁, hek⟩ := X.warmed.alike.2.2 _ _ k1
  have hkind₁ : k₁.kind = .array comp (.object "DeclaredMarkup$AttType") := by rw [hek]; exact k2
  rw [← c2] at hk₁ k1
  have hfit : ∀ i v, cell.slots[i]? = some v → T.fitsSlot cell.cls .none i v = true := by
    intro i v hv
    rcases hval i v hv with rfl | ⟨r, rfl⟩ <;> (simp [State.fitsSlot, State.slotType?, hk₁, hkind₁]; rfl)
  obtain ⟨vm', X', st⟩ := X.cloneArray hx (own := "DeclaredMarkup$AttType") (by rw [h17] at hown; exact hown) (hts _ cl_link) (hts _ cl_same) (hts _ cl_nat) (hts _ cl_inst) (hts _ cl_sel) (a := w.2.1 16) (cell := cell) (by rw [hT]; exact hc) d2.1 d3 hcls hc4 hasg hfit
    (g := F0 m pc ls (.ref (sm_a w 16) :: rest)) rfl hls (rest := rest) (by rw [h16]) (by rw [hb]; exact hd) hRf hcat hcell (by rw [d4]; exact hslot) (Vm.clonesLoader_of_array k1 k2)
  have hH : ((T.setVm vm').pushCell { cls := cell.cls, slots := cell.slots }).heap = H.push { cls := cell.cls, slots := cell.slots } := by show T.heap.push _ = _; rw [hT]
  have hs1 : (H.push { cls := cell.cls, slots := cell.slots }).size = H.size + 1 := Array.size_push ..
  have hq1 : ∀ q, q < H.size → (H.push { cls := cell.cls, slots := cell.slots })[q]? = H[q]? := fun q hq => by rw [Array.getElem?_push, if_neg (Nat.ne_of_lt hq)]
  have N' : sm_N w (am_cp h 16) (H.push { cls := cell.cls, slots := cell.slots }) := by
    refine N.grow rfl (fun i hi => u1_ne hi) (fun i hi => u1_ne hi) (fun i hi f q _ => cp_get_ne hi f q) ?_ ?_ hs1 hq1 ?_
    · rw [cp_kd, hkd]; exact Or.inr (Or.inr jk127)
    · intro _; rw [cp_ln]; exact b2
    · refine ⟨fun z => ?_, fun z => ?_, fun z => ?_⟩
      · rw [cp_kd, hkd] at z; omega
      · rw [cp_kd, hkd] at z; omega
      · unfold sm_arr
        rw [cp_kd, cp_ln, hkd, N.at, Array.getElem?_push_size]
        refine congrArg some ?_
        unfold arrV
        rw [c2]
        congr 1
        apply Array.ext
        · simp [d4]
        · intro i h1 h2
          have hv := d5 i (by rw [← d4]; exact h1)
          rw [hkd, Array.getElem?_eq_some_iff] at hv
          obtain ⟨hv1, hv2⟩ := hv
          simp only [Array.getElem_ofFn]
          exact hv2.trans (congrArg (sm_v w) (cp_get_eq i).symm)
  obtain ⟨t, x1, x2⟩ := kk _ (I.grow N' (le_cp N.2.2.1) hs1 hq1) _ hH (by rw [d4] at X'; exact X')
  rw [N.at, ← hT] at x1
  exact ⟨t, st t x1, x2⟩
end
