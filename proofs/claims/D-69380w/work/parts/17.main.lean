/-! The main theorem: what AI runs, the machine runs. -/
def sm_o (w : sm_T) (o : ai_O) : Outcome := match o with
  | .inl v => .returned (v.map (sm_v w))
  | .inr a => .threw (sm_a w a)
def sm_Q (w : sm_T) (below : List Frame) (s : State) (o : ai_O) (h' : am_M) (kc ks : Nat) (t : State) : Prop :=
  t.status = .running ∧ Ended t below (sm_o w o) ∧ sm_N w h' t.heap ∧ s.WarmedH t.vm ∧ (∃ L, s.sameButNew ({ t with vm := s.vm } : State) L kc ks ∧ va_S (sm_A w) s.heap t.heap L) ∧ (∀ a, o = .inr a → am_kd h'.1 a = 99 ∧ 32 ≤ a ∧ a < am_sz h'.2)
/-- what a method's own data are -/
def sm_M (meth : Method) (c : Code) (mid : Nat) : Prop := ck_r mid = true ∧ meth.sig.returnType = jr mid ∧ meth.locks = false ∧ c.exceptionTable.toList.map (fun h => (h.startPc, h.endPc, h.handlerPc, h.catchType)) = jh mid
theorem rz_spec {n : Nat} (h : ck_r n = true) : (ac_rz n = 0 → jr n = none) ∧ (ac_rz n = 1 → jr n = some .int) ∧ (ac_rz n = 2 → jr n = some .boolean) ∧ (ac_rz n = 3 → jr n = some .long) ∧ (ac_rz n = 4 → ∃ rt, jr n = some rt ∧ ((∃ q, rt = .object q) ∨ ∃ t, rt = .array t)) := by
  unfold ck_r at h
  split at h
  · have := Nat.eq_of_beq_eq_true h
    exact ⟨fun _ => by assumption, fun q => by omega, fun q => by omega, fun q => by omega, fun q => by omega⟩
  · have := Nat.eq_of_beq_eq_true h
    exact ⟨fun q => by omega, fun _ => by assumption, fun q => by omega, fun q => by omega, fun q => by omega⟩
  · have := Nat.eq_of_beq_eq_true h
    exact ⟨fun q => by omega, fun q => by omega, fun _ => by assumption, fun q => by omega, fun q => by omega⟩
  · have := Nat.eq_of_beq_eq_true h
    exact ⟨fun q => by omega, fun q => by omega, fun q => by omega, fun _ => by assumption, fun q => by omega⟩
  · have := Nat.eq_of_beq_eq_true h
    exact ⟨fun q => by omega, fun q => by omega, fun q => by omega, fun q => by omega, fun _ => ⟨_, by assumption, Or.inl ⟨_, rfl⟩⟩⟩
  · have := Nat.eq_of_beq_eq_true h
    exact ⟨fun q => by omega, fun q => by omega, fun q => by omega, fun q => by omega, fun _ => ⟨_, by assumption, Or.inr ⟨_, rfl⟩⟩⟩
  · cases h
theorem out_sp {c : Code} {mid pc : Nat} (ht : c.exceptionTable.toList.map (fun h => (h.startPc, h.endPc, h.handlerPc, h.catchType)) = jh mid) (hp : mid = 251 → pc < 38 ∨ 42 ≤ pc) : ∀ x ∈ c.exceptionTable.toList, covers x pc = false := by
  intro x hx
  have hm := List.mem_map_of_mem (f := fun h : ExceptionTableEntry => (h.startPc, h.endPc, h.handlerPc, h.catchType)) hx
  rw [ht] at hm
  unfold jh at hm
  cases hb : Nat.beq mid 251 <;> rw [hb] at hm
  · cases hm
  · have e := List.mem_singleton.mp hm
    have h1 := hp (Nat.eq_of_beq_eq_true hb)
    simp only [Prod.mk.injEq] at e
    unfold covers
    rw [e.1, e.2.1, Bool.and_eq_false_iff, decide_eq_false_iff_not, decide_eq_false_iff_not]
    omega
section
variable {p : Program} {l : Launch} {e : Env} {R : Room} {s : State} {m : MethodId} {args : Array Value} {below : List Frame} {meth : Method} {c : Code} {H : Heap} {locs : List Loc} {cells slots : Nat} {Q : State → Prop}
variable {w : sm_T} {h h' : am_M} {mid pc pc' : Nat} {ls : Array Slot} {st st' : List Value} {L L' : List (Option Value)}
theorem W.imp {Q' : State → Prop} {g : JFrame} (k : W p l e R s m args below meth c H locs cells slots Q g) (hq : ∀ t, Q t → Q' t) : W p l e R s m args below meth c H locs cells slots Q' g := by
  intro T hT X
  obtain ⟨t, a, b⟩ := k T hT X
  exact ⟨t, a, hq t b⟩
theorem W.bret {cc : ByteArray} {Qc : Array Value → State → Outcome → State → Prop} {free : Addr → Prop} {v : Int32} (hexec : p.tables.exec = Jvm.exec) (hb : c.code = cc) (hr : meth.sig.returnType = some .boolean) (hlocks : meth.locks = false)
    (hq : ∀ t : State, t.heap = H → s.WarmedH t.vm → Qc args s (.returned (some (.int (vp_nar .boolean v)))) t) (hf : ∀ q ∈ locs, free q.base)
    (hdg : decode cc pc = .ok (.ireturn, 1)) : W p l e R s m args below meth c H locs cells slots (MQ below Qc args s cells slots free) (F0 m pc ls [.int v]) := by
  intro T hT X
  have hn : narrow .boolean (.int v) = .int (vp_nar .boolean v) := rfl
  obtain ⟨fs, hret, hrun, hended, hW, hframe⟩ := X.leave (v := some (.int (vp_nar .boolean v))) (fun h => by rw [hr] at h; cases h)
  have hmeth' : T.vm.method? m = some meth := X.method'
  refine ⟨T.setFrames fs, ?_, .returned (some (.int (vp_nar .boolean v))), hrun, hended, hq _ hT hW, locs, ⟨⟨_, rfl⟩, hW, hframe⟩, hf⟩
  jvm_step X.here [X.here.top, hexec, hb, hdg, hmeth', hr, hn]
  (try refine ⟨rfl, ?_⟩); (try refine ⟨rfl, ?_⟩)
  first | (intro acts; rw [hret _ acts rfl rfl rfl]) | rw [hret _ _ rfl rfl rfl]
  exact Steps.refl _
theorem mq_ok (I : sm_I w h s H locs) {o : ai_O} (t : State) (k : MQ below (fun _ _ o' t => o' = sm_o w o ∧ t.heap = H) args s cells slots (sm_A w) t) : sm_Q w below s o h cells slots t := by
  obtain ⟨o', h1, h2, ⟨h3, h4⟩, L5, ⟨⟨v, h5⟩, h6, h7⟩, h8⟩ := k
  refine ⟨h1, by rw [← h3]; exact h2, by rw [h4]; exact I.1, h6, ⟨L5, h7, by rw [h4]; exact I.2.2.1.1, by rw [h4]; exact I.2.2.1.2.1, h8⟩, fun a ha => ?_⟩
  rw [h3, ha] at h5
  cases h5
set_option maxHeartbeats 4000000 in
theorem en_any (F : sm_F w p s m args meth c R mid) (M : sm_M meth c mid) (I : sm_I w h s H locs) {i : ai_J} (hd : decode (jb mid) pc = .ok (i.1, ai_len i)) (hc : ck_i mid pc i = true) (hh : ck_h mid pc i = true) {o : ai_O}
    (hs : ai_sx i (ac_rz mid) pc L st h = some (.inr (.inr (o, h')))) : h' = h ∧ W p l e R s m args below meth c H locs cells slots (sm_Q w below s o h' cells slots) (F0 m pc ls (st.map (sm_v w))) := by
  have hk : en_i i.1 = true := kq_sx hs
  obtain ⟨ins, len, km, a, b, cz, v, ww, ps⟩ := i
  obtain ⟨hx, hb, hml, hown, hts, hK, hini, hRf, hRl⟩ := id F
  obtain ⟨M1, M2, M3, M4⟩ := M
  obtain ⟨r0, r1, r2, r3, r4⟩ := rz_spec M1
  have hA : ∀ q ∈ locs, sm_A w q.base := I.2.2.1.2.2
  unfold ai_sx at hs
  unfold ck_i at hc
  unfold ck_h at hh
  dsimp only [ai_len, ai_a, ai_b, ai_c, ai_v, ai_w, ai_ps] at hd hc hs hk hh
  unfold en_i at hk
  split at hk
  · cases st with
    | cons v0 st0 => cases hs
    | nil =>
      dsimp only at hs hc
      obtain ⟨g1, hs⟩ := x_bif hs
      cases hs
      obtain rfl := Nat.eq_of_beq_eq_true hc
      exact ⟨rfl, (W.vret hx hb (by rw [M2]; exact r0 (Nat.eq_of_beq_eq_true g1)) (fun t ht _ => ⟨rfl, ht⟩) hA hd (hlocks := M3)).imp (mq_ok I)⟩
  · cases st with
    | nil => cases hs
    | cons v0 st0 => cases v0 with
      | int x => cases st0 with
        | cons v1 st1 => cases hs
        | nil =>
          dsimp only at hs hc
          obtain rfl := Nat.eq_of_beq_eq_true hc
          cases g1 : Nat.beq (ac_rz mid) 1 with
          | true =>
            rw [g1, cond_true] at hs
            cases hs
            exact ⟨rfl, (W.iret hx hb (by rw [M2]; exact r1 (Nat.eq_of_beq_eq_true g1)) (fun t ht _ => ⟨rfl, ht⟩) hA hd (hlocks := M3)).imp (mq_ok I)⟩
          | false =>
            rw [g1, cond_false] at hs
            obtain ⟨g2, hs⟩ := x_bif hs
            cases hs
            exact ⟨rfl, (W.bret hx hb (by rw [M2]; exact r2 (Nat.eq_of_beq_eq_true g2)) M3 (fun t ht _ => ⟨rfl, ht⟩) hA hd).imp (mq_ok I)⟩
      | _ => cases hs
  · cases st with
    | nil => cases hs
    | cons v0 st0 => cases v0 with
      | long x => cases st0 with
        | cons v1 st1 => cases hs
        | nil =>
          dsimp only at hs hc
          obtain rfl := Nat.eq_of_beq_eq_true hc
          obtain ⟨g1, hs⟩ := x_bif hs
          cases hs
          exact ⟨rfl, (W.lret hx hb (by rw [M2]; exact r3 (Nat.eq_of_beq_eq_true g1)) (fun t ht _ => ⟨rfl, ht⟩) hA hd (hlocks := M3)).imp (mq_ok I)⟩
      | _ => cases hs
  · cases st with
    | nil => cases hs
    | cons v0 st0 => cases v0 with
      | ref x => cases st0 with
        | cons v1 st1 => cases hs
        | nil =>
          dsimp only at hs hc
          obtain rfl := Nat.eq_of_beq_eq_true hc
          obtain ⟨g1, hs⟩ := x_bif hs
          cases hs
          obtain ⟨rt, g2, g3⟩ := r4 (Nat.eq_of_beq_eq_true g1)
          exact ⟨rfl, (W.aret hx hb (by rw [M2]; exact g2) g3 (Or.inr ⟨_, rfl⟩) (fun t ht _ => ⟨rfl, ht⟩) hA hd (hlocks := M3)).imp (mq_ok I)⟩
      | null => cases st0 with
        | cons v1 st1 => cases hs
        | nil =>
          dsimp only at hs hc
          obtain rfl := Nat.eq_of_beq_eq_true hc
          obtain ⟨g1, hs⟩ := x_bif hs
          cases hs
          obtain ⟨rt, g2, g3⟩ := r4 (Nat.eq_of_beq_eq_true g1)
          exact ⟨rfl, (W.aret hx hb (by rw [M2]; exact g2) g3 (Or.inl rfl) (fun t ht _ => ⟨rfl, ht⟩) hA hd (hlocks := M3)).imp (mq_ok I)⟩
      | _ => cases hs
  · cases st with
    | nil => cases hs
    | cons v0 st0 => cases v0 with
      | ref x =>
        dsimp only at hs hc hh
        obtain rfl := Nat.eq_of_beq_eq_true hc
        obtain ⟨g1, hs⟩ := x_bif hs
        cases hs
        simp only [Bool.and_eq_true] at g1
        have h251 : mid ≠ 251 := fun z => by rw [z] at hh; exact absurd hh (by decide)
        refine ⟨rfl, fun T hT X => ?_⟩
        obtain ⟨hwalk, hrun, hended, hW, hsame⟩ := X.athrowLeaves hx (g := F0 m pc ls ((Value.ref x :: st0).map (sm_v w))) rfl rfl rfl (out_sp M4 (fun z => absurd z h251)) (a := sm_a w x) (rest := st0.map (sm_v w)) rfl (by rw [hb]; exact hd) (hlocks := M3)
        have hH : (T.setFrames (.throwing (sm_a w x) :: below)).heap = H := hT
        refine ⟨_, hwalk, hrun, hended, by rw [hH]; exact I.1, hW, ⟨locs, hsame, by rw [hH]; exact I.2.2.1⟩, fun a ha => ?_⟩
        cases ha
        exact ⟨Nat.eq_of_beq_eq_true g1.1.1, Nat.le_of_ble_eq_true g1.1.2, Nat.blt_eq.mp g1.2⟩
      | _ => cases hs
  · cases hk
end
/-! How a called method starts. -/
theorem rep_ld (n k : Nat) : ai_ld (List.replicate n none) k = none := by
  induction n generalizing k with
  | zero => rfl
  | succ n ih => cases k with
    | zero => rfl
    | succ k => exact ih k
theorem fil_ld : ∀ (X : List (Option Value)) (n k : Nat) (v : Value), ai_ld (ai_fil X n) k = some v → ai_ld X k = some v
  | [], n, k, v, h => by
    unfold ai_fil at h
    rw [rep_ld] at h
    cases h
  | x :: t, 0, k, v, h => by cases h
  | x :: t, n + 1, 0, v, h => h
  | x :: t, n + 1, k + 1, v, h => fil_ld t n k v h
theorem fil_len : ∀ (X : List (Option Value)) (n : Nat), (ai_fil X n).length = n
  | [], n => by unfold ai_fil; exact List.length_replicate
  | x :: t, 0 => rfl
  | x :: t, n + 1 => by unfold ai_fil; rw [List.length_cons, fil_len t n]
theorem ar_sl (w : sm_T) : ∀ as : List Value, (lg_sl (as.map (sm_v w))).length = (ai_ar as).length
  | [] => rfl
  | v :: t => by
    have ih := ar_sl w t
    unfold ai_ar
    rw [List.map_cons]
    unfold lg_sl at ih ⊢
    rw [List.flatMap_cons, List.length_append, ih, sm_v_cat]
    by_cases hc : v.category = 2
    · rw [if_pos hc, show Nat.beq v.category 2 = true from by rw [hc]; rfl]
      simp only [cond_true, List.length_cons, List.length_nil]; omega
    · rw [if_neg hc, beq_f hc]
      simp only [cond_false, List.length_cons, List.length_nil]; omega
theorem ar_ld (w : sm_T) : ∀ (as : List Value) (k0 k : Nat) (v : Value), ai_ld (ai_ar as) k = some v → (k0 + k, sm_v w v) ∈ lv_args k0 (as.map (sm_v w))
  | [], _, _, _, h => by cases h
  | u :: t, k0, k, v, h => by
    unfold ai_ar at h
    rw [List.map_cons]
    unfold lv_args
    rw [sm_v_cat]
    by_cases hc : u.category = 2
    · rw [if_pos hc]
      rw [show Nat.beq u.category 2 = true from by rw [hc]; rfl, cond_true] at h
      match k, h with
      | 0, h => cases h; exact List.mem_cons_self ..
      | 1, h => cases h
      | k + 2, h =>
        refine List.mem_cons_of_mem _ ?_
        have := ar_ld w t (k0 + 2) k v h
        rw [show k0 + (k + 2) = k0 + 2 + k by omega]
        exact this
    · rw [if_neg hc]
      rw [beq_f hc, cond_false] at h
      match k, h with
      | 0, h => cases h; exact List.mem_cons_self ..
      | k + 1, h =>
        refine List.mem_cons_of_mem _ ?_
        have := ar_ld w t (k0 + 1) k v h
        rw [show k0 + (k + 1) = k0 + 1 + k by omega]
        exact this
theorem en_ok (w : sm_T) (mk : MethodId) (as : List Value) {n : Nat} (hn : (ai_ar as).length ≤ n) : ∃ ls, entryFrame mk (as.map (sm_v w)).toArray n = F0 mk 0 ls [] ∧ sm_l w (ai_fil (ai_ar as) n) ls n := by
  have h1 := lv_entry (as.map (sm_v w)) (n := n) (by rw [ar_sl]; exact hn)
  refine ⟨_, lg_entry_eq mk (as.map (sm_v w)) n, h1.1, h1.2.1, fil_len _ _, fun k v hk => ?_⟩
  have h2 := ar_ld w as 0 k v (fil_ld _ _ _ _ hk)
  rw [Nat.zero_add] at h2
  exact h1.2.2 (k, sm_v w v) h2
/-! Into a handler, its class cold or warm. -/
section
variable {p : Program} {l : Launch} {e : Env} {R : Room} {s : State} {m : MethodId} {args : Array Value} {below : List Frame} {meth : Method} {c : Code} {T : State} {locs : List Loc} {cells slots : Nat}
theorem ct_find {S : State} {f : JFrame} {a : Addr} {code : Code} (hm : S.vm.method? f.method = some meth) (hc : meth.code = some code) {x : ExceptionTableEntry} (hx : code.exceptionTable.toList = [x]) (hcov : covers x f.pc = true) (h0 : x.catchType ≠ 0)
    {cT : ClassId} {cell : Cell} (hl : S.vm.ClassLinks e.platform f.method.cls x.catchType cT) (hcell : S.heap[a]? = some cell) (hobj : ∀ k, cell.vm ≠ .statics k) (hk : ∃ k, S.vm.classes[cell.cls]? = some k) (hcl : ∃ k, S.vm.classes[cT]? = some k) (hfit : S.vm.assignable cell.cls cT = true)
    (Qh : Handler → Pre) (E : CtlPost) (d : Bool) (acts : List Action) :
    wp (findHandler f a) Qh E e d acts S ↔ Qh (.found x.handlerPc) d acts (S.setVm (S.vm.noted f.method.cls x.catchType (.cls cT))) := by
  rw [W.findHandler_eq hm hc, hx]
  obtain ⟨ha, ht⟩ := (resolveClass_links e.toSetting hl).op (op := VmOp.resolveClass f.method.cls x.catchType) rfl
  have hal : S.vm.Alike (S.vm.noted f.method.cls x.catchType (.cls cT)) := (Vm.Alike.refl S.vm).noted _ _ _
  obtain ⟨k1, hk1⟩ := hk
  obtain ⟨k2, hk2⟩ := hcl
  obtain ⟨k3, hk3, -⟩ := hal.2.2 _ _ hk1
  obtain ⟨k4, hk4, -⟩ := hal.2.2 _ _ hk2
  have hfit' : (S.vm.noted f.method.cls x.catchType (.cls cT)).assignable cell.cls cT = true := by rw [hal.assignable]; exact hfit
  simp only [covers] at hcov
  simp [findHandler.go, hcov, h0, ha, ht, hcell, hobj, hk3, hk4, hfit', VmOp.dirties, VmOp.acts]
theorem ct_ok (X : Stand p l e R s m args below meth c T locs cells slots) (hown : s.vm.findClass "DeclaredMarkup$Processor" = some m.cls) (hlink : (Cond.classLink "DeclaredMarkup$Processor" 133 "java/lang/IllegalStateException").before args s = true) (hcast : (Cond.castable "java/lang/IllegalStateException" "java/lang/IllegalStateException").before args s = true)
    (htab : c.exceptionTable.toList.map (fun h => (h.startPc, h.endPc, h.handlerPc, h.catchType)) = [(38, 42, 45, 133)]) {a : Addr} {cell : Cell} (hcell : T.heap[a]? = some cell) (hcls : s.vm.findClass "java/lang/IllegalStateException" = some cell.cls) (hcv : cell.vm = .none) {g : JFrame} (hg : g.method = m) (hpc : g.pc = 39) :
    ∃ vm', Stand p l e R s m args below meth c (T.setVm vm') locs cells slots ∧ ∀ target, Steps p.tables e below ((T.setVm vm').setTop { g with pc := 45, stack := [.ref a] }) target → Steps p.tables e below ((T.setTop g).pushFrame (.throwing a)) target := by
  subst hg
  have hpl : e.platform.magicAccessors = ({} : Platform).magicAccessors := by rw [X.admits.platform]
  obtain ⟨x, hx, x1, x2, x3, x4⟩ : ∃ x, c.exceptionTable.toList = [x] ∧ x.startPc = 38 ∧ x.endPc = 42 ∧ x.handlerPc = 45 ∧ x.catchType = 133 := by
    cases hq : c.exceptionTable.toList with
    | nil => rw [hq] at htab; cases htab
    | cons x t =>
      rw [hq, List.map_cons, List.cons.injEq] at htab
      obtain ⟨t1, t2⟩ := htab
      simp only [Prod.mk.injEq] at t1
      have : t = [] := by simpa using t2
      exact ⟨x, by rw [this], t1⟩
  obtain ⟨c', hc', hcl⟩ := Cond.classLink_spec hown hlink e.platform hpl
  cases hcls.symm.trans hc'
  obtain ⟨dk, _, _, kt, hd, _, _, _, _, hkt, _, hopen⟩ := hcl.here
  obtain ⟨c3, c4, hc3, hc4, hasg⟩ := Cond.castable_spec hcast
  cases hcls.symm.trans hc3
  cases hcls.symm.trans hc4
  have hal := X.warmed.alike
  have hcl₀ := X.warmed.classLinks hcl
  have hW' : s.WarmedH (T.vm.noted g.method.cls 133 (.cls cell.cls)) := X.warmed.noted hd hopen (State.rightAt_cls hcl)
  obtain ⟨kt', hkt', -⟩ := hal.2.2 _ _ hkt
  have hfit' : T.vm.assignable cell.cls cell.cls = true := by rw [hal.assignable]; exact hasg
  refine ⟨_, X.noted hW', fun target hrest => ?_⟩
  have hfind := ct_find (e := e) (S := (T.setTop g).pushFrame (.throwing a)) (f := g) (a := a) (meth := meth) (code := c) X.method' X.code hx (by unfold covers; rw [x1, x2, hpc]; decide) (by rw [x4]; decide) (cT := cell.cls) (cell := cell) (by rw [x4]; exact hcl₀) hcell (fun k z => by rw [hcv] at z; cases z) ⟨kt', hkt'⟩ ⟨kt', hkt'⟩ hfit'
  rw [x3, x4] at hfind
  obtain ⟨hgo, hw⟩ := X.here.throwing a
  refine Steps.head hgo hw ?_
  have hstep : (stepThrowing e ((T.setTop g).pushFrame (.throwing a)) a (.java g :: T.frames.tail)).1 = (((T.setTop g).pushFrame (.throwing a)).setVm (T.vm.noted g.method.cls 133 (.cls cell.cls))).setFrames (.java { g with pc := 45, stack := [.ref a] } :: T.frames.tail) := by
    simp only [stepThrowing, searchFrame, vmDo]
    generalize hr : Sem.go _ e false [] ((T.setTop g).pushFrame (.throwing a)) = res
    obtain ⟨as, rfl, -⟩ := Sem.eq_ok_of hr (a := Handler.found 45) (s' := ((T.setTop g).pushFrame (.throwing a)).setVm (T.vm.noted g.method.cls 133 (.cls cell.cls))) (acts' := []) (by simp [hfind]; rfl)
    rfl
  rw [stepThread_throwing (frames_entered X.here.top _), hstep]
  obtain ⟨g₀, hr⟩ := X.frames_eq
  have hr' : (T.setVm (T.vm.noted g.method.cls 133 (.cls cell.cls))).frames = .java g₀ :: below := hr
  rw [State.setTop_of_frames _ hr'] at hrest
  have e1 : (((T.setTop g).pushFrame (.throwing a)).setVm (T.vm.noted g.method.cls 133 (.cls cell.cls))).setFrames (.java { g with pc := 45, stack := [.ref a] } :: T.frames.tail) = (T.setVm (T.vm.noted g.method.cls 133 (.cls cell.cls))).setFrames (.java { g with pc := 45, stack := [.ref a] } :: below) := by
    rw [State.pushFrame, State.setTop_of_frames _ hr, State.setFrames_setFrames, hr, List.tail_cons]
    rw [show ∀ (F : List Frame), (T.setFrames F).setVm (T.vm.noted g.method.cls 133 (.cls cell.cls)) = (T.setVm (T.vm.noted g.method.cls 133 (.cls cell.cls))).setFrames F from fun _ => rfl, State.setFrames_setFrames]
  rw [e1]
  exact hrest
end
