/-! THE CLAIM OUT OF ONE WALK OF THE LAW'S BODY. Your part is whole_start (and what it stands on); all else here is the same for every law, but numbers. -/
def R_law : String := "DeclaredMarkupLaw"
def lw_P (b : Addr) (xs : List Int32) (args : Array Value) (s : State) : Prop := args = #[.ref b] ∧ s.IntsAt b xs ∧ xs.length ≤ 24576 ∧ (Jvm.Cond.and given_1 narrow_1).before args s = true
def lw_Q (_ : Array Value) (s : State) (o : Outcome) (t : State) : Prop := o = .returned (some (.int 1)) ∧ Framed s o t [] 608192 7228522
def lw_Z (below : List Frame) (a : Array Value) (s : State) : State → Prop := fun t => ∃ o, t.status = .running ∧ Ended t below o ∧ lw_Q a s o t
/-- what holds at the law's entry: the machine, the code, the tables' words (any of lw_tbl by 'hts w (by decide +kernel)'), the script of L ints xs at the cell b, what the Statement gives of the start (any of its parts by flat_of_before) -/
def lw_At (p : Program) (e : Env) (s : State) (m : MethodId) (meth : Method) (c : Code) (b L : Nat) (xs : Nat → Int32) : Prop :=
  p.tables.exec = Jvm.exec ∧ c.code = code ∧ meth.sig.returnType = ret ∧ c.maxLocals = 4 ∧ s.vm.findClass R_law = some m.cls ∧ (∀ w ∈ lw_tbl, w.before #[Value.ref b] s = true) ∧ va_X b L xs s s.heap ∧ b < s.heap.size ∧ meth.locks = false ∧ (Jvm.Cond.and given_1 narrow_1).before #[Value.ref b] s = true ∧ c.exceptionTable.isEmpty = true ∧ e.platform.stackTraces = false
-- ===== YOUR PART BEGINS =====
/-- YOUR PART: from the entry, for every script of at most 24576 ints, the law comes to its end with true -/
theorem whole_start (hAI : ai_claim) {p : Program} {e : Env} {s : State} {m : MethodId} {below : List Frame} {meth : Method} {c : Code} (l : Launch) {b L : Nat} {xs : Nat → Int32} (hL : L ≤ 24576) (C0 : lw_At p e s m meth c b L xs) : W p l e room_1 s m #[Value.ref b] below meth c s.heap [] 0 0 (lw_Z below #[Value.ref b] s) (entryFrame m ([Value.ref b] : List Value).toArray 4) := by
  obtain ⟨hx, hb, hr, hml, hown, hts, hX, hbl, hlk, hgv, hemp, htr⟩ := C0
  have hn : ∀ c ∈ nw_l, c.before #[Value.ref b] s = true := flat_of_before _ hgv
  obtain ⟨w, w1, w0, hS, hK⟩ := s0_S hts hn hX (by omega) hbl
  obtain ⟨h', ⟨n, hgo⟩, z1, z2⟩ := hAI L xs hL
  obtain ⟨ls, hfr, hl⟩ := en_ok w m [.ref 0] (show (ai_ar [Value.ref 0]).length ≤ 4 by decide)
  have ha : ([Value.ref 0] : List Value).map (sm_v w) = [Value.ref b] := by
    show [Value.ref (sm_a w 0)] = [Value.ref b]
    rw [sm_a_old w (by decide), w0]
  rw [ha] at hfr
  have hts2 : ∀ x ∈ sm_tbl, x.before #[Value.ref b] s = true := fun x hx' => hts x (List.mem_filter.mp hx').1
  have F : sm_F w p s m #[Value.ref b] meth c room_1 1 := ⟨hx, hb, hml, hown, hts2, hK, fun q => absurd q (by decide), by decide +kernel, by decide +kernel⟩
  have ht0 : c.exceptionTable = #[] := by simpa using hemp
  have M : sm_M meth c 1 := ⟨by decide +kernel, hr, hlk, by rw [ht0]; rfl⟩
  have N : sm_N w (h0 L xs) s.heap := ⟨fun i a b => absurd b (by show ¬ i < 32; omega), by rw [w1]; rfl, Nat.le_refl _, fun i hi => Or.inr (Or.inl (h0_big i hi)), fun i hi => h0_big i hi, fun i a b => absurd b (by show ¬ i < 32; omega)⟩
  have I : sm_I w (h0 L xs) s s.heap [] := ⟨N, hS, va_S.rf, Nat.le_of_eq w1⟩
  have hsz : am_sz (h0 L xs).2 = 32 := rfl
  have hus : am_us (h0 L xs).2 = 0 := rfl
  have hW := sm_main (l := l) (w := w) hx htr n 1 _ _ h' hgo (by decide) (by decide) room_1 s m #[Value.ref b] below meth c s.heap [] 0 0 ls F M I hl (by show 0 + (am_sz h'.2 - am_sz (h0 L xs).2) ≤ 608192; rw [hsz]; omega) (by show 0 + (am_us h'.2 - am_us (h0 L xs).2) ≤ 7228522; rw [hus]; omega)
  rw [hfr]
  refine hW.imp (fun t ht => ?_)
  obtain ⟨q1, q2, q3, q4, ⟨L5, q5, q6⟩, q7⟩ := ht
  refine ⟨_, q1, q2, rfl, ⟨_, rfl⟩, q4, q5.weaken (fun y hy hlt => ?_) ?_ ?_⟩
  · have : w.1 ≤ y.base := q6.2.2 y hy
    rw [w1] at this
    exact absurd hlt (Nat.not_lt.mpr this)
  · show 0 + (am_sz h'.2 - am_sz (h0 L xs).2) ≤ 608192; rw [hsz]; omega
  · show 0 + (am_us h'.2 - am_us (h0 L xs).2) ≤ 7228522; rw [hus]; omega
-- ===== YOUR PART ENDS =====
set_option maxHeartbeats 4000000 in
theorem lw_walk (hAI : ai_claim) (l : Launch) (hfl : l.flags = flags0) (b : Addr) (xs : List Int32) : MetFree l x (headSpec (Jvm.Cond.code x code maxLocals ret :: tables_1) room_1) (lw_P b xs) (fun _ _ _ _ _ => True) lw_Q := by
  refine MetFree.of_bodyS (code := code) (maxLocals := maxLocals) (ret := ret) (by decide) ?_ ?_
  · intro args s m h hn
    obtain ⟨meth, c, h1, h2, h3, h4, h5, h6, -, -⟩ := Cond.code_spec hn (atoms_spec (ws := Jvm.Cond.code x code maxLocals ret :: tables_1) h _ List.mem_cons_self)
    exact ⟨meth, c, h1, h2, h3, h4, h5, h6⟩
  · intro p e s m args below meth c s₁ B hml0 hP _
    have htr : e.platform.stackTraces = false := Launch.traces_off (hfl.trans rfl) (Stand.of_body B).admits
    obtain ⟨rfl, hx, hbd, hgv⟩ := hP
    obtain ⟨scr, harrAt, hlist, hof, hsmall⟩ := hx
    obtain ⟨hcb, hkn, -, -⟩ := State.arrayAt?_spec harrAt
    have hown : s.vm.findClass R_law = some m.cls := findClass_of_methodNamed B.named
    have hts0 : ∀ c ∈ (Jvm.Cond.code x code maxLocals ret :: tables_1), c.before #[Value.ref b] s = true := atoms_spec (ws := Jvm.Cond.code x code maxLocals ret :: tables_1) B.pre
    have hts : ∀ w ∈ lw_tbl, w.before #[Value.ref b] s = true := k2_hts_sels lw_privs (fun w hw => hts0 w (List.mem_cons_of_mem _ hw)) lw_privs_ok
    have hml : c.maxLocals = 4 := B.maxLocals_eq (hts0 _ List.mem_cons_self)
    have X₀ : Stand p l e room_1 s m #[Value.ref b] below meth c s₁ [] 0 0 := Stand.of_body B
    have hh0 : s₁.heap = s.heap := by rw [B.state]; rfl
    have hsz : scr.slots.size = xs.length := by rw [← Array.length_toList, hlist, List.length_map]
    have hval : ∀ j : Nat, j < xs.length → scr.slots[j]? = some (.int (xs.getD j 0)) := fun j hj => by
      rw [← Array.getElem?_toList, hlist]
      simp [hj]
    have hbl : b < s.heap.size := (Array.getElem?_eq_some_iff.mp hcb).1
    have hX : va_X b xs.length (fun j => xs.getD j 0) s s.heap := ⟨scr, hcb, hof, hkn, hsz, hval⟩
    have K : W p l e room_1 s m #[Value.ref b] below meth c s₁.heap [] 0 0 (lw_Z below #[Value.ref b] s) (entryFrame m ([Value.ref b] : List Value).toArray 4) := by
      rw [hh0]
      exact whole_start hAI l hbd ⟨B.exec, B.bytes, B.returns, hml, hown, hts, hX, hbl, B.notSynchronized, hgv, BodyLoose.noHandlers B (hts0 _ List.mem_cons_self), htr⟩
    obtain ⟨t, a1, o, b1, b2, b3⟩ := K s₁ rfl X₀
    exact ⟨t, o, a1, b1, b2, b3⟩
theorem lw_pre_spec {args : Array Value} {s : State} (h : (Jvm.Cond.and given_1 narrow_1).before args s = true) (hr : rest_1_c.before args s = true) : ∃ (b : Addr) (xs : List Int32), lw_P b xs args s := by
  have hs := flat_of_before _ h
  have hq := flat_of_before _ hr
  have hc : (Cond.count 1).before args s = true := hs _ (by decide +kernel)
  have harr : (Cond.arrayOf (.arg 0) .int).before args s = true := hs _ (by decide +kernel)
  have hle : (Cond.le (.length (.arg 0)) (.int 24576)).before args s = true := hs _ (by decide +kernel)
  have hlen : (Cond.isInt (.length (.arg 0))).before args s = true := hq _ (by decide +kernel)
  have hall : (Cond.all (.arg 0) (.isInt (.elem (.arg 0) (.index 0)))).before args s = true := hq _ (by decide +kernel)
  obtain ⟨b, xs, hb, hx⟩ := State.ints_of_pre rfl harr hlen hall
  have hsm : xs.length < 2 ^ 31 := hx.choose_spec.2.2.2
  have hev : (Term.length (.arg 0)).eval args s none [] s = some (.int xs.length.toInt32) := hx.length_eval hb
  have hv := Cond.le_ints hev (show (Term.int 24576).eval args s none [] s = some (.int 24576) from rfl)
  have hd : xs.length.toInt32 ≤ 24576 := by
    simpa [Cond.before, Cond.holds, hv] using hle
  have hN : xs.length ≤ 24576 := (Int32.ofNat_le_ofNat hsm (by decide)).mp (show Int32.ofNat xs.length ≤ Int32.ofNat 24576 from hd)
  exact ⟨b, xs, Cond.one_arg hc (show args[0]? = some (.ref b) from hb), hx, hN, h⟩
theorem lw_comes (hAI : ai_claim) (l : Launch) (hfl : l.flags = flags0) : Comes l x (Jvm.Cond.code x code maxLocals ret :: tables_1) room_1 (fun tb e args s => Calls_1 tb e args s ∧ rest_1 tb e args s ∧ Pre_1 tb e args s)
    (fun _ _ args s o t => lw_Q args s o t) := by
  intro p e ha hc hk s m args below hf hfit hheap happ hpre
  obtain ⟨b, xs, hP⟩ := lw_pre_spec hpre.2.2 hpre.2.1
  obtain ⟨k, o, h1, h2, h3, hQ⟩ := lw_walk hAI l hfl b xs p e ha hc hk s m args below hf ((Spec.applies_iff_loose hf).mp happ).1 hP trivial
  exact ⟨k, o, h1, h2, h3, hQ⟩
theorem lw_frame {s t : State} {o : Outcome} {args : Array Value} (h : Framed s o t [] 608192 7228522) :
    Framed s o t (fieldLocs frame_1_writes args s ++ arrayLocs frame_1_arrays args s ++ staticLocs frame_1_statics s) 608192 7228522 := h
theorem lw_limb (hAI : ai_claim) (L : Cond) (hL : ∀ (args : Array Value) (s t : State), L.after args s (.returned (some (.int 1))) t = true) :
    ArmFor flags0 classFile x code maxLocals ret World_1 tables_1 room_1 Calls_1 rest_1 Pre_1
      (fun tb e a s o t => postC L tb e a s o t ∧ Framed s o t (fieldLocs frame_1_writes a s ++ arrayLocs frame_1_arrays a s ++ staticLocs frame_1_statics s) 608192 7228522) := by
  intro l hl1 hl2 hl3 p e ha hc hk s m args below hf hfit hheap happ hpre
  obtain ⟨k, o, h1, h2, h3, rfl, hF⟩ := lw_comes hAI l hl1 p e ha hc hk s m args below hf hfit hheap happ hpre
  exact ⟨k, _, h1, h2, h3, hL args s _, lw_frame hF⟩
theorem vc_of (hAI : ai_claim) : Claimed_1_1 ∧ Claimed_1_2 := ⟨lw_limb hAI limb_1_1 (fun args s t => by simp [limb_1_1, Cond.after, Cond.holds, Cond.value]), lw_limb hAI limb_1_2 (fun args s t => Cond.after_iff.mpr (by
  first | (rw [show limb_1_2 = Cond.eq .result (.int 1) from rfl, Cond.eq_ints (x := 1) (y := 1) rfl rfl]; simp; done) | (simp [limb_1_2, Cond.value, Term.eval]; done)))⟩
