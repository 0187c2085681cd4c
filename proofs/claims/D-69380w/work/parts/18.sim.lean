/-! The main theorem, by induction on AI's fuel. -/
def sm_G (p : Program) (l : Launch) (e : Env) (w : sm_T) (n : Nat) : Prop :=
  ∀ (mid : Nat) (q : ai_S) (o : ai_O) (h' : am_M), ai_go ap_P n mid q = some (o, h') → 0 < mid → mid < 336 →
  ∀ (R : Room) (s : State) (m : MethodId) (args : Array Value) (below : List Frame) (meth : Method) (c : Code) (H : Heap) (locs : List Loc) (cells slots : Nat) (ls : Array Slot),
    sm_F w p s m args meth c R mid → sm_M meth c mid → sm_I w q.2.2.2 s H locs → sm_l w q.2.1 ls (ac_ml mid) →
    cells + (am_sz h'.2 - am_sz q.2.2.2.2) ≤ R.cells → slots + (am_us h'.2 - am_us q.2.2.2.2) ≤ R.slots →
    W p l e R s m args below meth c H locs cells slots (sm_Q w below s o h' (cells + (am_sz h'.2 - am_sz q.2.2.2.2)) (slots + (am_us h'.2 - am_us q.2.2.2.2))) (F0 m q.1 ls (q.2.2.1.map (sm_v w)))
theorem va_S.tr {A : Nat → Prop} {H0 H1 H2 : Heap} {l1 l2 : List Loc} (a : va_S A H0 H1 l1) (b : va_S A H1 H2 l2) : va_S A H0 H2 (l1 ++ l2) :=
  ⟨Nat.le_trans a.1 b.1, fun q h1 h2 => (b.2.1 q (Nat.lt_of_lt_of_le h1 a.1) h2).trans (a.2.1 q h1 h2), fun q hq => by
    rcases List.mem_append.mp hq with z | z
    · exact a.2.2 q z
    · exact b.2.2 q z⟩
section
variable {p : Program} {l : Launch} {e : Env} {R : Room} {s : State} {m : MethodId} {args : Array Value} {below : List Frame} {meth : Method} {c : Code} {T : State} {H : Heap} {locs : List Loc} {cells slots : Nat} {w : sm_T} {h h1 : am_M}
theorem en_go {n k : Nat} (h0 : 0 < k) (hk : k < 336) {as : List Value} {r : ai_O × am_M} (hgo : ai_go ap_P n k (ai_e0 ap_P k as h) = some r) : (ai_ar as).length ≤ ac_ml k ∧ ai_e0 ap_P k as h = (0, ai_fil (ai_ar as) (ac_ml k), [], h) := by
  cases hb : Nat.ble (ai_ar as).length (ac_ml k) with
  | true =>
    refine ⟨Nat.le_of_ble_eq_true hb, ?_⟩
    unfold ai_e0
    rw [show ap_P.2.2.1 k = ac_ml k from rfl, hb]
    rfl
  | false =>
    exfalso
    unfold ai_e0 at hgo
    rw [show ap_P.2.2.1 k = ac_ml k from rfl, hb, cond_false] at hgo
    cases n with
    | zero => simp [ai_go] at hgo
    | succ n =>
      unfold ai_go ai_s at hgo
      dsimp only at hgo
      rw [show ap_P.1 k 65536 = ac_code k 65536 from rfl] at hgo
      cases hi : ac_code k 65536 with
      | none => rw [hi] at hgo; cases hgo
      | some i => exact absurd (ck_at1 h0 hk hi).2.1 (by decide)
set_option maxHeartbeats 1000000 in
theorem cl_run {n : Nat} (ih : sm_G p l e w n) (hx : p.tables.exec = Jvm.exec) {k : Nat} (hk0 : 1 < k) (hk1 : k < 336) {as : List Value} {o : ai_O} (hgo : ai_go ap_P n k (ai_e0 ap_P k as h) = some (o, h1)) (hts : ∀ x ∈ sm_tbl, x.before args s = true) (hK : sm_K w s)
    (X : Stand p l e R s m args below meth c T locs cells slots) (hT : T.heap = H) (I : sm_I w h s H locs) {mk : MethodId} {mM : Method} {cM : Code} (hcm : cm_ok s k mk mM cM) {pc : Nat} {ls0 : Array Slot} {rest : List Value} (hsize : ls0.size = c.maxLocals) {ig : Instr} {len : Nat} (hdg : decode c.code pc = .ok (ig, len))
    (hq : jq k + 1 ≤ R.frames) (hlo : (rest.map fun v => v.category).sum + (ac_ml k + 11) + jlo k ≤ R.locals) (hcell : cells + (am_sz h1.2 - am_sz h.2) ≤ R.cells) (hslot : slots + (am_us h1.2 - am_us h.2) ≤ R.slots) :
    ∃ t, (∀ acts, Steps p.tables e below (doInvoke e (T.setTop (F0 m pc ls0 rest)) acts mk (as.map (sm_v w)).toArray).1 t) ∧ sm_Q w (.java (F0 m pc ls0 rest) :: below) (T.calling (F0 m pc ls0 rest) mk (as.map (sm_v w)).toArray) o h1 (0 + (am_sz h1.2 - am_sz h.2)) (0 + (am_us h1.2 - am_us h.2)) t := by
  obtain ⟨c1, c2, c3, c4, c5, c6, c7, c8, c9⟩ := hcm
  obtain ⟨y1, y2, y3, y4, y5, y6, -⟩ := cy_spec hk0 hk1
  have hal := X.warmed.alike
  have hmT : T.vm.method? mk = some mM := by rw [hal.method?]; exact c2
  have hnT : T.methodNamed? (jy k) = some mk := X.named c1
  obtain ⟨Y, hent⟩ := X.into (g := F0 m pc ls0 rest) rfl hsize hdg (as.map (sm_v w)).toArray (R' := { frames := jq k, locals := jlo k, cells := am_sz h1.2 - am_sz h.2, slots := am_us h1.2 - am_us h.2 }) hmT c3 c7 (State.plainMethod.of_named y3 hnT hmT) hq (by rw [c5]; show 2 * 0 + _ + _ + _ ≤ _; rw [Nat.mul_zero, Nat.zero_add]; exact hlo) hcell hslot
  obtain ⟨hle, he0⟩ := en_go (show 0 < k by omega) hk1 hgo
  obtain ⟨ls, hfr, hl⟩ := en_ok w mk as hle
  rw [he0] at hgo
  have hvm : (T.calling (F0 m pc ls0 rest) mk (as.map (sm_v w)).toArray).vm = T.vm := rfl
  have hhp : (T.calling (F0 m pc ls0 rest) mk (as.map (sm_v w)).toArray).heap = T.heap := rfl
  have hWc : s.WarmedH (T.calling (F0 m pc ls0 rest) mk (as.map (sm_v w)).toArray).vm := X.warmed
  have F' : sm_F w p (T.calling (F0 m pc ls0 rest) mk (as.map (sm_v w)).toArray) mk (as.map (sm_v w)).toArray mM cM { frames := jq k, locals := jlo k, cells := am_sz h1.2 - am_sz h.2, slots := am_us h1.2 - am_us h.2 } k := by
    refine ⟨hx, c4, c5, ?_, fun x hx' => tw_warm (List.mem_filter.mp hx').2 hWc (hts x hx'), hK.moved hal, fun hn => ?_, Nat.le_refl _, Nat.le_refl _⟩
    · rw [hvm, ← y4]; exact findClass_of_methodNamed hnT
    · rw [(name_of_methodNamed c1 c2).1]; exact hn
  have I' : sm_I w h (T.calling (F0 m pc ls0 rest) mk (as.map (sm_v w)).toArray) (T.calling (F0 m pc ls0 rest) mk (as.map (sm_v w)).toArray).heap [] := by
    refine ⟨by rw [hhp, hT]; exact I.1, I.2.1.moved hWc (fun a ha => by rw [hhp, hT]; exact I.low ha), va_S.rf, ?_⟩
    rw [hhp, hT]; exact Nat.le_trans I.2.2.2 I.2.2.1.1
  have hW := ih k _ o h1 hgo (by omega) hk1 _ _ mk _ (.java (F0 m pc ls0 rest) :: below) mM cM _ [] 0 0 ls F' ⟨y6, c6, c7, c8⟩ I' hl (Nat.le_of_eq (Nat.zero_add _)) (Nat.le_of_eq (Nat.zero_add _))
  obtain ⟨t, b1, b2⟩ := hW ((T.setTop (F0 m pc ls0 rest)).pushFrame (.java (entryFrame mk (as.map (sm_v w)).toArray cM.maxLocals))) rfl Y
  refine ⟨t, fun acts => ?_, b2⟩
  rw [hent acts, c5, hfr]
  rw [c5, hfr] at b1
  exact Steps.weaken (mid := [.java (F0 m pc ls0 rest)]) b1
theorem sz_add {a b c k : Nat} (h1 : a ≤ b) (h2 : b ≤ c) : k + (b - a) + (c - b) = k + (c - a) := by omega
set_option maxHeartbeats 4000000 in
theorem sm_main (hx : p.tables.exec = Jvm.exec) (htr : e.platform.stackTraces = false) : ∀ n, sm_G p l e w n := by
  intro n
  induction n with
  | zero => intro mid q o h' hg; simp [ai_go] at hg
  | succ n ih =>
    intro mid q o h' hg h0 hm R s m args below meth c H locs cells slots ls F M I hl hcells hslots
    obtain ⟨pc, L, st, h⟩ := q
    dsimp only at I hl hcells hslots ⊢
    have hz : 32 ≤ am_sz h.2 := I.1.2.2.1
    unfold ai_go at hg
    cases hs : ai_s ap_P mid (pc, L, st, h) with
    | none => rw [hs] at hg; cases hg
    | some r =>
      rw [hs] at hg
      have hs2 : (match ac_code mid pc with | some i => ai_sx i (ac_rz mid) pc (ai_km (ai_m i) L) st h | none => none) = some r := hs
      cases hi : ac_code mid pc with
      | none => rw [hi] at hs2; cases hs2
      | some i =>
        rw [hi] at hs2
        dsimp only at hs2
        obtain ⟨hd, hp, hck, hh⟩ := ck_at1 h0 hm hi
        have hl' := hl.km (ai_m i)
        have hle := le_sx hz hs2
        rcases r with ⟨pc', L', st', h2⟩ | ⟨k, as, t⟩ | ⟨o1, h2⟩
        · dsimp only at hg
          have hle2 : am_le h2 h' := le_go n mid _ o h' hg (Nat.le_trans hz hle.1)
          have hle : am_le h h2 := hle
          have z1 := sz_add (k := cells) hle.1 hle2.1
          have z2 := sz_add (k := slots) hle.2.1 hle2.2.1
          refine st_any F htr I hl' hd hck hs2 (by omega) (by omega) (fun H' locs' ls' I' hl2 => ?_)
          have := ih mid (pc', L', st', h2) o h' hg h0 hm R s m args below meth c H' locs' (cells + (am_sz h2.2 - am_sz h.2)) (slots + (am_us h2.2 - am_us h.2)) ls' F M I' hl2 (by show _ + (am_sz h'.2 - am_sz h2.2) ≤ _; omega) (by show _ + (am_us h'.2 - am_us h2.2) ≤ _; omega)
          dsimp only at this
          rw [z1, z2] at this
          exact this
        · obtain ⟨r, rfl, hlen, hk0, hk1, hq, hlo, hcat, hrg, hcc⟩ := cl_any (l := l) (e := e) (R := R) (below := below) (meth := meth) (cells := cells) (slots := slots) (ls := ls) F I hd hck hh hs2
          obtain ⟨-, hb, hml, hown, hts, hK, hini, hRf, hRl⟩ := id F
          dsimp only at hg
          cases hgo : ai_go ap_P n k (ai_e0 ap_P k as h) with
          | none => rw [hgo] at hg; cases hg
          | some y =>
            obtain ⟨o1, h1⟩ := y
            rw [hgo] at hg
            have hle1 : am_le h h1 := le_go n k _ o1 h1 hgo hz
            have hle2 : am_le h1 h' := by
              cases o1 with
              | inl v => exact le_go n mid _ o h' hg (Nat.le_trans hz hle1.1)
              | inr a =>
                dsimp only at hg
                split at hg
                · cases hg; exact am_le.rf _
                · exact le_go n mid _ o h' hg (Nat.le_trans hz hle1.1)
            have z1 := sz_add (k := cells) hle1.1 hle2.1
            have z2 := sz_add (k := slots) hle1.2.1 hle2.2.1
            intro T hT X
            obtain ⟨vm₁, mk, mM, cM, hcm, X₁, st1⟩ := hcc T hT X
            obtain ⟨t, hst, q1, q2, q3, q4, ⟨L5, q5, q6⟩, q7⟩ := cl_run ih hx hk0 hk1 hgo hts hK X₁ hT I hcm (pc := pc) (ls0 := ls) (rest := r.map (sm_v w)) (by rw [hml]; exact hl.1) (ig := i.1) (len := ai_len i) (by rw [hb]; exact hd) (by omega) (by omega) (by omega) (by omega)
            rw [hlen] at hd
            have hdc : decode c.code pc = .ok (i.1, 3) := by rw [hb]; exact hd
            have q6 : va_S (sm_A w) H t.heap L5 := by rw [← hT]; exact q6
            cases o1 with
            | inl v =>
              obtain ⟨T', X', hW2, hS2, ht⟩ := X₁.outOf (g := F0 m pc ls (r.map (sm_v w))) rfl hdc (v := v.map (sm_v w)) q2 q4 q5
              have hTh : T'.heap = t.heap := by rw [ht]; rfl
              have I' : sm_I w h1 s T'.heap (locs ++ L5) := ⟨by rw [hTh]; exact q3, I.2.1.le hle1, by rw [hTh]; exact I.2.2.1.tr q6, I.2.2.2⟩
              have hn := ih mid (pc + 3, ai_km (ai_m i) L, v.toList ++ r, h1) o h' hg h0 hm R s m args below meth c T'.heap (locs ++ L5) (cells + (0 + (am_sz h1.2 - am_sz h.2))) (slots + (0 + (am_us h1.2 - am_us h.2))) ls F M I' hl' (by show _ + (am_sz h'.2 - am_sz h1.2) ≤ _; omega) (by show _ + (am_us h'.2 - am_us h1.2) ≤ _; omega)
              dsimp only at hn
              rw [Nat.zero_add, Nat.zero_add, z1, z2] at hn
              rw [Nat.zero_add, Nat.zero_add] at X'
              obtain ⟨t2, b1, b2⟩ := hn T' rfl X'
              refine ⟨t2, st1 t2 (fun acts => (hst acts).trans ?_), b2⟩
              rw [ht]
              have e1 : (v.map (sm_v w)).toList ++ r.map (sm_v w) = (v.toList ++ r).map (sm_v w) := by cases v <;> rfl
              rw [show (F0 m pc ls (r.map (sm_v w))).stack = r.map (sm_v w) from rfl, e1]
              exact b1
            | inr a =>
              obtain ⟨T', X', hW2, hS2, ht⟩ := X₁.outOfThrown (g := F0 m pc ls (r.map (sm_v w))) rfl q2 q4 q5
              have hTh : T'.heap = t.heap := by rw [ht]; rfl
              have I' : sm_I w h1 s T'.heap (locs ++ L5) := ⟨by rw [hTh]; exact q3, I.2.1.le hle1, by rw [hTh]; exact I.2.2.1.tr q6, I.2.2.2⟩
              dsimp only at hg
              have hhn : ap_P.2.2.2 mid pc = ac_hn mid pc := rfl
              rw [hhn] at hg
              cases hcn : (Nat.beq mid 251 && Nat.beq pc 39) with
              | false =>
                unfold ac_hn at hg
                rw [hcn, cond_false] at hg
                cases hg
                have hp39 : mid = 251 → pc < 38 ∨ 42 ≤ pc := fun z => by
                  rcases hrg z with y | y
                  · rw [z, y] at hcn; exact absurd hcn (by decide)
                  · exact y
                obtain ⟨hwalk, hrun, hended, hWx, hsame⟩ := X'.leaveThrown (sm_a w a) (g := F0 m pc ls (r.map (sm_v w))) rfl rfl rfl (out_sp M.2.2.2 hp39) (hlocks := M.2.2.1)
                have hH : (T'.setFrames (.throwing (sm_a w a) :: below)).heap = T'.heap := rfl
                refine ⟨_, st1 _ (fun acts => (hst acts).trans (by rw [ht]; exact hwalk)), hrun, hended, by rw [hH]; exact I'.1, hWx, ⟨locs ++ L5, ?_, by rw [hH]; exact I'.2.2.1⟩, q7⟩
                rw [Nat.zero_add, Nat.zero_add] at hsame
                exact hsame
              | true =>
                unfold ac_hn at hg
                rw [hcn, cond_true] at hg
                rw [Bool.and_eq_true] at hcn
                have hm251 := Nat.eq_of_beq_eq_true hcn.1
                have hpc := Nat.eq_of_beq_eq_true hcn.2
                obtain ⟨a1, a2, a3⟩ := q7 a rfl
                obtain ⟨cell, d1, d2, d3⟩ := (I'.1.1 a a2 a3).1 a1
                have hown2 : s.vm.findClass "DeclaredMarkup$Processor" = some m.cls := by rw [hm251] at hown; exact hown
                have htab := M.2.2.2
                rw [hm251] at htab
                obtain ⟨vm', Xv, stv⟩ := ct_ok X' hown2 (hts _ ex_cl) (hts _ ex_ca) htab d1 (by rw [d2]; exact hK.2.2) d3 (g := F0 m pc ls (r.map (sm_v w))) rfl hpc
                have hn := ih mid (45, ai_km (ai_m i) L, [.ref a], h1) o h' hg h0 hm R s m args below meth c T'.heap (locs ++ L5) (cells + (0 + (am_sz h1.2 - am_sz h.2))) (slots + (0 + (am_us h1.2 - am_us h.2))) ls F M I' hl' (by show _ + (am_sz h'.2 - am_sz h1.2) ≤ _; omega) (by show _ + (am_us h'.2 - am_us h1.2) ≤ _; omega)
                dsimp only at hn
                rw [Nat.zero_add, Nat.zero_add, z1, z2] at hn
                rw [Nat.zero_add, Nat.zero_add] at Xv
                obtain ⟨t2, b1, b2⟩ := hn (T'.setVm vm') rfl Xv
                refine ⟨t2, st1 t2 (fun acts => (hst acts).trans ?_), b2⟩
                rw [ht]
                exact stv t2 b1
        · dsimp only at hg
          cases hg
          obtain ⟨rfl, hW⟩ := en_any (l := l) (e := e) (R := R) (below := below) (cells := cells) (slots := slots) (ls := ls) F M I hd hck hh hs2
          rw [Nat.sub_self, Nat.sub_self]
          exact hW
end
