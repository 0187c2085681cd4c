/-! The step theorem (printed by gen/pstep.py). -/
theorem sm_vo (w : sm_T) {v : Value} {o : Option Nat} (h : am_o v = some o) : sm_v w v = va_rf (o.map (sm_a w)) := by
  cases v <;> simp [am_o] at h <;> subst h <;> rfl
theorem sm_cmp {w : sm_T} {h : am_M} {s : State} {H : Heap} {locs : List Loc} (I : sm_I w h s H locs) {p q : Option Nat} (h1 : ai_oc p = true) (h2 : ai_oc q = true) : p.map (sm_a w) = q.map (sm_a w) ↔ p = q := by
  constructor
  · intro e
    cases p with
    | none => cases q with
      | none => rfl
      | some b => cases e
    | some a => cases q with
      | none => cases e
      | some b =>
        simp only [ai_oc, Bool.and_eq_true, Nat.blt_eq] at h1 h2
        simp only [Option.map_some, Option.some.injEq] at e
        rw [sm_a_old w (by omega), sm_a_old w (by omega)] at e
        rw [I.2.1.2.2.2.2.1 a b h1.1 h1.2 h2.1 h2.2 e]
  · rintro rfl; rfl
theorem rf_spec {k : Nat} (h : ck_rf k = true) : jk_ar k ∧ (jt k).isReference = true := by
  rw [ck_rf, Bool.and_eq_true, Nat.blt_eq] at h
  have h1 := ck_ar_spec h.1
  refine ⟨h1, ?_⟩
  rcases h1 with a | rfl | rfl | rfl | rfl | rfl | rfl
  · omega
  all_goals rfl
theorem ja_np {k : Nat} (h : ck_rf k = true) : np (ja k) = ja k := by
  rcases (rf_spec h).1 with a | rfl | rfl | rfl | rfl | rfl | rfl
  · rw [ck_rf, Bool.and_eq_true, Nat.blt_eq] at h; omega
  all_goals rfl
theorem oi_inst : Cond.instanceMethod Lib.objectInit ∈ sm_tbl := sm_at_in (i := 250) (by decide +kernel)
theorem oi_code : Cond.code Lib.objectInit ⟨#[0xb1]⟩ 1 none ∈ sm_tbl := sm_at_in (i := 251) (by decide +kernel)
theorem cl_39 : Cond.classLink "DeclaredMarkup$AttType" 39 "[LDeclaredMarkup$AttType;" ∈ sm_tbl := sm_at_in (i := 650) (by decide +kernel)
section
variable {p : Program} {l : Launch} {e : Env} {R : Room} {s : State} {m : MethodId} {args : Array Value} {below : List Frame} {meth : Method} {c : Code} {H : Heap} {locs : List Loc} {cells slots : Nat} {Q : State → Prop}
variable {w : sm_T} {h h' : am_M} {mid pc pc' : Nat} {ls : Array Slot} {st st' : List Value} {L L' : List (Option Value)} {rest : List Value} {cc : ByteArray}
theorem ts_spec {x : Int32} {pc d : Nat} : ∀ (offs : List Int) (ps : List (Int32 × Nat)) (lo : Int), ck_ts pc lo offs ps = true →
    (∃ (j : Nat) (o : Int), x.toInt = lo + j ∧ offs[j]? = some o ∧ (pc : Int) + o = (ai_sw ps d x : Int)) ∨ ((x.toInt < lo ∨ lo + offs.length ≤ x.toInt) ∧ ai_sw ps d x = d)
  | [], [], lo, _ => Or.inr ⟨by simp; omega, rfl⟩
  | [], _ :: _, lo, h => by simp [ck_ts] at h
  | _ :: _, [], lo, h => by simp [ck_ts] at h
  | o :: os, (k, t) :: ps, lo, h => by
    simp only [ck_ts, Bool.and_eq_true, decide_eq_true_eq] at h
    obtain ⟨h1, h2, h3⟩ := h
    by_cases hx : x = k
    · left
      refine ⟨0, o, by rw [hx, h1]; simp, rfl, ?_⟩
      unfold ai_sw
      rw [decide_eq_true hx, cond_true]; exact h2
    · have hne : x.toInt ≠ lo := fun q => hx (Int32.toInt_inj.mp (q.trans h1.symm))
      have e : ai_sw ((k, t) :: ps) d x = ai_sw ps d x := by
        rw [ai_sw, decide_eq_false hx, cond_false]
      rw [e]
      rcases ts_spec os ps (lo + 1) h3 with ⟨j, o', a1, a2, a3⟩ | ⟨a1, a2⟩
      · exact Or.inl ⟨j + 1, o', by rw [a1]; push_cast; omega, by simpa using a2, a3⟩
      · refine Or.inr ⟨?_, a2⟩
        simp only [List.length_cons]; push_cast; omega
theorem sm_tsw (hx : p.tables.exec = Jvm.exec) (hb : c.code = cc) {dflt lo hi : Int} {offs : Array Int} {len d : Nat} {x : Int32} {ps : List (Int32 × Nat)} (hd : decode cc pc = .ok (.tableswitch dflt lo hi offs, len)) (ht : (pc : Int) + dflt = (d : Int)) (hhi : hi = lo + offs.size - 1) (hk : ck_ts pc lo offs.toList ps = true)
    (k : W p l e R s m args below meth c H locs cells slots Q (F0 m (ai_sw ps d x) ls rest)) : W p l e R s m args below meth c H locs cells slots Q (F0 m pc ls (.int x :: rest)) := by
  rcases ts_spec (x := x) (d := d) offs.toList ps lo hk with ⟨j, o, a1, a2, a3⟩ | ⟨a1, a2⟩
  · have hj : j < offs.size := by
      have := (List.getElem?_eq_some_iff.mp a2).1
      simpa using this
    refine lv_tableIn hx hb hd (by omega) (by omega) (off := o) ?_ a3 k
    rw [show (x.toInt - lo).toNat = j by omega]
    simpa using a2
  · rw [a2] at k
    refine lv_tableOut hx hb hd ?_ ht k
    simp only [Array.length_toList] at a1
    omega
theorem ls_spec {x : Int32} {pc d : Nat} {dflt : Int} (hdf : (pc : Int) + dflt = (d : Int)) : ∀ (offs : List (Int × Int)) (ps : List (Int32 × Nat)), ck_ls pc offs ps = true → (pc : Int) + Op.lookupswitch.offset offs dflt x.toInt = (ai_sw ps d x : Int)
  | [], [], _ => hdf
  | [], _ :: _, h => by simp [ck_ls] at h
  | _ :: _, [], h => by simp [ck_ls] at h
  | (q, o) :: os, (k, t) :: ps, h => by
    simp only [ck_ls, Bool.and_eq_true, decide_eq_true_eq] at h
    obtain ⟨h1, h2, h3⟩ := h
    by_cases hx : x = k
    · subst hx
      subst h1
      rw [ai_sw, decide_eq_true rfl, cond_true, ← h2]
      simp [Op.lookupswitch.offset]
    · rw [lv_osw hx h1, ai_sw, decide_eq_false hx, cond_false]
      exact ls_spec hdf os ps h3
theorem sm_lsw (hx : p.tables.exec = Jvm.exec) (hb : c.code = cc) {dflt : Int} {prs : Array (Int × Int)} {len d : Nat} {x : Int32} {ps : List (Int32 × Nat)} (hd : decode cc pc = .ok (.lookupswitch dflt prs, len)) (ht : (pc : Int) + dflt = (d : Int)) (hsrt : (prs.toList.zip (prs.toList.drop 1)).all (fun q => decide (q.1.1 < q.2.1)) = true) (hk : ck_ls pc prs.toList ps = true)
    (k : W p l e R s m args below meth c H locs cells slots Q (F0 m (ai_sw ps d x) ls rest)) : W p l e R s m args below meth c H locs cells slots Q (F0 m pc ls (.int x :: rest)) :=
  lv_lookup hx hb hd hsrt rfl (ls_spec ht prs.toList ps hk) k
theorem sm_put (hx : p.tables.exec = Jvm.exec) (hb : c.code = cc) {index o a b cz : Nat} {v : Value} (hown : s.vm.findClass (jo (jow mid)) = some m.cls) (hts : ∀ x ∈ sm_tbl, x.before args s = true) (hK : sm_K w s) (I : sm_I w h s H locs) (h0 : 0 < a) (h17 : a < 17) (hbn : b < jnf a) (hfl : sm_fl s args (jo (jow mid)) index (jf a b).1 (jf a b).2.1 (jf a b).2.2.1)
    (hfn : Nat.beq cz 3 = true → (Cond.fieldLink (jo (jow mid)) index (jf a b).1 (jf a b).2.1 (jf a b).2.2.1).before args s = true) (hini : (jy mid).name = "<init>" → meth.name = "<init>") (hpt : ck_pt mid a b cz = true) (hkd : am_kd h.1 o = a) (ho : 32 ≤ o) (hpu : ai_put h o b cz v = some h') (hnp : np cz = jp a b)
    (hd : decode cc pc = .ok (.putfield index, 3)) (kk : ∀ (H' : Heap) (locs' : List Loc), sm_I w h' s H' locs' → W p l e R s m args below meth c H' locs' cells slots Q (F0 m (pc + 3) ls rest)) : W p l e R s m args below meth c H locs cells slots Q (F0 m pc ls (sm_v w v :: .ref (sm_a w o) :: rest)) := by
  have hobj := (I.obj hkd h0 h17).2.2
  have fin : ∀ (H' : Heap) (sl : Nat), t_OB (sm_a w o) (w.2.2.1.1 a) (jnf a) (w.2.2.1.2 a) H' (updV (fun f => sm_v w (ai_get h o f (jp a f))) b (sm_v w v)) → H'.size = H.size → (∀ q, q ≠ sm_a w o → H'[q]? = H[q]?) → W p l e R s m args below meth c H' (locs ++ [⟨sm_a w o, sl⟩]) cells slots Q (F0 m (pc + 3) ls rest) :=
    fun H' sl e1 e2 e3 => kk H' _ (I.put (I.1.putf ho hkd h0 h17 hbn hpu hnp e1 e2 e3) (le_put ho hpu) ho e2 e3)
  unfold ck_pt at hpt
  split at hpt
  · simp only [Bool.and_eq_true, decide_eq_true_eq, Bool.not_eq_true'] at hpt
    unfold ai_put at hpu
    cases v <;> simp at hpu
    exact sm_putc hx hb hown hts hK h0 h17 hbn hfl hpt.2 hkd hobj (by rw [hpt.1]; rfl) (by rw [hpt.1]; rfl) hd fin
  · simp only [Bool.and_eq_true, decide_eq_true_eq, Bool.not_eq_true'] at hpt
    unfold ai_put at hpu
    cases v <;> simp at hpu
    rename_i x
    have hx01 : x = 0 ∨ x = 1 := by
      by_cases q : x = 0
      · exact Or.inl q
      · by_cases r : x = 1
        · exact Or.inr r
        · simp [q, r] at hpu
    exact sm_putc hx hb hown hts hK h0 h17 hbn hfl hpt.2 hkd hobj (by rw [hpt.1]; rcases hx01 with rfl | rfl <;> rfl) (by rw [hpt.1]; rcases hx01 with rfl | rfl <;> rfl) hd fin
  · simp only [Bool.and_eq_true, decide_eq_true_eq, Bool.not_eq_true'] at hpt
    unfold ai_put at hpu
    cases v <;> simp at hpu
    exact sm_putc hx hb hown hts hK h0 h17 hbn hfl hpt.2 hkd hobj (by rw [hpt.1]; rfl) (by rw [hpt.1]; rfl) hd fin
  · simp only [Bool.and_eq_true, Bool.not_eq_true'] at hpt
    have hr : ∀ u : Value, (u = .null ∨ ∃ q, u = .ref q) → narrow (jty a b) u = u ∧ fits (jty a b) u = true := by
      intro u hu
      cases ht : jty a b <;> rw [ht] at hpt <;> simp [FieldType.isReference] at hpt <;> rcases hu with rfl | ⟨q, rfl⟩ <;> exact ⟨rfl, rfl⟩
    unfold ai_put at hpu
    cases v <;> simp at hpu
    · exact sm_putc hx hb hown hts hK h0 h17 hbn hfl hpt.2 hkd hobj (hr _ (Or.inl rfl)).1 (hr _ (Or.inl rfl)).2 hd fin
    · exact sm_putc hx hb hown hts hK h0 h17 hbn hfl hpt.2 hkd hobj (hr _ (Or.inr ⟨_, rfl⟩)).1 (hr _ (Or.inr ⟨_, rfl⟩)).2 hd fin
  · simp only [Bool.and_eq_true, decide_eq_true_eq] at hpt
    have hr : ∀ q, narrow (jty a b) (.ref q) = .ref q ∧ fits (jty a b) (.ref q) = true := by
      intro q
      cases ht : jty a b <;> rw [ht] at hpt <;> simp [FieldType.isReference] at hpt <;> exact ⟨rfl, rfl⟩
    unfold ai_put at hpu
    cases v <;> simp at hpu
    exact sm_putF hx hb hown hts hK h0 h17 hbn (hfn rfl) hpt.1.2 (hini hpt.2.1) hpt.2.2 hkd hobj (hr _).1 (hr _).2 hd fin
  · cases hpt
theorem sm_aast (hx : p.tables.exec = Jvm.exec) (hb : c.code = cc) {o q a b cz : Nat} {j : Int32} (hK : sm_K w s) (I : sm_I w h s H locs) (har : ck_rf a = true) (hb1 : b + 110 = a) (hb2 : b < 17) (hkd : am_kd h.1 o = a) (ho : 32 ≤ o) (hkq : am_kd h.1 q = b) (hin : ¬ (j < 0 ∨ am_ln h.1 o ≤ j.toNatClampNeg)) (hpu : ai_put h o j.toNatClampNeg cz (.ref q) = some h') (hnp : np cz = ja a)
    (hd : decode cc pc = .ok (.aastore, 1)) (kk : ∀ (H' : Heap) (locs' : List Loc), sm_I w h' s H' locs' → W p l e R s m args below meth c H' locs' cells slots Q (F0 m (pc + 1) ls rest)) : W p l e R s m args below meth c H locs cells slots Q (F0 m pc ls (.ref (sm_a w q) :: .int j :: .ref (sm_a w o) :: rest)) := by
  obtain ⟨ha1, ha2⟩ := rf_spec har
  have h0 : 0 < b := by rcases ha1 with z | z | z | z | z | z | z <;> omega
  have h100 : 100 ≤ a := by omega
  have hcell := (I.1.1 _ ho (I.lt hkd (by omega))).2.2 (by omega)
  unfold sm_arr at hcell
  rw [hkd] at hcell
  have hq := (I.obj hkq h0 hb2).2.2
  unfold sm_obj at hq
  rw [hkq] at hq
  obtain ⟨cellV, g1, g2, g3, -⟩ := hq
  have hcls := (hK.1 b h0 hb2).2
  have hra := (hK.2.1 a ha1).2
  have hjt : jt a = .object (jo b) := by
    subst hb1
    unfold jt
    split <;> first | omega | rfl
  rw [hjt] at hra
  obtain ⟨kA, comp, k1, k2, k3, -⟩ := hra
  have hcomp : comp = w.2.2.1.1 b := Option.some.inj (k3.symm.trans hcls.1)
  subst hcomp
  obtain ⟨kC, hkC, -⟩ := hcls.2
  have hlt : j.toNatClampNeg < am_ln h.1 o := Nat.not_le.mp fun z => hin (Or.inr z)
  refine W.aast hx hb hcell (fun z y => by cases y) (fun y => by cases y) k1 k2 rfl hkC ⟨fun z => hin (Or.inl z), by rw [arrV_size]; exact hlt⟩ g1 (fun z y => by rw [g3] at y; cases y) (by rw [g2]; exact hkC) (by rw [g2]; exact va_assign hcls) rfl rfl hd fun H1 e1 e2 e3 => ?_
  exact kk H1 _ (I.put (I.1.puta ho hkd (by omega) hpu hnp e1 e2 e3) (le_put ho hpu) ho e2 e3)
theorem sm_castA (hx : p.tables.exec = Jvm.exec) (hb : c.code = cc) {o : Nat} (hown : s.vm.findClass (jo (jow mid)) = some m.cls) (hts : ∀ x ∈ sm_tbl, x.before args s = true) (hK : sm_K w s) (I : sm_I w h s H locs) (h17 : jow mid = 17) (hkd : am_kd h.1 o = 127) (ho : 32 ≤ o)
    (hd : decode cc pc = .ok (.checkcast 39, 3)) (k : W p l e R s m args below meth c H locs cells slots Q (F0 m (pc + 3) ls (.ref (sm_a w o) :: rest))) : W p l e R s m args below meth c H locs cells slots Q (F0 m pc ls (.ref (sm_a w o) :: rest)) := by
  have hcell := (I.1.1 _ ho (I.lt hkd (by omega))).2.2 (by omega)
  unfold sm_arr at hcell
  rw [hkd] at hcell
  have hP : va_P (w.2.2.1) [] [(sm_a w o, .inl (w.2.2.2 127, am_ln h.1 o, .inr (.inr (.inr (.inr (fun j => (am_fr h.1 o j).map (sm_a w)))))))] H := by
    intro k q hq
    have hz : k < 1 := (List.getElem?_eq_some_iff.mp hq).1
    rw [show k = 0 by omega] at hq
    cases hq
    show H[sm_a w o]? = some (vp_cell _ _)
    rw [hcell, vp_cell_q]
    congr 2
    funext j
    show sm_v w (am_v (am_fr h.1 o j)) = _
    cases am_fr h.1 o j <;> rfl
  have hra := (hK.2.1 127 (Or.inr (Or.inr (Or.inr (Or.inr (Or.inr (Or.inr rfl))))))).2
  obtain ⟨kA, comp, k1, k2, k3, k4⟩ := (show va_RA s (w.2.2.2 127) (.object "DeclaredMarkup$AttType") from hra)
  rw [h17] at hown
  exact va_castA hx hb hown (hts _ cl_39) hP 0 rfl k4 hd k
set_option maxHeartbeats 8000000 in
theorem st_ok (F : sm_F w p s m args meth c R mid) (I : sm_I w h s H locs) (hl : sm_l w L ls (ac_ml mid)) {i : ai_J} (hd : decode (jb mid) pc = .ok (i.1, ai_len i)) (hc : ck_i mid pc i = true)
    (hs : ai_sx i (ac_rz mid) pc L st h = some (.inl (pc', L', st', h'))) (hz : am_sz h'.2 = am_sz h.2)
    (kk : ∀ (H' : Heap) (locs' : List Loc) (ls' : Array Slot), sm_I w h' s H' locs' → sm_l w L' ls' (ac_ml mid) → W p l e R s m args below meth c H' locs' cells slots Q (F0 m pc' ls' (st'.map (sm_v w)))) :
    W p l e R s m args below meth c H locs cells slots Q (F0 m pc ls (st.map (sm_v w))) := by
  obtain ⟨ins, len, km, a, b, cz, v, ww, ps⟩ := i
  obtain ⟨hx, hb, hml, hown, hts, hK, hini, hRf, hRl⟩ := F
  unfold ai_sx at hs
  unfold ck_i at hc
  dsimp only [ai_len, ai_a, ai_b, ai_c, ai_v, ai_w, ai_ps] at hd hc hs
  split at hs <;> try dsimp only at hc
  · simp only [Bool.and_eq_true, Bool.or_eq_true, Nat.beq_eq] at hc
    cases hs
    obtain ⟨rfl, hv⟩ := hc
    exact lv_iconst hx hb hd (of_decide_eq_true hv) (kk H locs ls I hl)
  · simp only [Bool.and_eq_true, Bool.or_eq_true, Nat.beq_eq] at hc
    cases hs
    obtain ⟨rfl, hv⟩ := hc
    exact lv_bipush hx hb hd (of_decide_eq_true hv) (kk H locs ls I hl)
  · simp only [Bool.and_eq_true, Bool.or_eq_true, Nat.beq_eq] at hc
    cases hs
    obtain ⟨rfl, hv⟩ := hc
    exact lv_sipush hx hb hd (of_decide_eq_true hv) (kk H locs ls I hl)
  · obtain ⟨h1, hs⟩ := x_bif hs
    rw [Bool.and_eq_true] at hc
    obtain ⟨hc1, hc2⟩ := hc
    rw [h1] at hc2
    cases hs
    obtain rfl := Nat.eq_of_beq_eq_true hc1
    exact lv_ldc hx hb hown (kc_spec hts hc2) hd (kk H locs ls I hl)
  · rw [Bool.and_eq_true] at hc
    obtain ⟨hc1, hc2⟩ := hc
    cases hs
    obtain rfl := Nat.eq_of_beq_eq_true hc1
    exact lv_ldcw hx hb hown (kc_spec hts hc2) hd (kk H locs ls I hl)
  · simp only [Bool.and_eq_true, Bool.or_eq_true, Nat.beq_eq] at hc
    cases hs
    obtain ⟨rfl, hv⟩ := hc
    exact lv_lconst hx hb hd (of_decide_eq_true hv) (kk H locs ls I hl)
  · rw [Bool.and_eq_true] at hc
    obtain ⟨hc1, hc2⟩ := hc
    cases hs
    obtain rfl := Nat.eq_of_beq_eq_true hc1
    exact lv_ldc2 hx hb hown (kl_spec hts hc2) hd (kk H locs ls I hl)
  · cases hs
    obtain rfl := Nat.eq_of_beq_eq_true hc
    exact lv_null hx hb hd (kk H locs ls I hl)
  · simp only [Bool.and_eq_true, Bool.or_eq_true, Nat.beq_eq] at hc
    obtain ⟨x, hv, hs⟩ := x_ldi hs
    cases hs
    obtain ⟨rfl, hk⟩ := hc
    subst hk
    exact lv_iload hx hb hd (hl.2.2.2 _ _ hv) (kk H locs ls I hl)
  · simp only [Bool.and_eq_true, Bool.or_eq_true, Nat.beq_eq] at hc
    obtain ⟨x, hv, hs⟩ := x_ldi hs
    cases hs
    obtain ⟨rfl, hk⟩ := hc
    exact lv_iload_n hx hb hd hk (hl.2.2.2 _ _ hv) (kk H locs ls I hl)
  · simp only [Bool.and_eq_true, Bool.or_eq_true, Nat.beq_eq] at hc
    obtain ⟨x, hv, hs⟩ := x_ldl hs
    cases hs
    obtain ⟨rfl, hk⟩ := hc
    subst hk
    exact lv_lload hx hb hd (hl.2.2.2 _ _ hv) (kk H locs ls I hl)
  · simp only [Bool.and_eq_true, Bool.or_eq_true, Nat.beq_eq] at hc
    obtain ⟨x, hv, hs⟩ := x_ldl hs
    cases hs
    obtain ⟨rfl, hk⟩ := hc
    exact lv_lload_n hx hb hd hk (hl.2.2.2 _ _ hv) (kk H locs ls I hl)
  · simp only [Bool.and_eq_true, Bool.or_eq_true, Nat.beq_eq] at hc
    obtain ⟨x, hv, hs⟩ := x_lda hs
    cases hs
    obtain ⟨rfl, hk⟩ := hc
    subst hk
    cases x with
    | none => exact lv_aloadN hx hb hd (hl.2.2.2 _ _ hv) (kk H locs ls I hl)
    | some x => exact lv_aload hx hb hd (hl.2.2.2 _ _ hv) (kk H locs ls I hl)
  · simp only [Bool.and_eq_true, Bool.or_eq_true, Nat.beq_eq] at hc
    obtain ⟨x, hv, hs⟩ := x_lda hs
    cases hs
    obtain ⟨rfl, hk⟩ := hc
    cases x with
    | none => exact lv_aload_nN hx hb hd hk (hl.2.2.2 _ _ hv) (kk H locs ls I hl)
    | some x => exact lv_aload_n hx hb hd hk (hl.2.2.2 _ _ hv) (kk H locs ls I hl)
  · simp only [Bool.and_eq_true, Bool.or_eq_true, Nat.beq_eq] at hc
    obtain ⟨L1, hv, hs⟩ := x_sto hs
    cases hs
    obtain ⟨rfl, hk⟩ := hc
    subst hk
    exact lv_istore hx hb hd hl.has (by rw [← hl.2.2.1]; exact (ai_s1_ld _ _ _ _ hv).1) rfl (fun ls' hh => kk H locs ls' I (sm_l.s1 hl.2.2.1 hv hh))
  · simp only [Bool.and_eq_true, Bool.or_eq_true, Nat.beq_eq] at hc
    obtain ⟨L1, hv, hs⟩ := x_sto hs
    cases hs
    obtain ⟨rfl, hk⟩ := hc
    exact lv_istore_n hx hb hd hk hl.has (by rw [← hl.2.2.1]; exact (ai_s1_ld _ _ _ _ hv).1) rfl (fun ls' hh => kk H locs ls' I (sm_l.s1 hl.2.2.1 hv hh))
  · simp only [Bool.and_eq_true, Bool.or_eq_true, Nat.beq_eq] at hc
    obtain ⟨L1, hv, hs⟩ := x_sto hs
    cases hs
    obtain ⟨rfl, hk⟩ := hc
    subst hk
    exact lv_lstore hx hb hd hl.has (by rw [← hl.2.2.1]; exact (ai_s2_ld _ _ _ _ hv).1) rfl (fun ls' hh => kk H locs ls' I (sm_l.s2 hl.2.2.1 hv hh))
  · simp only [Bool.and_eq_true, Bool.or_eq_true, Nat.beq_eq] at hc
    obtain ⟨L1, hv, hs⟩ := x_sto hs
    cases hs
    obtain ⟨rfl, hk⟩ := hc
    exact lv_lstore_n hx hb hd hk hl.has (by rw [← hl.2.2.1]; exact (ai_s2_ld _ _ _ _ hv).1) rfl (fun ls' hh => kk H locs ls' I (sm_l.s2 hl.2.2.1 hv hh))
  · simp only [Bool.and_eq_true, Bool.or_eq_true, Nat.beq_eq] at hc
    obtain ⟨L1, hv, hs⟩ := x_sto hs
    cases hs
    obtain ⟨rfl, hk⟩ := hc
    subst hk
    exact lv_astore hx hb hd hl.has (by rw [← hl.2.2.1]; exact (ai_s1_ld _ _ _ _ hv).1) rfl (fun ls' hh => kk H locs ls' I (sm_l.s1 hl.2.2.1 hv hh))
  · simp only [Bool.and_eq_true, Bool.or_eq_true, Nat.beq_eq] at hc
    obtain ⟨L1, hv, hs⟩ := x_sto hs
    cases hs
    obtain ⟨rfl, hk⟩ := hc
    subst hk
    exact lv_astoreN hx hb hd hl.has (by rw [← hl.2.2.1]; exact (ai_s1_ld _ _ _ _ hv).1) rfl (fun ls' hh => kk H locs ls' I (sm_l.s1 hl.2.2.1 hv hh))
  · simp only [Bool.and_eq_true, Bool.or_eq_true, Nat.beq_eq] at hc
    obtain ⟨L1, hv, hs⟩ := x_sto hs
    cases hs
    obtain ⟨rfl, hk⟩ := hc
    exact lv_astore_n hx hb hd hk hl.has (by rw [← hl.2.2.1]; exact (ai_s1_ld _ _ _ _ hv).1) rfl (fun ls' hh => kk H locs ls' I (sm_l.s1 hl.2.2.1 hv hh))
  · simp only [Bool.and_eq_true, Bool.or_eq_true, Nat.beq_eq] at hc
    obtain ⟨L1, hv, hs⟩ := x_sto hs
    cases hs
    obtain ⟨rfl, hk⟩ := hc
    exact lv_astore_nN hx hb hd hk hl.has (by rw [← hl.2.2.1]; exact (ai_s1_ld _ _ _ _ hv).1) rfl (fun ls' hh => kk H locs ls' I (sm_l.s1 hl.2.2.1 hv hh))
  · simp only [Bool.and_eq_true, Bool.or_eq_true, Nat.beq_eq] at hc
    obtain ⟨x, hv, hs⟩ := x_ldi hs
    obtain ⟨L1, hv1, hs⟩ := x_sto hs
    cases hs
    obtain ⟨rfl, rfl, hn⟩ := hc
    obtain ⟨k, hk⟩ := List.getElem?_of_mem ((sm_lp_mem w L 0 _).mpr ⟨_, _, hv, rfl⟩)
    rw [Nat.zero_add] at hk
    exact lv_iinc hx hb hd hl.has hk (by rw [of_decide_eq_true hn]) (by rw [← hl.2.2.1]; exact (ai_s1_ld _ _ _ _ hv1).1) rfl (fun ls' hh => kk H locs ls' I (sm_l.s1 hl.2.2.1 hv1 hh))
  · cases hs
    obtain rfl := Nat.eq_of_beq_eq_true hc
    exact lv_iadd hx hb hd (kk H locs ls I hl)
  · cases hs
    obtain rfl := Nat.eq_of_beq_eq_true hc
    exact lv_isub hx hb hd (kk H locs ls I hl)
  · cases hs
    obtain rfl := Nat.eq_of_beq_eq_true hc
    exact lv_imul hx hb hd (kk H locs ls I hl)
  · rename_i y x st0
    obtain rfl := Nat.eq_of_beq_eq_true hc
    by_cases hy : y = 0
    · rw [decide_eq_true hy] at hs; cases hs
    · rw [decide_eq_false hy] at hs
      cases hs
      exact lv_idiv hx hb hd hy (kk H locs ls I hl)
  · rename_i y x st0
    obtain rfl := Nat.eq_of_beq_eq_true hc
    by_cases hy : y = 0
    · rw [decide_eq_true hy] at hs; cases hs
    · rw [decide_eq_false hy] at hs
      cases hs
      exact lv_irem hx hb hd hy (kk H locs ls I hl)
  · cases hs
    obtain rfl := Nat.eq_of_beq_eq_true hc
    exact lv_iand hx hb hd (kk H locs ls I hl)
  · cases hs
    obtain rfl := Nat.eq_of_beq_eq_true hc
    exact lv_ior hx hb hd (kk H locs ls I hl)
  · cases hs
    obtain rfl := Nat.eq_of_beq_eq_true hc
    exact lv_ixor hx hb hd (kk H locs ls I hl)
  · cases hs
    obtain rfl := Nat.eq_of_beq_eq_true hc
    exact lv_ishl hx hb hd (kk H locs ls I hl)
  · cases hs
    obtain rfl := Nat.eq_of_beq_eq_true hc
    exact lv_ishr hx hb hd (kk H locs ls I hl)
  · cases hs
    obtain rfl := Nat.eq_of_beq_eq_true hc
    exact lv_iushr hx hb hd rfl (kk H locs ls I hl)
  · cases hs
    obtain rfl := Nat.eq_of_beq_eq_true hc
    exact lv_ladd hx hb hd (kk H locs ls I hl)
  · cases hs
    obtain rfl := Nat.eq_of_beq_eq_true hc
    exact lv_lsub hx hb hd (kk H locs ls I hl)
  · cases hs
    obtain rfl := Nat.eq_of_beq_eq_true hc
    exact lv_land hx hb hd (kk H locs ls I hl)
  · cases hs
    obtain rfl := Nat.eq_of_beq_eq_true hc
    exact lv_lor hx hb hd (kk H locs ls I hl)
  · cases hs
    obtain rfl := Nat.eq_of_beq_eq_true hc
    exact lv_lshl hx hb hd rfl (kk H locs ls I hl)
  · cases hs
    obtain rfl := Nat.eq_of_beq_eq_true hc
    exact lv_lshr hx hb hd rfl (kk H locs ls I hl)
  · cases hs
    obtain rfl := Nat.eq_of_beq_eq_true hc
    exact lv_lushr hx hb hd rfl (kk H locs ls I hl)
  · cases hs
    obtain rfl := Nat.eq_of_beq_eq_true hc
    exact W.lcmp hx hb hd (kk H locs ls I hl)
  · cases hs
    obtain rfl := Nat.eq_of_beq_eq_true hc
    exact lv_i2l hx hb hd rfl (kk H locs ls I hl)
  · cases hs
    obtain rfl := Nat.eq_of_beq_eq_true hc
    exact lv_l2i hx hb hd rfl (kk H locs ls I hl)
  · cases hs
    obtain rfl := Nat.eq_of_beq_eq_true hc
    exact lv_i2b hx hb hd rfl (kk H locs ls I hl)
  · cases hs
    obtain rfl := Nat.eq_of_beq_eq_true hc
    exact lv_i2s hx hb hd rfl (kk H locs ls I hl)
  · obtain ⟨h1, hs⟩ := x_bif hs
    cases hs
    obtain rfl := Nat.eq_of_beq_eq_true hc
    exact lv_dup hx hb hd (by rw [sm_v_cat]; exact Nat.eq_of_beq_eq_true h1) (kk H locs ls I hl)
  · obtain ⟨h1, hs⟩ := x_bif hs
    cases hs
    obtain rfl := Nat.eq_of_beq_eq_true hc
    rw [Bool.and_eq_true] at h1
    exact lv_dup2_11 hx hb hd (by rw [sm_v_cat]; exact Nat.eq_of_beq_eq_true h1.1) (by rw [sm_v_cat]; exact Nat.eq_of_beq_eq_true h1.2) (kk H locs ls I hl)
  · obtain ⟨h1, hs⟩ := x_bif hs
    cases hs
    obtain rfl := Nat.eq_of_beq_eq_true hc
    exact lv_pop hx hb hd (by rw [sm_v_cat]; exact Nat.eq_of_beq_eq_true h1) (kk H locs ls I hl)
  · simp only [Bool.and_eq_true, Bool.or_eq_true, Nat.beq_eq] at hc
    cases hs
    obtain ⟨rfl, ht⟩ := hc
    exact lv_goto hx hb hd (of_decide_eq_true ht) (kk H locs ls I hl)
  · simp only [Bool.and_eq_true, Bool.or_eq_true, Nat.beq_eq] at hc
    cases hs
    obtain ⟨rfl, ht⟩ := hc
    have hT := of_decide_eq_true ht
    have k1 := kk H locs ls I hl
    rename_i cnd _ x
    cases cnd
    · exact lv_if_eq hx hb hd hT (fun q => by rw [show ai_cd .eq x 0 = true from decide_eq_true q] at k1; exact k1) (fun q => by rw [show ai_cd .eq x 0 = false from decide_eq_false q] at k1; exact k1)
    · exact lv_if_ne hx hb hd hT (fun q => by rw [show ai_cd .ne x 0 = true from decide_eq_true q] at k1; exact k1) (fun q => by rw [show ai_cd .ne x 0 = false from decide_eq_false (fun z => z q)] at k1; exact k1)
    · exact lv_if_lt hx hb hd hT (fun q => by rw [show ai_cd .lt x 0 = true from decide_eq_true q] at k1; exact k1) (fun q => by rw [show ai_cd .lt x 0 = false from decide_eq_false q] at k1; exact k1)
    · exact lv_if_ge hx hb hd hT (fun q => by rw [show ai_cd .ge x 0 = true from decide_eq_true q] at k1; exact k1) (fun q => by rw [show ai_cd .ge x 0 = false from decide_eq_false q] at k1; exact k1)
    · exact lv_if_gt hx hb hd hT (fun q => by rw [show ai_cd .gt x 0 = true from decide_eq_true q] at k1; exact k1) (fun q => by rw [show ai_cd .gt x 0 = false from decide_eq_false q] at k1; exact k1)
    · exact lv_if_le hx hb hd hT (fun q => by rw [show ai_cd .le x 0 = true from decide_eq_true q] at k1; exact k1) (fun q => by rw [show ai_cd .le x 0 = false from decide_eq_false q] at k1; exact k1)
  · simp only [Bool.and_eq_true, Bool.or_eq_true, Nat.beq_eq] at hc
    cases hs
    obtain ⟨rfl, ht⟩ := hc
    have hT := of_decide_eq_true ht
    have k1 := kk H locs ls I hl
    rename_i cnd _ y x
    cases cnd
    · exact lv_icmp_eq hx hb hd hT (fun q => by rw [show ai_cd .eq x y = true from decide_eq_true q] at k1; exact k1) (fun q => by rw [show ai_cd .eq x y = false from decide_eq_false q] at k1; exact k1)
    · exact lv_icmp_ne hx hb hd hT (fun q => by rw [show ai_cd .ne x y = true from decide_eq_true q] at k1; exact k1) (fun q => by rw [show ai_cd .ne x y = false from decide_eq_false (fun z => z q)] at k1; exact k1)
    · exact lv_icmp_lt hx hb hd hT (fun q => by rw [show ai_cd .lt x y = true from decide_eq_true q] at k1; exact k1) (fun q => by rw [show ai_cd .lt x y = false from decide_eq_false q] at k1; exact k1)
    · exact lv_icmp_ge hx hb hd hT (fun q => by rw [show ai_cd .ge x y = true from decide_eq_true q] at k1; exact k1) (fun q => by rw [show ai_cd .ge x y = false from decide_eq_false q] at k1; exact k1)
    · exact lv_icmp_gt hx hb hd hT (fun q => by rw [show ai_cd .gt x y = true from decide_eq_true q] at k1; exact k1) (fun q => by rw [show ai_cd .gt x y = false from decide_eq_false q] at k1; exact k1)
    · exact lv_icmp_le hx hb hd hT (fun q => by rw [show ai_cd .le x y = true from decide_eq_true q] at k1; exact k1) (fun q => by rw [show ai_cd .le x y = false from decide_eq_false q] at k1; exact k1)
  · simp only [Bool.and_eq_true, Bool.or_eq_true, Nat.beq_eq] at hc
    rename_i y x st0
    split at hs
    · rename_i p1 q1 hp1 hq1
      obtain ⟨h1, hs⟩ := x_bif hs
      cases hs
      obtain ⟨rfl, ht⟩ := hc
      have hT := of_decide_eq_true ht
      have k1 := kk H locs ls I hl
      rw [Bool.and_eq_true] at h1
      have hiff := sm_cmp I h1.1 h1.2
      have e1 := sm_vo w hp1
      have e2 := sm_vo w hq1
      rw [List.map_cons, List.map_cons, e1, e2]
      exact lv_acmp_eq hx hb hd hT (fun q => by rw [decide_eq_true (hiff.mp q)] at k1; exact k1) (fun q => by rw [decide_eq_false (fun z => q (hiff.mpr z))] at k1; exact k1)
    · cases hs
  · simp only [Bool.and_eq_true, Bool.or_eq_true, Nat.beq_eq] at hc
    rename_i y x st0
    split at hs
    · rename_i p1 q1 hp1 hq1
      obtain ⟨h1, hs⟩ := x_bif hs
      cases hs
      obtain ⟨rfl, ht⟩ := hc
      have hT := of_decide_eq_true ht
      have k1 := kk H locs ls I hl
      rw [Bool.and_eq_true] at h1
      have hiff := sm_cmp I h1.1 h1.2
      have e1 := sm_vo w hp1
      have e2 := sm_vo w hq1
      rw [List.map_cons, List.map_cons, e1, e2]
      exact lv_acmp_ne hx hb hd hT (fun q => by rw [decide_eq_false (fun z => q (hiff.mpr z))] at k1; exact k1) (fun q => by rw [decide_eq_true (hiff.mp q)] at k1; exact k1)
    · cases hs
  · simp only [Bool.and_eq_true, Bool.or_eq_true, Nat.beq_eq] at hc
    cases hs
    obtain ⟨rfl, ht⟩ := hc
    exact lv_ifnullN hx hb hd (of_decide_eq_true ht) (kk H locs ls I hl)
  · simp only [Bool.and_eq_true, Bool.or_eq_true, Nat.beq_eq] at hc
    cases hs
    obtain ⟨rfl, ht⟩ := hc
    exact lv_ifnull hx hb hd (kk H locs ls I hl)
  · simp only [Bool.and_eq_true, Bool.or_eq_true, Nat.beq_eq] at hc
    cases hs
    obtain ⟨rfl, ht⟩ := hc
    exact lv_ifnonnullN hx hb hd (kk H locs ls I hl)
  · simp only [Bool.and_eq_true, Bool.or_eq_true, Nat.beq_eq] at hc
    cases hs
    obtain ⟨rfl, ht⟩ := hc
    exact lv_ifnonnull hx hb hd (of_decide_eq_true ht) (kk H locs ls I hl)
  · cases hs
    rw [Bool.and_eq_true, Bool.and_eq_true] at hc
    obtain ⟨ht, hhi, hts'⟩ := hc
    exact sm_tsw hx hb hd (of_decide_eq_true ht) (of_decide_eq_true hhi) hts' (kk H locs ls I hl)
  · cases hs
    rw [Bool.and_eq_true, Bool.and_eq_true] at hc
    obtain ⟨ht, hhi, hts'⟩ := hc
    exact sm_lsw hx hb hd (of_decide_eq_true ht) hhi hts' (kk H locs ls I hl)
  · obtain ⟨h1, hs⟩ := x_bif hs
    cases hs
    simp only [Bool.and_eq_true, Nat.beq_eq, Nat.blt_eq] at hc
    obtain ⟨rfl, hfo, hcp, h0, h9⟩ := hc
    subst hcp
    have hkd := Nat.eq_of_beq_eq_true h1
    obtain ⟨hfl, hbn⟩ := fo_spec hts hfo
    rcases Nat.lt_or_ge a 17 with h17 | h17
    · exact sm_get hx hb hown hts hK h0 h17 hbn hfl hkd (I.obj hkd h0 h17).2.2 hd (kk H locs ls I hl)
    · have k1 := kk H locs ls I hl
      rcases (show a = 17 ∨ a = 18 by omega) with rfl | rfl
      · obtain ⟨r1, r2⟩ := I.c17 hkd
        have hb0 : b = 0 := by have : jnf 17 = 1 := by decide
                               omega
        subst hb0
        rw [List.map_cons, sm_v_ref, sm_a_old w (by omega)]
        exact sm_getO hx hb hown hfl (I.2.1.2.1 _ r1 r2).2.2 I.2.2.1 hd k1
      · obtain ⟨r1, r2⟩ := I.c18 hkd
        have hb0 : b = 0 := by have : jnf 18 = 1 := by decide
                               omega
        subst hb0
        rw [List.map_cons, sm_v_ref, sm_a_old w (by omega)]
        exact sm_getO hx hb hown hfl (I.2.1.2.2.1 _ r1 r2).2.2 I.2.2.1 hd k1
  · rename_i v0 o st0
    obtain ⟨h1, hs⟩ := x_bif hs
    simp only [Bool.and_eq_true, Nat.beq_eq, Nat.blt_eq] at hc
    obtain ⟨rfl, ⟨hfo, hpt⟩, hnp, ⟨h0, h17⟩, hf3⟩ := hc
    rw [Bool.and_eq_true] at h1
    have hkd := Nat.eq_of_beq_eq_true h1.1
    have ho := Nat.le_of_ble_eq_true h1.2
    obtain ⟨hfl, hbn⟩ := fo_spec hts hfo
    cases hpu : ai_put h o b cz v0 with
    | none => rw [hpu] at hs; cases hs
    | some h2 =>
      rw [hpu] at hs
      cases hs
      exact sm_put hx hb hown hts hK I h0 h17 hbn hfl (fun q => by rw [q] at hf3; exact fn_spec hts (by simpa using hf3)) hini hpt hkd ho hpu hnp hd (fun H' locs' I' => kk H' locs' ls I' hl)
  · cases hs
    rw [Bool.and_eq_true] at hc
    obtain ⟨hc1, hc2⟩ := hc
    obtain rfl := Nat.eq_of_beq_eq_true hc1
    obtain ⟨hfl, hb1, hb2⟩ := so_spec hts hc2
    have k1 := kk H locs ls I hl
    rw [List.map_cons, sm_v_ref, sm_a_old w (by omega)] at k1
    exact sm_gets hx hb (I.2.1.1 b hb1 hb2) I.2.2.1 hown hfl hd k1
  · obtain ⟨h1, hs⟩ := x_bif hs
    cases hs
    obtain rfl := Nat.eq_of_beq_eq_true hc
    rw [Bool.and_eq_true] at h1
    have hkd := Nat.eq_of_beq_eq_true h1.1
    obtain ⟨⟨cell, c1, c2, c3, c4, c5⟩, -⟩ := I.arr hK hkd (Or.inl ⟨by decide, by decide⟩)
    have hin := ai_in_spec h1.2
    rw [hkd] at c2 c5
    exact W.iald hx hb c1 c2 c3 (fun z => hin (z.imp id (Nat.le_trans c4.1))) (c5 _ (Nat.not_le.mp (fun q => hin (Or.inr q)))) rfl rfl hd (kk H locs ls I hl)
  · obtain ⟨h1, hs⟩ := x_bif hs
    cases hs
    simp only [Bool.and_eq_true, Bool.or_eq_true, Nat.beq_eq] at hc
    obtain ⟨rfl, ha⟩ := hc
    rw [Bool.and_eq_true] at h1
    have hkd := Nat.eq_of_beq_eq_true h1.1
    have hin := ai_in_spec h1.2
    rcases ha with rfl | rfl
    · obtain ⟨⟨cell, c1, c2, c3, c4, c5⟩, -⟩ := I.arr hK hkd (Or.inl ⟨by decide, by decide⟩)
      rw [hkd] at c2 c5
      exact W.bald hx hb c1 c2 c3 (fun z => hin (z.imp id (Nat.le_trans c4.1))) (c5 _ (Nat.not_le.mp (fun q => hin (Or.inr q)))) rfl rfl hd (kk H locs ls I hl)
    · obtain ⟨⟨cell, c1, c2, c3, c4, c5⟩, -⟩ := I.arr hK hkd (Or.inl ⟨by decide, by decide⟩)
      rw [hkd] at c2 c5
      exact W.zald hx hb c1 c2 c3 (fun z => hin (z.imp id (Nat.le_trans c4.1))) (c5 _ (Nat.not_le.mp (fun q => hin (Or.inr q)))) rfl rfl hd (kk H locs ls I hl)
  · obtain ⟨h1, hs⟩ := x_bif hs
    cases hs
    obtain rfl := Nat.eq_of_beq_eq_true hc
    rw [Bool.and_eq_true] at h1
    have hkd := Nat.eq_of_beq_eq_true h1.1
    obtain ⟨⟨cell, c1, c2, c3, c4, c5⟩, -⟩ := I.arr hK hkd (Or.inl ⟨by decide, by decide⟩)
    have hin := ai_in_spec h1.2
    rw [hkd] at c2 c5
    exact W.sald hx hb c1 c2 c3 (fun z => hin (z.imp id (Nat.le_trans c4.1))) (c5 _ (Nat.not_le.mp (fun q => hin (Or.inr q)))) rfl rfl hd (kk H locs ls I hl)
  · obtain ⟨h1, hs⟩ := x_bif hs
    cases hs
    obtain rfl := Nat.eq_of_beq_eq_true hc
    rw [Bool.and_eq_true] at h1
    have hkd := Nat.eq_of_beq_eq_true h1.1
    obtain ⟨⟨cell, c1, c2, c3, c4, c5⟩, -⟩ := I.arr hK hkd (Or.inl ⟨by decide, by decide⟩)
    have hin := ai_in_spec h1.2
    rw [hkd] at c2 c5
    exact W.lald hx hb c1 c2 c3 (fun z => hin (z.imp id (Nat.le_trans c4.1))) (c5 _ (Nat.not_le.mp (fun q => hin (Or.inr q)))) rfl rfl hd (kk H locs ls I hl)
  · obtain ⟨h1, hs⟩ := x_bif hs
    cases hs
    simp only [Bool.and_eq_true, Nat.beq_eq] at hc
    obtain ⟨rfl, har, hca⟩ := hc
    subst hca
    rw [Bool.and_eq_true] at h1
    have hkd := Nat.eq_of_beq_eq_true h1.1
    have hin := ai_in_spec h1.2
    obtain ⟨ha1, ha2⟩ := rf_spec har
    obtain ⟨⟨cell, c1, c2, c3, c4, c5⟩, -⟩ := I.arr hK hkd ha1
    rw [hkd] at c2 c5
    exact W.aald hx hb c1 c2 ha2 c3 (fun z => hin (z.imp id (Nat.le_trans c4.1))) (c5 _ (Nat.not_le.mp (fun q => hin (Or.inr q)))) rfl rfl hd (kk H locs ls I hl)
  · obtain ⟨h1, hs⟩ := x_bif hs
    cases hs
    obtain rfl := Nat.eq_of_beq_eq_true hc
    rw [Bool.and_eq_true, Bool.and_eq_true] at h1
    have hkd := Nat.eq_of_beq_eq_true h1.1.1
    have ho := Nat.le_of_ble_eq_true h1.1.2
    have hin := ai_in_spec h1.2
    have hcell := (I.1.1 _ ho (I.lt hkd (by decide))).2.2 (by omega)
    unfold sm_arr at hcell
    rw [hkd] at hcell
    exact W.iast hx hb hcell ((hK.2.1 101 (Or.inl ⟨by decide, by decide⟩)).1 _ _) (fun z => by cases z) (by rw [arrV_size]; exact hin) rfl rfl hd (fun H' e1 e2 e3 => kk H' _ ls (I.put (I.1.puta ho hkd (by decide) (pl := 0) (v := .int _) rfl rfl e1 e2 e3) (le_si ho) ho e2 e3) hl)
  · obtain ⟨h1, hs⟩ := x_bif hs
    cases hs
    simp only [Bool.and_eq_true, Bool.or_eq_true, Nat.beq_eq] at hc
    obtain ⟨rfl, ha⟩ := hc
    rw [Bool.and_eq_true, Bool.and_eq_true] at h1
    have hkd := Nat.eq_of_beq_eq_true h1.1.1
    have ho := Nat.le_of_ble_eq_true h1.1.2
    have hin := ai_in_spec h1.2
    rcases ha with rfl | rfl
    · have hcell := (I.1.1 _ ho (I.lt hkd (by decide))).2.2 (by omega)
      unfold sm_arr at hcell
      rw [hkd] at hcell
      exact W.bast hx hb hcell ((hK.2.1 102 (Or.inl ⟨by decide, by decide⟩)).1 _ _) (fun z => by cases z) (by rw [arrV_size]; exact hin) rfl rfl hd (fun H' e1 e2 e3 => kk H' _ ls (I.put (I.1.puta ho hkd (by decide) (pl := 0) (v := .int (ai_nar 102 _)) rfl rfl e1 e2 e3) (le_si ho) ho e2 e3) hl)
    · have hcell := (I.1.1 _ ho (I.lt hkd (by decide))).2.2 (by omega)
      unfold sm_arr at hcell
      rw [hkd] at hcell
      exact W.zast hx hb hcell ((hK.2.1 104 (Or.inl ⟨by decide, by decide⟩)).1 _ _) (fun z => by cases z) (by rw [arrV_size]; exact hin) rfl rfl hd (fun H' e1 e2 e3 => kk H' _ ls (I.put (I.1.puta ho hkd (by decide) (pl := 0) (v := .int (ai_nar 104 _)) rfl rfl e1 e2 e3) (le_si ho) ho e2 e3) hl)
  · obtain ⟨h1, hs⟩ := x_bif hs
    cases hs
    obtain rfl := Nat.eq_of_beq_eq_true hc
    rw [Bool.and_eq_true, Bool.and_eq_true] at h1
    have hkd := Nat.eq_of_beq_eq_true h1.1.1
    have ho := Nat.le_of_ble_eq_true h1.1.2
    have hin := ai_in_spec h1.2
    have hcell := (I.1.1 _ ho (I.lt hkd (by decide))).2.2 (by omega)
    unfold sm_arr at hcell
    rw [hkd] at hcell
    exact W.sast hx hb hcell ((hK.2.1 103 (Or.inl ⟨by decide, by decide⟩)).1 _ _) (fun z => by cases z) (by rw [arrV_size]; exact hin) rfl rfl hd (fun H' e1 e2 e3 => kk H' _ ls (I.put (I.1.puta ho hkd (by decide) (pl := 0) (v := .int _) rfl rfl e1 e2 e3) (le_si ho) ho e2 e3) hl)
  · obtain ⟨h1, hs⟩ := x_bif hs
    cases hs
    obtain rfl := Nat.eq_of_beq_eq_true hc
    rw [Bool.and_eq_true, Bool.and_eq_true] at h1
    have hkd := Nat.eq_of_beq_eq_true h1.1.1
    have ho := Nat.le_of_ble_eq_true h1.1.2
    have hin := ai_in_spec h1.2
    have hcell := (I.1.1 _ ho (I.lt hkd (by decide))).2.2 (by omega)
    unfold sm_arr at hcell
    rw [hkd] at hcell
    exact W.last hx hb hcell ((hK.2.1 105 (Or.inl ⟨by decide, by decide⟩)).1 _ _) (fun z => by cases z) (by rw [arrV_size]; exact hin) rfl rfl hd (fun H' e1 e2 e3 => kk H' _ ls (I.put (I.1.puta ho hkd (by decide) (pl := 1) (v := .long _) rfl rfl e1 e2 e3) (le_sj ho) ho e2 e3) hl)
  · rename_i q j o st0
    obtain ⟨h1, hs⟩ := x_bif hs
    simp only [Bool.and_eq_true, Nat.beq_eq, Nat.blt_eq] at hc
    obtain ⟨rfl, har, hca, hb1, hb2⟩ := hc
    simp only [Bool.and_eq_true] at h1
    obtain ⟨⟨⟨g1, g2⟩, g3⟩, g4, g5⟩ := h1
    have hkd := Nat.eq_of_beq_eq_true g1
    have ho := Nat.le_of_ble_eq_true g2
    have hkq := Nat.eq_of_beq_eq_true g3
    have hin := ai_in_spec g5
    cases hpu : ai_put h o j.toNatClampNeg cz (.ref q) with
    | none => rw [hpu] at hs; cases hs
    | some h2 =>
      rw [hpu] at hs
      cases hs
      exact sm_aast hx hb hK I har hb1 hb2 hkd ho hkq hin hpu (by rw [hca]; exact ja_np har) hd (fun H' locs' I' => kk H' locs' ls I' hl)
  · obtain ⟨h1, hs⟩ := x_bif hs
    cases hs
    rw [Bool.and_eq_true] at hc
    obtain ⟨hc1, hc2⟩ := hc
    obtain rfl := Nat.eq_of_beq_eq_true hc1
    have hkd := Nat.eq_of_beq_eq_true h1
    obtain ⟨⟨cell, c1, c2, c3, c4, c5⟩, -⟩ := I.arr hK hkd (ck_ar_spec hc2)
    exact W.alen hx hb c1 c2 c4.2 rfl rfl hd (kk H locs ls I hl)
  · obtain ⟨h1, hs⟩ := x_bif hs
    cases hs
    exact absurd hz (Nat.succ_ne_self _)
  · obtain ⟨h1, hs⟩ := x_bif hs
    cases hs
    exact absurd hz (Nat.succ_ne_self _)
  · cases ha : Nat.beq a 0 <;> rw [ha] at hs
    · cases hs
      exact absurd hz (Nat.succ_ne_self _)
    · rw [cond_true] at hs
      obtain ⟨h1, hs⟩ := x_bif hs
      cases hs
      exact absurd hz (Nat.succ_ne_self _)
  · obtain ⟨h1, hs⟩ := x_bif hs
    cases hs
    simp only [Bool.and_eq_true, Nat.beq_eq] at hc
    obtain ⟨rfl, h17, rfl, rfl⟩ := hc
    rw [Bool.and_eq_true] at h1
    exact sm_castA hx hb hown hts hK I h17 (Nat.eq_of_beq_eq_true h1.1) (Nat.le_of_ble_eq_true h1.2) hd (kk H locs ls I hl)
  · cases ha : Nat.beq a 0 <;> rw [ha] at hs
    · dsimp only [cond_false] at hs
      split at hs
      · obtain ⟨h1, hs⟩ := x_bif hs
        cases hs
      · cases hs
    · dsimp only [cond_true] at hs
      split at hs
      · obtain ⟨h1, hs⟩ := x_bif hs
        cases hs
        simp only [Bool.and_eq_true] at hc
        obtain ⟨hc1, hc2, hc3⟩ := hc
        rw [ha] at hc3
        obtain rfl := Nat.eq_of_beq_eq_true hc1
        obtain rfl := Nat.eq_of_beq_eq_true ha
        rw [cond_true, Bool.and_eq_true] at hc3
        have f1 := Nat.le_of_ble_eq_true hc3.1
        have f2 := Nat.le_of_ble_eq_true hc3.2
        have f3 := Nat.le_of_ble_eq_true h1
        exact W.objInit hx hb hown (mo0_spec hts hc2) (hts _ oi_inst) (hts _ oi_code) rfl (by rw [hml]; exact hl.1) rfl hd (by omega) (by show 2 * 0 + _ + 12 ≤ _; rw [ai_cat_sum]; omega) (kk H locs ls I hl)
      · cases hs
  · split at hs
    · obtain ⟨h1, hs⟩ := x_bif hs
      cases hs
    · cases hs
  · cases ha : Nat.beq a 0 <;> rw [ha] at hs
    · dsimp only [cond_false] at hs
      split at hs
      · obtain ⟨h1, hs⟩ := x_bif hs
        cases hs
      · cases hs
    · dsimp only [cond_true] at hs
      split at hs
      · obtain ⟨h1, hs⟩ := x_bif hs
        cases hs
        exact absurd hz (Nat.succ_ne_self _)
      · cases hs
  · obtain ⟨h1, hs⟩ := x_bif hs
    cases hs
  · cases h1 : Nat.beq (ac_rz mid) 1 <;> rw [h1] at hs
    · dsimp only [cond_false] at hs
      obtain ⟨h1, hs⟩ := x_bif hs
      cases hs
    · cases hs
  · obtain ⟨h1, hs⟩ := x_bif hs
    cases hs
  · obtain ⟨h1, hs⟩ := x_bif hs
    cases hs
  · obtain ⟨h1, hs⟩ := x_bif hs
    cases hs
  · obtain ⟨h1, hs⟩ := x_bif hs
    cases hs
  · cases hs
end
