/-! Steps that make an object (the numbers are places in the tables). -/
def jZ (c : Nat) : Nat × Nat := [(0, 0), (245, 217), (253, 218), (259, 219), (265, 220), (301, 221), (335, 222), (372, 223), (381, 224), (387, 225), (394, 226), (467, 227), (547, 228), (585, 229), (610, 230), (655, 233), (1692, 234)].getD c (0, 0)
def ck_z (c : Nat) : Bool := sm_at (jZ c).1 (.instantiable (jo c) (jnf c)) && sm_at (jZ c).2 (.initialized (jo c))
theorem ck_zz : ((List.range 16).all fun c => ck_z (c + 1)) = true := by decide +kernel
theorem z_spec {c : Nat} (h0 : 0 < c) (h1 : c < 17) : Cond.instantiable (jo c) (jnf c) ∈ sm_tbl ∧ Cond.initialized (jo c) ∈ sm_tbl := by
  have := List.all_eq_true.mp ck_zz (c - 1) (List.mem_range.mpr (by omega))
  rw [show c - 1 + 1 = c by omega, ck_z, Bool.and_eq_true] at this
  exact ⟨sm_at_in this.1, sm_at_in this.2⟩
theorem ac_in101 : Cond.arrayClass (jt 101) ∈ sm_tbl := sm_at_in (i := 299) (by decide +kernel)
theorem ac_in102 : Cond.arrayClass (jt 102) ∈ sm_tbl := sm_at_in (i := 275) (by decide +kernel)
theorem ac_in103 : Cond.arrayClass (jt 103) ∈ sm_tbl := sm_at_in (i := 370) (by decide +kernel)
theorem ac_in104 : Cond.arrayClass (jt 104) ∈ sm_tbl := sm_at_in (i := 583) (by decide +kernel)
theorem ac_in105 : Cond.arrayClass (jt 105) ∈ sm_tbl := sm_at_in (i := 421) (by decide +kernel)
theorem ao_in118 : Cond.arrayOver (jt 118) ∈ sm_tbl := sm_at_in (i := 378) (by decide +kernel)
theorem ao_in120 : Cond.arrayOver (jt 120) ∈ sm_tbl := sm_at_in (i := 393) (by decide +kernel)
theorem ao_in121 : Cond.arrayOver (jt 121) ∈ sm_tbl := sm_at_in (i := 380) (by decide +kernel)
theorem ao_in122 : Cond.arrayOver (jt 122) ∈ sm_tbl := sm_at_in (i := 307) (by decide +kernel)
theorem ao_in125 : Cond.arrayOver (jt 125) ∈ sm_tbl := sm_at_in (i := 652) (by decide +kernel)
theorem ao_in127 : Cond.arrayOver (jt 127) ∈ sm_tbl := sm_at_in (i := 649) (by decide +kernel)
theorem cl_link : Cond.methodLink "DeclaredMarkup$AttType" 38 ⟨"[LDeclaredMarkup$AttType;", "clone", "()Ljava/lang/Object;"⟩ ∈ sm_tbl := sm_at_in (i := 643) (by decide +kernel)
theorem cl_same : Cond.sameMethod "[LDeclaredMarkup$AttType;" "java/lang/Object" "clone" "()Ljava/lang/Object;" ∈ sm_tbl := sm_at_in (i := 644) (by decide +kernel)
theorem cl_nat : Cond.native ⟨"java/lang/Object", "clone", "()Ljava/lang/Object;"⟩ ∈ sm_tbl := sm_at_in (i := 645) (by decide +kernel)
theorem cl_inst : Cond.instanceMethod ⟨"java/lang/Object", "clone", "()Ljava/lang/Object;"⟩ ∈ sm_tbl := sm_at_in (i := 646) (by decide +kernel)
theorem cl_sel : Cond.selects "[LDeclaredMarkup$AttType;" ⟨"[LDeclaredMarkup$AttType;", "clone", "()Ljava/lang/Object;"⟩ ⟨"java/lang/Object", "clone", "()Ljava/lang/Object;"⟩ ∈ sm_tbl := sm_at_in (i := 647) (by decide +kernel)
theorem cl_cast : Cond.castable "[LDeclaredMarkup$AttType;" "java/lang/Cloneable" ∈ sm_tbl := sm_at_in (i := 648) (by decide +kernel)
theorem dv_all : ((List.range 17).all fun c => Nat.beq c 0 || (List.range (jnf c)).all fun k => decide (defaultValue (jty c k) = (match jp c k with | 0 => Value.int 0 | 1 => Value.long 0 | _ => Value.null))) = true := by decide +kernel
theorem dv_ok {c k : Nat} (h0 : 0 < c) (h1 : c < 17) (hk : k < jnf c) : defaultValue (jty c k) = (match jp c k with | 0 => Value.int 0 | 1 => Value.long 0 | _ => Value.null) := by
  have := List.all_eq_true.mp dv_all c (List.mem_range.mpr h1)
  rw [Bool.or_eq_true] at this
  rcases this with h | h
  · have := Nat.eq_of_beq_eq_true h; omega
  · exact of_decide_eq_true (List.all_eq_true.mp h k (List.mem_range.mpr hk))
section
variable {h : am_M} {kind len n : Nat}
theorem new_get_ne {i : Nat} (hi : i ≠ am_sz h.2) (f q : Nat) : ai_get (am_new h kind len n) i f q = ai_get h i f q := by
  have hi : i ≠ h.2.2.2.2.1 := hi
  rcases q with _ | _ | _ | q
  · show Value.int (am_u1 h.2.1 h.2.2.2.2.1 (fun _ => 0) i f) = Value.int (h.2.1 i f)
    rw [u1_ne hi]
  · show Value.long (am_u1 h.2.2.1 h.2.2.2.2.1 (fun _ => 0) i f) = Value.long (h.2.2.1 i f)
    rw [u1_ne hi]
  · show am_v (am_u1 h.2.2.2.1 h.2.2.2.2.1 (fun _ => none) i f) = am_v (h.2.2.2.1 i f)
    rw [u1_ne hi]
  · show am_v (am_u1 h.1.2.2 h.2.2.2.2.1 (fun _ => none) i f) = am_v (h.1.2.2 i f)
    rw [u1_ne hi]
theorem new_get_eq (f q : Nat) : ai_get (am_new h kind len n) (am_sz h.2) f q = (match q with | 0 => Value.int 0 | 1 => Value.long 0 | _ => Value.null) := by
  rcases q with _ | _ | _ | q
  · show Value.int (am_u1 h.2.1 h.2.2.2.2.1 (fun _ => 0) h.2.2.2.2.1 f) = Value.int 0
    rw [u1_eq]
  · show Value.long (am_u1 h.2.2.1 h.2.2.2.2.1 (fun _ => 0) h.2.2.2.2.1 f) = Value.long 0
    rw [u1_eq]
  · show am_v (am_u1 h.2.2.2.1 h.2.2.2.2.1 (fun _ => none) h.2.2.2.2.1 f) = Value.null
    rw [u1_eq]; rfl
  · show am_v (am_u1 h.1.2.2 h.2.2.2.2.1 (fun _ => none) h.2.2.2.2.1 f) = Value.null
    rw [u1_eq]; rfl
theorem cp_get_ne {i o : Nat} (hi : i ≠ am_sz h.2) (f q : Nat) : ai_get (am_cp h o) i f q = ai_get h i f q := by
  have hi : i ≠ h.2.2.2.2.1 := hi
  rcases q with _ | _ | _ | q
  · show Value.int (am_u1 h.2.1 h.2.2.2.2.1 (fun _ => 0) i f) = Value.int (h.2.1 i f)
    rw [u1_ne hi]
  · show Value.long (am_u1 h.2.2.1 h.2.2.2.2.1 (fun _ => 0) i f) = Value.long (h.2.2.1 i f)
    rw [u1_ne hi]
  · show am_v (am_u1 h.2.2.2.1 h.2.2.2.2.1 (fun _ => none) i f) = am_v (h.2.2.2.1 i f)
    rw [u1_ne hi]
  · show am_v (am_u1 h.1.2.2 h.2.2.2.2.1 (h.1.2.2 o) i f) = am_v (h.1.2.2 i f)
    rw [u1_ne hi]
theorem cp_get_eq {o : Nat} (f : Nat) : ai_get (am_cp h o) (am_sz h.2) f 3 = ai_get h o f 3 := by
  show am_v (am_u1 h.1.2.2 h.2.2.2.2.1 (h.1.2.2 o) h.2.2.2.2.1 f) = am_v (h.1.2.2 o f)
  rw [u1_eq]
end
section
variable {w : sm_T} {h h' : am_M} {H H' : Heap}
theorem sm_c.same1 {i : Nat} (k : sm_c w h i H) (hk : jk_ok (am_kd h.1 i)) (e1 : am_kd h'.1 i = am_kd h.1 i) (e2 : am_ln h'.1 i = am_ln h.1 i) (e3 : ∀ f q, q < 4 → ai_get h' i f q = ai_get h i f q) (e4 : H'[sm_a w i]? = H[sm_a w i]?) : sm_c w h' i H' := by
  refine ⟨fun q => ?_, fun q => ?_, fun q => ?_⟩
  · rw [e1] at q
    obtain ⟨cell, a, b⟩ := k.1 q
    exact ⟨cell, by rw [e4]; exact a, b⟩
  · rw [e1] at q
    have h2 := (k.2.1 q).kept e4
    unfold sm_obj
    rw [e1]
    have hc : am_kd h.1 i < 17 := by rcases hk with a | a | a; exact a.2; omega; rcases a with a | a | a | a | a | a | a <;> omega
    exact h2.to (fun f hf => by rw [e3 f _ (jp_lt _ hc f hf)])
  · rw [e1] at q
    have h2 := k.2.2 q
    unfold sm_arr at h2 ⊢
    rw [e4, e1, e2, h2]
    congr 2
    funext j
    rw [e3 j _ (ja_lt _)]
theorem sm_N.at (N : sm_N w h H) : sm_a w (am_sz h.2) = H.size := by rw [sm_a_new w N.2.2.1, N.2.1]
theorem sm_N.grow (N : sm_N w h H) (ez : am_sz h'.2 = am_sz h.2 + 1) (e1 : ∀ i, i ≠ am_sz h.2 → am_kd h'.1 i = am_kd h.1 i) (e2 : ∀ i, i ≠ am_sz h.2 → am_ln h'.1 i = am_ln h.1 i) (e3 : ∀ i, i ≠ am_sz h.2 → ∀ f q, q < 4 → ai_get h' i f q = ai_get h i f q)
    (hk : jk_ok (am_kd h'.1 (am_sz h.2))) (hln : 100 ≤ am_kd h'.1 (am_sz h.2) → am_ln h'.1 (am_sz h.2) < 2 ^ 31) (hs : H'.size = H.size + 1) (hq : ∀ q, q < H.size → H'[q]? = H[q]?) (hc : sm_c w h' (am_sz h.2) H') : sm_N w h' H' := by
  obtain ⟨n1, n2, n3, n4, n5, n6⟩ := N
  refine ⟨fun i hi hl => ?_, by rw [hs, ez, n2]; omega, by omega, fun i hi => ?_, fun i hi => ?_, fun i hi hl hk3 => ?_⟩
  · by_cases e : i = am_sz h.2
    · subst e; exact hc
    · exact (n1 i hi (by omega)).same1 (n4 i hi) (e1 i e) (e2 i e) (e3 i e) (hq _ (by rw [sm_a_new w hi, n2]; omega))
  · by_cases e : i = am_sz h.2
    · subst e; exact hk
    · rw [e1 i e]; exact n4 i hi
  · rw [e1 i (by omega)]; exact n5 i (by omega)
  · by_cases e : i = am_sz h.2
    · subst e; exact hln hk3
    · rw [e2 i e]; exact n6 i hi (by omega) (by rw [← e1 i e]; exact hk3)
theorem sm_I.grow {s : State} {locs : List Loc} (I : sm_I w h s H locs) (N : sm_N w h' H') (le : am_le h h') (hs : H'.size = H.size + 1) (hq : ∀ q, q < H.size → H'[q]? = H[q]?) : sm_I w h' s H' locs :=
  ⟨N, I.2.1.le le, ⟨Nat.le_trans I.2.2.1.1 (by omega), fun q a b => (hq q (Nat.lt_of_lt_of_le a I.2.2.1.1)).trans (I.2.2.1.2.1 q a b), I.2.2.1.2.2⟩, I.2.2.2⟩
theorem sm_I.new {s : State} {locs : List Loc} {kind len n : Nat} (I : sm_I w h s H locs) (hk : jk_ok kind) (hln : len < 2 ^ 31) (hs : H'.size = H.size + 1) (hq : ∀ q, q < H.size → H'[q]? = H[q]?) (hc : sm_c w (am_new h kind len n) (am_sz h.2) H') : sm_I w (am_new h kind len n) s H' locs := by
  refine I.grow (I.1.grow rfl (fun i hi => u1_ne hi) (fun i hi => u1_ne hi) (fun i hi f q _ => new_get_ne hi f q) ?_ ?_ hs hq hc) (le_new I.1.2.2.1) hs hq
  · show jk_ok (am_u1 h.1.1 h.2.2.2.2.1 kind h.2.2.2.2.1)
    rw [u1_eq]; exact hk
  · intro _
    show am_u1 h.1.2.1 h.2.2.2.2.1 len h.2.2.2.2.1 < _
    rw [u1_eq]; exact hln
theorem new_kd {kind len n : Nat} : am_kd (am_new h kind len n).1 (am_sz h.2) = kind := u1_eq
theorem new_ln {kind len n : Nat} : am_ln (am_new h kind len n).1 (am_sz h.2) = len := u1_eq
end
theorem cb_le (t : FieldType) : componentBytes t ≤ 8 := by cases t <;> exact Nat.le_of_ble_eq_true rfl
section
variable {p : Program} {l : Launch} {e : Env} {R : Room} {s : State} {m : MethodId} {args : Array Value} {below : List Frame} {meth : Method} {c : Code} {H : Heap} {locs : List Loc} {cells slots : Nat} {Q : State → Prop}
variable {w : sm_T} {h h' : am_M} {mid pc pc' : Nat} {ls : Array Slot} {st st' : List Value} {L L' : List (Option Value)} {rest : List Value} {cc : ByteArray}
theorem al_obj (hx : p.tables.exec = Jvm.exec) (hb : c.code = cc) {index a : Nat} (hown : s.vm.findClass (jo (jow mid)) = some m.cls) (hts : ∀ x ∈ sm_tbl, x.before args s = true) (hK : sm_K w s) (I : sm_I w h s H locs) (h0 : 0 < a) (h17 : a < 17) (hco : ck_co (jow mid) index a = true) (hcell : cells + 1 ≤ R.cells) (hslot : slots + jnf a ≤ R.slots)
    (hd : decode cc pc = .ok (.new index, 3)) (kk : ∀ (H' : Heap), sm_I w (am_new h a 0 (jnf a)) s H' locs → W p l e R s m args below meth c H' locs (cells + 1) (slots + jnf a) Q (F0 m (pc + 3) ls (.ref (sm_a w (am_sz h.2)) :: rest))) : W p l e R s m args below meth c H locs cells slots Q (F0 m pc ls rest) := by
  have hu := hK.1 a h0 h17
  obtain ⟨z1, z2⟩ := z_spec h0 h17
  refine W.newcK hx hb hown (co_spec hts hco) (hts _ z1) (hts _ z2) rfl hd hcell hslot hu.2.1 rfl fun H' kC hkC e1 e2 e3 => ?_
  have k1 := kk H' (I.new (Or.inl ⟨h0, h17⟩) (by decide) e2 e3 ?_)
  · rw [I.1.at] at k1; exact k1
  · refine ⟨fun q => ?_, fun q => ?_, fun q => ?_⟩
    · rw [new_kd] at q; omega
    · unfold sm_obj
      rw [new_kd]
      rw [I.1.at]
      have hb2 := u_born (jty a) hts (lay_in h0 h17) hu hkC e1 (lay_ty h0 h17)
      exact hb2.to (fun k hk => by
        rw [dv_ok h0 h17 hk, new_get_eq]
        split <;> rfl)
    · rw [new_kd] at q; omega
theorem al_arr (hx : p.tables.exec = Jvm.exec) (hb : c.code = cc) {t : ArrayType} {a : Nat} {n : Int32} (hts : ∀ x ∈ sm_tbl, x.before args s = true) (hK : sm_K w s) (I : sm_I w h s H locs) (h1 : 101 ≤ a) (h2 : a ≤ 105) (ht : newarray.typeOf t = jt a) (hn0 : 0 ≤ n) (hn1 : n.toNatClampNeg ≤ 100000) (hcell : cells + 1 ≤ R.cells) (hslot : slots + n.toNatClampNeg ≤ R.slots)
    (hd : decode cc pc = .ok (.newarray t, 2)) (kk : ∀ (H' : Heap), sm_I w (am_new h a n.toNatClampNeg n.toNatClampNeg) s H' locs → W p l e R s m args below meth c H' locs (cells + 1) (slots + n.toNatClampNeg) Q (F0 m (pc + 2) ls (.ref (sm_a w (am_sz h.2)) :: rest))) : W p l e R s m args below meth c H locs cells slots Q (F0 m pc ls (.int n :: rest)) := by
  have harr : (Cond.arrayClass (newarray.typeOf t)).before args s = true := by
    rw [ht]
    rcases (show a = 101 ∨ a = 102 ∨ a = 103 ∨ a = 104 ∨ a = 105 by omega) with rfl | rfl | rfl | rfl | rfl
    · exact hts _ ac_in101
    · exact hts _ ac_in102
    · exact hts _ ac_in103
    · exact hts _ ac_in104
    · exact hts _ ac_in105
  refine W.newa hx hb harr rfl hd rfl (Int32.not_lt.mpr hn0) (by have := cb_le (newarray.typeOf t); have := Nat.mul_le_mul hn1 this; omega) hcell hslot fun cA kA comp f1 f2 f3 => ?_
  have hra := (hK.2.1 a (Or.inl ⟨h1, h2⟩)).2
  have hcA : cA = w.2.2.2 a := by
    rw [ht] at f1
    have : s.vm.findClass ("[" ++ (jt a).toString) = some (w.2.2.2 a) := by
      rcases (show a = 101 ∨ a = 102 ∨ a = 103 ∨ a = 104 ∨ a = 105 by omega) with rfl | rfl | rfl | rfl | rfl <;> exact hra
    exact Option.some.inj (f1.symm.trans this)
  have k1 := kk (H.push { cls := cA, slots := Array.replicate n.toNatClampNeg (defaultValue (newarray.typeOf t)), vm := .none }) (I.new (Or.inr (Or.inr (Or.inl ⟨h1, h2⟩))) (by omega) (by simp) (fun q hq => by rw [Array.getElem?_push, if_neg (Nat.ne_of_lt hq)]) ?_)
  · rw [I.1.at] at k1; exact k1
  · refine ⟨fun q => ?_, fun q => ?_, fun q => ?_⟩
    · rw [new_kd] at q; omega
    · rw [new_kd] at q; omega
    · unfold sm_arr
      rw [new_kd, new_ln, I.1.at, Array.getElem?_push_size, arrV_new, hcA, ht]
      congr 2
      funext j
      rw [new_get_eq]
      rcases (show a = 101 ∨ a = 102 ∨ a = 103 ∨ a = 104 ∨ a = 105 by omega) with rfl | rfl | rfl | rfl | rfl <;> rfl
theorem al_ref (hx : p.tables.exec = Jvm.exec) (hb : c.code = cc) {index a : Nat} {n : Int32} (hown : s.vm.findClass (jo (jow mid)) = some m.cls) (hts : ∀ x ∈ sm_tbl, x.before args s = true) (hK : sm_K w s) (I : sm_I w h s H locs) (har : ck_rf a = true) (hco : ck_co (jow mid) index (a - 110) = true) (hn0 : 0 ≤ n) (hn1 : n.toNatClampNeg ≤ 100000) (hcell : cells + 1 ≤ R.cells) (hslot : slots + n.toNatClampNeg ≤ R.slots)
    (hd : decode cc pc = .ok (.anewarray index, 3)) (kk : ∀ (H' : Heap), sm_I w (am_new h a n.toNatClampNeg n.toNatClampNeg) s H' locs → W p l e R s m args below meth c H' locs (cells + 1) (slots + n.toNatClampNeg) Q (F0 m (pc + 3) ls (.ref (sm_a w (am_sz h.2)) :: rest))) : W p l e R s m args below meth c H locs cells slots Q (F0 m pc ls (.int n :: rest)) := by
  obtain ⟨ha1, ha2⟩ := rf_spec har
  have h111 : 110 < a := by rw [ck_rf, Bool.and_eq_true, Nat.blt_eq] at har; exact har.2
  have hjt : jt a = .object (jo (a - 110)) := by unfold jt; split <;> first | omega | rfl
  have hao : (Cond.arrayOver (.object (jo (a - 110)))).before args s = true := by
    rw [← hjt]
    rcases ha1 with z | rfl | rfl | rfl | rfl | rfl | rfl
    · omega
    · exact hts _ ao_in118
    · exact hts _ ao_in120
    · exact hts _ ao_in121
    · exact hts _ ao_in122
    · exact hts _ ao_in125
    · exact hts _ ao_in127
  refine W.anew hx hb hown (co_spec hts hco) hao rfl hd rfl (Int32.not_lt.mpr hn0) (by omega) hcell hslot fun cA kA comp f1 f2 f3 f4 => ?_
  have hra := (hK.2.1 a ha1).2
  rw [hjt] at hra
  obtain ⟨kA', comp', k1, k2, k3, k4⟩ := hra
  have hcA : cA = w.2.2.2 a := Option.some.inj (f1.symm.trans k4)
  have k1 := kk (H.push { cls := cA, slots := Array.replicate n.toNatClampNeg .null, vm := .none }) (I.new (Or.inr (Or.inr ha1)) (by omega) (by simp) (fun q hq => by rw [Array.getElem?_push, if_neg (Nat.ne_of_lt hq)]) ?_)
  · rw [I.1.at] at k1; exact k1
  · refine ⟨fun q => ?_, fun q => ?_, fun q => ?_⟩
    · rw [new_kd] at q; omega
    · rw [new_kd] at q; omega
    · unfold sm_arr
      rw [new_kd, new_ln, I.1.at, Array.getElem?_push_size, arrV_new, hcA]
      congr 2
      funext j
      rw [new_get_eq]
      rcases ha1 with z | rfl | rfl | rfl | rfl | rfl | rfl
      · omega
      all_goals rfl
end
