/-! AI's run is the machine's. -/
def al_i (i : Instr) : Bool := match i with
  | .new _ => true
  | .newarray _ => true
  | .anewarray _ => true
  | .invokevirtual _ => true
  | _ => false
def cl_i (i : Instr) : Bool := match i with
  | .invokespecial _ => true
  | .invokestatic _ => true
  | .invokevirtual _ => true
  | _ => false
def en_i (i : Instr) : Bool := match i with
  | .return_ => true
  | .ireturn => true
  | .lreturn => true
  | .areturn => true
  | .athrow => true
  | _ => false
def kq (i : Instr) (h : am_M) (r : ai_R) : Prop := match r with
  | .inl s => (am_sz s.2.2.2.2 = am_sz h.2 ∧ am_us s.2.2.2.2 = am_us h.2) ∨ al_i i = true
  | .inr (.inl _) => cl_i i = true
  | .inr (.inr _) => en_i i = true
theorem put_sz {h h' : am_M} {o k pl : Nat} {v : Value} (hp : ai_put h o k pl v = some h') : am_sz h'.2 = am_sz h.2 ∧ am_us h'.2 = am_us h.2 := by
  unfold ai_put at hp
  split at hp
  · cases hp; exact ⟨rfl, rfl⟩
  · rename_i x
    cases hb : (decide (x = 0) || decide (x = 1)) <;> rw [hb] at hp <;> cases hp
    exact ⟨rfl, rfl⟩
  · cases hp; exact ⟨rfl, rfl⟩
  · cases hp; exact ⟨rfl, rfl⟩
  · cases hp; exact ⟨rfl, rfl⟩
  · cases hp; exact ⟨rfl, rfl⟩
  · cases hp
set_option maxHeartbeats 8000000 in
theorem kq_sx {i : ai_J} {rz pc : Nat} {L : List (Option Value)} {st : List Value} {h : am_M} {r : ai_R} (hr : ai_sx i rz pc L st h = some r) : kq i.1 h r := by
  obtain ⟨ins, len, km, a, b, cz, v, ww, ps⟩ := i
  unfold ai_sx at hr
  dsimp only [ai_len, ai_a, ai_b, ai_c, ai_v, ai_w, ai_ps] at hr ⊢
  split at hr
  all_goals first
    | (cases hr; done)
    | (refine q_bi2 (Q := kq _ h) (fun hc r hr => ?_) (fun hc r hr => ?_) hr; (· cases hr); (· cases hr; first | exact Or.inl ⟨rfl, rfl⟩ | exact Or.inr rfl | exact rfl))
    | (cases hr; first | exact Or.inl ⟨rfl, rfl⟩ | exact Or.inr rfl | exact rfl)
    | (refine q_ldi (Q := kq _ h) (fun x r hr => ?_) hr; first | (cases hr; first | exact Or.inl ⟨rfl, rfl⟩ | exact Or.inr rfl | exact rfl) | (refine q_sto (Q := kq _ h) (fun x r hr => ?_) hr; cases hr; first | exact Or.inl ⟨rfl, rfl⟩ | exact Or.inr rfl | exact rfl))
    | (refine q_ldl (Q := kq _ h) (fun x r hr => ?_) hr; cases hr; first | exact Or.inl ⟨rfl, rfl⟩ | exact Or.inr rfl | exact rfl)
    | (refine q_lda (Q := kq _ h) (fun x r hr => ?_) hr; cases hr; first | exact Or.inl ⟨rfl, rfl⟩ | exact Or.inr rfl | exact rfl)
    | (refine q_sto (Q := kq _ h) (fun x r hr => ?_) hr; cases hr; first | exact Or.inl ⟨rfl, rfl⟩ | exact Or.inr rfl | exact rfl)
    | (refine q_bif (Q := kq _ h) (fun hc r hr => ?_) hr; cases hr; first | exact Or.inl ⟨rfl, rfl⟩ | exact Or.inr rfl | exact rfl)
    | (refine q_bif (Q := kq _ h) (fun hc r hr => ?_) hr; split at hr; (· cases hr; rename_i hp; exact Or.inl (put_sz hp)); cases hr)
    | (split at hr; (· cases hr; first | exact Or.inl ⟨rfl, rfl⟩ | exact Or.inr rfl | exact rfl); cases hr)
    | (split at hr; (· refine q_bif (Q := kq _ h) (fun hc r hr => ?_) hr; cases hr; first | exact Or.inl ⟨rfl, rfl⟩ | exact Or.inr rfl | exact rfl); cases hr)
    | (refine q_bi2 (Q := kq _ h) (fun hc r hr => ?_) (fun hc r hr => ?_) hr; (· refine q_bif (Q := kq _ h) (fun hc r hr => ?_) hr; cases hr; first | exact Or.inl ⟨rfl, rfl⟩ | exact Or.inr rfl | exact rfl); (· cases hr; first | exact Or.inl ⟨rfl, rfl⟩ | exact Or.inr rfl | exact rfl))
    | (refine q_bi2 (Q := kq _ h) (fun hc r hr => ?_) (fun hc r hr => ?_) hr; (· cases hr; first | exact Or.inl ⟨rfl, rfl⟩ | exact Or.inr rfl | exact rfl); (· refine q_bif (Q := kq _ h) (fun hc r hr => ?_) hr; cases hr; first | exact Or.inl ⟨rfl, rfl⟩ | exact Or.inr rfl | exact rfl))
    | (refine q_bi2 (Q := kq _ h) (fun hc r hr => ?_) (fun hc r hr => ?_) hr; (· split at hr; (· refine q_bif (Q := kq _ h) (fun hc r hr => ?_) hr; cases hr; first | exact Or.inl ⟨rfl, rfl⟩ | exact Or.inr rfl | exact rfl); cases hr); (· split at hr; (· refine q_bif (Q := kq _ h) (fun hc r hr => ?_) hr; cases hr; first | exact Or.inl ⟨rfl, rfl⟩ | exact Or.inr rfl | exact rfl); cases hr))
section
variable {p : Program} {l : Launch} {e : Env} {R : Room} {s : State} {m : MethodId} {args : Array Value} {below : List Frame} {meth : Method} {c : Code} {H : Heap} {locs : List Loc} {cells slots : Nat} {Q : State → Prop}
variable {w : sm_T} {h h' : am_M} {mid pc pc' : Nat} {ls : Array Slot} {st st' : List Value} {L L' : List (Option Value)}
theorem cat_le {r : List Value} (hr : Nat.ble (ai_cat r) 8 = true) : (((r.map (sm_v w))).map fun v => v.category).sum ≤ 8 := by
  rw [ai_cat_sum]; exact Nat.le_of_ble_eq_true hr
set_option maxHeartbeats 4000000 in
theorem st_any (F : sm_F w p s m args meth c R mid) (htr : e.platform.stackTraces = false) (I : sm_I w h s H locs) (hl : sm_l w L ls (ac_ml mid)) {i : ai_J} (hd : decode (jb mid) pc = .ok (i.1, ai_len i)) (hc : ck_i mid pc i = true)
    (hs : ai_sx i (ac_rz mid) pc L st h = some (.inl (pc', L', st', h'))) (hcell : cells + (am_sz h'.2 - am_sz h.2) ≤ R.cells) (hslot : slots + (am_us h'.2 - am_us h.2) ≤ R.slots)
    (kk : ∀ (H' : Heap) (locs' : List Loc) (ls' : Array Slot), sm_I w h' s H' locs' → sm_l w L' ls' (ac_ml mid) → W p l e R s m args below meth c H' locs' (cells + (am_sz h'.2 - am_sz h.2)) (slots + (am_us h'.2 - am_us h.2)) Q (F0 m pc' ls' (st'.map (sm_v w)))) :
    W p l e R s m args below meth c H locs cells slots Q (F0 m pc ls (st.map (sm_v w))) := by
  rcases kq_sx hs with ⟨e1, e2⟩ | hal
  · refine st_ok F I hl hd hc hs e1 (fun H' locs' ls' I' hl' => ?_)
    have k1 := kk H' locs' ls' I' hl'
    have e1 : am_sz h'.2 = am_sz h.2 := e1
    have e2 : am_us h'.2 = am_us h.2 := e2
    rw [e1, e2, Nat.sub_self, Nat.sub_self] at k1
    exact k1
  · have u1 : ∀ kind len n, am_sz (am_new h kind len n).2 - am_sz h.2 = 1 := fun kind len n => by show (am_sz h.2 + 1) - am_sz h.2 = 1; omega
    have u2 : ∀ kind len n, am_us (am_new h kind len n).2 - am_us h.2 = n := fun kind len n => by show (am_us h.2 + n) - am_us h.2 = n; omega
    obtain ⟨ins, len, km, a, b, cz, v, ww, ps⟩ := i
    obtain ⟨hx, hb, hml, hown, hts, hK, hini, hRf, hRl⟩ := id F
    unfold ai_sx at hs
    unfold ck_i at hc
    dsimp only [ai_len, ai_a, ai_b, ai_c, ai_v, ai_w, ai_ps] at hd hc hs hal
    unfold al_i at hal
    split at hal
    · rename_i index
      dsimp only at hs hc
      rw [Bool.and_eq_true] at hc
      obtain ⟨hc1, hc2⟩ := hc
      obtain rfl := Nat.eq_of_beq_eq_true hc1
      cases ha : Nat.beq a 0 with
      | true =>
        rw [ha] at hs hc2
        rw [cond_true] at hs hc2
        obtain ⟨g1, hs⟩ := x_bif hs
        cases hs
        rw [Bool.and_eq_true] at hc2
        obtain rfl := Nat.eq_of_beq_eq_true hc2.1
        obtain rfl := Nat.eq_of_beq_eq_true hc2.2
        have v1 : am_sz (am_ex h.2) - am_sz h.2 = 1 := by show (am_sz h.2 + 1) - am_sz h.2 = 1; omega
        have v2 : am_us (am_ex h.2) - am_us h.2 = 6 := by show (am_us h.2 + 6) - am_us h.2 = 6; omega
        rw [v1] at hcell kk
        rw [v2] at hslot kk
        exact al_exc F htr I hl.1 (cat_le g1) hcell hslot (fun H' locs' I' => kk H' locs' ls I' hl)
      | false =>
        rw [ha] at hs hc2
        rw [cond_false] at hs hc2
        cases hs
        rw [Bool.and_eq_true, Bool.and_eq_true] at hc2
        obtain ⟨hco, h17, hbn⟩ := hc2
        obtain rfl := Nat.eq_of_beq_eq_true hbn
        rw [u1] at hcell kk
        rw [u2] at hslot kk
        exact al_obj hx hb hown hts hK I (Nat.pos_of_ne_zero (fun z => by rw [z] at ha; cases ha)) (Nat.blt_eq.mp h17) hco hcell hslot hd (fun H' I' => kk H' locs ls I' hl)
    · rename_i t
      cases st with
      | nil => cases hs
      | cons v0 st0 => cases v0 with
        | int n =>
          dsimp only at hs hc
          obtain ⟨g1, hs⟩ := x_bif hs
          cases hs
          rw [Bool.and_eq_true] at g1
          rw [u1] at hcell kk
          rw [u2] at hslot kk
          simp only [Bool.and_eq_true] at hc
          obtain ⟨hc1, ⟨har, hty⟩, h106⟩ := hc
          obtain rfl := Nat.eq_of_beq_eq_true hc1
          have h106 := Nat.blt_eq.mp h106
          have hr : 101 ≤ a ∧ a ≤ 105 := by rcases ck_ar_spec har with z | z | z | z | z | z | z <;> omega
          exact al_arr hx hb hts hK I hr.1 hr.2 (of_decide_eq_true hty) (of_decide_eq_true g1.1) (Nat.le_of_ble_eq_true g1.2) hcell hslot hd (fun H' I' => kk H' locs ls I' hl)
        | _ => cases hs
    · rename_i index
      cases st with
      | nil => cases hs
      | cons v0 st0 => cases v0 with
        | int n =>
          dsimp only at hs hc
          obtain ⟨g1, hs⟩ := x_bif hs
          cases hs
          rw [Bool.and_eq_true] at g1
          rw [u1] at hcell kk
          rw [u2] at hslot kk
          simp only [Bool.and_eq_true] at hc
          obtain ⟨hc1, har, hco, h127⟩ := hc
          obtain rfl := Nat.eq_of_beq_eq_true hc1
          exact al_ref hx hb hown hts hK I har hco (of_decide_eq_true g1.1) (Nat.le_of_ble_eq_true g1.2) hcell hslot hd (fun H' I' => kk H' locs ls I' hl)
        | _ => cases hs
    · rename_i index
      dsimp only at hs hc
      rw [Bool.and_eq_true] at hc
      obtain ⟨hc1, hc2⟩ := hc
      obtain rfl := Nat.eq_of_beq_eq_true hc1
      cases ha : Nat.beq a 0 with
      | false =>
        rw [ha, cond_false] at hs
        split at hs
        · obtain ⟨g1, hs⟩ := x_bif hs
          cases hs
        · cases hs
      | true =>
        rw [ha, cond_true] at hs hc2
        split at hs
        · rename_i o st0
          obtain ⟨g1, hs⟩ := x_bif hs
          cases hs
          simp only [Bool.and_eq_true] at g1 hc2
          obtain ⟨⟨g1, g2⟩, g3⟩ := g1
          obtain ⟨⟨d1, d2, d3⟩, d4, d5⟩ := hc2
          obtain rfl := Nat.eq_of_beq_eq_true g2
          obtain rfl := Nat.eq_of_beq_eq_true d2
          obtain rfl := Nat.eq_of_beq_eq_true d3
          have d4 := Nat.le_of_ble_eq_true d4
          have d5 := Nat.le_of_ble_eq_true d5
          have v1 : am_sz (am_cp h 16).2 - am_sz h.2 = 1 := by show (am_sz h.2 + 1) - am_sz h.2 = 1; omega
          have v2 : am_us (am_cp h 16).2 - am_us h.2 = am_ln h.1 16 := by show (am_us h.2 + am_ln h.1 16) - am_us h.2 = am_ln h.1 16; omega
          rw [v1] at hcell kk
          rw [v2] at hslot kk
          have hcl := cat_le (w := w) g3
          exact al_cln hx hb hown hts hK I (Nat.eq_of_beq_eq_true d1) (Nat.eq_of_beq_eq_true g1) (by rw [hml]; exact hl.1) (by omega) (by omega) hcell hslot hd (fun H' I' => kk H' locs ls I' hl)
        · cases hs
    · cases hal
theorem ai_pop_spec : ∀ (n : Nat) (acc st as r : List Value), ai_pop n acc st = some (as, r) → ∃ u, st = u ++ r ∧ as = u.reverse ++ acc ∧ u.length = n
  | 0, acc, st, as, r, h => by cases h; exact ⟨[], rfl, rfl, rfl⟩
  | n + 1, acc, [], as, r, h => by cases h
  | n + 1, acc, v :: st, as, r, h => by
    obtain ⟨u, h1, h2, h3⟩ := ai_pop_spec n (v :: acc) st as r h
    exact ⟨v :: u, by rw [h1]; rfl, by rw [h2]; simp, by rw [List.length_cons, h3]⟩
/-- a call, as AI takes it -/
def cl_P (w : sm_T) (p : Program) (l : Launch) (e : Env) (R : Room) (s : State) (m : MethodId) (args : Array Value) (below : List Frame) (meth : Method) (c : Code) (H : Heap) (locs : List Loc) (cells slots : Nat) (mid pc : Nat) (ls : Array Slot) (st : List Value) (k : Nat) (as r : List Value) : Prop :=
  1 < k ∧ k < 336 ∧ jq k + 1 ≤ jq mid ∧ 8 + (ac_ml k + 11) + jlo k ≤ jlo mid ∧ ((r.map (sm_v w)).map fun v => v.category).sum ≤ 8 ∧ (mid = 251 → pc = 39 ∨ pc < 38 ∨ 42 ≤ pc) ∧
  ∀ T : State, T.heap = H → Stand p l e R s m args below meth c T locs cells slots → cc_R p l e R s m args below meth c T locs cells slots (F0 m pc ls (st.map (sm_v w))) k (as.map (sm_v w)) (r.map (sm_v w))
theorem rg_spec {mid pc : Nat} (h : (!(Nat.beq mid 251) || (Nat.beq pc 39 || (Nat.blt pc 38 || Nat.ble 42 pc))) = true) : mid = 251 → pc = 39 ∨ pc < 38 ∨ 42 ≤ pc := by
  intro q
  rw [q] at h
  simp only [Bool.or_eq_true] at h
  rcases h with h | h | h | h
  · exact absurd h (by decide)
  · exact Or.inl (Nat.eq_of_beq_eq_true h)
  · exact Or.inr (Or.inl (Nat.blt_eq.mp h))
  · exact Or.inr (Or.inr (Nat.le_of_ble_eq_true h))
set_option maxHeartbeats 4000000 in
theorem cl_any (F : sm_F w p s m args meth c R mid) (I : sm_I w h s H locs) {i : ai_J} (hd : decode (jb mid) pc = .ok (i.1, ai_len i)) (hc : ck_i mid pc i = true) (hh : ck_h mid pc i = true) {k : Nat} {as : List Value} {t : ai_S}
    (hs : ai_sx i (ac_rz mid) pc L st h = some (.inr (.inl (k, as, t)))) :
    ∃ r, t = (pc + 3, L, r, h) ∧ ai_len i = 3 ∧ cl_P w p l e R s m args below meth c H locs cells slots mid pc ls st k as r := by
  have hk : cl_i i.1 = true := kq_sx hs
  obtain ⟨ins, len, km, a, b, cz, v, ww, ps⟩ := i
  obtain ⟨hx, hb, hml, hown, hts, hK, hini, hRf, hRl⟩ := id F
  unfold ai_sx at hs
  unfold ck_i at hc
  unfold ck_h at hh
  dsimp only [ai_len, ai_a, ai_b, ai_c, ai_v, ai_w, ai_ps] at hd hc hs hk hh ⊢
  unfold cl_i at hk
  split at hk
  · rename_i index
    dsimp only at hs hc hh
    simp only [Bool.and_eq_true] at hc hh
    obtain ⟨hc1, hc2, hc3⟩ := hc
    obtain ⟨⟨hh1, hh2⟩, hh3⟩ := hh
    obtain rfl := Nat.eq_of_beq_eq_true hc1
    cases ha : Nat.beq a 0 with
    | true =>
      rw [ha, cond_true] at hs
      split at hs
      · obtain ⟨g1, hs⟩ := x_bif hs
        cases hs
      · cases hs
    | false =>
      rw [ha, cond_false] at hs hc3
      rw [ha] at hh1
      simp only [Bool.and_eq_true, Bool.false_or, Bool.or_eq_true, Bool.false_eq_true, false_or] at hh1 hc3
      obtain ⟨d1, d2, d3, d4⟩ := hc3
      split at hs
      · rename_i q as' r hpop
        obtain ⟨g1, hs⟩ := x_bif hs
        cases hs
        have hbn := Nat.eq_of_beq_eq_true d2
        obtain ⟨u, h1, h2, h3⟩ := ai_pop_spec _ _ _ _ _ hpop
        rw [List.append_nil] at h2
        have hu : u = as'.reverse ++ [.ref q] := by
          have := congrArg List.reverse h2
          rw [List.reverse_reverse] at this
          rw [← this]; simp
        rw [hu] at h1 h3
        refine ⟨r, rfl, rfl, Nat.blt_eq.mp hh1.1, Nat.blt_eq.mp hh2, Nat.le_of_ble_eq_true d3, Nat.le_of_ble_eq_true d4, cat_le g1, rg_spec hh3, fun T hT X => ?_⟩
        have hlen : as'.length = (jm k).getD 5 0 := by
          rw [List.length_append, List.length_reverse, List.length_singleton, hbn] at h3
          omega
        exact ci_ok X hx hown hts hc2 (Nat.blt_eq.mp hh1.1) (Nat.blt_eq.mp hh2) hh1.2 (of_decide_eq_true d1) (b := sm_a w q) (g := F0 m pc ls (st.map (sm_v w))) rfl (as := as'.map (sm_v w)) (rest := r.map (sm_v w)) (by rw [List.length_map]; exact hlen) (by show st.map (sm_v w) = _; rw [h1]; simp [sm_v_ref]) (by rw [hb]; exact hd)
      · cases hs
  · rename_i index
    dsimp only at hs hc hh
    simp only [Bool.and_eq_true] at hc hh
    obtain ⟨hc1, hc2, ⟨hc3, hc4⟩, hc5, hc6, hc7⟩ := hc
    obtain ⟨⟨hh1, hh2⟩, hh3⟩ := hh
    obtain rfl := Nat.eq_of_beq_eq_true hc1
    split at hs
    · rename_i as' r hpop
      obtain ⟨g1, hs⟩ := x_bif hs
      cases hs
      have hbn := Nat.eq_of_beq_eq_true hc5
      obtain ⟨u, h1, h2, h3⟩ := ai_pop_spec _ _ _ _ _ hpop
      rw [List.append_nil] at h2
      refine ⟨r, rfl, rfl, Nat.blt_eq.mp hh1, Nat.blt_eq.mp hh2, Nat.le_of_ble_eq_true hc6, Nat.le_of_ble_eq_true hc7, cat_le g1, rg_spec hh3, fun T hT X => ?_⟩
      have hu : u = as.reverse := by rw [h2, List.reverse_reverse]
      rw [hu] at h1 h3
      exact cs_ok X hx hown hts hc2 (Nat.blt_eq.mp hh1) (Nat.blt_eq.mp hh2) hc4 (g := F0 m pc ls (st.map (sm_v w))) rfl (as := as.map (sm_v w)) (rest := r.map (sm_v w)) (by rw [List.length_map, ← hbn, ← h3, List.length_reverse]) (by show st.map (sm_v w) = _; rw [h1]; simp) (by rw [hb]; exact hd)
    · cases hs
  · rename_i index
    dsimp only at hs hc hh
    simp only [Bool.and_eq_true] at hc hh
    obtain ⟨hc1, hc3⟩ := hc
    obtain ⟨⟨hh2, hh3⟩, hh1⟩ := hh
    obtain rfl := Nat.eq_of_beq_eq_true hc1
    cases ha : Nat.beq a 0 with
    | true =>
      rw [ha, cond_true] at hs
      split at hs
      · obtain ⟨g1, hs⟩ := x_bif hs
        cases hs
      · cases hs
    | false =>
      rw [ha, cond_false] at hs hc3
      rw [ha] at hh1
      simp only [Bool.and_eq_true, Bool.false_or, Bool.or_eq_true, Bool.false_eq_true, false_or] at hh1 hc3
      obtain ⟨⟨⟨d1, d2⟩, d3, d4⟩, d5, d6, d7⟩ := hc3
      obtain ⟨hh4, hh5⟩ := hh1
      split at hs
      · rename_i q as' r hpop
        obtain ⟨g1, hs⟩ := x_bif hs
        cases hs
        rw [Bool.and_eq_true] at g1
        have hbn := Nat.eq_of_beq_eq_true d2
        have hkd := Nat.eq_of_beq_eq_true g1.1
        obtain ⟨u, h1, h2, h3⟩ := ai_pop_spec _ _ _ _ _ hpop
        rw [List.append_nil] at h2
        have hu : u = as'.reverse ++ [.ref q] := by
          have := congrArg List.reverse h2
          rw [List.reverse_reverse] at this
          rw [← this]; simp
        rw [hu] at h1 h3
        refine ⟨r, rfl, rfl, Nat.blt_eq.mp hh4, Nat.blt_eq.mp hh2, Nat.le_of_ble_eq_true d3, Nat.le_of_ble_eq_true d4, cat_le g1.2, rg_spec hh3, fun T hT X => ?_⟩
        have hlen : as'.length = (jm k).getD 5 0 := by
          rw [List.length_append, List.length_reverse, List.length_singleton, hbn] at h3
          omega
        cases h23 : Nat.beq (jow k) 23 with
        | true =>
          rw [h23, cond_true] at hh5 d5
          obtain rfl := Nat.eq_of_beq_eq_true hh5
          simp only [Bool.and_eq_true] at d5
          obtain ⟨y1, y2, y3⟩ := d5
          have y1 := Nat.eq_of_beq_eq_true y1
          have y2 := Nat.eq_of_beq_eq_true y2
          obtain rfl := Nat.eq_of_beq_eq_true y3
          rw [y1] at hkd
          rw [y2] at hown
          obtain ⟨n1, n2⟩ := I.c17 hkd
          obtain ⟨z1, ⟨cell, z2, z3, z4, z5⟩, z6⟩ := I.2.1.2.1 q n1 n2
          have has : as' = [] := List.eq_nil_of_length_eq_zero (by rw [hlen]; decide +kernel)
          subst has
          have hq : sm_a w q = w.2.1 q := sm_a_old w (by omega)
          refine co_ok X hx hown hts (b := sm_a w q) (cell := cell) (by rw [hT, hq, I.low (I.2.1.2.2.2.2.2.1 q (by omega))]; exact z2) z3 z4 (g := F0 m pc ls (st.map (sm_v w))) rfl (rest := r.map (sm_v w)) (by show st.map (sm_v w) = _; rw [h1]; rfl) (by rw [hb]; exact hd)
        | false =>
          rw [h23, cond_false] at hh5 d5
          simp only [Bool.and_eq_true] at hh5 d5
          obtain ⟨y1, y2⟩ := d5
          obtain ⟨x1, x2, x3⟩ := hh5
          have y2 := Nat.eq_of_beq_eq_true y2
          have x1 := Nat.blt_eq.mp x1
          have d6 := Nat.blt_eq.mp d6
          obtain ⟨n1, n2, cell, c1, c2, c3, c4⟩ := I.obj hkd d6 x1
          have hni : (jy k).name ≠ "<init>" := by
            have x4 : decide ((jy k).name = "<init>") = false := by
              have x5 : (!decide ((jy k).name = "<init>")) = true := x3
              revert x5
              cases decide ((jy k).name = "<init>")
              · intro _; rfl
              · intro q; cases q
            exact of_decide_eq_false x4
          have h335 : k ≠ 335 := fun z => by rw [z] at x2; exact absurd x2 (by decide)
          have hu2 := (hK.1 _ d6 x1).2.1
          exact cv_ok X hx hown hts y1 (Nat.blt_eq.mp hh4) (by have := Nat.blt_eq.mp hh2; omega) d1 hni (b := sm_a w q) (cell := cell) (by rw [hT]; exact c1) c3 (by rw [← y2, c2, hkd]; exact hu2) (g := F0 m pc ls (st.map (sm_v w))) rfl (as := as'.map (sm_v w)) (rest := r.map (sm_v w)) (by rw [List.length_map]; exact hlen) (by show st.map (sm_v w) = _; rw [h1]; simp [sm_v_ref]) (by rw [hb]; exact hd)
      · cases hs
  · cases hk
end
