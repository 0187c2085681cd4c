/-! The potential: what names and entities can cost. -/
noncomputable def po_R : List (List Int32 × Bool) → List (List Int32)
  | [] => []
  | x :: T => ru_l x.1 ++ po_R T
def po_a : List (List Int32 × Bool) → Nat
  | [] => 0
  | x :: T => (bif x.2 then 0 else x.1.length) + po_a T
def po_n : List (List Int32 × Bool) → Nat
  | [] => 0
  | x :: T => (bif x.2 then x.1.length else 0) + po_n T
def po_k : List (List Int32 × Bool) → Nat
  | [] => 0
  | x :: T => (bif x.2 then 1 else 0) + po_k T
theorem po_Ra : ∀ (T : List (List Int32 × Bool)) (x : List Int32 × Bool), po_R (T ++ [x]) = po_R T ++ ru_l x.1
  | [], x => by show ru_l x.1 ++ [] = [] ++ ru_l x.1; rw [List.append_nil, List.nil_append]
  | y :: T, x => by show ru_l y.1 ++ po_R (T ++ [x]) = ru_l y.1 ++ po_R T ++ ru_l x.1; rw [po_Ra T x, List.append_assoc]
theorem po_aa : ∀ (T : List (List Int32 × Bool)) (x : List Int32 × Bool), po_a (T ++ [x]) = po_a T + (bif x.2 then 0 else x.1.length)
  | [], x => by show _ + 0 = 0 + _; omega
  | y :: T, x => by show _ + po_a (T ++ [x]) = _ + po_a T + _; rw [po_aa T x]; omega
theorem po_na : ∀ (T : List (List Int32 × Bool)) (x : List Int32 × Bool), po_n (T ++ [x]) = po_n T + (bif x.2 then x.1.length else 0)
  | [], x => by show _ + 0 = 0 + _; omega
  | y :: T, x => by show _ + po_n (T ++ [x]) = _ + po_n T + _; rw [po_na T x]; omega
theorem po_ka : ∀ (T : List (List Int32 × Bool)) (x : List Int32 × Bool), po_k (T ++ [x]) = po_k T + (bif x.2 then 1 else 0)
  | [], x => by show _ + 0 = 0 + _; omega
  | y :: T, x => by show _ + po_k (T ++ [x]) = _ + po_k T + _; rw [po_ka T x]; omega
theorem po_nk {A : Nat} : ∀ T : List (List Int32 × Bool), (∀ x ∈ T, x.1.length ≤ A) → po_n T ≤ A * po_k T
  | [], _ => Nat.zero_le _
  | x :: T, h => by
    have ih := po_nk T (fun y hy => h y (List.mem_cons_of_mem _ hy))
    have hx := h x (List.mem_cons_self ..)
    show (bif x.2 then x.1.length else 0) + po_n T ≤ A * ((bif x.2 then 1 else 0) + po_k T)
    rw [Nat.mul_add]
    cases x.2 with
    | true => rw [cond_true, cond_true, Nat.mul_one]; omega
    | false => rw [cond_false, cond_false, Nat.mul_zero]; omega
theorem po_kl : ∀ T : List (List Int32 × Bool), po_k T ≤ T.length ∧ (po_k T = T.length → po_a T = 0)
  | [] => ⟨Nat.le_refl _, fun _ => rfl⟩
  | x :: T => by
    have ih := po_kl T
    show (bif x.2 then 1 else 0) + po_k T ≤ T.length + 1 ∧ ((bif x.2 then 1 else 0) + po_k T = T.length + 1 → (bif x.2 then 0 else x.1.length) + po_a T = 0)
    cases x.2 with
    | true =>
      rw [cond_true, cond_true]
      exact ⟨by omega, fun h => by rw [ih.2 (by omega)]⟩
    | false =>
      rw [cond_false, cond_false]
      exact ⟨by omega, fun h => by omega⟩
def po_p (L : List (List Int32)) (T : List (List Int32 × Bool)) (tS b : Nat) (c : Bool) : Prop := po_a T + po_n T = tS ∧ tS ≤ 8000 ∧ T.length ≤ 40 ∧ b ≤ 6000 ∧ (∀ x ∈ T, x.1.length ≤ po_a T) ∧ po_t List.length L (po_R T) ≤ b + po_n T ∧ po_t om_2 L (po_R T) + (bif c then 2 else 0) ≤ 2 * b + 3 * (po_n T + po_k T) ∧ po_a T ≤ b
section
variable {L : List (List Int32)} {T : List (List Int32 × Bool)} {tS b b' : Nat} {c c' : Bool}
theorem po_7 (h : po_p L T tS b c) : po_n T ≤ 7800 ∧ po_k T ≤ 40 := by
  obtain ⟨h1, h2, h3, h4, h5, h6, h7, _⟩ := h
  have k := po_kl T
  have nk := po_nk T h5
  refine ⟨?_, by omega⟩
  by_cases q : po_k T = T.length
  · have a0 := k.2 q
    rw [a0, Nat.zero_mul] at nk
    omega
  · by_cases q2 : po_k T ≤ 39
    · have := Nat.mul_le_mul_left (po_a T) q2
      omega
    · omega
theorem po_bd (h : po_p L T tS b c) (hn : L.Nodup) (hv : ∀ w ∈ L, ∀ x ∈ w, ch_pt x = true ∧ ch_ok x) : L.length < 5990 ∧ su_w List.length L ≤ b + 7800 ∧ ∀ x ∈ T, su_w List.length L + x.1.length ≤ 14000 := by
  have h7 := po_7 h
  obtain ⟨h1, h2, h3, h4, h5, h6, h8, h9⟩ := h
  have hc := po_c hn hv
  have e1 : su_w List.length L ≤ po_t List.length L (po_R T) := by unfold po_t; omega
  have e2 : su_w om_2 L ≤ po_t om_2 L (po_R T) := by unfold po_t; omega
  refine ⟨?_, by omega, fun x hx => ?_⟩
  · have : (bif c then 2 else 0) ≤ 2 := by cases c <;> decide
    omega
  · have := h5 x hx
    omega
theorem po_up (h : po_p L T tS b c) (h1 : b ≤ b') (h2 : b' ≤ 6000) (h3 : c' = true → c = true ∨ b < b') : po_p L T tS b' c' := by
  obtain ⟨a1, a2, a3, a4, a5, a6, a7, a8⟩ := h
  refine ⟨a1, a2, a3, h2, a5, by omega, ?_, by omega⟩
  cases c' with
  | false => rw [cond_false]; omega
  | true =>
    rw [cond_true]
    rcases h3 rfl with q | q
    · rw [q, cond_true] at a7; omega
    · omega
/-- a name in the text -/
theorem po_tx {w : List Int32} (h : po_p L T tS b true) (hw : w ≠ []) (h1 : b + by_s w ≤ b') (h2 : b' ≤ 6000) : po_p (L ++ [w]) T tS b' false := by
  obtain ⟨a1, a2, a3, a4, a5, a6, a7, a8⟩ := h
  have e1 := po_any List.length L (po_R T) w
  have e2 := po_any om_2 L (po_R T) w
  have e3 := om_by hw
  have e4 := by_l w
  rw [cond_true] at a7
  exact ⟨a1, a2, a3, h2, a5, by omega, by rw [cond_false]; omega, by omega⟩
/-- a name in an entity's text -/
theorem po_en {w : List Int32} (h : po_p L T tS b c) (h1 : w ∉ L) (h2 : w ∈ po_R T) : po_p (L ++ [w]) T tS b c := by
  obtain ⟨a1, a2, a3, a4, a5, a6, a7, a8⟩ := h
  have e1 := po_new (f := List.length) h1 h2
  have e2 := po_new (f := om_2) h1 h2
  exact ⟨a1, a2, a3, a4, a5, by omega, by omega, a8⟩
/-- names that were read in a literal are among its runs -/
def li_B (L0 L : List (List Int32)) (lit : List Int32) : Prop := (∀ r ∈ L0, r ∈ L) ∧ su_w List.length L ≤ su_w List.length L0 + su_w List.length ((ru_c [] lit).filter fun r => decide (r ∈ L)) ∧ su_w om_2 L ≤ su_w om_2 L0 + su_w om_2 ((ru_c [] lit).filter fun r => decide (r ∈ L))
theorem ru_lg (t : List Int32) : ru_l t = ru_c [] t ++ ru_e (ru_t [] t) := ru_gc t []
/-- an entity of the text -/
theorem po_lt {L0 : List (List Int32)} {lit : List Int32} (h : po_p L0 T tS b true) (hl : li_B L0 L lit) (h1 : b + by_s lit + 1 ≤ b') (h2 : b' ≤ 6000) (h3 : tS + lit.length ≤ 8000) (h4 : T.length < 40) : po_p L (T ++ [(lit, false)]) (tS + lit.length) b' c' := by
  obtain ⟨a1, a2, a3, a4, a5, a6, a7, a8⟩ := h
  obtain ⟨l1, l2, l3⟩ := hl
  have p1 := po_lit (R := po_R T) (E := ru_e (ru_t [] lit)) l2 l1
  have p2 := po_lit (R := po_R T) (E := ru_e (ru_t [] lit)) l3 l1
  have r1 := ru_1 lit []
  have r2 := ru_b lit []
  have r3 := by_l lit
  rw [ru_gc] at r1 r2
  have hby : by_s ([] : List Int32) = 0 := rfl
  have hln : ([] : List Int32).length = 0 := rfl
  rw [cond_true] at a7
  unfold po_p
  rw [po_Ra, ru_lg, po_aa, po_na, po_ka]
  show po_a T + lit.length + (po_n T + 0) = tS + lit.length ∧ _ ∧ _ ∧ _ ∧ (∀ x ∈ T ++ [(lit, false)], x.1.length ≤ po_a T + lit.length) ∧ po_t List.length L (po_R T ++ (ru_c [] lit ++ ru_e (ru_t [] lit))) ≤ b' + (po_n T + 0) ∧ po_t om_2 L (po_R T ++ (ru_c [] lit ++ ru_e (ru_t [] lit))) + _ ≤ 2 * b' + 3 * (po_n T + 0 + (po_k T + 0)) ∧ po_a T + lit.length ≤ b'
  refine ⟨by omega, h3, by rw [List.length_append]; show T.length + 1 ≤ 40; omega, h2, fun x hx => ?_, by omega, ?_, by omega⟩
  · rcases List.mem_append.mp hx with q | q
    · have := a5 x q; omega
    · rw [List.mem_singleton.mp q]; show lit.length ≤ _; omega
  · have : (bif c' then 2 else 0) ≤ 2 := by cases c' <;> decide
    omega
/-- an entity of an entity's text -/
theorem po_ln {L0 : List (List Int32)} {lit : List Int32} (h : po_p L0 T tS b c) (hl : li_B L0 L lit) (h3 : tS + lit.length ≤ 8000) (h4 : T.length < 40) (h5 : lit.length ≤ po_a T) : po_p L (T ++ [(lit, true)]) (tS + lit.length) b c := by
  obtain ⟨a1, a2, a3, a4, a5, a6, a7, a8⟩ := h
  obtain ⟨l1, l2, l3⟩ := hl
  have p1 := po_lit (R := po_R T) (E := ru_e (ru_t [] lit)) l2 l1
  have p2 := po_lit (R := po_R T) (E := ru_e (ru_t [] lit)) l3 l1
  have r1 := ru_1 lit []
  have r2 := ru_2 lit []
  rw [if_pos rfl] at r2
  rw [ru_gc] at r1 r2
  have hln : ([] : List Int32).length = 0 := rfl
  unfold po_p
  rw [po_Ra, ru_lg, po_aa, po_na, po_ka]
  show po_a T + 0 + (po_n T + lit.length) = tS + lit.length ∧ _ ∧ _ ∧ _ ∧ (∀ x ∈ T ++ [(lit, true)], x.1.length ≤ po_a T + 0) ∧ po_t List.length L (po_R T ++ (ru_c [] lit ++ ru_e (ru_t [] lit))) ≤ b + (po_n T + lit.length) ∧ po_t om_2 L (po_R T ++ (ru_c [] lit ++ ru_e (ru_t [] lit))) + _ ≤ 2 * b + 3 * (po_n T + lit.length + (po_k T + 1)) ∧ po_a T + 0 ≤ b
  refine ⟨by omega, h3, by rw [List.length_append]; show T.length + 1 ≤ 40; omega, a4, fun x hx => ?_, by omega, by omega, by omega⟩
  rcases List.mem_append.mp hx with q | q
  · have := a5 x q; omega
  · rw [List.mem_singleton.mp q]; show lit.length ≤ _; omega
end
theorem po_Rm : ∀ {T : List (List Int32 × Bool)} {x : List Int32 × Bool} {w : List Int32}, x ∈ T → w ∈ ru_l x.1 → w ∈ po_R T
  | y :: T, x, w, hx, hw => by
    show w ∈ ru_l y.1 ++ po_R T
    rcases List.mem_cons.mp hx with q | q
    · rw [← q]; exact List.mem_append_left _ hw
    · exact List.mem_append_right _ (po_Rm q hw)
-- over memories
noncomputable def bt_c (g : am_G) (p : Nat) : Bool := decide (0 < p) && !ch_pt (am_i g 37 (p - 1))
/-- the text of an entity -/
def en_x (g : am_G) (j : Nat) : List Int32 := sl_l (am_i g 989) (am_i g 987 j).toNatClampNeg (am_i g 988 j).toNatClampNeg
def nl_L (g : am_G) (s : Nat) : List (List Int32) := (List.range s).map (mn_s g)
def po_w (gR gM : am_G) : Prop := ∃ (p b sM En tS : Nat) (T : List (List Int32 × Bool)), am_i gR 42 0 = nI p ∧ p ≤ 6000 ∧ am_i gR 38 p = nI b ∧ am_i gM 943 21 = nI sM ∧ sM ≤ 6000 ∧ am_i gM 943 95 = nI En ∧ En ≤ 40 ∧ am_i gM 943 101 = nI tS ∧ T.map Prod.fst = (List.range En).map (en_x gM) ∧ po_p (nl_L gM sM) T tS b (bt_c gR p)
/-- places and bytes -/
theorem pl_by {g : am_G} {N : Nat} (P : pl_w g N) : ∀ (k p b : Nat), p + k ≤ N → am_i g 38 p = nI b → b ≤ 6000 → ∃ b', am_i g 38 (p + k) = nI b' ∧ b + by_s (sl_l (am_i g 37) p k) ≤ b' ∧ b' ≤ 6000
  | 0, p, b, _, h, hb => ⟨b, h, by rw [sl_0]; exact Nat.le_refl _, hb⟩
  | k + 1, p, b, hp, h, hb => by
    obtain ⟨b0, e, h1, h2, h3, h4⟩ := P p (by omega)
    have hb0 : b0 ≤ 6000 := by omega
    have : b0 = b := sz_u h1 h (by omega) (by omega)
    subst this
    obtain ⟨b', c1, c2, c3⟩ := pl_by P k (p + 1) e (by omega) h2 h4
    refine ⟨b', by rw [show p + (k + 1) = p + 1 + k by omega]; exact c1, ?_, c3⟩
    rw [sl_s]
    show b0 + (u8_c (am_i g 37 p) + _) ≤ b'
    omega
theorem nl_cg {g h : am_G} {s : Nat} (e : ∀ m, m < s → mn_s h m = mn_s g m) : nl_L h s = nl_L g s := List.map_congr_left fun m hm => e m (List.mem_range.mp hm)
theorem nl_s {g : am_G} {s : Nat} : nl_L g (s + 1) = nl_L g s ++ [mn_s g s] := by
  unfold nl_L
  rw [List.range_succ, List.map_append]
  rfl
theorem nl_sum (g : am_G) : ∀ s, su_w List.length (nl_L g s) = sn_s (mn_s g) s
  | 0 => rfl
  | s + 1 => by
    rw [nl_s, su_ap, nl_sum g s]
    show _ + ((mn_s g s).length + 0) = _ + _
    rfl
theorem nl_nd {g : am_G} : ∀ {s : Nat}, (∀ i j, i < s → j < s → mn_s g i = mn_s g j → i = j) → (nl_L g s).Nodup
  | 0, _ => List.nodup_nil
  | s + 1, h => by
    rw [nl_s, List.nodup_append]
    refine ⟨nl_nd fun i j hi hj => h i j (by omega) (by omega), List.nodup_cons.mpr ⟨List.not_mem_nil, List.nodup_nil⟩, fun a ha b hb e => ?_⟩
    rw [List.mem_singleton.mp hb] at e
    obtain ⟨i, hi, rfl⟩ := List.mem_map.mp ha
    have hi := List.mem_range.mp hi
    have := h i s (by omega) (by omega) e
    omega
section
variable {gR gM gR' gM' : am_G}
/-- bounds that names have -/
theorem po_nb (W : nm_w gR gM) (P : po_w gR gM) : ∃ p b sM uM, am_i gR 42 0 = nI p ∧ p ≤ 6000 ∧ am_i gR 38 p = nI b ∧ b ≤ 6000 ∧ am_i gM 943 21 = nI sM ∧ sM < 5990 ∧ am_i gM 943 17 = nI uM ∧ uM ≤ b + 7800 ∧ (∀ sR uR, am_i gR 43 5 = nI sR → sR ≤ 7200 → am_i gR 43 6 = nI uR → uR ≤ 14540 → sR ≤ sM ∧ uR ≤ uM) ∧
    ∀ j En, am_i gM 943 95 = nI En → En ≤ 40 → j < En → uM + (en_x gM j).length ≤ 14000 ∧ (en_x gM j).length ≤ 6000 := by
  obtain ⟨p, b, sM, En, tS, T, h1, h2, h3, h4, h5, h6, h7, h8, h9, h10⟩ := P
  obtain ⟨sR, uR, sM', uM, w1, w2, w3, w4, w5, w6⟩ := W
  have : sM' = sM := sz_u w2.1 h4 (by have := w2.2.2.1; omega) (by omega)
  subst this
  have hn : (nl_L gM sM').Nodup := nl_nd w2.2.2.2.2.2.1
  have hv : ∀ w ∈ nl_L gM sM', ∀ x ∈ w, ch_pt x = true ∧ ch_ok x := fun w hw => by
    obtain ⟨m, hm, rfl⟩ := List.mem_map.mp hw
    exact (w6 m (List.mem_range.mp hm)).2
  obtain ⟨b1, b2, b3⟩ := po_bd h10 hn hv
  rw [nl_sum, ← w4] at b2 b3
  have hl : (nl_L gM sM').length = sM' := by unfold nl_L; rw [List.length_map, List.length_range]
  rw [hl] at b1
  have pg := sn_pg sR (rn_s gR) (mn_s gM) sM' w1.2.2.2.2.2.1 w5
  rw [← w3, ← w4] at pg
  refine ⟨p, b, sM', uM, h1, h2, h3, h10.2.2.2.1, h4, b1, w2.2.1, b2, fun s u e1 e2 e3 e4 => ?_, fun j E e1 e2 hj => ?_⟩
  · have z1 : s = sR := sz_u e1 w1.1 (by omega) (by have := w1.2.2.1; omega)
    have z2 : u = uR := sz_u e3 w1.2.1 (by omega) (by have := w1.2.2.2.1; omega)
    rw [z1, z2]
    exact pg
  · have z1 : E = En := sz_u e1 h6 (by omega) (by omega)
    subst z1
    have : en_x gM j ∈ T.map Prod.fst := by rw [h9]; exact List.mem_map_of_mem (List.mem_range.mpr hj)
    obtain ⟨x, hx, e⟩ := List.mem_map.mp this
    rw [← e]
    exact ⟨b3 x hx, by have := h10.2.2.2.2.1 x hx; have := h10.2.2.2.2.2.2.2; have := h10.2.2.2.1; omega⟩
/-- cells that the potential looks at in M -/
theorem po_cg {N : Nat} (P : po_w gR gM) (hpl : pl_w gR N) (h7 : ∀ k, am_i gR' 37 k = am_i gR 37 k) (h8 : ∀ k, am_i gR' 38 k = am_i gR 38 k) {p p' : Nat} (e0 : am_i gR 42 0 = nI p) (e1 : am_i gR' 42 0 = nI p') (hp : p ≤ p') (hN : p' ≤ N) (hN6 : N ≤ 6000)
    (h21 : am_i gM' 943 21 = am_i gM 943 21) (h95 : am_i gM' 943 95 = am_i gM 943 95) (h101 : am_i gM' 943 101 = am_i gM 943 101) (hs : ∀ sM, am_i gM 943 21 = nI sM → sM ≤ 6000 → ∀ m, m < sM → mn_s gM' m = mn_s gM m) (hx : ∀ En, am_i gM 943 95 = nI En → En ≤ 40 → ∀ j, j < En → en_x gM' j = en_x gM j) : po_w gR' gM' := by
  obtain ⟨q, b, sM, En, tS, T, a1, a2, a3, a4, a5, a6, a7, a8, a9, a10⟩ := P
  have : q = p := sz_u a1 e0 (by omega) (by omega)
  subst this
  obtain ⟨b', c1, c2, c3⟩ := pl_by hpl (p' - q) q b (by omega) a3 a10.2.2.2.1
  rw [show q + (p' - q) = p' by omega] at c1
  have c4 := by_l (sl_l (am_i gR 37) q (p' - q))
  rw [sl_len] at c4
  refine ⟨p', b', sM, En, tS, T, e1, by omega, (h8 p').trans c1, h21.trans a4, a5, h95.trans a6, a7, h101.trans a8, ?_, ?_⟩
  · rw [a9]
    exact (List.map_congr_left fun j hj => hx En a6 a7 j (List.mem_range.mp hj)).symm
  · rw [nl_cg (hs sM a4 a5)]
    refine po_up a10 (by omega) c3 fun h => ?_
    rcases Nat.lt_or_ge q p' with z | z
    · right; omega
    · left
      have : p' = q := by omega
      subst this
      unfold bt_c at h ⊢
      rw [h7] at h
      exact h
end
