/-! Fetch: the next seven bytes of the events. -/
theorem e8_l8 : ((List.range 256).all fun b => decide ((e8_b b).toInt64 &&& 255 = (nI b).toInt64)) = true := by decide +kernel
theorem e8_l {b : Nat} (h : b < 256) : (e8_b b).toInt64 &&& 255 = (nI b).toInt64 := of_decide_eq_true (List.all_eq_true.mp e8_l8 b (List.mem_range.mpr h))
/-- a byte comes to what is fetched -/
def ta_f (bs : List Nat) (i : Nat) (s : Int64) : Int64 := s ||| ((nI (bs.getD i 0)).toInt64 <<< ((48 - (8 * nI i)).toInt64 &&& 63))
def ta_S (o k : Nat) : Bool := Nat.beq o 873 || (Nat.beq o 872 && (Nat.beq k 2 || (Nat.beq k 3 || (Nat.beq k 4 || Nat.beq k 6))))
theorem gd_at {bs : List Nat} {i : Nat} (h : i < bs.length) : bs[i]? = some (bs.getD i 0) := by
  rw [List.getD_eq_getElem?_getD, List.getElem?_eq_getElem h]
  rfl
/-- the rest moves to the front -/
theorem ta_m {g : am_G} {bs : List Nat} {m : Nat} (u : Int64) (h : re_ok g bs) (hl : bs.length ≤ 30000) (hm : m ≤ bs.length) (hb : ∀ b ∈ bs, b < 256) : ∃ g', fh_198_84 (g, nI m, u, nI m) = some (if m = 0 then 0 else u, g') ∧ re_ok g' (bs.drop m) ∧ am_i g' 872 3 = am_i g 872 3 - nI m ∧ fx_i ta_S g g' := by
  have := lo_fo (b := fun k (x : am_G × Int32 × Int64 × Int32) => fb_198_84 k x.1 x.2.1 x.2.2.1 x.2.2.2) (fun i (s : am_G) => (s, nI m, u, nI (m + i))) (fun i s => am_si s 873 i (am_i s 873 (m + i)).toInt8.toInt32)
    (fun i s => fx_i ta_S g s ∧ am_i s 872 2 = am_i g 872 2 ∧ am_i s 872 3 = am_i g 872 3 ∧ am_i s 872 4 = am_i g 872 4 ∧ (∀ k, k < i → am_i s 873 k = am_i g 873 (m + k)) ∧ ∀ k, i ≤ k → am_i s 873 k = am_i g 873 k) (bs.length - m)
    (fun s => some (if m = 0 then 0 else u, am_si (am_si (am_si s 872 2 (am_i s 872 2 - nI m)) 872 3 (am_i s 872 3 - nI m)) 872 4 (am_i s 872 4 + nI m))) ?_ ?_ g ⟨fx_re, rfl, rfl, rfl, fun k hk => absurd hk (Nat.not_lt_zero _), fun _ _ => rfl⟩ (by omega)
  · obtain ⟨e, i1, i2, i3, i4, i5, i6⟩ := this
    refine ⟨_, e, ⟨?_, fun i b q => ?_⟩, ?_, fx_tr i1 (fx_tr (fx_tr (fx_si rfl) (fx_si rfl)) (fx_si rfl))⟩
    · rw [gi_si, if_neg (by omega), gi_si, if_neg (by omega), gi_si, if_pos ⟨rfl, rfl⟩, i2, h.1, pk_sub hm, List.length_drop]
    · rw [List.getElem?_drop] at q
      have hi : i < bs.length - m := by have := (List.getElem?_eq_some_iff.mp q).1; omega
      rw [gi_si, if_neg (by omega), gi_si, if_neg (by omega), gi_si, if_neg (by omega), i5 i hi]
      exact h.2 _ _ q
    · rw [gi_si, if_neg (by omega), gi_si, if_pos ⟨rfl, rfl⟩, i3]
  · intro K s ⟨_, i2, i3, i4, _⟩
    unfold fb_198_84
    dsimp only
    rw [i2, h.1, show m + (bs.length - m) = bs.length by omega, if_pos (nI_le (Nat.le_refl _) (by omega))]
    by_cases q : m = 0
    · subst q
      rw [if_pos (show nI 0 = 0 from rfl), if_pos rfl]
    · rw [if_neg (nI_ne0 (by omega) (by omega)), if_neg q]
  · intro K i s hi ⟨i1, i2, i3, i4, i5, i6⟩
    refine ⟨?_, fx_tr i1 (fx_si rfl), by rw [gi_si, if_neg (by omega)]; exact i2, by rw [gi_si, if_neg (by omega)]; exact i3, by rw [gi_si, if_neg (by omega)]; exact i4, fun k hk => ?_, fun k hk => ?_⟩
    · unfold fb_198_84
      dsimp only
      rw [i2, h.1, if_neg (nI_ge (by omega) (by omega)), ai_nI (by omega) (by omega), lo_gt, pk_sub (by omega), show m + i - m = i by omega, ai_nI (by omega) (by omega), lo_gt, nI_clamp (by omega), nI_clamp (by omega), nI_1]
      rfl
    · rw [gi_si]
      by_cases q : k = i
      · rw [q, if_pos ⟨rfl, rfl⟩, i6 _ (by omega), h.2 (m + i) _ (gd_at (by omega))]
        exact e8_e _
      · rw [if_neg (by omega)]; exact i5 k (by omega)
    · rw [gi_si, if_neg (by omega)]; exact i6 k (by omega)
/-- R's take -/
theorem cm_198 {g : am_G} {bs : List Nat} (h : re_ok g bs) (hf : am_i g 872 3 = nI bs.length) (hl : bs.length ≤ 30000) (hb : ∀ b ∈ bs, b < 256) :
    ∃ g', fm_198 g = some (if min 7 bs.length = 0 then 0 else fo_n (ta_f bs) (min 7 bs.length) ((nI (min 7 bs.length)).toInt64 <<< ((56 : Int32).toInt64 &&& 63)), g') ∧ re_ok g' (bs.drop (min 7 bs.length)) ∧ am_i g' 872 3 = nI (bs.length - min 7 bs.length) ∧ fx_i ta_S g g' := by
  generalize hm : min 7 bs.length = m
  have hm7 : m ≤ 7 ∧ m ≤ bs.length := by omega
  unfold fm_198
  have e0 : fm_334 g 7 (am_i g 872 3) = some (nI m) := by
    unfold fm_334
    rw [hf, show (7 : Int32) = nI 7 from rfl]
    by_cases q : bs.length < 7
    · rw [if_pos (nI_lt q (by decide)), show m = bs.length by omega]
    · rw [if_neg (nI_nlt (by omega) (by omega)), show m = 7 by omega]
  rw [e0, lo_ps, lo_ll]
  unfold fh_198_19
  have step : ∀ s : Int64, ∃ g', (if nI m ≤ 0 then fh_198_84 (g, nI m, s, nI m) else lo_g (ai_in (nI m - 1) 30000) (if am_i g 873 (nI m - 1).toNatClampNeg = 10 then fj_198_78 g (nI m) s 1 else fj_198_78 g (nI m) s 0)) = some (if m = 0 then 0 else s, g') ∧
      re_ok g' (bs.drop m) ∧ am_i g' 872 3 = nI (bs.length - m) ∧ fx_i ta_S g g' := by
    intro s
    by_cases q : m = 0
    · subst q
      obtain ⟨g', a1, a2, a3, a4⟩ := ta_m (m := 0) s h hl (Nat.zero_le _) hb
      refine ⟨g', ?_, a2, ?_, a4⟩
      · rw [if_pos (show nI 0 ≤ 0 by decide)]; exact a1
      · rw [a3, hf, pk_sub (Nat.zero_le _)]
    · have key : ∀ t : Int32, (t = 0 ∨ t = 1) → ∃ g', fj_198_78 g (nI m) s t = some (if m = 0 then 0 else s, g') ∧ re_ok g' (bs.drop m) ∧ am_i g' 872 3 = nI (bs.length - m) ∧ fx_i ta_S g g' := by
        intro t ht
        unfold fj_198_78
        rw [show (decide (t = 0) || decide (t = 1)) = true by rcases ht with rfl | rfl <;> rfl, lo_gt]
        obtain ⟨g', a1, a2, a3, a4⟩ := ta_m (m := m) (g := am_si g 872 6 t) s (re_cg h rfl (fun _ => rfl)) hl hm7.2 hb
        refine ⟨g', a1, a2, ?_, fx_tr (fx_si rfl) a4⟩
        rw [a3, show am_i (am_si g 872 6 t) 872 3 = am_i g 872 3 from rfl, hf, pk_sub hm7.2]
      rw [if_neg (nI_nle (by omega) (by omega)), nI_s1 (by omega), ai_nI (by omega) (by omega), lo_gt]
      split
      · have z := key 1 (Or.inr rfl)
        rw [if_neg q] at z
        exact z
      · have z := key 0 (Or.inl rfl)
        rw [if_neg q] at z
        exact z
  obtain ⟨g', s1, s2, s3, s4⟩ := step (fo_n (ta_f bs) m ((nI m).toInt64 <<< ((56 : Int32).toInt64 &&& 63)))
  refine ⟨g', ?_, s2, s3, s4⟩
  have := (lo_fo (b := fun k (x : am_G × Int32 × Int64 × Int32) => fb_198_19 k x.1 x.2.1 x.2.2.1 x.2.2.2) (fun i (s : Int64) => (g, nI m, s, nI i)) (ta_f bs) (fun _ _ => True) m
    (fun s => if nI m ≤ 0 then fh_198_84 (g, nI m, s, nI m) else lo_g (ai_in (nI m - 1) 30000) (if am_i g 873 (nI m - 1).toNatClampNeg = 10 then fj_198_78 g (nI m) s 1 else fj_198_78 g (nI m) s 0)) ?_ ?_ ((nI m).toInt64 <<< ((56 : Int32).toInt64 &&& 63)) trivial (by omega)).1
  · exact this.trans s1
  · intro K s _
    unfold fb_198_19
    dsimp only
    rw [if_pos (nI_le (Nat.le_refl _) (by omega))]
  · intro K i s hi _
    refine ⟨?_, trivial⟩
    unfold fb_198_19
    dsimp only
    have hib : bs.getD i 0 < 256 := hb _ (List.mem_of_getElem? (gd_at (by omega)))
    rw [if_neg (nI_ge hi (by omega)), ai_nI (by omega) (by omega), lo_gt, lo_ll, nI_clamp (by omega), h.2 i _ (gd_at (by omega)), e8_l hib, nI_1]
    rfl
/-- M's fetch -/
theorem cm_143 {g : am_G} {bs : List Nat} {t : Nat} (h9 : am_i g 943 139 = nI t) (h8 : am_i g 943 138 = nI (t + bs.length)) (hl : t + bs.length ≤ 30000) (hb : ∀ i b, bs[i]? = some b → (t + i < 15000 → am_i g 1006 (t + i) = nI b) ∧ (15000 ≤ t + i → am_i g 1007 (t + i - 15000) = nI b)) :
    fm_143 g = some (if min 7 bs.length = 0 then 0 else fo_n (ta_f bs) (min 7 bs.length) ((nI (min 7 bs.length)).toInt64 <<< ((56 : Int32).toInt64 &&& 63)), if min 7 bs.length = 0 then g else am_si g 943 139 (nI (t + min 7 bs.length))) := by
  generalize hm : min 7 bs.length = m
  have hm7 : m ≤ 7 ∧ m ≤ bs.length := by omega
  have e0 : fm_143 g = fj_143_28 g (nI m) := by
    unfold fm_143
    rw [h8, h9, pk_sub (by omega), show t + bs.length - t = bs.length by omega, show (7 : Int32) = nI 7 from rfl]
    by_cases q : bs.length < 7
    · rw [if_neg (nI_ge q (by decide)), show m = bs.length by omega]
    · rw [if_pos (nI_le (by omega) (by omega)), show m = 7 by omega]
  rw [e0]
  unfold fj_143_28
  by_cases q : m = 0
  · subst q
    rw [if_pos (show nI 0 = 0 from rfl), if_pos rfl, if_pos rfl]
  rw [if_neg (nI_ne0 (by omega) (by omega)), if_neg q, if_neg q, lo_ll]
  unfold fh_143_44
  refine (lo_fo (b := fun k (x : am_G × Int32 × Int64 × Int32) => fb_143_44 k x.1 x.2.1 x.2.2.1 x.2.2.2) (fun i (s : Int64) => (g, nI m, s, nI i)) (ta_f bs) (fun _ _ => True) m (fun s => some (s, am_si g 943 139 (nI (t + m)))) ?_ ?_ ((nI m).toInt64 <<< ((56 : Int32).toInt64 &&& 63)) trivial (by omega)).1
  · intro K s _
    unfold fb_143_44
    dsimp only
    rw [if_pos (nI_le (Nat.le_refl _) (by omega)), h9, nI_add]
  · intro K i s hi _
    refine ⟨?_, trivial⟩
    unfold fb_143_44 fj_143_90
    dsimp only
    have hq := hb i _ (gd_at (show i < bs.length by omega))
    rw [if_neg (nI_ge hi (by omega)), h9, nI_add, lo_ll, show (15000 : Int32) = nI 15000 from rfl]
    by_cases w : 15000 ≤ t + i
    · rw [if_pos (nI_le w (by omega)), pk_sub w, ai_nI (by omega) (by omega), lo_gt, lo_ll, nI_clamp (by omega), hq.2 w, nI_1]
      rfl
    · rw [if_neg (nI_ge (by omega) (by decide)), ai_nI (by omega) (by omega), lo_gt, lo_ll, nI_clamp (by omega), hq.1 (by omega), nI_1]
      rfl
def tm_S (o k : Nat) : Bool := ta_S o k || (Nat.beq o 943 && Nat.beq k 139)
/-- both fetch -/
theorem iv_fetch {xs : Nat → Int32} {j : Nat} {g : am_G} (K : iv_ok xs j g) : ∃ r g1 g2, fm_10 g = some (r, g1) ∧ (∀ k, am_i g1 0 k = xs k) ∧ fm_143 g1 = some (r, g2) ∧ iv_ok xs j g2 := by
  obtain ⟨k1, k2, ⟨f, b1, b2, b3, b4⟩, k4, k5, k6, k7, ⟨bs, l1, l2, l3, l4, t, l5, l6, l7, l8⟩, k9, k10, k11, k12⟩ := K
  obtain ⟨g1, a1, a2, a3, a4⟩ := cm_198 l1 l2 l3 l4
  have c : ∀ o k, ta_S o k = false → am_i g1 o k = am_i g o k := fun o k q => (a4.1 o k q).1
  have m9 : am_i g1 943 139 = nI t := (c 943 139 rfl).trans l5
  have m8 : am_i g1 943 138 = nI (t + bs.length) := (c 943 138 rfl).trans l6
  have e2 := cm_143 (bs := bs) m9 m8 l7 (fun i b q => ⟨fun y => (c 1006 _ rfl).trans ((l8 i b q).1 y), fun y => (c 1007 _ rfl).trans ((l8 i b q).2 y)⟩)
  have e1 : fm_10 g = fm_198 g := by unfold fm_10; rw [a1, lo_is]
  refine ⟨_, g1, _, e1.trans a1, fun k => (c 0 k rfl).trans (k2 k), e2, ?_⟩
  generalize hm : min 7 bs.length = m at a2 a3 ⊢
  have hm7 : m ≤ 7 ∧ m ≤ bs.length := by omega
  have hg2 : ∃ g2, (if m = 0 then g1 else am_si g1 943 139 (nI (t + m))) = g2 ∧ am_i g2 943 139 = nI (t + m) ∧ (∀ o k, (o = 943 ∧ k = 139 → False) → am_i g2 o k = am_i g1 o k) ∧ g2.2 = g1.2 := by
    by_cases q : m = 0
    · rw [if_pos q]; exact ⟨g1, rfl, by rw [q]; exact m9, fun _ _ _ => rfl, rfl⟩
    · rw [if_neg q]; exact ⟨_, rfl, by rw [gi_si, if_pos ⟨rfl, rfl⟩], fun o k z => by rw [gi_si, if_neg z], rfl⟩
  obtain ⟨g2, hg, h139, hoth, hz⟩ := hg2
  rw [hg]
  have d : ∀ o k, tm_S o k = false → am_i g2 o k = am_i g o k := fun o k q => by
    have q1 : ta_S o k = false := by
      cases z : ta_S o k with
      | false => rfl
      | true => unfold tm_S at q; rw [z] at q; cases q
    rw [hoth o k (fun z => by rw [z.1, z.2] at q; cases q)]
    exact c o k q1
  have lo : ∀ o k, o < 32 → am_i g2 o k = am_i g o k := fun o k ho => d o k (by
    unfold tm_S ta_S
    rw [beq_f (show o ≠ 873 by omega), beq_f (show o ≠ 872 by omega), beq_f (show o ≠ 943 by omega)]
    rfl)
  have zz : am_sz g2 = am_sz g ∧ am_us g2 = am_us g := by
    have : g2.2.2.2 = g.2.2.2 := (congrArg (fun x => x.2.2) hz).trans a4.2.1
    exact ⟨congrArg (fun x => x.1) this, congrArg (fun x => x.2) this⟩
  refine ⟨gs_lo k1 lo, fun k => (lo 0 k (by decide)).trans (k2 k), ⟨f, (d 32 1 rfl).trans b1, (d 943 1 rfl).trans b2, b3, fun k hk => ?_⟩, ?_, ?_, ?_, ?_, ⟨bs.drop m, ?_, ?_, ?_, fun b hb => l4 b (List.mem_of_mem_drop hb), t + m, h139, ?_, ?_, fun i b q => ?_⟩, ?_, by rw [zz.1]; exact k10, by rw [zz.1]; exact k11, by rw [zz.2]; exact k12⟩
  · rw [d 34 k rfl, d 944 k rfl]; exact b4 k hk
  · rw [d 943 142 rfl, d 33 11 rfl]; exact k4
  · rw [d 943 143 rfl, d 33 12 rfl]; exact k5
  · rw [d 943 144 rfl, d 33 13 rfl]; exact k6
  · rw [d 943 145 rfl, d 33 14 rfl]; exact k7
  · exact re_cg a2 (hoth 872 2 (by omega)) (fun k => hoth 873 k (by omega))
  · rw [hoth 872 3 (by omega), a3, List.length_drop]
  · rw [List.length_drop]; omega
  · rw [d 943 138 rfl, l6, List.length_drop]
    congr 1
    omega
  · rw [List.length_drop]; omega
  · rw [List.getElem?_drop] at q
    have := l8 (m + i) b q
    rw [d 1006 _ rfl, d 1007 _ rfl, Nat.add_assoc]
    exact this
  · unfold cn_ok at k9 ⊢
    rw [d 943 146 rfl, d 39 6 rfl, d 49 5 rfl, d 855 5 rfl, d 861 5 rfl, d 49 6 rfl, d 33 15 rfl, d 943 14 rfl, d 943 49 rfl, d 943 95 rfl, d 943 77 rfl, d 943 112 rfl]
    exact k9
