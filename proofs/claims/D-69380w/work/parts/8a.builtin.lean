/-! Bits (rows of the starting text BITS.to-paste); names that stand for a character. -/
/-! ===== lN n to 2^64: shifts, and, or, masks, one bit ===== -/
theorem wb_tb (n : Nat) : (lN n).toBitVec = BitVec.ofNat 64 n := rfl
theorem wb_inj {a b : Int64} (h : a.toBitVec = b.toBitVec) : a = b := Int64.toBitVec_inj.mp h
theorem wb_tn {n : Nat} (h : n < 2 ^ 64) : (lN n).toBitVec.toNat = n := by rw [wb_tb, BitVec.toNat_ofNat, Nat.mod_eq_of_lt h]
theorem wb_of (x : Int64) : ∃ n, n < 2 ^ 64 ∧ x = lN n := ⟨x.toBitVec.toNat, x.toBitVec.isLt, wb_inj (by rw [wb_tb]; simp)⟩
theorem wb_of32 (x : Int32) : ∃ n, n < 2 ^ 32 ∧ x = nI n := ⟨x.toBitVec.toNat, x.toBitVec.isLt, Int32.toBitVec_inj.mp (by show _ = BitVec.ofNat 32 _; simp)⟩
theorem wb_c : ∀ k, k < 64 → ((nI k).toInt64 &&& 63) = lN k := by decide +kernel
theorem wb_cu : ∀ k, k < 64 → ((nI k).toInt64.toUInt64 &&& Int64.toUInt64 63) = UInt64.ofNat k := by decide +kernel
theorem wb_sm : ∀ k, k < 64 → (BitVec.ofNat 64 k).smod 64 = BitVec.ofNat 64 k := by decide +kernel
theorem wb_pw {a b : Nat} (h : a ≤ b) : 2 ^ b = 2 ^ a * 2 ^ (b - a) := by rw [← Nat.pow_add]; congr 1; omega
theorem wb_lt2 {a b : Nat} (h : a < b) : 2 ^ a < 2 ^ b := Nat.pow_lt_pow_right (by decide) h
theorem wb_mod (n : Nat) : lN n = lN (n % 2 ^ 64) := wb_inj (by rw [wb_tb, wb_tb]; apply BitVec.eq_of_toNat_eq; rw [BitVec.toNat_ofNat, BitVec.toNat_ofNat, Nat.mod_mod])
theorem wb_shr {n k : Nat} (hn : n < 2 ^ 64) (hk : k < 64) : ((lN n).toUInt64 >>> ((nI k).toInt64.toUInt64 &&& Int64.toUInt64 63)).toInt64 = lN (n / 2 ^ k) := by
  rw [wb_cu k hk]
  apply wb_inj
  apply BitVec.eq_of_toNat_eq
  show ((lN n).toUInt64 >>> UInt64.ofNat k).toNat = (BitVec.ofNat 64 _).toNat
  have h1 : (UInt64.ofNat k).toNat = k := by
    show (BitVec.ofNat 64 k).toNat = k
    rw [BitVec.toNat_ofNat, Nat.mod_eq_of_lt (by omega)]
  have h2 : (lN n).toUInt64.toNat = n := wb_tn hn
  rw [UInt64.toNat_shiftRight, h1, h2, Nat.mod_eq_of_lt hk, Nat.shiftRight_eq_div_pow, BitVec.toNat_ofNat, Nat.mod_eq_of_lt (Nat.lt_of_le_of_lt (Nat.div_le_self _ _) hn)]
theorem wb_shl (n : Nat) {k : Nat} (hk : k < 64) : lN n <<< ((nI k).toInt64 &&& 63) = lN (n * 2 ^ k) := by
  rw [wb_c k hk]
  apply wb_inj
  rw [Int64.toBitVec_shiftLeft, wb_tb, wb_tb, wb_tb, wb_sm k hk]
  apply BitVec.eq_of_toNat_eq
  rw [BitVec.shiftLeft_eq', BitVec.toNat_shiftLeft, BitVec.toNat_ofNat, BitVec.toNat_ofNat, BitVec.toNat_ofNat, Nat.mod_eq_of_lt (show k < 2 ^ 64 by omega), Nat.shiftLeft_eq, Nat.mul_mod, Nat.mod_mod, ← Nat.mul_mod]
theorem wb_and {a b : Nat} (ha : a < 2 ^ 64) (hb : b < 2 ^ 64) : lN a &&& lN b = lN (a &&& b) := by
  apply wb_inj
  rw [Int64.toBitVec_and, wb_tb, wb_tb, wb_tb]
  apply BitVec.eq_of_toNat_eq
  rw [BitVec.toNat_and, BitVec.toNat_ofNat, BitVec.toNat_ofNat, BitVec.toNat_ofNat, Nat.mod_eq_of_lt ha, Nat.mod_eq_of_lt hb, Nat.mod_eq_of_lt (Nat.and_lt_two_pow _ hb)]
theorem wb_or {a b : Nat} (ha : a < 2 ^ 64) (hb : b < 2 ^ 64) : lN a ||| lN b = lN (a ||| b) := by
  apply wb_inj
  rw [Int64.toBitVec_or, wb_tb, wb_tb, wb_tb]
  apply BitVec.eq_of_toNat_eq
  rw [BitVec.toNat_or, BitVec.toNat_ofNat, BitVec.toNat_ofNat, BitVec.toNat_ofNat, Nat.mod_eq_of_lt ha, Nat.mod_eq_of_lt hb, Nat.mod_eq_of_lt (Nat.or_lt_two_pow ha hb)]
theorem wb_mask {n k : Nat} (hn : n < 2 ^ 64) (hk : k < 64) : lN n &&& lN (2 ^ k - 1) = lN (n % 2 ^ k) := by
  rw [wb_and hn (by have := wb_lt2 hk; omega), Nat.and_two_pow_sub_one_eq_mod]
theorem wb_a1 {n : Nat} (hn : n < 2 ^ 64) : lN n &&& 1 = lN (n % 2) := wb_mask (k := 1) hn (by decide)
theorem wb_bit {n k : Nat} (hn : n < 2 ^ 64) (hk : k < 64) : ((lN n).toUInt64 >>> ((nI k).toInt64.toUInt64 &&& Int64.toUInt64 63)).toInt64 &&& 1 = lN (n / 2 ^ k % 2) := by
  rw [wb_shr hn hk, wb_a1 (Nat.lt_of_le_of_lt (Nat.div_le_self _ _) hn)]
theorem lg_0 {a b : Int64} : lg_cmp a b = 0 ↔ a = b := by
  constructor
  · intro h
    unfold lg_cmp at h
    by_cases h1 : a > b
    · rw [if_pos h1] at h; exact absurd h (by decide)
    · rw [if_neg h1] at h
      by_cases h2 : a = b
      · exact h2
      · rw [if_neg h2] at h; exact absurd h (by decide)
  · intro h; subst h; exact lg_eq a
/-- a character as a byte of R's letters -/
def lb_c (c : Int32) : Nat := if (128 : Int32) ≤ c then 1 else c.toNatClampNeg
def lb_n (w : List Int32) : Nat := w.foldl (fun a c => 256 * a + lb_c c) 0
theorem lb_b {c : Int32} (h : ch_ok c) : lb_c c < 128 ∧ ((128 : Int32) ≤ c ∨ c = nI (lb_c c)) := by
  obtain ⟨k, hk, rfl⟩ := h
  unfold lb_c
  by_cases q : (128 : Int32) ≤ nI k
  · rw [if_pos q]; exact ⟨by decide, Or.inl q⟩
  · rw [if_neg q, nI_clamp (by omega)]
    refine ⟨?_, Or.inr rfl⟩
    rcases Nat.lt_or_ge k 128 with z | z
    · exact z
    · exact absurd (nI_le (a := 128) z (by omega)) q
/-- what the letters say -/
def bi_R (w : List Int32) : Int32 := if w = [108, 116] then 60 else if w = [103, 116] then 62 else if w = [97, 109, 112] then 38 else if w = [97, 112, 111, 115] then 39 else if w = [113, 117, 111, 116] then 34 else -1
theorem lb_1 {c : Int32} {k : Nat} (h : ch_ok c) (hk : k < 128) (hk1 : 1 < k) : lb_c c = k ↔ c = nI k := by
  obtain ⟨b1, b2⟩ := lb_b h
  constructor
  · intro e
    rcases b2 with z | z
    · unfold lb_c at e
      rw [if_pos z] at e
      omega
    · rw [z, e]
  · intro e
    subst e
    unfold lb_c
    rw [if_neg (show ¬ (128 : Int32) ≤ nI k from nI_ge (b := 128) hk (by decide)), nI_clamp (by omega)]
theorem lb_ls {w : List Int32} (hw : ∀ x ∈ w, ch_ok x) (hl : w.length < 5) (h0 : ∀ x ∈ w, ch_pt x = true) : lb_n w < 2 ^ 32 ∧ (lb_n w = 27764 ↔ w = [108, 116]) ∧ (lb_n w = 26484 ↔ w = [103, 116]) ∧ (lb_n w = 6385008 ↔ w = [97, 109, 112]) ∧ (lb_n w = 1634758515 ↔ w = [97, 112, 111, 115]) ∧ (lb_n w = 1903521652 ↔ w = [113, 117, 111, 116]) := by
  have pos : ∀ x ∈ w, 0 < lb_c x := fun x hx => by
    rcases Nat.eq_zero_or_pos (lb_c x) with z | z
    · exfalso
      obtain ⟨b1, b2⟩ := lb_b (hw x hx)
      rcases b2 with y | y
      · unfold lb_c at z; rw [if_pos y] at z; cases z
      · rw [z] at y
        have := h0 x hx
        rw [y] at this
        have hp : ch_pt (nI 0) = false := by
          unfold ch_pt
          rw [show ch_bg (nI 0) = false from ch_f (by rw [nI_toInt (by decide)]; unfold bg_P; omega), show ch_px (nI 0) = false from ch_f (by rw [nI_toInt (by decide)]; unfold px_P; omega)]
          rfl
        rw [hp] at this
        cases this
    · exact z
  cases w with
  | nil => exact ⟨by decide, by decide, by decide, by decide, by decide, by decide⟩
  | cons a w =>
    have ha := hw a (by simp)
    have pa := pos a (by simp)
    have la := (lb_b ha).1
    cases w with
    | nil =>
      have e : lb_n [a] = 256 * 0 + lb_c a := rfl
      rw [e]
      refine ⟨by omega, ?_, ?_, ?_, ?_, ?_⟩ <;> (constructor <;> intro h <;> first | omega | cases h)
    | cons b w =>
      have hb := hw b (by simp)
      have lb := (lb_b hb).1
      cases w with
      | nil =>
        have e : lb_n [a, b] = 256 * (256 * 0 + lb_c a) + lb_c b := rfl
        rw [e]
        have k2 : ∀ x y : Nat, 1 < x → x < 128 → 1 < y → y < 128 → (256 * (256 * 0 + lb_c a) + lb_c b = 256 * x + y ↔ [a, b] = [nI x, nI y]) := fun x y x1 x2 y1 y2 => by
          rw [List.cons.injEq, List.cons.injEq, ← lb_1 ha x2 x1, ← lb_1 hb y2 y1]
          constructor
          · intro h; exact ⟨by omega, by omega, rfl⟩
          · rintro ⟨h1, h2, _⟩; omega
        refine ⟨by omega, k2 108 116 (by decide) (by decide) (by decide) (by decide), k2 103 116 (by decide) (by decide) (by decide) (by decide), ?_, ?_, ?_⟩ <;> (constructor <;> intro h <;> first | omega | cases h)
      | cons c w =>
        have hc := hw c (by simp)
        have lc := (lb_b hc).1
        cases w with
        | nil =>
          have e : lb_n [a, b, c] = 256 * (256 * (256 * 0 + lb_c a) + lb_c b) + lb_c c := rfl
          rw [e]
          have k3 : ∀ x y z : Nat, 1 < x → x < 128 → 1 < y → y < 128 → 1 < z → z < 128 → (256 * (256 * (256 * 0 + lb_c a) + lb_c b) + lb_c c = 256 * (256 * x + y) + z ↔ [a, b, c] = [nI x, nI y, nI z]) := fun x y z x1 x2 y1 y2 z1 z2 => by
            rw [List.cons.injEq, List.cons.injEq, List.cons.injEq, ← lb_1 ha x2 x1, ← lb_1 hb y2 y1, ← lb_1 hc z2 z1]
            constructor
            · intro h; exact ⟨by omega, by omega, by omega, rfl⟩
            · rintro ⟨h1, h2, h3, _⟩; omega
          refine ⟨by omega, ?_, ?_, k3 97 109 112 (by decide) (by decide) (by decide) (by decide) (by decide) (by decide), ?_, ?_⟩ <;> (constructor <;> intro h <;> first | omega | cases h)
        | cons d w =>
          have hd := hw d (by simp)
          have ld := (lb_b hd).1
          cases w with
          | nil =>
            have e : lb_n [a, b, c, d] = 256 * (256 * (256 * (256 * 0 + lb_c a) + lb_c b) + lb_c c) + lb_c d := rfl
            rw [e]
            have k4 : ∀ x y z v : Nat, 1 < x → x < 128 → 1 < y → y < 128 → 1 < z → z < 128 → 1 < v → v < 128 → (256 * (256 * (256 * (256 * 0 + lb_c a) + lb_c b) + lb_c c) + lb_c d = 256 * (256 * (256 * x + y) + z) + v ↔ [a, b, c, d] = [nI x, nI y, nI z, nI v]) := fun x y z v x1 x2 y1 y2 z1 z2 v1 v2 => by
              rw [List.cons.injEq, List.cons.injEq, List.cons.injEq, List.cons.injEq, ← lb_1 ha x2 x1, ← lb_1 hb y2 y1, ← lb_1 hc z2 z1, ← lb_1 hd v2 v1]
              constructor
              · intro h; exact ⟨by omega, by omega, by omega, by omega, rfl⟩
              · rintro ⟨h1, h2, h3, h4, _⟩; omega
            refine ⟨by omega, ?_, ?_, ?_, k4 97 112 111 115 (by decide) (by decide) (by decide) (by decide) (by decide) (by decide) (by decide) (by decide), k4 113 117 111 116 (by decide) (by decide) (by decide) (by decide) (by decide) (by decide) (by decide) (by decide)⟩ <;> (constructor <;> intro h <;> first | omega | cases h)
          | cons e w => exact absurd hl (by simp)
theorem lN_lit (a : Nat) (h : a < 2 ^ 32) (c : Int64) (k : Nat) (hk : k < 2 ^ 32) (hc : c = lN k) : lg_cmp (lN a) c = 0 ↔ a = k := by
  rw [lg_0, hc, pk_lEQ (by omega) (by omega)]
/-- R: the name in the draft -/
theorem cm_273 {g : am_G} {u : Nat} {w : List Int32} (K : rq_ok g u w) (hv : ∀ x ∈ w, ch_pt x = true ∧ ch_ok x) (hne : w ≠ []) (hw : w.length < 100000) : fm_273 g = some (bi_R w) := by
  obtain ⟨k1, k2, k3, k4⟩ := K
  have hlen : 0 < w.length := by cases w with
    | nil => exact absurd rfl hne
    | cons a l => exact Nat.succ_pos _
  unfold fm_273 fh_273_4
  by_cases q : 5 ≤ w.length
  · obtain ⟨m, hm⟩ : ∃ m, nf_F = m + 1 := ⟨nf_F - 1, by have := nf_le; omega⟩
    rw [hm]
    show fb_273_4 g _ _ _ = _
    unfold fb_273_4
    dsimp only
    rw [k3, if_neg (show ¬ nI w.length ≤ 0 from nI_nle hlen (by omega)), if_pos (show (5 : Int32) ≤ nI w.length from nI_le (a := 5) q (by omega))]
    have nw : ∀ v : List Int32, v.length < 5 → w ≠ v := fun v hv e => by rw [e] at q; omega
    unfold bi_R
    rw [if_neg (nw _ (by decide)), if_neg (nw _ (by decide)), if_neg (nw _ (by decide)), if_neg (nw _ (by decide)), if_neg (nw _ (by decide))]
    rfl
  · have hl : w.length < 5 := by omega
    have hfold : ∀ i, i ≤ w.length → lb_n (w.take i) < 256 ^ i := by
      intro i
      induction i with
      | zero => intro _; exact Nat.one_pos
      | succ i ih =>
        intro hi
        have e : w.take (i + 1) = w.take i ++ [w[i]'(by omega)] := by rw [List.take_succ_eq_append_getElem (by omega)]
        have := ih (by omega)
        have hb := (lb_b (hv (w[i]'(by omega)) (List.getElem_mem _)).2).1
        rw [e]
        unfold lb_n at this ⊢
        rw [List.foldl_append]
        show 256 * _ + lb_c _ < _
        rw [Nat.pow_succ]
        omega
    have hstep : ∀ i, (hi : i < w.length) → lb_n (w.take (i + 1)) = 256 * lb_n (w.take i) + lb_c (w[i]'hi) := fun i hi => by
      rw [List.take_succ_eq_append_getElem hi]
      unfold lb_n
      rw [List.foldl_append]
      rfl
    have key := (lo_fo (b := fun k (x : Int64 × Int32) => fb_273_4 g k x.1 x.2) (fun i (s : Int64) => (s, nI i)) (fun i _ => lN (lb_n (w.take (i + 1)))) (fun i s => s = lN (lb_n (w.take i))) w.length (fun s => fj_273_83 g s) ?_ ?_ 0 rfl (by omega))
    · have e := key.1
      have e2 := key.2
      rw [e2, List.take_length] at e
      rw [show ((0 : Int64), (0 : Int32)) = ((0 : Int64), nI 0) from rfl]
      refine Eq.trans e ?_
      obtain ⟨b0, b1, b2, b3, b4, b5⟩ := lb_ls (fun x hx => (hv x hx).2) hl (fun x hx => (hv x hx).1)
      unfold fj_273_83 bi_R
      have c1 := (lN_lit (lb_n w) b0 27764 27764 (by decide) rfl).trans b1
      have c2 := (lN_lit (lb_n w) b0 26484 26484 (by decide) rfl).trans b2
      have c3 := (lN_lit (lb_n w) b0 6385008 6385008 (by decide) rfl).trans b3
      have c4 := (lN_lit (lb_n w) b0 1634758515 1634758515 (by decide) rfl).trans b4
      have c5 := (lN_lit (lb_n w) b0 1903521652 1903521652 (by decide) rfl).trans b5
      by_cases z1 : w = [108, 116]
      · rw [if_pos (c1.mpr z1), if_pos z1]
      rw [if_neg (fun h => z1 (c1.mp h)), if_neg z1]
      by_cases z2 : w = [103, 116]
      · rw [if_pos (c2.mpr z2), if_pos z2]
      rw [if_neg (fun h => z2 (c2.mp h)), if_neg z2]
      by_cases z3 : w = [97, 109, 112]
      · rw [if_pos (c3.mpr z3), if_pos z3]
      rw [if_neg (fun h => z3 (c3.mp h)), if_neg z3]
      by_cases z4 : w = [97, 112, 111, 115]
      · rw [if_pos (c4.mpr z4), if_pos z4]
      rw [if_neg (fun h => z4 (c4.mp h)), if_neg z4]
      by_cases z5 : w = [113, 117, 111, 116]
      · rw [if_pos (c5.mpr z5), if_pos z5]
      rw [if_neg (fun h => z5 (c5.mp h)), if_neg z5]
    · intro k s _
      unfold fb_273_4
      dsimp only
      rw [k3, if_pos (nI_le (Nat.le_refl _) (by omega))]
    · intro k i s hi hs
      subst hs
      refine ⟨?_, rfl⟩
      unfold fb_273_4
      dsimp only
      have hx : am_i g 44 (u + i) = w[i]'hi := k4 i _ (by omega) (List.getElem?_eq_getElem hi)
      have hc := (hv (w[i]'hi) (List.getElem_mem _)).2
      have hb := lb_b hc
      have hf := hfold i (by omega)
      have h256 : 256 ^ i ≤ 256 ^ 4 := Nat.pow_le_pow_right (by decide) (by omega)
      have e4 : 256 ^ 4 = 4294967296 := by decide
      rw [k3, if_neg (nI_ge hi (by omega)), if_neg (show ¬ (5 : Int32) ≤ nI w.length from nI_ge (a := w.length) (b := 5) hl (by decide)), k1, nI_add, ai_nI (by omega) (by omega), lo_gt, nI_clamp (by omega), hx, nI_1]
      have sh : ∀ d, d < 128 → (lN (lb_n (w.take i)) <<< ((8 : Int32).toInt64 &&& 63)) ||| lN d = lN (256 * lb_n (w.take i) + d) := fun d hd => by
        rw [show (8 : Int32) = nI 8 from rfl, wb_shl _ (by decide), wb_or (by omega) (by omega)]
        congr 1
        have := Nat.shiftLeft_add_eq_or_of_lt (b := d) (i := 8) (by omega) (lb_n (w.take i))
        rw [Nat.shiftLeft_eq] at this
        omega
      rw [hstep i hi]
      by_cases z : (128 : Int32) ≤ w[i]'hi
      · rw [if_pos z, lo_ll]
        have e1 : lb_c (w[i]'hi) = 1 := by unfold lb_c; rw [if_pos z]
        rw [e1, show (1 : Int32).toInt64 = lN 1 from rfl, sh 1 (by decide)]
      · rw [if_neg z, lo_ll]
        have e2 := hb.2.resolve_left z
        have e3 : (w[i]'hi).toInt64 = lN (lb_c (w[i]'hi)) := by
          rw [← nI_l (n := lb_c (w[i]'hi)) (by omega)]
          exact congrArg Int32.toInt64 e2
        rw [e3, sh _ hb.1]
/-- M: whether a name is these letters -/
def ml_l (W : Int64) (sz : Nat) : List Int32 := (List.range sz).map fun k => 96 + ((W >>> ((5 * ((nI sz - 1) - nI k)).toInt64 &&& 63)) &&& 31).toInt32
theorem cm_30 {g : am_G} {m sz : Nat} {W : Int64} {w : List Int32} (hw : mn_s g m = w) (hm : ∃ a z, am_i g 952 m = nI a ∧ am_i g 953 m = nI z ∧ a + z ≤ 19000) (hm6 : m < 6000) (hsz : sz < 100) : fm_30 g (nI m) W (nI sz) = some (b2 (decide (w = ml_l W sz))) := by
  obtain ⟨a, z, e1, e2, e3⟩ := hm
  have hwl : w = sl_l (am_i g 951) a z := by rw [← hw]; unfold mn_s; rw [e1, e2, nI_clamp (by omega), nI_clamp (by omega)]
  unfold fm_30
  rw [ai_nI hm6 (by omega), lo_gt, nI_clamp (by omega), e2]
  have main : ∀ l : Bool, (l = true → z = sz) → fh_30_21 g (nI m, W, nI sz, b2 l, 0) = some (b2 (l && (List.range sz).all fun k => decide (am_i g 951 (a + k) = 96 + ((W >>> ((5 * ((nI sz - 1) - nI k)).toInt64 &&& 63)) &&& 31).toInt32))) := by
    intro l hlz
    unfold fh_30_21
    cases l with
    | false =>
      obtain ⟨f, hf⟩ : ∃ m, nf_F = m + 1 := ⟨nf_F - 1, by have := nf_le; omega⟩
      rw [hf]
      show fb_30_21 g _ _ _ _ _ _ = _
      unfold fb_30_21
      dsimp only
      rw [Bool.false_and]
      split
      · rw [b2_n]
      · rw [if_pos (show b2 false = 0 from rfl), b2_n]
    | true =>
      have hz := hlz rfl
      refine lo_all (b := fun k (x : Int32 × Int64 × Int32 × Int32 × Int32) => fb_30_21 g k x.1 x.2.1 x.2.2.1 x.2.2.2.1 x.2.2.2.2) (fun i l => (nI m, W, nI sz, b2 l, nI i)) (fun k => decide (am_i g 951 (a + k) = 96 + ((W >>> ((5 * ((nI sz - 1) - nI k)).toInt64 &&& 63)) &&& 31).toInt32)) sz (fun l => some (b2 l)) ?_ ?_ ?_ true (by omega)
      · intro K l
        unfold fb_30_21
        dsimp only
        rw [if_pos (nI_le (Nat.le_refl _) (by omega)), b2_n]
      · intro K i hi
        unfold fb_30_21
        dsimp only
        split
        · rw [b2_n]
        · rw [if_pos (show b2 false = 0 from rfl), b2_n]
      · intro K i hi
        unfold fb_30_21
        dsimp only
        rw [if_neg (nI_ge hi (by omega)), if_neg (show ¬ b2 true = 0 by decide), ai_nI hm6 (by omega), lo_gt, nI_clamp (n := m) (by omega), e1, nI_add, ai_nI (by omega) (by omega), lo_gt, nI_clamp (by omega), nI_1]
        by_cases q : am_i g 951 (a + i) = 96 + ((W >>> ((5 * ((nI sz - 1) - nI i)).toInt64 &&& 63)) &&& 31).toInt32
        · rw [if_pos q, decide_eq_true q]; rfl
        · rw [if_neg q, decide_eq_false q]; rfl
  have fin : ∀ l : Bool, (l = true ↔ z = sz) → (l && (List.range sz).all fun k => decide (am_i g 951 (a + k) = 96 + ((W >>> ((5 * ((nI sz - 1) - nI k)).toInt64 &&& 63)) &&& 31).toInt32)) = decide (w = ml_l W sz) := by
    intro l hl
    have : (l && (List.range sz).all fun k => decide (am_i g 951 (a + k) = 96 + ((W >>> ((5 * ((nI sz - 1) - nI k)).toInt64 &&& 63)) &&& 31).toInt32)) = true ↔ w = ml_l W sz := by
      rw [Bool.and_eq_true, hl, List.all_eq_true, hwl]
      have hml : ml_l W sz = sl_l (fun k => 96 + ((W >>> ((5 * ((nI sz - 1) - nI k)).toInt64 &&& 63)) &&& 31).toInt32) 0 sz := by
        unfold ml_l sl_l
        exact List.map_congr_left fun k _ => by rw [Nat.zero_add]
      rw [hml, sl_eq]
      constructor
      · rintro ⟨h1, h2⟩
        refine ⟨h1, fun i hi => ?_⟩
        rw [Nat.zero_add]
        exact of_decide_eq_true (h2 i (List.mem_range.mpr (by omega)))
      · rintro ⟨h1, h2⟩
        refine ⟨h1, fun i hi => decide_eq_true ?_⟩
        have := h2 i (by rw [h1]; exact List.mem_range.mp hi)
        rw [Nat.zero_add] at this
        exact this
    by_cases q : w = ml_l W sz
    · rw [decide_eq_true q]; exact this.mpr q
    · rw [decide_eq_false q]; exact sb_f fun z => q (this.mp z)
  by_cases q : z = sz
  · rw [if_pos (by rw [q]), show (1 : Int32) = b2 true from rfl, main true (fun _ => q), fin true ⟨fun _ => q, fun _ => rfl⟩]
  · rw [if_neg (fun e => q ((nI_eq (by omega) (by omega)).mp e)), show (fh_30_21 g (nI m, W, nI sz, 0, 0)) = fh_30_21 g (nI m, W, nI sz, b2 false, 0) from rfl, main false (fun z => (nomatch z)), fin false ⟨fun z => (nomatch z), fun z => absurd z q⟩]
def bi_M (w : List Int32) : Int32 := if bi_R w = -1 then 0 else bi_R w
theorem ml_1 : ml_l 404 2 = [108, 116] ∧ ml_l 244 2 = [103, 116] ∧ ml_l 1456 3 = [97, 109, 112] ∧ ml_l 49651 4 = [97, 112, 111, 115] ∧ ml_l 579060 4 = [113, 117, 111, 116] := by decide +kernel
theorem cm_31 {g : am_G} {m : Nat} {w : List Int32} (hw : mn_s g m = w) (hm : ∃ a z, am_i g 952 m = nI a ∧ am_i g 953 m = nI z ∧ a + z ≤ 19000) (hm6 : m < 6000) : fm_31 g (nI m) = some (bi_M w) := by
  unfold fm_31
  have e : ∀ (W : Int64) (sz : Nat), sz < 100 → fm_30 g (nI m) W (nI sz) = some (b2 (decide (w = ml_l W sz))) := fun W sz h => cm_30 hw hm hm6 h
  rw [show (2 : Int32) = nI 2 from rfl, show (3 : Int32) = nI 3 from rfl, show (4 : Int32) = nI 4 from rfl, e 404 2 (by decide), e 244 2 (by decide), e 1456 3 (by decide), e 49651 4 (by decide), e 579060 4 (by decide), ml_1.1, ml_1.2.1, ml_1.2.2.1, ml_1.2.2.2.1, ml_1.2.2.2.2]
  unfold bi_M bi_R
  by_cases z1 : w = [108, 116]
  · rw [decide_eq_true z1, lo_ps, if_neg (by decide), if_pos z1]; rfl
  rw [decide_eq_false z1, lo_ps, if_pos (by decide), if_neg z1]
  by_cases z2 : w = [103, 116]
  · rw [decide_eq_true z2, lo_ps, if_neg (by decide), if_pos z2]; rfl
  rw [decide_eq_false z2, lo_ps, if_pos (by decide), if_neg z2]
  by_cases z3 : w = [97, 109, 112]
  · rw [decide_eq_true z3, lo_ps, if_neg (by decide), if_pos z3]; rfl
  rw [decide_eq_false z3, lo_ps, if_pos (by decide), if_neg z3]
  by_cases z4 : w = [97, 112, 111, 115]
  · rw [decide_eq_true z4, lo_ps, if_neg (by decide), if_pos z4]; rfl
  rw [decide_eq_false z4, lo_ps, if_pos (by decide), if_neg z4]
  by_cases z5 : w = [113, 117, 111, 116]
  · rw [decide_eq_true z5, lo_ps, if_neg (by decide), if_pos z5]; rfl
  rw [decide_eq_false z5, lo_ps, if_pos (by decide), if_neg z5]
  rfl
theorem bi_c (w : List Int32) : bi_R w = -1 ∨ (bi_R w ≠ -1 ∧ ch_ok (bi_R w) ∧ 0 < bi_R w) := by
  unfold bi_R
  by_cases z1 : w = [108, 116]
  · rw [if_pos z1]; exact Or.inr ⟨by decide, ⟨60, by decide, rfl⟩, by decide⟩
  rw [if_neg z1]
  by_cases z2 : w = [103, 116]
  · rw [if_pos z2]; exact Or.inr ⟨by decide, ⟨62, by decide, rfl⟩, by decide⟩
  rw [if_neg z2]
  by_cases z3 : w = [97, 109, 112]
  · rw [if_pos z3]; exact Or.inr ⟨by decide, ⟨38, by decide, rfl⟩, by decide⟩
  rw [if_neg z3]
  by_cases z4 : w = [97, 112, 111, 115]
  · rw [if_pos z4]; exact Or.inr ⟨by decide, ⟨39, by decide, rfl⟩, by decide⟩
  rw [if_neg z4]
  by_cases z5 : w = [113, 117, 111, 116]
  · rw [if_pos z5]; exact Or.inr ⟨by decide, ⟨34, by decide, rfl⟩, by decide⟩
  rw [if_neg z5]
  exact Or.inl rfl
