/-! Bytes become characters: both programs alike. -/
def ub_z (b : Nat) : Nat := if b < 128 then 1 else if b < 194 then 0 else if b < 224 then 2 else if b < 240 then 3 else if b < 245 then 4 else 0
def ub_t (d : Nat) : Prop := 128 ≤ d ∧ d ≤ 191
/-- the character of z bytes at p, whatever it is -/
def ub_0 (b z : Nat) : Nat := if z = 1 then b else if z = 2 then b - 192 else if z = 3 then b - 224 else b - 240
def ub_c (B : Nat → Nat) (p z : Nat) : Nat → Nat
  | 0 => ub_0 (B p) z
  | k + 1 => 64 * ub_c B p z k + (B (p + (k + 1)) - 128)
/-- it is written rightly, and allowed -/
def ub_v (z : Nat) (c : Int32) : Prop := ch_al c = true ∧ (z = 3 → 2048 ≤ c.toInt) ∧ (z = 4 → 65536 ≤ c.toInt)
def ub_ok (B : Nat → Nat) (p n : Nat) : Prop := ub_z (B p) ≠ 0 ∧ p + ub_z (B p) ≤ n ∧ (∀ k, 0 < k → k < ub_z (B p) → ub_t (B (p + k))) ∧ ub_v (ub_z (B p)) (nI (ub_c B p (ub_z (B p)) (ub_z (B p) - 1)))
theorem ub_z4 (b : Nat) : ub_z b ≤ 4 := by
  unfold ub_z
  repeat' split
  all_goals omega
theorem cm_19 (g : am_G) {b : Nat} (h : b < 256) : fm_19 g (nI b) = some (nI (ub_z b)) := by
  unfold fm_19 ub_z
  have e : ∀ k : Nat, k < 2 ^ 31 → (nI k ≤ nI b ↔ k ≤ b) := fun k hk => nI_leI hk (by omega)
  simp only [show (128 : Int32) = nI 128 from rfl, show (194 : Int32) = nI 194 from rfl, show (224 : Int32) = nI 224 from rfl, show (240 : Int32) = nI 240 from rfl, show (245 : Int32) = nI 245 from rfl, e 128 (by decide), e 194 (by decide), e 224 (by decide), e 240 (by decide), e 245 (by decide)]
  repeat' split
  all_goals first | rfl | omega
theorem cm_159 (g : am_G) {b : Nat} (h : b < 256) : fm_159 g (nI b) = some (nI (ub_z b)) := cm_19 g h
theorem ub_cb {B : Nat → Nat} {p : Nat} (hb : ∀ k, B k < 256) {z : Nat} (hz : z = ub_z (B p)) (h0 : z ≠ 0) : ub_0 (B p) z < 128 ∧ (z ≠ 1 → ub_0 (B p) z < 32) ∧ (z = 3 → ub_0 (B p) z < 16) ∧ (z = 4 → ub_0 (B p) z < 5) ∧ (z = 2 → 2 ≤ ub_0 (B p) z) := by
  have := hb p
  unfold ub_z at hz
  unfold ub_0
  repeat' split at hz
  all_goals (subst hz; simp; omega)
/-- the bounds of the characters that come -/
theorem ub_cl {B : Nat → Nat} {p : Nat} (hb : ∀ k, B k < 256) {z : Nat} (hz : z = ub_z (B p)) (h0 : z ≠ 0) : ∀ k, k < z → (∀ i, 0 < i → i ≤ k → ub_t (B (p + i))) → ub_c B p z k < 2097152 ∧ (k = 1 → ub_c B p z k < 2048) ∧ (k = 1 → z = 2 → 128 ≤ ub_c B p z k) ∧ (k = 2 → z = 3 → ub_c B p z k < 65536) := by
  obtain ⟨a1, a2, a3, a4, a5⟩ := ub_cb hb hz h0
  have hz4 := ub_z4 (B p)
  rw [← hz] at hz4
  intro k hk ht
  have e0 : ub_c B p z 0 = ub_0 (B p) z := rfl
  match k, hk, ht with
  | 0, _, _ => exact ⟨by rw [e0]; omega, fun h => absurd h (by decide), fun h => absurd h (by decide), fun h => absurd h (by decide)⟩
  | 1, hk, ht =>
    have t1 := ht 1 (by decide) (by decide)
    unfold ub_t at t1
    have e1 : ub_c B p z 1 = 64 * ub_0 (B p) z + (B (p + 1) - 128) := rfl
    have := a2 (by omega)
    refine ⟨by rw [e1]; omega, fun _ => by rw [e1]; omega, fun _ hz2 => by rw [e1]; have := a5 hz2; omega, fun h => absurd h (by decide)⟩
  | 2, hk, ht =>
    have t1 := ht 1 (by decide) (by decide)
    have t2 := ht 2 (by decide) (by decide)
    unfold ub_t at t1 t2
    have e2 : ub_c B p z 2 = 64 * (64 * ub_0 (B p) z + (B (p + 1) - 128)) + (B (p + 2) - 128) := rfl
    have := a2 (by omega)
    refine ⟨by rw [e2]; omega, fun h => absurd h (by decide), fun h => absurd h (by decide), fun _ hz3 => by rw [e2]; have := a3 hz3; omega⟩
  | 3, hk, ht =>
    have t1 := ht 1 (by decide) (by decide)
    have t2 := ht 2 (by decide) (by decide)
    have t3 := ht 3 (by decide) (by decide)
    unfold ub_t at t1 t2 t3
    have e3 : ub_c B p z 3 = 64 * (64 * (64 * ub_0 (B p) z + (B (p + 1) - 128)) + (B (p + 2) - 128)) + (B (p + 3) - 128) := rfl
    have := a4 (by omega)
    refine ⟨by rw [e3]; omega, fun h => absurd h (by decide), fun h => absurd h (by decide), fun h => absurd h (by decide)⟩
  | k + 4, hk, _ => omega
-- R's coder
theorem rc_v (g : am_G) {c z : Nat} (hc : c < 2097152) (h1 : z = 1 → c < 128) (h2 : z = 2 → 128 ≤ c ∧ c < 2048) (h3 : z = 3 → c < 65536) (hz : 1 ≤ z ∧ z ≤ 4) :
    (lo_p (fm_157 g (nI c)) fun y1 => if y1 = 0 then some (-1, g) else lo_p (fm_158 g (nI c)) fun y3 => if y3 = nI z then some (nI c, g) else some ((-1 : Int32), g)) = if c ≤ 1114111 ∧ (c < 55296 ∨ 57344 ≤ c) ∧ (z = 3 → 2048 ≤ c) ∧ (z = 4 → 65536 ≤ c) then some (nI c, g) else some (-1, g) := by
  have e : ∀ k : Nat, k < 2 ^ 31 → (nI k ≤ nI c ↔ k ≤ c) := fun k hk => nI_leI hk (by omega)
  have f : ∀ k : Nat, k < 2 ^ 31 → (nI c < nI k ↔ c < k) := fun k hk => nI_ltI (by omega) hk
  have f2 : ∀ k : Nat, k < 2 ^ 31 → (nI k < nI c ↔ k < c) := fun k hk => nI_ltI hk (by omega)
  have q : ∀ a : Nat, a < 10 → (nI a = nI z ↔ a = z) := fun a ha => nI_eq (by omega) (by omega)
  unfold fm_157 fm_158
  simp only [show (0 : Int32) = nI 0 from rfl, show (1114111 : Int32) = nI 1114111 from rfl, show (55296 : Int32) = nI 55296 from rfl, show (57344 : Int32) = nI 57344 from rfl, show (128 : Int32) = nI 128 from rfl, show (2048 : Int32) = nI 2048 from rfl, show (65536 : Int32) = nI 65536 from rfl,
    f 0 (by decide), f2 1114111 (by decide), f 55296 (by decide), f 57344 (by decide), e 128 (by decide), e 2048 (by decide), e 65536 (by decide)]
  have b0 : ¬ nI 1 = nI 0 := by decide
  have sz : (lo_p (if 128 ≤ c then if 2048 ≤ c then if 65536 ≤ c then some (4 : Int32) else some 3 else some 2 else some 1) fun y3 => if y3 = nI z then some (nI c, g) else some ((-1 : Int32), g)) = if (z = 3 → 2048 ≤ c) ∧ (z = 4 → 65536 ≤ c) then some (nI c, g) else some (-1, g) := by
    have w : ∀ a : Nat, a < 10 → (lo_p (some (nI a)) fun y3 => if y3 = nI z then some (nI c, g) else some ((-1 : Int32), g)) = if a = z then some (nI c, g) else some (-1, g) := by
      intro a ha
      rw [lo_ps]
      by_cases y : a = z
      · rw [if_pos y, if_pos ((q a ha).mpr y)]
      · rw [if_neg y, if_neg (fun z => y ((q a ha).mp z))]
    split
    · split
      · split
        · refine (w 4 (by decide)).trans ?_
          by_cases y : 4 = z
          · rw [if_pos y, if_pos (by omega)]
          · rw [if_neg y, if_neg (by omega)]
        · refine (w 3 (by decide)).trans ?_
          by_cases y : 3 = z
          · rw [if_pos y, if_pos (by omega)]
          · rw [if_neg y, if_neg (by omega)]
      · refine (w 2 (by decide)).trans ?_
        by_cases y : 2 = z
        · rw [if_pos y, if_pos (by omega)]
        · rw [if_neg y, if_neg (by omega)]
    · refine (w 1 (by decide)).trans ?_
      by_cases y : 1 = z
      · rw [if_pos y, if_pos (by omega)]
      · rw [if_neg y, if_neg (by omega)]
  rw [if_neg (Nat.not_lt_zero c)]
  by_cases y1 : 1114111 < c
  · rw [if_pos y1, lo_ps, if_pos rfl, if_neg (by omega)]
  rw [if_neg y1]
  by_cases y2 : c < 55296
  · rw [if_pos y2, lo_ps, if_neg (by decide), sz]
    by_cases y3 : (z = 3 → 2048 ≤ c) ∧ (z = 4 → 65536 ≤ c)
    · rw [if_pos y3, if_pos ⟨by omega, by omega, y3.1, y3.2⟩]
    · rw [if_neg y3, if_neg (fun w => y3 ⟨w.2.2.1, w.2.2.2⟩)]
  rw [if_neg y2]
  by_cases y4 : c < 57344
  · rw [if_pos y4, lo_ps, if_pos rfl, if_neg (by omega)]
  rw [if_neg y4, lo_ps, if_neg (by decide), sz]
  by_cases y3 : (z = 3 → 2048 ≤ c) ∧ (z = 4 → 65536 ≤ c)
  · rw [if_pos y3, if_pos ⟨by omega, by omega, y3.1, y3.2⟩]
  · rw [if_neg y3, if_neg (fun w => y3 ⟨w.2.2.1, w.2.2.2⟩)]
/-- what R's coder asks of a character -/
def rc_ok (B : Nat → Nat) (p n : Nat) : Prop := ub_z (B p) ≠ 0 ∧ p + ub_z (B p) ≤ n ∧ (∀ k, 0 < k → k < ub_z (B p) → ub_t (B (p + k))) ∧ (ub_c B p (ub_z (B p)) (ub_z (B p) - 1) ≤ 1114111 ∧ (ub_c B p (ub_z (B p)) (ub_z (B p) - 1) < 55296 ∨ 57344 ≤ ub_c B p (ub_z (B p)) (ub_z (B p) - 1)) ∧
  (ub_z (B p) = 3 → 2048 ≤ ub_c B p (ub_z (B p)) (ub_z (B p) - 1)) ∧ (ub_z (B p) = 4 → 65536 ≤ ub_c B p (ub_z (B p)) (ub_z (B p) - 1)))
section
variable {g : am_G} {B : Nat → Nat} {n p : Nat}
theorem rc_b (hB : ∀ k, B k < 256) (hg : ∀ k, k < n → am_i g 34 k = e8_b (B k)) {k : Nat} (h : k < n) : am_i g 34 k &&& 255 = nI (B k) := by
  rw [hg k h]; exact sc_k8 _ (hB k)
theorem rc_lp (hB : ∀ k, B k < 256) (hg : ∀ k, k < n → am_i g 34 k = e8_b (B k)) (hn : n ≤ 6000) {z : Nat} (hz : z = ub_z (B p)) (h0 : z ≠ 0) (hpz : p + z ≤ n) (h36 : am_i g 36 0 = nI z) : ∀ (d k fuel : Nat), k + d = z → 0 < k → d < fuel → (∀ i, 0 < i → i < k → ub_t (B (p + i))) →
    ((∀ i, 0 < i → i < z → ub_t (B (p + i))) → lo_it (fun k (x : am_G × Int32 × Int32 × Int32) => fb_160_65 k x.1 x.2.1 x.2.2.1 x.2.2.2) fuel (g, nI p, nI (ub_c B p z (k - 1)), nI k) =
      if ub_c B p z (z - 1) ≤ 1114111 ∧ (ub_c B p z (z - 1) < 55296 ∨ 57344 ≤ ub_c B p z (z - 1)) ∧ (z = 3 → 2048 ≤ ub_c B p z (z - 1)) ∧ (z = 4 → 65536 ≤ ub_c B p z (z - 1)) then some (nI (ub_c B p z (z - 1)), g) else some (-1, g)) ∧
    (¬ (∀ i, 0 < i → i < z → ub_t (B (p + i))) → lo_it (fun k (x : am_G × Int32 × Int32 × Int32) => fb_160_65 k x.1 x.2.1 x.2.2.1 x.2.2.2) fuel (g, nI p, nI (ub_c B p z (k - 1)), nI k) = some (-1, g)) := by
  have hz4 := ub_z4 (B p)
  rw [← hz] at hz4
  intro d
  induction d with
  | zero =>
    intro k fuel hk h1 hf ht
    obtain ⟨m, rfl⟩ : ∃ m, fuel = m + 1 := ⟨fuel - 1, by omega⟩
    have hkz : k = z := by omega
    subst hkz
    refine ⟨fun _ => ?_, fun w => absurd ht w⟩
    show fb_160_65 _ _ _ _ _ = _
    unfold fb_160_65
    dsimp only
    rw [h36, if_pos (nI_le (Nat.le_refl _) (by omega))]
    obtain ⟨b1, b2, b3, b4⟩ := ub_cl hB hz h0 (k - 1) (by omega) (fun i i1 i2 => ht i i1 (by omega))
    refine rc_v g b1 (fun e => ?_) (fun e => ⟨b3 (by omega) e, b2 (by omega)⟩) (fun e => b4 (by omega) e) ⟨by omega, hz4⟩
    subst e
    exact (ub_cb hB hz h0).1
  | succ d ih =>
    intro k fuel hk h1 hf ht
    obtain ⟨m, rfl⟩ : ∃ m, fuel = m + 1 := ⟨fuel - 1, by omega⟩
    have hkz : k < z := by omega
    have hd := hB (p + k)
    have hsh : nI (B (p + k)) >>> ((6 : Int32) &&& 31) = nI (B (p + k) / 64) := pk_shrN (by omega) _ 6 (by decide)
    have body : ∀ K : (am_G × Int32 × Int32 × Int32) → Option (Int32 × am_G), fb_160_65 K g (nI p) (nI (ub_c B p z (k - 1))) (nI k) = if B (p + k) / 64 = 2 then K (g, nI p, nI (ub_c B p z k), nI (k + 1)) else some (-1, g) := by
      intro K
      unfold fb_160_65
      rw [h36, if_neg (nI_ge hkz (by omega)), nI_add, ai_nI (by omega) (by omega), lo_gt, nI_clamp (by omega), rc_b hB hg (by omega), lo_ll, hsh]
      by_cases q : B (p + k) / 64 = 2
      · rw [if_pos q, q, if_pos (show nI 2 = 2 from rfl), lo_ll, nI_1]
        have hcl := (ub_cl hB hz h0 (k - 1) (by omega) (fun i i1 i2 => ht i i1 (by omega))).1
        have e1 : nI (ub_c B p z (k - 1)) <<< ((6 : Int32) &&& 31) = nI (ub_c B p z (k - 1) * 64) := pk_shlN _ 6 (by decide) (by omega)
        have e2 : nI (B (p + k)) &&& 63 = nI (B (p + k) % 64) := pk_andN (by omega) 6 (by decide)
        have e3 : ub_c B p z k = ub_c B p z (k - 1) * 64 + B (p + k) % 64 := by
          obtain ⟨j, rfl⟩ : ∃ j, k = j + 1 := ⟨k - 1, by omega⟩
          show 64 * ub_c B p z j + (B (p + (j + 1)) - 128) = ub_c B p z j * 64 + _
          omega
        rw [e1, e2, nI_or, or_64 _ (Nat.mod_lt _ (by decide)), ← e3]
      · rw [if_neg q, if_neg (show ¬ nI (B (p + k) / 64) = 2 from fun e => q ((nI_eq (b := 2) (by omega) (by decide)).mp e))]
    have unf : lo_it (fun k (x : am_G × Int32 × Int32 × Int32) => fb_160_65 k x.1 x.2.1 x.2.2.1 x.2.2.2) (m + 1) (g, nI p, nI (ub_c B p z (k - 1)), nI k) = fb_160_65 (lo_it (fun k (x : am_G × Int32 × Int32 × Int32) => fb_160_65 k x.1 x.2.1 x.2.2.1 x.2.2.2) m) g (nI p) (nI (ub_c B p z (k - 1))) (nI k) := rfl
    rw [unf, body]
    by_cases q : B (p + k) / 64 = 2
    · rw [if_pos q]
      have := ih (k + 1) m (by omega) (by omega) (by omega) (fun i i1 i2 => by
        by_cases y : i = k
        · rw [y]; unfold ub_t; omega
        · exact ht i i1 (by omega))
      exact this
    · rw [if_neg q]
      refine ⟨fun w => ?_, fun _ => rfl⟩
      have := w k h1 hkz
      unfold ub_t at this
      omega
/-- R's coder reads -/
theorem cm_160 (hB : ∀ k, B k < 256) (hg : ∀ k, k < n → am_i g 34 k = e8_b (B k)) (hn : n ≤ 6000) (hp : p < n) : (rc_ok B p n → fm_160 g (nI p) (nI n) = some (nI (ub_c B p (ub_z (B p)) (ub_z (B p) - 1)), am_si g 36 0 (nI (ub_z (B p))))) ∧
    (¬ rc_ok B p n → fm_160 g (nI p) (nI n) = some (-1, am_si g 36 0 (nI (ub_z (B p))))) := by
  generalize hz : ub_z (B p) = z
  have hz4 := ub_z4 (B p)
  have hb := hB p
  unfold fm_160
  rw [ai_nI (by omega) (by omega), lo_gt, nI_clamp (by omega), rc_b hB hg hp, lo_ll, cm_159 g (hB p), lo_ps, hz]
  by_cases q0 : z = 0
  · subst q0
    rw [if_pos (show nI 0 = 0 from rfl)]
    exact ⟨fun w => absurd hz w.1, fun _ => rfl⟩
  rw [if_neg (nI_ne0 (by omega) (by omega)), nI_add]
  by_cases q1 : p + z ≤ n
  · rw [if_pos (nI_le q1 (by omega))]
    have hg' : ∀ k, k < n → am_i (am_si g 36 0 (nI z)) 34 k = e8_b (B k) := fun k hk => by rw [gi_si, if_neg (by omega)]; exact hg k hk
    have L := rc_lp (g := am_si g 36 0 (nI z)) hB hg' hn hz.symm q0 q1 rfl (z - 1) 1 nf_F (by omega) (by decide) (by have := nf_le; omega) (fun i i1 i2 => absurd i2 (by omega))
    have e0 : (if nI z = 1 then fh_160_65 (am_si g 36 0 (nI z), nI p, nI (B p), 1) else lo_l (nI (B p) &&& (127 >>> (nI z &&& 31))) fun x5 => fh_160_65 (am_si g 36 0 (nI z), nI p, x5, 1)) = fh_160_65 (am_si g 36 0 (nI z), nI p, nI (ub_c B p z (1 - 1)), nI 1) := by
      show _ = fh_160_65 (am_si g 36 0 (nI z), nI p, nI (ub_0 (B p) z), nI 1)
      have : z = 1 ∨ z = 2 ∨ z = 3 ∨ z = 4 := by omega
      unfold ub_z at hz
      rcases this with rfl | rfl | rfl | rfl
      · rw [if_pos (show nI 1 = 1 from rfl)]; rfl
      · rw [if_neg (by decide), lo_ll, show (127 : Int32) >>> (nI 2 &&& 31) = 31 from by decide, pk_andN (by omega) 5 (by decide)]
        have : B p % 2 ^ 5 = ub_0 (B p) 2 := by
          unfold ub_0
          simp
          repeat' split at hz
          all_goals omega
        rw [this]
        rfl
      · rw [if_neg (by decide), lo_ll, show (127 : Int32) >>> (nI 3 &&& 31) = 15 from by decide, pk_andN (by omega) 4 (by decide)]
        have : B p % 2 ^ 4 = ub_0 (B p) 3 := by
          unfold ub_0
          simp
          repeat' split at hz
          all_goals omega
        rw [this]
        rfl
      · rw [if_neg (by decide), lo_ll, show (127 : Int32) >>> (nI 4 &&& 31) = 7 from by decide, pk_andN (by omega) 3 (by decide)]
        have : B p % 2 ^ 3 = ub_0 (B p) 4 := by
          unfold ub_0
          simp
          repeat' split at hz
          all_goals omega
        rw [this]
        rfl
    rw [e0]
    by_cases t : ∀ i, 0 < i → i < z → ub_t (B (p + i))
    · have L1 := L.1 t
      refine ⟨fun w => ?_, fun w => ?_⟩
      · refine L1.trans ?_
        have w4 := w.2.2.2
        rw [hz] at w4
        rw [if_pos w4]
      · refine L1.trans ?_
        rw [if_neg]
        intro y
        refine w ⟨by rw [hz]; exact q0, by rw [hz]; exact q1, by rw [hz]; exact t, ?_⟩
        rw [hz]
        exact y
    · have L2 := L.2 t
      exact ⟨fun w => absurd (by have := w.2.2.1; rw [hz] at this; exact this) t, fun _ => L2⟩
  · rw [if_neg (nI_ge (by omega) (by omega))]
    exact ⟨fun w => absurd (by have := w.2.1; rw [hz] at this; exact this) q1, fun _ => rfl⟩
end
