/-! Events: bytes that R lays into its lines, and bytes that M tells. -/
theorem nI_or (a b : Nat) : nI a ||| nI b = nI (a ||| b) := by
  rw [← Int32.toBitVec_inj]
  show BitVec.ofNat 32 a ||| BitVec.ofNat 32 b = BitVec.ofNat 32 (a ||| b)
  exact (BitVec.ofNat_or).symm
/-- R's places in its texts only grow, where S does not say otherwise: (39, 101) for the text, (39, 100) for entities -/
def fx_m (S : Nat → Nat → Bool) (g g' : am_G) : Prop := ∀ d, S 39 (if d = 0 then 101 else 100) = false → am_i g 42 d ≤ am_i g' 42 d
/-- frames: what a part of memory changes; nothing is made -/
def fx_i (S : Nat → Nat → Bool) (g g' : am_G) : Prop := (∀ o k, S o k = false → am_i g' o k = am_i g o k ∧ am_j g' o k = am_j g o k ∧ am_r g' o k = am_r g o k) ∧ g'.2.2.2 = g.2.2.2 ∧ fx_m S g g'
theorem fx_re {S : Nat → Nat → Bool} {g : am_G} : fx_i S g g := ⟨fun _ _ _ => ⟨rfl, rfl, rfl⟩, rfl, fun _ _ => Int32.le_refl _⟩
theorem fx_tr {S : Nat → Nat → Bool} {g h k : am_G} (a : fx_i S g h) (b : fx_i S h k) : fx_i S g k :=
  ⟨fun o j q => ⟨(b.1 o j q).1.trans (a.1 o j q).1, (b.1 o j q).2.1.trans (a.1 o j q).2.1, (b.1 o j q).2.2.trans (a.1 o j q).2.2⟩, b.2.1.trans a.2.1, fun d q => Int32.le_trans (a.2.2 d q) (b.2.2 d q)⟩
theorem fx_wk {S T : Nat → Nat → Bool} {g h : am_G} (a : fx_i S g h) (w : ∀ o k, T o k = false → S o k = false) : fx_i T g h := ⟨fun o j q => a.1 o j (w o j q), a.2.1, fun d q => a.2.2 d (w _ _ q)⟩
theorem fx_s0 {S : Nat → Nat → Bool} {g : am_G} {a k : Nat} {x : Int32} (h : S a k = true) (m : fx_m S g (am_si g a k x)) : fx_i S g (am_si g a k x) := by
  refine ⟨fun o j q => ⟨?_, rfl, rfl⟩, rfl, m⟩
  rw [gi_si]
  by_cases z : o = a ∧ j = k
  · rw [z.1, z.2, h] at q; cases q
  · rw [if_neg z]
theorem fx_si {S : Nat → Nat → Bool} {g : am_G} {a k : Nat} {x : Int32} (h : S a k = true) (hm : Nat.beq a 42 = false := by rfl) : fx_i S g (am_si g a k x) := fx_s0 h fun d _ => by
  rw [gi_si, if_neg (fun z => by rw [← z.1] at hm; cases hm)]
  exact Int32.le_refl _
theorem fx_sx {S : Nat → Nat → Bool} {g : am_G} {a k : Nat} {x : Int32} (h : S a k = true) (m0 : S 39 100 = true) (m1 : S 39 101 = true) : fx_i S g (am_si g a k x) := fx_s0 h fun d q => by
  by_cases z : d = 0
  · rw [if_pos z, m1] at q; cases q
  · rw [if_neg z, m0] at q; cases q
theorem fx_sj {S : Nat → Nat → Bool} {g : am_G} {a k : Nat} {x : Int64} (h : S a k = true) : fx_i S g (am_sj g a k x) := by
  refine ⟨fun o j q => ⟨rfl, ?_, rfl⟩, rfl, fun _ _ => Int32.le_refl _⟩
  rw [gj_sj]
  by_cases z : o = a ∧ j = k
  · rw [z.1, z.2, h] at q; cases q
  · rw [if_neg z]
theorem fx_sr {S : Nat → Nat → Bool} {g : am_G} {a k : Nat} {x : Option Nat} (h : S a k = true) : fx_i S g (am_sr g a k x) := by
  refine ⟨fun o j q => ⟨rfl, rfl, ?_⟩, rfl, fun _ _ => Int32.le_refl _⟩
  rw [gr_sr]
  by_cases z : o = a ∧ j = k
  · rw [z.1, z.2, h] at q; cases q
  · rw [if_neg z]
/-- the bytes of a character in an event -/
def ev_e (c : Nat) : List Nat := if c = 92 then [92, 92] else if c = 10 then [92, 110] else if c = 9 then [92, 116] else if c = 13 then [92, 114] else if c < 128 then [c] else if c < 2048 then [192 + c / 64, 128 + c % 64] else
  if c < 65536 then [224 + c / 4096, 128 + c / 64 % 64, 128 + c % 64] else [240 + c / 262144, 128 + c / 4096 % 64, 128 + c / 64 % 64, 128 + c % 64]
def e8_b (b : Nat) : Int32 := (nI b).toInt8.toInt32
theorem e8_e (z : Int32) : z.toInt8.toInt32.toInt8.toInt32 = z.toInt8.toInt32 := (vp_nar_byte _).symm.trans (pk_vb z)
-- R's lines
def re_ok (g : am_G) (bs : List Nat) : Prop := am_i g 872 2 = nI bs.length ∧ ∀ i b, bs[i]? = some b → am_i g 873 i = e8_b b
def re_a (g : am_G) (n b : Nat) : am_G := am_si (am_si g 873 n (e8_b b)) 872 2 (nI (n + 1))
def re_as : am_G → Nat → List Nat → am_G
  | g, _, [] => g
  | g, n, b :: l => re_as (re_a g n b) (n + 1) l
def re_S (o k : Nat) : Bool := Nat.beq o 873 || (Nat.beq o 872 && Nat.beq k 2)
theorem re_fx : ∀ (l : List Nat) (g : am_G) (n : Nat), fx_i re_S g (re_as g n l)
  | [], _, _ => fx_re
  | b :: l, g, n => fx_tr (fx_tr (fx_si rfl) (fx_si rfl)) (re_fx l (re_a g n b) (n + 1))
theorem re_put {g : am_G} {bs : List Nat} (h : re_ok g bs) (b : Nat) (hl : bs.length < 30000) : fm_191 g (nI b) = some (re_a g bs.length b) := by
  unfold fm_191
  rw [h.1, ai_nI hl (by omega), lo_gt, nI_clamp (by omega), e8_e, nI_1]
  rfl
theorem re_a1 {g : am_G} {bs : List Nat} (h : re_ok g bs) (b : Nat) : re_ok (re_a g bs.length b) (bs ++ [b]) := by
  refine ⟨?_, fun i c q => ?_⟩
  · unfold re_a; rw [gi_si, if_pos ⟨rfl, rfl⟩, List.length_append]; rfl
  · unfold re_a
    rw [gi_si, if_neg (by omega), gi_si]
    by_cases z : i = bs.length
    · rw [if_pos ⟨rfl, z⟩]
      rw [z, List.getElem?_append_right (Nat.le_refl _), Nat.sub_self] at q
      cases q
      rfl
    · rw [if_neg (fun y => z y.2)]
      have hi : i < bs.length := by
        have := (List.getElem?_eq_some_iff.mp q).1
        rw [List.length_append] at this
        have : i < bs.length + 1 := this
        omega
      rw [List.getElem?_append_left hi] at q
      exact h.2 i c q
theorem re_a2 : ∀ (l : List Nat) {g : am_G} {bs : List Nat}, re_ok g bs → re_ok (re_as g bs.length l) (bs ++ l)
  | [], g, bs, h => by rw [List.append_nil]; exact h
  | b :: l, g, bs, h => by
    have := re_a2 l (re_a1 h b)
    rw [List.length_append, List.append_assoc] at this
    exact this
theorem or_64 {x : Nat} (a : Nat) (h : x < 64) : a * 64 ||| x = a * 64 + x := by
  have := Nat.shiftLeft_add_eq_or_of_lt (b := x) (i := 6) h a
  rw [Nat.shiftLeft_eq] at this
  exact this.symm
theorem or_32 {x : Nat} (a : Nat) (h : x < 32) : a * 32 ||| x = a * 32 + x := by
  have := Nat.shiftLeft_add_eq_or_of_lt (b := x) (i := 5) h a
  rw [Nat.shiftLeft_eq] at this
  exact this.symm
theorem or_16 {x : Nat} (a : Nat) (h : x < 16) : a * 16 ||| x = a * 16 + x := by
  have := Nat.shiftLeft_add_eq_or_of_lt (b := x) (i := 4) h a
  rw [Nat.shiftLeft_eq] at this
  exact this.symm
theorem cm_194 (g : am_G) {c : Nat} (h : c < 1114112) : fm_194 g (nI c) = some (nI (if c = 92 then 92 else if c = 10 then 110 else if c = 9 then 116 else if c = 13 then 114 else 0)) := by
  unfold fm_194
  have e : ∀ k : Nat, k < 2 ^ 31 → (nI c = nI k ↔ c = k) := fun k hk => nI_eq (by omega) hk
  simp only [show (92 : Int32) = nI 92 from rfl, show (10 : Int32) = nI 10 from rfl, show (9 : Int32) = nI 9 from rfl, show (13 : Int32) = nI 13 from rfl, e 92 (by decide), e 10 (by decide), e 9 (by decide), e 13 (by decide)]
  split
  · rfl
  · split
    · rfl
    · split
      · rfl
      · split <;> rfl
theorem cm_195 (g : am_G) {c : Nat} (h : c < 1114112) : fm_195 g (nI c) = some (nI (ev_e c).length) := by
  unfold fm_195 fj_195_25
  rw [cm_194 g h, lo_ps]
  have e : ∀ k : Nat, k < 2 ^ 31 → (nI k ≤ nI c ↔ k ≤ c) := fun k hk => nI_leI hk (by omega)
  have f : ∀ k : Nat, k < 2 ^ 31 → (nI c < nI k ↔ c < k) := fun k hk => nI_ltI (by omega) hk
  unfold ev_e
  by_cases h1 : c = 92
  · rw [if_pos h1, if_pos h1]; rfl
  by_cases h2 : c = 10
  · rw [if_neg h1, if_pos h2, if_neg h1, if_pos h2]; rfl
  by_cases h3 : c = 9
  · rw [if_neg h1, if_neg h2, if_pos h3, if_neg h1, if_neg h2, if_pos h3]; rfl
  by_cases h4 : c = 13
  · rw [if_neg h1, if_neg h2, if_neg h3, if_pos h4, if_neg h1, if_neg h2, if_neg h3, if_pos h4]; rfl
  rw [if_neg h1, if_neg h2, if_neg h3, if_neg h4, if_neg h1, if_neg h2, if_neg h3, if_neg h4, if_pos (show nI 0 = 0 from rfl)]
  simp only [show (128 : Int32) = nI 128 from rfl, show (2048 : Int32) = nI 2048 from rfl, show (65536 : Int32) = nI 65536 from rfl, e 128 (by decide), e 2048 (by decide), e 65536 (by decide), f 128 (by decide)]
  repeat' split
  all_goals first | rfl | omega
theorem cm_190 {g : am_G} {n : Nat} (h : am_i g 872 2 = nI n) (hn : n ≤ 30000) {m : Nat} (hm : m < 1000) : fm_190 g (nI m) = some (b2 (decide (n + m + 1 ≤ 30000))) := by
  unfold fm_190
  rw [h, nI_add, nI_1]
  by_cases q : n + m + 1 ≤ 30000
  · rw [if_neg (nI_nlt q (by decide)), decide_eq_true q]; rfl
  · rw [if_pos (nI_lt (by omega) (by omega)), decide_eq_false q]; rfl
theorem re_p2 {g : am_G} {bs : List Nat} (h : re_ok g bs) (b c : Nat) (hl : bs.length + 1 < 30000) : fm_191 (re_a g bs.length b) (nI c) = some (re_a (re_a g bs.length b) (bs.length + 1) c) := by
  have := re_put (re_a1 h b) c (by rw [List.length_append]; exact hl)
  rw [List.length_append] at this
  exact this
theorem sh_6 {c k m : Nat} (hc : c < 1114112) (hk : k < 4) (hm : 6 * k = m) : nI c >>> ((6 * nI k) &&& 31) = nI (c / 2 ^ m) := by
  have e : (6 * nI k) &&& 31 = nI m := by
    rw [show (6 : Int32) = nI 6 from rfl, pk_mul, pk_andN (by omega) 5 (by decide), Nat.mod_eq_of_lt (by omega), hm]
  rw [e]
  refine pk_shrN (by omega) _ m ?_
  have : k = 0 ∨ k = 1 ∨ k = 2 ∨ k = 3 := by omega
  subst hm
  rcases this with rfl | rfl | rfl | rfl <;> decide
theorem by_lo {c k : Nat} (hc : c < 1114112) (hk : k < 4) : (128 : Int32) ||| ((nI c >>> ((6 * nI k) &&& 31)) &&& 63) = nI (128 + c / 2 ^ (6 * k) % 64) := by
  rw [sh_6 hc hk rfl, pk_andN (Nat.lt_of_le_of_lt (Nat.div_le_self _ _) (by omega)) 6 (by decide), show (128 : Int32) = nI (2 * 64) from rfl, nI_or, or_64 2 (Nat.mod_lt _ (by decide))]
/-- the rest of a character's bytes -/
theorem re_lp {c : Nat} (hc : c < 1114112) : ∀ (k fuel : Nat) {g : am_G} {bs : List Nat}, re_ok g bs → k ≤ 3 → bs.length + k ≤ 30000 → k < fuel →
    lo_it (fun k (x : am_G × Int32 × Int32) => fb_196_94 k x.1 x.2.1 x.2.2) fuel (g, nI c, nI k - 1) = some (1, re_as g bs.length ((List.range k).reverse.map fun i => 128 + c / 2 ^ (6 * i) % 64))
  | 0, fuel, g, bs, h, hk, hl, hf => by
    obtain ⟨m, rfl⟩ : ∃ m, fuel = m + 1 := ⟨fuel - 1, by omega⟩
    show fb_196_94 _ _ _ _ = _
    unfold fb_196_94
    rw [if_pos (show nI 0 - 1 < 0 by decide)]
    rfl
  | k + 1, fuel, g, bs, h, hk, hl, hf => by
    obtain ⟨m, rfl⟩ : ∃ m, fuel = m + 1 := ⟨fuel - 1, by omega⟩
    show fb_196_94 _ _ _ _ = _
    unfold fb_196_94
    rw [nI_pred]
    dsimp only
    rw [if_neg (nI_pos (by omega)), by_lo hc (by omega), re_put h _ (by omega), lo_ps]
    have := re_lp hc k m (re_a1 h (128 + c / 2 ^ (6 * k) % 64)) (by omega) (by rw [List.length_append]; show bs.length + 1 + k ≤ _; omega) (by omega)
    rw [List.length_append] at this
    have e : nI k + -1 = nI k - 1 := by rw [← Int32.sub_eq_add_neg]
    rw [e]
    refine this.trans ?_
    rw [List.range_succ, List.reverse_append, List.map_append]
    rfl
theorem re_lF {c : Nat} (hc : c < 1114112) (k : Nat) {g : am_G} {bs : List Nat} (h : re_ok g bs) (hk : k ≤ 3) (hl : bs.length + k ≤ 30000) : fh_196_94 (g, nI c, nI k - 1) = some (1, re_as g bs.length ((List.range k).reverse.map fun i => 128 + c / 2 ^ (6 * i) % 64)) :=
  re_lp hc k nf_F h hk hl (Nat.lt_of_lt_of_le (by omega) nf_le)
theorem nI_s2 {n : Nat} (h : 2 ≤ n) : nI n - 2 = nI (n - 1) - 1 := by
  rw [show (2 : Int32) = nI 2 from rfl, show (1 : Int32) = nI 1 from rfl, pk_sub h, pk_sub (by omega)]
  congr 1
theorem nI_s1 {n : Nat} (h : 1 ≤ n) : nI n - 1 = nI (n - 1) := by
  rw [show (1 : Int32) = nI 1 from rfl, pk_sub h]
theorem re_78 {g : am_G} {bs : List Nat} (h : re_ok g bs) {c n t b0 : Nat} (hc : c < 1114112) (h2 : 2 ≤ n) (h4 : n ≤ 4) (hl : bs.length + n ≤ 30000) (hb : t ||| c / 2 ^ (6 * (n - 1)) = b0) :
    fj_196_78 g (nI c) (nI n) (nI t) = some (1, re_as g bs.length (b0 :: ((List.range (n - 1)).reverse.map fun i => 128 + c / 2 ^ (6 * i) % 64))) := by
  unfold fj_196_78
  rw [nI_s1 (by omega), sh_6 hc (by omega) rfl, nI_or, hb, re_put h _ (by omega), lo_ps, lo_ll, nI_s2 h2]
  have := re_lF hc (n - 1) (re_a1 h b0) (by omega) (by rw [List.length_append]; show bs.length + 1 + (n - 1) ≤ _; omega)
  rw [List.length_append] at this
  exact this
/-- R adds a character to the open line -/
theorem cm_196 {g : am_G} {bs : List Nat} (h : re_ok g bs) (hl : bs.length ≤ 30000) {c : Nat} (hc : c < 1114112) :
    fm_196 g (nI c) = if bs.length + (ev_e c).length + 1 ≤ 30000 then some (1, re_as g bs.length (ev_e c)) else some (0, g) := by
  unfold fm_196
  have hle : (ev_e c).length ≤ 4 := by
    unfold ev_e
    repeat' split
    all_goals simp
  rw [cm_195 g hc, lo_ps, cm_190 h.1 hl (by omega), lo_ps]
  by_cases q : bs.length + (ev_e c).length + 1 ≤ 30000
  · rw [if_pos q, decide_eq_true q, if_neg (by decide), cm_194 g hc, lo_ps]
    have f : ∀ a b : Nat, a < 2 ^ 31 → b < 2 ^ 31 → a ≠ b → ¬ nI a = nI b := fun a b ha hb hne e => hne ((nI_eq ha hb).mp e)
    by_cases h1 : c = 92
    · subst h1
      rw [if_pos rfl, if_neg (by decide), show (92 : Int32) = nI 92 from rfl, re_put h 92 (by omega), lo_ps, cm_194 _ (by decide), lo_ps, if_pos rfl, re_p2 h 92 92 (by simp [ev_e] at q; omega), lo_ps]
      rfl
    by_cases h2 : c = 10
    · subst h2
      rw [if_neg h1, if_pos rfl, if_neg (by decide), show (92 : Int32) = nI 92 from rfl, re_put h 92 (by omega), lo_ps, cm_194 _ (by decide), lo_ps, if_neg h1, if_pos rfl, re_p2 h 92 110 (by simp [ev_e] at q; omega), lo_ps]
      rfl
    by_cases h3 : c = 9
    · subst h3
      rw [if_neg h1, if_neg h2, if_pos rfl, if_neg (by decide), show (92 : Int32) = nI 92 from rfl, re_put h 92 (by omega), lo_ps, cm_194 _ (by decide), lo_ps, if_neg h1, if_neg h2, if_pos rfl, re_p2 h 92 116 (by simp [ev_e] at q; omega), lo_ps]
      rfl
    by_cases h4 : c = 13
    · subst h4
      rw [if_neg h1, if_neg h2, if_neg h3, if_pos rfl, if_neg (by decide), show (92 : Int32) = nI 92 from rfl, re_put h 92 (by omega), lo_ps, cm_194 _ (by decide), lo_ps, if_neg h1, if_neg h2, if_neg h3, if_pos rfl, re_p2 h 92 114 (by simp [ev_e] at q; omega), lo_ps]
      rfl
    rw [if_neg h1, if_neg h2, if_neg h3, if_neg h4, if_pos (show nI 0 = 0 from rfl)]
    have ee : ev_e c = if c < 128 then [c] else if c < 2048 then [192 + c / 64, 128 + c % 64] else if c < 65536 then [224 + c / 4096, 128 + c / 64 % 64, 128 + c % 64] else [240 + c / 262144, 128 + c / 4096 % 64, 128 + c / 64 % 64, 128 + c % 64] := by
      unfold ev_e
      rw [if_neg h1, if_neg h2, if_neg h3, if_neg h4]
    rw [ee] at q ⊢
    by_cases h5 : c < 128
    · rw [if_pos h5] at q ⊢
      rw [show ([c] : List Nat).length = 1 from rfl] at q ⊢
      rw [if_pos (show nI 1 = 1 from rfl), re_put h c (by omega), lo_ps]
      rfl
    rw [if_neg h5] at q ⊢
    by_cases h6 : c < 2048
    · rw [if_pos h6] at q ⊢
      rw [show ([192 + c / 64, 128 + c % 64] : List Nat).length = 2 from rfl] at q ⊢
      rw [if_neg (by decide), if_pos (by decide), show (192 : Int32) = nI 192 from rfl, re_78 h hc (n := 2) (b0 := 192 + c / 64) (by decide) (by decide) (by omega) (by
        show 3 * 64 ||| c / 64 = _
        rw [or_64 3 (by omega)])]
      have : c / 1 % 64 = c % 64 := by rw [Nat.div_one]
      show some (1, re_as g bs.length [192 + c / 64, 128 + c / 1 % 64]) = _
      rw [this]
    rw [if_neg h6] at q ⊢
    by_cases h7 : c < 65536
    · rw [if_pos h7] at q ⊢
      rw [show ([224 + c / 4096, 128 + c / 64 % 64, 128 + c % 64] : List Nat).length = 3 from rfl] at q ⊢
      rw [if_neg (by decide), if_neg (by decide), if_pos (by decide), show (224 : Int32) = nI 224 from rfl, re_78 h hc (n := 3) (b0 := 224 + c / 4096) (by decide) (by decide) (by omega) (by
        show 7 * 32 ||| c / 4096 = _
        rw [or_32 7 (by omega)])]
      have : c / 1 % 64 = c % 64 := by rw [Nat.div_one]
      show some (1, re_as g bs.length [224 + c / 4096, 128 + c / 64 % 64, 128 + c / 1 % 64]) = _
      rw [this]
    rw [if_neg h7] at q ⊢
    rw [show ([240 + c / 262144, 128 + c / 4096 % 64, 128 + c / 64 % 64, 128 + c % 64] : List Nat).length = 4 from rfl] at q ⊢
    rw [if_neg (by decide), if_neg (by decide), if_neg (by decide), show (240 : Int32) = nI 240 from rfl, re_78 h hc (n := 4) (b0 := 240 + c / 262144) (by decide) (by decide) (by omega) (by
      show 15 * 16 ||| c / 262144 = _
      rw [or_16 15 (by omega)])]
    have : c / 1 % 64 = c % 64 := by rw [Nat.div_one]
    show some (1, re_as g bs.length [240 + c / 262144, 128 + c / 4096 % 64, 128 + c / 64 % 64, 128 + c / 1 % 64]) = _
    rw [this]
  · rw [if_neg q, decide_eq_false q, if_pos (by decide)]
-- M's events
def me_ok (g : am_G) (bs : List Nat) : Prop := am_i g 943 138 = nI bs.length ∧ ∀ i b, bs[i]? = some b → (i < 15000 → am_i g 1006 i = nI b) ∧ (15000 ≤ i → i < 30000 → am_i g 1007 (i - 15000) = nI b)
def me_a (g : am_G) (n b : Nat) : am_G := am_si (if n < 15000 then am_si g 1006 n (nI b) else if n < 30000 then am_si g 1007 (n - 15000) (nI b) else g) 943 138 (nI (n + 1))
def me_as : am_G → Nat → List Nat → am_G
  | g, _, [] => g
  | g, n, b :: l => me_as (me_a g n b) (n + 1) l
def me_S (o k : Nat) : Bool := (Nat.beq o 1006 || Nat.beq o 1007) || (Nat.beq o 943 && Nat.beq k 138)
theorem me_fa (g : am_G) (n b : Nat) : fx_i me_S g (me_a g n b) := by
  unfold me_a
  refine fx_tr ?_ (fx_si rfl)
  split
  · exact fx_si rfl
  · split
    · exact fx_si rfl
    · exact fx_re
theorem me_fx : ∀ (l : List Nat) (g : am_G) (n : Nat), fx_i me_S g (me_as g n l)
  | [], _, _ => fx_re
  | b :: l, g, n => fx_tr (me_fa g n b) (me_fx l (me_a g n b) (n + 1))
theorem cm_36 {g : am_G} {n : Nat} (h : am_i g 943 138 = nI n) (hn : n < 2 ^ 31) (b : Nat) : fm_36 g (nI b) = some (me_a g n b) := by
  unfold fm_36 fj_36_47 me_a
  rw [h, show (15000 : Int32) = nI 15000 from rfl, show (30000 : Int32) = nI 30000 from rfl]
  by_cases q : n < 15000
  · rw [if_neg (nI_ge q (by decide)), ai_nI q hn, lo_gt, if_pos q, nI_clamp hn, gi_si, if_neg (by omega), h, nI_1]
  · rw [if_pos (nI_le (by omega) hn), if_neg q]
    by_cases w : n < 30000
    · rw [if_neg (nI_ge w (by decide)), if_pos w, pk_sub (by omega), ai_nI (by omega) (by omega), lo_gt, nI_clamp (by omega), gi_si, if_neg (by omega), h, nI_1]
    · rw [if_pos (nI_le (by omega) hn), if_neg w, nI_1]
theorem me_n (g : am_G) (n b : Nat) : am_i (me_a g n b) 943 138 = nI (n + 1) := by unfold me_a; rw [gi_si, if_pos ⟨rfl, rfl⟩]
theorem me_a1 {g : am_G} {bs : List Nat} (h : me_ok g bs) (b : Nat) : me_ok (me_a g bs.length b) (bs ++ [b]) := by
  refine ⟨by rw [me_n, List.length_append]; rfl, fun i c q => ?_⟩
  have hi : i < bs.length + 1 := by
    have := (List.getElem?_eq_some_iff.mp q).1
    rwa [List.length_append] at this
  by_cases z : i = bs.length
  · rw [z, List.getElem?_append_right (Nat.le_refl _), Nat.sub_self] at q
    cases q
    subst z
    constructor
    · intro y
      unfold me_a
      rw [gi_si, if_neg (by omega), if_pos y, gi_si, if_pos ⟨rfl, rfl⟩]
    · intro y1 y2
      unfold me_a
      rw [gi_si, if_neg (by omega), if_neg (by omega), if_pos y2, gi_si, if_pos ⟨rfl, rfl⟩]
  · rw [List.getElem?_append_left (by omega)] at q
    have hq := h.2 i c q
    constructor
    · intro y
      unfold me_a
      rw [gi_si, if_neg (by omega)]
      split
      · rw [gi_si, if_neg (fun e => z e.2)]; exact hq.1 y
      · split
        · rw [gi_si, if_neg (by omega)]; exact hq.1 y
        · exact hq.1 y
    · intro y1 y2
      unfold me_a
      rw [gi_si, if_neg (by omega)]
      split
      · rw [gi_si, if_neg (by omega)]; exact hq.2 y1 y2
      · split
        · rw [gi_si, if_neg (by omega)]; exact hq.2 y1 y2
        · exact hq.2 y1 y2
theorem me_a2 : ∀ (l : List Nat) {g : am_G} {bs : List Nat}, me_ok g bs → me_ok (me_as g bs.length l) (bs ++ l)
  | [], g, bs, h => by rw [List.append_nil]; exact h
  | b :: l, g, bs, h => by
    have := me_a2 l (me_a1 h b)
    rw [List.length_append, List.append_assoc] at this
    exact this
theorem me_nl : ∀ (l : List Nat) (g : am_G) (n : Nat), am_i g 943 138 = nI n → am_i (me_as g n l) 943 138 = nI (n + l.length)
  | [], _, _, h => h
  | b :: l, g, n, h => by
    rw [show n + (b :: l).length = n + 1 + l.length by rw [List.length_cons]; omega]
    exact me_nl l (me_a g n b) (n + 1) (me_n g n b)
/-- M tells a character -/
theorem cm_37 {g : am_G} {n : Nat} (h : am_i g 943 138 = nI n) (hn : n + 4 < 2 ^ 31) {c : Nat} (hc : c < 1114112) : fm_37 g (nI c) = some (me_as g n (ev_e c)) := by
  unfold fm_37 fj_37_24 fj_37_66
  have e : ∀ k : Nat, k < 2 ^ 31 → (nI c = nI k ↔ c = k) := fun k hk => nI_eq (by omega) hk
  have f : ∀ k : Nat, k < 2 ^ 31 → (nI k ≤ nI c ↔ k ≤ c) := fun k hk => nI_leI hk (by omega)
  simp only [show (92 : Int32) = nI 92 from rfl, show (10 : Int32) = nI 10 from rfl, show (9 : Int32) = nI 9 from rfl, show (13 : Int32) = nI 13 from rfl, e 92 (by decide), e 10 (by decide), e 9 (by decide), e 13 (by decide),
    show (128 : Int32) = nI 128 from rfl, show (2048 : Int32) = nI 2048 from rfl, show (65536 : Int32) = nI 65536 from rfl, f 128 (by decide), f 2048 (by decide), f 65536 (by decide),
    show (110 : Int32) = nI 110 from rfl, show (116 : Int32) = nI 116 from rfl, show (114 : Int32) = nI 114 from rfl]
  have p1 : ∀ b, fm_36 g (nI b) = some (me_a g n b) := fun b => cm_36 h (by omega) b
  have p2 : ∀ a b, fm_36 (me_a g n a) (nI b) = some (me_a (me_a g n a) (n + 1) b) := fun a b => cm_36 (me_n _ _ _) (by omega) b
  have p3 : ∀ x a b, fm_36 (me_a (me_a g n x) (n + 1) a) (nI b) = some (me_a (me_a (me_a g n x) (n + 1) a) (n + 1 + 1) b) := fun x a b => cm_36 (me_n _ _ _) (by omega) b
  have p4 : ∀ y x a b, fm_36 (me_a (me_a (me_a g n y) (n + 1) x) (n + 1 + 1) a) (nI b) = some (me_a (me_a (me_a (me_a g n y) (n + 1) x) (n + 1 + 1) a) (n + 1 + 1 + 1) b) := fun y x a b => cm_36 (me_n _ _ _) (by omega) b
  have d1 : nI c / 64 = nI (c / 64) := pk_div (d := 64) (by omega) (by decide) (by decide)
  have d2 : nI c / 4096 = nI (c / 4096) := pk_div (d := 4096) (by omega) (by decide) (by decide)
  have d3 : nI c / 262144 = nI (c / 262144) := pk_div (d := 262144) (by omega) (by decide) (by decide)
  have r0 : nI c - nI c / 64 * 64 = nI (c % 64) := pk_rem (d := 64) (by omega) (by decide) (by decide)
  have r1 : nI (c / 64) - nI (c / 64) / 64 * 64 = nI (c / 64 % 64) := pk_rem (d := 64) (by omega) (by decide) (by decide)
  have r2 : nI (c / 4096) - nI (c / 4096) / 64 * 64 = nI (c / 4096 % 64) := pk_rem (d := 64) (by omega) (by decide) (by decide)
  by_cases h1 : c = 92
  · subst h1; rw [if_pos rfl, p1, lo_ps, if_pos rfl, p2, lo_ps]; rfl
  by_cases h2 : c = 10
  · subst h2; rw [if_neg h1, if_pos rfl, p1, lo_ps, if_neg h1, if_pos rfl, p2, lo_ps]; rfl
  by_cases h3 : c = 9
  · subst h3; rw [if_neg h1, if_neg h2, if_pos rfl, p1, lo_ps, if_neg h1, if_neg h2, if_pos rfl, p2, lo_ps]; rfl
  by_cases h4 : c = 13
  · subst h4; rw [if_neg h1, if_neg h2, if_neg h3, if_pos rfl, p1, lo_ps, if_neg h1, if_neg h2, if_neg h3, p2, lo_ps]; rfl
  rw [if_neg h1, if_neg h2, if_neg h3, if_neg h4]
  unfold ev_e
  rw [if_neg h1, if_neg h2, if_neg h3, if_neg h4]
  by_cases h5 : c < 128
  · rw [if_neg (by omega), if_pos h5, p1, lo_ps]; rfl
  rw [if_pos (by omega), if_neg h5]
  by_cases h6 : c < 2048
  · rw [if_neg (by omega), if_pos h6, r0, d1, show (192 : Int32) = nI 192 from rfl, nI_add, nI_add, p1, lo_ps, p2, lo_ps]; rfl
  rw [if_pos (by omega), if_neg h6]
  by_cases h7 : c < 65536
  · rw [if_neg (by omega), if_pos h7, r0, d1, r1, d2, show (224 : Int32) = nI 224 from rfl, nI_add, nI_add, nI_add, p1, lo_ps, p2, lo_ps, p3, lo_ps]; rfl
  rw [if_pos (by omega), if_neg h7, r0, d1, r1, d2, r2, d3, show (240 : Int32) = nI 240 from rfl, nI_add, nI_add, nI_add, nI_add, p1, lo_ps, p2, lo_ps, p3, lo_ps, p4, lo_ps]; rfl
-- R's lines as a whole: none when they are full
abbrev al_A : Type := Option (List Nat × Option Nat)
def al_o (op : Option Nat) : Nat := if op = none then 0 else 1
def rl_ok (g : am_G) (A : al_A) : Prop := match A with
  | some (bs, op) => am_i g 33 16 = 0 ∧ re_ok g bs ∧ am_r g 872 1 = op ∧ bs.length + al_o op ≤ 30000
  | none => am_i g 33 16 = 1 ∧ ∃ bs, re_ok g bs ∧ bs.length + al_o (am_r g 872 1) ≤ 30000
def rl_S (o k : Nat) : Bool := Nat.beq o 873 || ((Nat.beq o 872 && Nat.blt 0 k) || (Nat.beq o 33 && Nat.beq k 16))
theorem rl_re {o k : Nat} (h : rl_S o k = false) : re_S o k = false := by
  unfold rl_S at h
  unfold re_S
  cases h1 : Nat.beq o 873 with
  | true => rw [h1] at h; cases h
  | false =>
    rw [h1] at h
    cases h2 : Nat.beq o 872 with
    | false => rfl
    | true =>
      rw [h2] at h
      cases h3 : Nat.beq k 2 with
      | false => rfl
      | true =>
        obtain rfl := Nat.eq_of_beq_eq_true h3
        cases h
theorem re_fl (l : List Nat) (g : am_G) (n : Nat) : fx_i rl_S g (re_as g n l) := fx_wk (re_fx l g n) fun _ _ => rl_re
theorem re_r (l : List Nat) (g : am_G) (n o k : Nat) : am_r (re_as g n l) o k = am_r g o k := by
  have : ∀ (l : List Nat) (g : am_G) (n : Nat), am_r (re_as g n l) o k = am_r g o k := by
    intro l
    induction l with
    | nil => intro g n; rfl
    | cons b l ih => intro g n; exact ih _ _
  exact this l g n
theorem re_33 (l : List Nat) (g : am_G) (n k : Nat) : am_i (re_as g n l) 33 k = am_i g 33 k := ((re_fx l g n).1 33 k rfl).1
theorem re_cg {g h : am_G} {bs : List Nat} (K : re_ok g bs) (h1 : am_i h 872 2 = am_i g 872 2) (h2 : ∀ k, am_i h 873 k = am_i g 873 k) : re_ok h bs := ⟨h1.trans K.1, fun i b q => (h2 i).trans (K.2 i b q)⟩
def al_end (A : al_A) : al_A := match A with
  | some (bs, some _) => some (bs ++ [10], none)
  | some (bs, none) => some (bs, none)
  | none => none
theorem rl_e1 {g : am_G} {bs : List Nat} {q : Nat} (K : re_ok g bs) (hop : am_r g 872 1 = some q) (hl : bs.length + 1 ≤ 30000) :
    ∃ g', fm_193 g = some g' ∧ re_ok g' (bs ++ [10]) ∧ am_r g' 872 1 = none ∧ am_i g' 33 16 = am_i g 33 16 ∧ fx_i rl_S g g' := by
  refine ⟨am_si (am_si (am_sr (re_a g bs.length 10) 872 1 none) 872 3 (am_i (re_a g bs.length 10) 872 2)) 872 5 (am_i (re_a g bs.length 10) 872 5 + 1), ?_, ?_, ?_, ?_, ?_⟩
  · unfold fm_193
    rw [hop, lo_ms, show (10 : Int32) = nI 10 from rfl, re_put K 10 (by omega), lo_ps]
  · exact re_cg (re_a1 K 10) rfl (fun _ => rfl)
  · rfl
  · exact re_33 [10] g bs.length 16
  · exact fx_tr (re_fl [10] g bs.length) (fx_tr (fx_tr (fx_sr rfl) (fx_si rfl)) (fx_si rfl))
/-- R ends the open line -/
theorem cm_193 {g : am_G} {A : al_A} (K : rl_ok g A) : ∃ g', fm_193 g = some g' ∧ rl_ok g' (al_end A) ∧ fx_i rl_S g g' := by
  cases A with
  | none =>
    obtain ⟨k1, bs, k2, k3⟩ := K
    cases hop : am_r g 872 1 with
    | none => exact ⟨g, by unfold fm_193; rw [hop]; rfl, ⟨k1, bs, k2, k3⟩, fx_re⟩
    | some q =>
      rw [hop] at k3
      obtain ⟨g', e1, e2, e3, e4, e5⟩ := rl_e1 k2 hop k3
      exact ⟨g', e1, ⟨e4.trans k1, bs ++ [10], e2, by rw [e3, List.length_append]; exact k3⟩, e5⟩
  | some p =>
    obtain ⟨bs, op⟩ := p
    obtain ⟨k1, k2, k3, k4⟩ := K
    cases op with
    | none => exact ⟨g, by unfold fm_193; rw [k3]; rfl, ⟨k1, k2, k3, k4⟩, fx_re⟩
    | some q =>
      obtain ⟨g', e1, e2, e3, e4, e5⟩ := rl_e1 k2 k3 k4
      exact ⟨g', e1, ⟨e4.trans k1, e2, e3, by rw [List.length_append]; exact k4⟩, e5⟩
def al_add (A : al_A) (c : Nat) : al_A := match A with
  | some (bs, op) => if bs.length + (ev_e c).length + 1 ≤ 30000 then some (bs ++ ev_e c, op) else none
  | none => none
/-- a line is open -/
def al_op (A : al_A) : Prop := match A with
  | some (_, op) => op ≠ none
  | none => True
theorem al_o1 {op : Option Nat} (h : op ≠ none) : al_o op = 1 := by unfold al_o; rw [if_neg h]
/-- R adds a character, if there is room -/
theorem cm_268 {g : am_G} {A : al_A} (K : rl_ok g A) (ho : al_op A) {c : Nat} (hc : c < 1114112) : ∃ g', fm_268 g (nI c) = some g' ∧ rl_ok g' (al_add A c) ∧ fx_i rl_S g g' := by
  unfold fm_268
  cases A with
  | none =>
    rw [K.1, if_neg (by decide)]
    exact ⟨g, rfl, K, fx_re⟩
  | some p =>
    obtain ⟨bs, op⟩ := p
    obtain ⟨k1, k2, k3, k4⟩ := K
    have ho : al_o op = 1 := al_o1 ho
    rw [k1, if_pos rfl, cm_196 k2 (by omega) hc]
    unfold al_add
    by_cases q : bs.length + (ev_e c).length + 1 ≤ 30000
    · rw [if_pos q, lo_is, if_neg (by decide)]
      dsimp only
      rw [if_pos q]
      exact ⟨_, rfl, ⟨(re_33 _ _ _ _).trans k1, re_a2 _ k2, (re_r _ _ _ _ _).trans k3, by rw [List.length_append, ho]; omega⟩, re_fl _ _ _⟩
    · rw [if_neg q, lo_is, if_pos rfl]
      dsimp only
      rw [if_neg q]
      refine ⟨_, rfl, ⟨rfl, bs, re_cg k2 rfl (fun _ => rfl), ?_⟩, fx_si rfl⟩
      rw [show am_r (am_si g 33 16 1) 872 1 = am_r g 872 1 from rfl, k3]
      exact k4
def al_l (k : Nat) : Nat := if k = 11 then 40 else if k = 12 then 41 else if k = 13 then 65 else if k = 14 then 63 else 45
def al_bg (A : al_A) (k : Nat) : al_A := match A with
  | some (bs, op) => if bs.length + al_o op + 2 ≤ 30000 then some ((al_end (some (bs, op))).elim [] (fun p => p.1) ++ [al_l k], some k) else none
  | none => none
theorem gs_l {g : am_G} (h : gs_ok g) {k : Nat} (h1 : 11 ≤ k) (h2 : k ≤ 15) : am_i g k 0 = nI (al_l k) ∧ v0_kd k = 18 := by
  obtain ⟨_, _, _, _, a, b, c, d, e⟩ := h
  have : k = 11 ∨ k = 12 ∨ k = 13 ∨ k = 14 ∨ k = 15 := by omega
  rcases this with rfl | rfl | rfl | rfl | rfl
  · exact ⟨a, rfl⟩
  · exact ⟨b, rfl⟩
  · exact ⟨c, rfl⟩
  · exact ⟨d, rfl⟩
  · exact ⟨e, rfl⟩
theorem gs_fx {g g' : am_G} (h : gs_ok g) (f : fx_i rl_S g g') : gs_ok g' := by
  have q : ∀ o k, o < 32 → am_i g' o k = am_i g o k := fun o k ho => (f.1 o k (by
    unfold rl_S
    rw [beq_f (show o ≠ 873 by omega), beq_f (show o ≠ 872 by omega), beq_f (show o ≠ 33 by omega)]
    rfl)).1
  obtain ⟨h1, h2, h3, h4, a, b, c, d, e⟩ := h
  exact ⟨fun k hk => (q 17 k (by decide)).trans (h1 k hk), fun k hk => (q 18 k (by decide)).trans (h2 k hk), fun k hk => (q 19 k (by decide)).trans (h3 k hk), fun o o1 o2 => (q o 0 (by omega)).trans (h4 o o1 o2), (q 11 0 (by decide)).trans a, (q 12 0 (by decide)).trans b, (q 13 0 (by decide)).trans c, (q 14 0 (by decide)).trans d, (q 15 0 (by decide)).trans e⟩
/-- R begins a line -/
theorem cm_192 {g : am_G} {bs : List Nat} {op : Option Nat} (hg : gs_ok g) (K : rl_ok g (some (bs, op))) {k : Nat} (h1 : 11 ≤ k) (h2 : k ≤ 15) :
    if bs.length + al_o op + 2 ≤ 30000 then ∃ g', fm_192 g k = some (1, g') ∧ rl_ok g' (al_bg (some (bs, op)) k) ∧ fx_i rl_S g g' else fm_192 g k = some (0, g) := by
  have e0 : fm_192 g k = fj_192_12 g k (nI (al_o op)) := by
    unfold fm_192
    rw [K.2.2.1]
    cases op with
    | none => rfl
    | some q => rfl
  rw [e0]
  unfold fj_192_12
  have hle : bs.length ≤ 30000 := by have := K.2.2.2; omega
  have hao : al_o op ≤ 1 := by unfold al_o; split <;> decide
  rw [nI_1, cm_190 K.2.1.1 hle (by omega), lo_ps]
  by_cases q : bs.length + al_o op + 2 ≤ 30000
  · rw [if_pos q, decide_eq_true (show bs.length + (al_o op + 1) + 1 ≤ 30000 by omega), if_neg (by decide)]
    obtain ⟨g4, e1, e2, e3⟩ := cm_193 K
    rw [e1, lo_ps, (gs_l hg h1 h2).2, show Nat.beq 18 18 = true from rfl, lo_gt]
    have hb : ∃ b1, al_end (some (bs, op)) = some (b1, none) ∧ b1.length = bs.length + al_o op := by
      cases op with
      | none => exact ⟨bs, rfl, rfl⟩
      | some q => exact ⟨bs ++ [10], rfl, by rw [List.length_append]; rfl⟩
    obtain ⟨b1, f1, f2⟩ := hb
    rw [f1] at e2
    obtain ⟨m1, m2, m3, m4⟩ := e2
    have w : re_ok (am_si (am_sr g4 872 1 (some k)) 872 3 (am_i g4 872 2)) b1 := re_cg m2 rfl (fun _ => rfl)
    have hk0 : am_i (am_si (am_sr g4 872 1 (some k)) 872 3 (am_i g4 872 2)) k 0 = nI (al_l k) := by
      rw [gi_si, if_neg (by omega), gi_sr]
      exact (gs_l (gs_fx hg e3) h1 h2).1
    rw [hk0, re_put w _ (by omega), lo_ps]
    refine ⟨_, rfl, ?_, fx_tr e3 (fx_tr (fx_tr (fx_sr rfl) (fx_si rfl)) (re_fl [al_l k] _ b1.length))⟩
    unfold al_bg
    dsimp only
    rw [if_pos q, f1]
    refine ⟨?_, re_a1 w _, ?_, ?_⟩
    · exact (re_33 [al_l k] _ b1.length 16).trans m1
    · exact re_r [al_l k] _ b1.length 872 1
    · show (b1 ++ [al_l k]).length + 1 ≤ 30000
      rw [List.length_append]
      show b1.length + 1 + 1 ≤ 30000
      omega
  · rw [if_neg q, decide_eq_false (show ¬ bs.length + (al_o op + 1) + 1 ≤ 30000 by omega), if_pos (by decide)]
