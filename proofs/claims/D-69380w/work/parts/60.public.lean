/-! What the law sees: the two objects between the calls. (bp_b is a row of the starting text BITS.to-paste.) -/
theorem bp_b (x : Int32) : x.toInt8.toInt32 &&& 255 = x &&& 255 := by
  apply Int32.toBitVec_inj.mp
  rw [Int32.toBitVec_and, Int32.toBitVec_and, Int8.toBitVec_toInt32, Int32.toBitVec_toInt8]
  apply BitVec.eq_of_getLsbD_eq
  intro i hi
  rw [BitVec.getLsbD_and, BitVec.getLsbD_and]
  have hm : ∀ i < 32, 8 ≤ i → (255 : Int32).toBitVec.getLsbD i = false := by decide
  rcases Nat.lt_or_ge i 8 with z | z
  · rw [BitVec.getLsbD_signExtend, BitVec.getLsbD_signExtend, if_pos z, if_pos hi]
    simp only [z, hi, decide_true, Bool.true_and]
  · rw [hm i hi z]; simp
theorem e8_of (x : Int32) : ∃ b, b < 256 ∧ x.toInt8.toInt32 = e8_b b ∧ x &&& 255 = nI b := by
  obtain ⟨j, hj, e⟩ := pk_andE x (m := 255) 8 (by decide)
  refine ⟨j, hj, ?_, e⟩
  exact (sc_eq (e8_e x) hj).mpr ((bp_b x).trans e)
/-- R's text and M's bytes: f of them -/
def by_ok (g : am_G) (f : Nat) : Prop := am_i g 32 1 = nI f ∧ am_i g 943 1 = nI f ∧ f ≤ 6000 ∧ ∀ k, k < f → ∃ b, b < 256 ∧ am_i g 34 k = e8_b b ∧ am_i g 944 k = nI b
/-- lines that are told and not fetched -/
def ln_ok (g : am_G) (bs : List Nat) : Prop := re_ok g bs ∧ am_i g 872 3 = nI bs.length ∧ bs.length ≤ 30000 ∧ (∀ b ∈ bs, b < 256) ∧ ∃ t, am_i g 943 139 = nI t ∧ am_i g 943 138 = nI (t + bs.length) ∧ t + bs.length ≤ 30000 ∧
  ∀ i b, bs[i]? = some b → (t + i < 15000 → am_i g 1006 (t + i) = nI b) ∧ (15000 ≤ t + i → am_i g 1007 (t + i - 15000) = nI b)
/-- counts -/
def cn_ok (g : am_G) : Prop := (am_i g 943 146 = 0 ∧ am_i g 39 6 = 0 ∧ am_i g 49 5 = 0 ∧ am_i g 855 5 + am_i g 861 5 = 0 ∧ am_i g 49 6 = 0 ∧ am_i g 33 15 = 0) ∨
  (am_i g 943 146 = 1 ∧ am_i g 39 6 = am_i g 943 14 ∧ am_i g 49 5 = am_i g 943 49 ∧ am_i g 855 5 + am_i g 861 5 = am_i g 943 95 ∧ am_i g 49 6 = am_i g 943 77 ∧ am_i g 33 15 = am_i g 943 112)
/-- between the calls; j calls have been -/
def iv_ok (xs : Nat → Int32) (j : Nat) (g : am_G) : Prop := gs_ok g ∧ (∀ k, am_i g 0 k = xs k) ∧ (∃ f, by_ok g f) ∧ am_i g 943 142 = am_i g 33 11 ∧ am_i g 943 143 = am_i g 33 12 ∧ am_i g 943 144 = am_i g 33 13 ∧ am_i g 943 145 = am_i g 33 14 ∧ (∃ bs, ln_ok g bs) ∧ cn_ok g ∧
  1008 ≤ am_sz g ∧ am_sz g ≤ 1008 + j ∧ am_us g ≤ 388717 + 6 * j
/-- what a judgement must do -/
def jd_ok : Prop := ∀ (xs : Nat → Int32) (j : Nat) (g : am_G) (a b : Int32), iv_ok xs j g → ∃ r g1 g2, fm_5 g a b = some (r, g1) ∧ (∀ k, am_i g1 0 k = xs k) ∧ fm_138 g1 a b = some (r, g2) ∧ iv_ok xs (j + 1) g2
-- feed
def fe_S (o k : Nat) : Bool := Nat.beq o 34 || (Nat.beq o 32 && Nat.beq k 1)
def ff_S (o k : Nat) : Bool := Nat.beq o 944 || (Nat.beq o 943 && Nat.beq k 1)
def wd_b (w : Int32) (k : Nat) : Int32 := w >>> ((24 - (8 * nI k)) &&& 31)
theorem cm_3 {g : am_G} {f : Nat} (w : Int32) (h : am_i g 32 1 = nI f) (hf : f + 4 ≤ 6000) : ∃ g', fm_3 g w = some g' ∧ fx_i fe_S g g' ∧ am_i g' 32 1 = nI (f + 4) ∧ (∀ k, k < 4 → am_i g' 34 (f + k) = (wd_b w k).toInt8.toInt32) ∧ ∀ k, k < f → am_i g' 34 k = am_i g 34 k := by
  unfold fm_3 fh_3_2
  have := lo_fo (b := fun k (x : am_G × Int32 × Int32) => fb_3_2 k x.1 x.2.1 x.2.2) (fun i (s : am_G) => (s, w, nI i)) (fun i s => am_si (am_si s 34 (f + i) (wd_b w i).toInt8.toInt32) 32 1 (nI (f + i + 1)))
    (fun i s => fx_i fe_S g s ∧ am_i s 32 1 = nI (f + i) ∧ (∀ k, k < i → am_i s 34 (f + k) = (wd_b w k).toInt8.toInt32) ∧ ∀ k, k < f → am_i s 34 k = am_i g 34 k) 4 (fun s => some s) ?_ ?_ g ⟨fx_re, h, fun k hk => absurd hk (Nat.not_lt_zero _), fun _ _ => rfl⟩ (by decide)
  · exact ⟨_, this.1, this.2⟩
  · intro K s _
    unfold fb_3_2
    dsimp only
    rw [if_pos (by decide)]
  · intro K i s hi ⟨i1, i2, i3, i4⟩
    refine ⟨?_, fx_tr i1 (fx_tr (fx_si rfl) (fx_si rfl)), ?_, fun k hk => ?_, fun k hk => ?_⟩
    · unfold fb_3_2
      dsimp only
      rw [show (4 : Int32) = nI 4 from rfl, if_neg (nI_ge hi (by decide)), i2, ai_nI (by omega) (by omega), lo_gt, nI_clamp (by omega), nI_1, nI_1, e8_e]
      rfl
    · rw [gi_si, if_pos ⟨rfl, rfl⟩]; rfl
    · rw [gi_si, if_neg (by omega), gi_si]
      by_cases q : k = i
      · rw [q, if_pos ⟨rfl, rfl⟩]
      · rw [if_neg (by omega)]; exact i3 k (by omega)
    · rw [gi_si, if_neg (by omega), gi_si, if_neg (by omega)]; exact i4 k hk
theorem cm_13 {g : am_G} {f : Nat} (w : Int32) (h : am_i g 943 1 = nI f) (hf : f + 4 ≤ 6020) : ∃ g', fm_13 g w = some g' ∧ fx_i ff_S g g' ∧ am_i g' 943 1 = nI (f + 4) ∧ (∀ k, k < 4 → am_i g' 944 (f + k) = wd_b w k &&& 255) ∧ ∀ k, k < f → am_i g' 944 k = am_i g 944 k := by
  unfold fm_13 fh_13_2
  have := lo_fo (b := fun k (x : am_G × Int32 × Int32) => fb_13_2 k x.1 x.2.1 x.2.2) (fun i (s : am_G) => (s, w, nI i)) (fun i s => am_si s 944 (f + i) (wd_b w i &&& 255))
    (fun i s => fx_i ff_S g s ∧ am_i s 943 1 = nI f ∧ (∀ k, k < i → am_i s 944 (f + k) = wd_b w k &&& 255) ∧ ∀ k, k < f → am_i s 944 k = am_i g 944 k) 4 (fun s => some (am_si s 943 1 (nI (f + 4)))) ?_ ?_ g ⟨fx_re, h, fun k hk => absurd hk (Nat.not_lt_zero _), fun _ _ => rfl⟩ (by decide)
  · obtain ⟨e, i1, i2, i3, i4⟩ := this
    exact ⟨_, e, fx_tr i1 (fx_si rfl), rfl, fun k hk => i3 k hk, fun k hk => i4 k hk⟩
  · intro K s ⟨_, i2, _⟩
    unfold fb_13_2
    dsimp only
    rw [if_pos (by decide), i2, show (4 : Int32) = nI 4 from rfl, nI_add]
  · intro K i s hi ⟨i1, i2, i3, i4⟩
    refine ⟨?_, fx_tr i1 (fx_si rfl), ?_, fun k hk => ?_, fun k hk => ?_⟩
    · unfold fb_13_2
      dsimp only
      rw [show (4 : Int32) = nI 4 from rfl, if_neg (nI_ge hi (by decide)), i2, nI_add, ai_nI (by omega) (by omega), lo_gt, nI_clamp (by omega), nI_1]
      rfl
    · rw [gi_si, if_neg (by omega)]; exact i2
    · rw [gi_si]
      by_cases q : k = i
      · rw [q, if_pos ⟨rfl, rfl⟩]
      · rw [if_neg (by omega)]; exact i3 k (by omega)
    · rw [gi_si, if_neg (by omega)]; exact i4 k hk
/-- both lay one word -/
theorem by_w {g gm : am_G} {f : Nat} (w : Int32) (h1 : am_i g 32 1 = nI f) (h2 : am_i gm 943 1 = nI f) (hf : f + 4 ≤ 6000) (hb : ∀ k, k < f → ∃ b, b < 256 ∧ am_i g 34 k = e8_b b ∧ am_i gm 944 k = nI b) :
    ∃ g' gm', fm_3 g w = some g' ∧ fm_13 gm w = some gm' ∧ fx_i fe_S g g' ∧ fx_i ff_S gm gm' ∧ am_i g' 32 1 = nI (f + 4) ∧ am_i gm' 943 1 = nI (f + 4) ∧ ∀ k, k < f + 4 → ∃ b, b < 256 ∧ am_i g' 34 k = e8_b b ∧ am_i gm' 944 k = nI b := by
  obtain ⟨g', a1, a2, a3, a4, a5⟩ := cm_3 w h1 hf
  obtain ⟨gm', b1, b2, b3, b4, b5⟩ := cm_13 w h2 (by omega)
  refine ⟨g', gm', a1, b1, a2, b2, a3, b3, fun k hk => ?_⟩
  by_cases q : k < f
  · rw [a5 k q, b5 k q]; exact hb k q
  · obtain ⟨d, rfl⟩ : ∃ d, k = f + d := ⟨k - f, by omega⟩
    rw [a4 d (by omega), b4 d (by omega)]
    obtain ⟨b, h1, h2, h3⟩ := e8_of (wd_b w d)
    exact ⟨b, h1, h2, h3⟩
theorem fe_mem {g g' : am_G} (h : fx_i fe_S g g') : ag_3 (fun o _ => Nat.ble 943 o) g g' := fun o k q => h.1 o k (by
  have : 943 ≤ o := Nat.le_of_ble_eq_true q
  unfold fe_S
  rw [beq_f (show o ≠ 34 by omega), beq_f (show o ≠ 32 by omega)]
  rfl)
