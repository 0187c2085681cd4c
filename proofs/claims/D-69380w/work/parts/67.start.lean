/-! A judgement begins: both programs are anew. -/
def fo_S (o k : Nat) : Bool := Nat.beq o 43 || (Nat.beq o 48 || (Nat.beq o 872 || ((Nat.beq o 49 && Nat.ble 5 k) || ((Nat.beq o 855 && Nat.ble 5 k) || ((Nat.beq o 861 && Nat.ble 5 k) || ((Nat.beq o 867 && Nat.ble 4 k) || ((Nat.beq o 39 && Nat.ble 4 k) || ((Nat.beq o 42) || (Nat.beq o 33 && (Nat.beq k 14 || (Nat.beq k 15 || (Nat.beq k 16 || (Nat.beq k 17 || Nat.beq k 24)))))))))))))
/-- R is anew -/
def ra_ok (g : am_G) : Prop := am_i g 33 14 = 0 ∧ am_i g 33 15 = 0 ∧ am_i g 33 16 = 0 ∧ am_i g 33 17 = 0 ∧ am_i g 33 24 = 0 ∧ am_i g 43 5 = 0 ∧ am_i g 43 6 = 0 ∧ (∀ k, k < 1024 → am_i g 48 k = -1) ∧ am_i g 49 5 = 0 ∧ am_i g 49 6 = 0 ∧ am_i g 49 7 = 0 ∧ am_i g 49 8 = 0 ∧ am_i g 49 9 = 0 ∧
  am_i g 855 5 = 0 ∧ am_i g 855 6 = 0 ∧ am_i g 861 5 = 0 ∧ am_i g 861 6 = 0 ∧ am_i g 867 4 = 0 ∧ am_i g 867 5 = 0 ∧ am_r g 872 1 = none ∧ am_i g 872 2 = 0 ∧ am_i g 872 3 = 0 ∧ am_i g 39 4 = 0 ∧ am_i g 42 0 = 0 ∧ am_i g 39 6 = 0
theorem cm_227 (g : am_G) : ∃ g', fm_227 g = some g' ∧ fx_i (fun o _ => Nat.beq o 43 || Nat.beq o 48) g g' ∧ am_i g' 43 5 = 0 ∧ am_i g' 43 6 = 0 ∧ ∀ k, k < 1024 → am_i g' 48 k = -1 := by
  unfold fm_227 fh_227_17
  have := lo_fo (b := fun k (x : am_G × Int32) => fb_227_17 k x.1 x.2) (fun i (s : am_G) => (s, nI i)) (fun i s => am_si s 48 i (-1)) (fun i s => fx_i (fun o _ => Nat.beq o 43 || Nat.beq o 48) g s ∧ am_i s 43 5 = 0 ∧ am_i s 43 6 = 0 ∧ ∀ k, k < i → am_i s 48 k = -1) 1024 (fun s => some s) ?_ ?_ (am_si (am_si (am_si g 43 5 0) 43 6 0) 43 7 0) ⟨fx_tr (fx_tr (fx_si rfl) (fx_si rfl)) (fx_si rfl), rfl, rfl, fun k hk => absurd hk (Nat.not_lt_zero _)⟩ (by decide)
  · exact ⟨_, this.1, this.2⟩
  · intro K s _
    unfold fb_227_17
    dsimp only
    rw [if_pos (by decide)]
  · intro K i s hi ⟨i1, i2, i3, i4⟩
    refine ⟨?_, fx_tr i1 (fx_si rfl), by rw [gi_si, if_neg (by omega)]; exact i2, by rw [gi_si, if_neg (by omega)]; exact i3, fun k hk => ?_⟩
    · unfold fb_227_17
      dsimp only
      rw [show (1024 : Int32) = nI 1024 from rfl, if_neg (nI_ge hi (by decide)), ai_nI hi (by omega), lo_gt, nI_clamp (by omega), nI_1]
      rfl
    · rw [gi_si]
      by_cases q : k = i
      · rw [if_pos ⟨rfl, q⟩]
      · rw [if_neg (by omega)]; exact i4 k (by omega)
/-- R forgets -/
theorem cm_253 (g : am_G) : ∃ g', fm_253 g = some g' ∧ fx_i fo_S g g' ∧ ra_ok g' := by
  unfold fm_253
  obtain ⟨g2, e1, e2, e3, e4, e5⟩ := cm_227 (am_si (am_si (am_si (am_si (am_si g 33 14 0) 33 15 0) 33 16 0) 33 17 0) 33 24 0)
  rw [e1, lo_ps]
  unfold fm_162 fm_171 fm_200 fm_189 fm_175
  simp only [lo_ps]
  rw [show (Nat.beq (v0_kd 855) 12 && Nat.ble 32 855) = true from rfl, show (Nat.beq (v0_kd 861) 12 && Nat.ble 32 861) = true from rfl, lo_gt, lo_ps, lo_gt, lo_ps]
  have c : ∀ o k, (Nat.beq o 43 || Nat.beq o 48) = false → am_i g2 o k = am_i (am_si (am_si (am_si (am_si (am_si g 33 14 0) 33 15 0) 33 16 0) 33 17 0) 33 24 0) o k := fun o k q => (e2.1 o k q).1
  refine ⟨_, rfl, ?_, ?_⟩
  · have w : fx_i fo_S g g2 := fx_tr (fx_tr (fx_tr (fx_tr (fx_tr (fx_si rfl) (fx_si rfl)) (fx_si rfl)) (fx_si rfl)) (fx_si rfl)) (fx_wk e2 fun o k q => by
      unfold fo_S at q
      cases h1 : Nat.beq o 43 <;> cases h2 : Nat.beq o 48 <;> rw [h1] at q <;> first | rfl | (rw [h2] at q; cases q) | cases q)
    repeat first | exact w | refine fx_tr ?_ (fx_si rfl) | refine fx_tr ?_ (fx_sr rfl) | refine fx_tr ?_ (fx_sx rfl rfl rfl)
  · refine ⟨(c 33 14 rfl).trans rfl, (c 33 15 rfl).trans rfl, (c 33 16 rfl).trans rfl, (c 33 17 rfl).trans rfl, (c 33 24 rfl).trans rfl, e3, e4, fun k hk => e5 k hk, rfl, rfl, rfl, rfl, rfl, rfl, rfl, rfl, rfl, rfl, rfl, rfl, rfl, rfl, rfl, rfl, rfl⟩
/-- R begins -/
theorem cm_252 (g : am_G) (m : Int32) : ∃ g', fm_252 g m = some g' ∧ fx_i (fun o k => fo_S o k || (Nat.beq o 33 && (Nat.ble 10 k && Nat.ble k 13))) g g' ∧ ra_ok g' ∧ am_i g' 33 10 = m ∧ am_i g' 33 11 = 0 ∧ am_i g' 33 12 = -1 ∧ am_i g' 33 13 = 0 := by
  unfold fm_252
  obtain ⟨g2, e1, e2, e3⟩ := cm_253 (am_si g 33 10 m)
  rw [e1, lo_ps]
  have wk : fx_i (fun o k => fo_S o k || (Nat.beq o 33 && (Nat.ble 10 k && Nat.ble k 13))) (am_si g 33 10 m) g2 := fx_wk e2 fun o k q => by
    cases z : fo_S o k with
    | false => rfl
    | true => rw [z] at q; cases q
  refine ⟨_, rfl, fx_tr (fx_tr (fx_si rfl) wk) (fx_tr (fx_tr (fx_si rfl) (fx_si rfl)) (fx_si rfl)), ?_, ?_, rfl, rfl, rfl⟩
  · exact e3
  · exact ((e2.1 33 10 rfl).1).trans rfl
/-- M is anew -/
def ma_ok (g : am_G) : Prop := am_i g 943 5 = 0 ∧ am_i g 943 8 = 0 ∧ am_i g 943 9 = 0 ∧ am_i g 943 14 = 0 ∧ am_i g 943 17 = 0 ∧ am_i g 943 21 = 0 ∧ (∀ k, k < 512 → am_i g 955 k = -1) ∧ am_i g 943 26 = 0 ∧ am_i g 943 27 = 0 ∧ am_i g 943 28 = 0 ∧ am_i g 943 43 = 0 ∧ am_i g 943 44 = 0 ∧ am_i g 943 49 = 0 ∧ am_i g 943 57 = 0 ∧ am_i g 943 61 = 0 ∧ am_i g 943 77 = 0 ∧ am_i g 943 86 = 0 ∧
  am_i g 943 94 = 0 ∧ am_i g 943 95 = 0 ∧ am_i g 943 101 = 0 ∧ am_i g 943 104 = 0 ∧ am_i g 943 106 = 0 ∧ am_i g 943 112 = 0 ∧ am_i g 943 128 = 0 ∧ am_i g 943 129 = 0 ∧ am_i g 943 135 = 0 ∧ am_i g 943 134 = 0 ∧ am_i g 943 138 = 0 ∧ am_i g 943 139 = 0 ∧ am_i g 943 140 = 0 ∧ am_i g 943 142 = 0 ∧ am_i g 943 143 = -1 ∧ am_i g 943 144 = 0 ∧ am_i g 943 145 = 0 ∧ am_i g 943 146 = 0
def an_S (o k : Nat) : Bool := Nat.beq o 955 || (Nat.beq o 943 && (Nat.ble 4 k && (Nat.blt k 6 || (Nat.blt 6 k && (Nat.blt k 15 || Nat.blt 15 k)))))
set_option maxRecDepth 10000 in
theorem cm_136 (g : am_G) : ∃ g', fm_136 g = some g' ∧ fx_i an_S g g' ∧ ma_ok g' := by
  unfold fm_136 fh_136_37
  have := lo_fo (b := fun k (x : am_G × Int32) => fb_136_37 k x.1 x.2) (fun i (s : am_G) => (s, nI i)) (fun i s => am_si s 955 i (-1)) (fun i s => fx_i an_S g s ∧ am_i s 943 5 = 0 ∧ am_i s 943 8 = 0 ∧ am_i s 943 9 = 0 ∧ am_i s 943 14 = 0 ∧ am_i s 943 17 = 0 ∧ am_i s 943 21 = 0 ∧ ∀ k, k < i → am_i s 955 k = -1) 512
    (fun g => some (am_si (am_si (am_si (am_si (am_si (am_si (am_si (am_si (am_si (am_si (am_si (am_si (am_si (am_si (am_si (am_si (am_si (am_si (am_si (am_si (am_si (am_si (am_si (am_si (am_si (am_si (am_si (am_si g 943 26 0) 943 27 0) 943 28 0) 943 43 0) 943 44 0) 943 49 0) 943 57 0) 943 61 0) 943 77 0) 943 86 0) 943 94 0) 943 95 0) 943 101 0) 943 104 0) 943 106 0) 943 112 0) 943 128 0) 943 129 0) 943 135 0) 943 134 0) 943 138 0) 943 139 0) 943 140 0) 943 142 0) 943 143 (-1)) 943 144 0) 943 145 0) 943 146 0)) ?_ ?_
    (am_si (am_si (am_si (am_si (am_si (am_si (am_si g 943 4 0) 943 5 0) 943 8 0) 943 9 0) 943 14 0) 943 17 0) 943 21 0) ⟨fx_tr (fx_tr (fx_tr (fx_tr (fx_tr (fx_tr (fx_si rfl) (fx_si rfl)) (fx_si rfl)) (fx_si rfl)) (fx_si rfl)) (fx_si rfl)) (fx_si rfl), rfl, rfl, rfl, rfl, rfl, rfl, fun k hk => absurd hk (Nat.not_lt_zero _)⟩ (by decide)
  · revert this
    generalize fo_n _ 512 _ = s
    rintro ⟨e, i1, i2, i3, i4, i5, i6, i7, i8⟩
    refine ⟨_, e, ?_, i2, i3, i4, i5, i6, i7, i8, rfl, rfl, rfl, rfl, rfl, rfl, rfl, rfl, rfl, rfl, rfl, rfl, rfl, rfl, rfl, rfl, rfl, rfl, rfl, rfl, rfl, rfl, rfl, rfl, rfl, rfl, rfl, rfl⟩
    repeat first | exact i1 | refine fx_tr ?_ (fx_si rfl)
  · intro K s _
    unfold fb_136_37
    dsimp only
    rw [if_pos (by decide)]
  · intro K i s hi ⟨i1, i2, i3, i4, i5, i6, i7, i8⟩
    refine ⟨?_, fx_tr i1 (fx_si rfl), by rw [gi_si, if_neg (by omega)]; exact i2, by rw [gi_si, if_neg (by omega)]; exact i3, by rw [gi_si, if_neg (by omega)]; exact i4, by rw [gi_si, if_neg (by omega)]; exact i5, by rw [gi_si, if_neg (by omega)]; exact i6, by rw [gi_si, if_neg (by omega)]; exact i7, fun k hk => ?_⟩
    · unfold fb_136_37
      dsimp only
      rw [show (512 : Int32) = nI 512 from rfl, if_neg (nI_ge hi (by decide)), ai_nI hi (by omega), lo_gt, nI_clamp (by omega), nI_1]
    · rw [gi_si]
      by_cases q : k = i
      · rw [if_pos ⟨rfl, q⟩]
      · rw [if_neg (by omega)]; exact i8 k (by omega)
