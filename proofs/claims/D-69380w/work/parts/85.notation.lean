/-! What M does behind names of each kind; loops that look for something; notations. -/
theorem nk_0 {g : am_G} {m x : Int32} (h : am_i g 943 24 = 0) : fj_33_21 g m x = fm_41 g m x := by
  unfold fj_33_21
  rw [h, if_pos rfl, lo_id]
theorem nk_1 {g : am_G} {m x : Int32} (h : am_i g 943 24 = 1) : fj_33_21 g m x = fm_86 g m x := by
  unfold fj_33_21
  rw [h, if_neg (by decide), if_pos rfl, lo_id]
theorem nk_2 {g : am_G} {m x : Int32} (h : am_i g 943 24 = 2) : fj_33_21 g m x = fm_87 g m := by
  unfold fj_33_21
  rw [h, if_neg (by decide), if_neg (by decide), if_pos rfl, lo_id]
theorem nk_3 {g : am_G} {m x : Int32} (h : am_i g 943 24 = 3) : fj_33_21 g m x = fm_88 g m x := by
  unfold fj_33_21
  rw [h, if_neg (by decide), if_neg (by decide), if_neg (by decide), if_pos rfl, lo_id]
theorem nk_4 {g : am_G} {m x : Int32} (h : am_i g 943 24 = 4) : fj_33_21 g m x = fm_100 g m := by
  unfold fj_33_21
  rw [h, if_neg (by decide), if_neg (by decide), if_neg (by decide), if_neg (by decide), if_pos rfl, lo_id]
theorem nk_5 {g : am_G} {m x : Int32} (h : am_i g 943 24 = 5) : fj_33_21 g m x = fm_106 g m x := by
  unfold fj_33_21
  rw [h, if_neg (by decide), if_neg (by decide), if_neg (by decide), if_neg (by decide), if_neg (by decide), if_pos rfl, lo_id]
theorem nk_6 {g : am_G} {m x : Int32} (h : am_i g 943 24 = 6) : fj_33_21 g m x = fm_25 (am_si g 943 72 m) 47 := by
  unfold fj_33_21
  rw [h, if_neg (by decide), if_neg (by decide), if_neg (by decide), if_neg (by decide), if_neg (by decide), if_neg (by decide), if_pos rfl, lo_id]
theorem nk_7 {g : am_G} {m x : Int32} (h : am_i g 943 24 = 7) : fj_33_21 g m x = fm_25 g 72 := by
  unfold fj_33_21
  rw [h, if_neg (by decide), if_neg (by decide), if_neg (by decide), if_neg (by decide), if_neg (by decide), if_neg (by decide), if_neg (by decide), if_pos rfl, lo_id]
theorem nk_8 {g : am_G} {m x : Int32} (h : am_i g 943 24 = 8) : fj_33_21 g m x = fm_68 g m x := by
  unfold fj_33_21
  rw [h, if_neg (by decide), if_neg (by decide), if_neg (by decide), if_neg (by decide), if_neg (by decide), if_neg (by decide), if_neg (by decide), if_neg (by decide), if_pos rfl, lo_id]
theorem nk_9 {g : am_G} {m x : Int32} (h : am_i g 943 24 = 9) : fj_33_21 g m x = fm_67 g m x := by
  unfold fj_33_21
  rw [h, if_neg (by decide), if_neg (by decide), if_neg (by decide), if_neg (by decide), if_neg (by decide), if_neg (by decide), if_neg (by decide), if_neg (by decide), if_neg (by decide), if_pos rfl, lo_id]
theorem nk_10 {g : am_G} {m x : Int32} (h : am_i g 943 24 = 10) : fj_33_21 g m x = fm_66 g m x := by
  unfold fj_33_21
  rw [h, if_neg (by decide), if_neg (by decide), if_neg (by decide), if_neg (by decide), if_neg (by decide), if_neg (by decide), if_neg (by decide), if_neg (by decide), if_neg (by decide), if_neg (by decide), if_pos rfl, lo_id]
theorem nk_12 {g : am_G} {m x : Int32} (h : am_i g 943 24 = 12) : fj_33_21 g m x = fm_72 g m x := by
  unfold fj_33_21
  rw [h, if_neg (by decide), if_neg (by decide), if_neg (by decide), if_neg (by decide), if_neg (by decide), if_neg (by decide), if_neg (by decide), if_neg (by decide), if_neg (by decide), if_neg (by decide), if_neg (by decide), if_neg (by decide), if_pos rfl, lo_id]
theorem nk_13 {g : am_G} {m x : Int32} (h : am_i g 943 24 = 13) : fj_33_21 g m x = fm_73 g m x := by
  unfold fj_33_21
  rw [h, if_neg (by decide), if_neg (by decide), if_neg (by decide), if_neg (by decide), if_neg (by decide), if_neg (by decide), if_neg (by decide), if_neg (by decide), if_neg (by decide), if_neg (by decide), if_neg (by decide), if_neg (by decide), if_neg (by decide), if_pos rfl, lo_id]
theorem nk_14 {g : am_G} {m x : Int32} (h : am_i g 943 24 = 14) : fj_33_21 g m x = fm_107 g m x := by
  unfold fj_33_21
  rw [h, if_neg (by decide), if_neg (by decide), if_neg (by decide), if_neg (by decide), if_neg (by decide), if_neg (by decide), if_neg (by decide), if_neg (by decide), if_neg (by decide), if_neg (by decide), if_neg (by decide), if_neg (by decide), if_neg (by decide), if_neg (by decide), if_pos rfl, lo_id]
theorem nk_15 {g : am_G} {m x : Int32} (h : am_i g 943 24 = 15) : fj_33_21 g m x = fm_109 g m x := by
  unfold fj_33_21
  rw [h, if_neg (by decide), if_neg (by decide), if_neg (by decide), if_neg (by decide), if_neg (by decide), if_neg (by decide), if_neg (by decide), if_neg (by decide), if_neg (by decide), if_neg (by decide), if_neg (by decide), if_neg (by decide), if_neg (by decide), if_neg (by decide), if_neg (by decide), lo_id]
theorem nk_11 {g : am_G} {m : Int32} (h : am_i g 943 24 = 11) : fj_33_21 g m 0 = fm_25 (am_si g 943 72 m) 102 ∧ fj_33_21 g m 1 = fm_22 (am_si g 943 72 m) 1 (am_i g 943 25) := by
  unfold fj_33_21
  constructor
  · rw [h, if_neg (by decide), if_neg (by decide), if_neg (by decide), if_neg (by decide), if_neg (by decide), if_neg (by decide), if_neg (by decide), if_neg (by decide), if_neg (by decide), if_neg (by decide), if_neg (by decide), if_pos rfl, if_pos rfl, lo_id]
  · rw [h, if_neg (by decide), if_neg (by decide), if_neg (by decide), if_neg (by decide), if_neg (by decide), if_neg (by decide), if_neg (by decide), if_neg (by decide), if_neg (by decide), if_neg (by decide), if_neg (by decide), if_pos rfl, if_neg (by decide), lo_id]
theorem fo_an (p : Nat → Bool) (l : Bool) : ∀ n, fo_n (fun i l => l || p i) n l = (l || (List.range n).any p)
  | 0 => by show l = _; simp
  | n + 1 => by
    show (fo_n (fun i l => l || p i) n l || p n) = _
    rw [fo_an p l n, List.range_succ, List.any_append, Bool.or_assoc]
    simp
/-- a loop that notes whether one of them is so -/
theorem lo_an {α β : Type} {b : (α → Option β) → α → Option β} (X : Nat → Bool → α) (p : Nat → Bool) (n : Nat) (e : Bool → Option β) (hx : ∀ K l, b K (X n l) = e l) (hs : ∀ K i l, i < n → b K (X i l) = K (X (i + 1) (l || p i))) (l : Bool) (hn : n < 1000000000) : lo_it b nf_F (X 0 l) = e (l || (List.range n).any p) := by
  have := (lo_fo (b := b) X (fun i l => l || p i) (fun _ _ => True) n e (fun K s _ => hx K s) (fun K i s hi _ => ⟨hs K i s hi, trivial⟩) l trivial hn).1
  rw [this, fo_an]
theorem an_cg {p q : Nat → Bool} {n : Nat} (h : ∀ k, k < n → p k = q k) : (List.range n).any p = (List.range n).any q := by
  induction n with
  | zero => rfl
  | succ n ih => rw [List.range_succ, List.any_append, List.any_append, ih fun k hk => h k (by omega)]; simp [h n (by omega)]
theorem an_t {p : Nat → Bool} {n : Nat} : (List.range n).any p = true ↔ ∃ k, k < n ∧ p k = true := by
  rw [List.any_eq_true]
  constructor
  · rintro ⟨k, h1, h2⟩; exact ⟨k, List.mem_range.mp h1, h2⟩
  · rintro ⟨k, h1, h2⟩; exact ⟨k, List.mem_range.mpr h1, h2⟩
theorem b2_d (l : Bool) : b2 l = 0 ∨ b2 l = 1 := by cases l <;> decide
/-- R: whether there is such a notation -/
theorem cm_167 {g : am_G} {K : Nat} (h : am_i g 49 9 = nI K) (hK : K ≤ 20) (a : Int32) : fm_167 g a = some (b2 ((List.range K).any fun k => decide (am_i g 54 k = a))) := by
  unfold fm_167 fh_167_4
  have := lo_an (b := fun k (x : Int32 × Int32 × Int32) => fb_167_4 g k x.1 x.2.1 x.2.2) (fun i l => (a, b2 l, nI i)) (fun k => decide (am_i g 54 k = a)) K (fun l => some (b2 l)) ?_ ?_ false (by omega)
  · rw [Bool.false_or] at this
    exact this
  · intro k l
    unfold fb_167_4
    dsimp only
    rw [h, if_pos (nI_le (Nat.le_refl _) (by omega)), b2_n]
  · intro k i l hi
    unfold fb_167_4
    dsimp only
    rw [h, if_neg (nI_ge hi (by omega)), nI_1]
    cases l with
    | true => rw [if_neg (by decide)]; rfl
    | false =>
      rw [if_pos (show b2 false = 0 from rfl), ai_nI (by omega) (by omega), lo_gt, nI_clamp (by omega), Bool.false_or]
      by_cases q : am_i g 54 i = a
      · rw [if_pos q, decide_eq_true q]; rfl
      · rw [if_neg q, decide_eq_false q]; rfl
/-- M's notation behind its name -/
theorem cm_109 {g : am_G} {K : Nat} {m : Int32} (h : am_i g 943 104 = nI K) (hK : K ≤ 20) : fm_109 g m 0 = if ((List.range K).any fun k => decide (am_i g 990 k = m)) = true then some ((0 : Int32), am_si (am_si g 943 145 (am_i g 943 145 ||| (1 <<< ((23 : Int32) &&& 31)))) 943 26 132) else
    if K = 20 then fm_22 g 7 (am_i g 943 25) else some (0, am_si (am_si (am_si g 990 K m) 943 104 (nI (K + 1))) 943 26 132) := by
  unfold fm_109 fh_109_19
  rw [if_pos rfl]
  have := lo_an (b := fun k (x : am_G × Int32 × Int32 × Int32) => fb_109_19 k x.1 x.2.1 x.2.2.1 x.2.2.2) (fun i l => (g, m, b2 l, nI i)) (fun k => decide (am_i g 990 k = m)) K (fun l => if l = true then some ((0 : Int32), am_si (am_si g 943 145 (am_i g 943 145 ||| (1 <<< ((23 : Int32) &&& 31)))) 943 26 132) else
    if K = 20 then fm_22 g 7 (am_i g 943 25) else some (0, am_si (am_si (am_si g 990 K m) 943 104 (nI (K + 1))) 943 26 132)) ?_ ?_ false (by omega)
  · rw [Bool.false_or] at this
    exact this
  · intro k l
    unfold fb_109_19
    dsimp only
    rw [h, if_pos (nI_le (Nat.le_refl _) (by omega))]
    cases l with
    | true => rw [if_neg (by decide), if_pos rfl]; rfl
    | false =>
      rw [if_pos (show b2 false = 0 from rfl), if_neg (show ¬ false = true by decide)]
      by_cases q : K = 20
      · subst q; rw [if_pos (show nI 20 = 20 from rfl), if_pos rfl, lo_id]
      · rw [if_neg (fun e => q ((nI_eq (by omega) (by decide)).mp (e.trans (show (20 : Int32) = nI 20 from rfl)))), if_neg q, ai_nI (by omega) (by omega), lo_gt, nI_clamp (by omega), nI_1]
        rfl
  · intro k i l hi
    unfold fb_109_19
    dsimp only
    rw [h, if_neg (nI_ge hi (by omega)), nI_1]
    cases l with
    | true => rw [if_neg (by decide)]; rfl
    | false =>
      rw [if_pos (show b2 false = 0 from rfl), ai_nI (by omega) (by omega), lo_gt, nI_clamp (by omega), Bool.false_or]
      by_cases q : am_i g 990 i = m
      · rw [if_pos q, decide_eq_true q]; rfl
      · rw [if_neg q, decide_eq_false q]; rfl
/-- bits that both note -/
def br_q (gR gM gR' gM' : am_G) : Prop := ∃ x, am_i gR' 33 14 = am_i gR 33 14 ||| x ∧ am_i gM' 943 145 = am_i gM 943 145 ||| x
theorem or_0 (a : Int32) : a ||| 0 = a := Int32.or_zero
theorem br_re {gR gM gR' gM' : am_G} (h1 : am_i gR' 33 14 = am_i gR 33 14) (h2 : am_i gM' 943 145 = am_i gM 943 145) : br_q gR gM gR' gM' := ⟨0, by rw [or_0]; exact h1, by rw [or_0]; exact h2⟩
theorem br_tr {gR gM gR' gM' gR2 gM2 : am_G} (a : br_q gR gM gR' gM') (b : br_q gR' gM' gR2 gM2) : br_q gR gM gR2 gM2 := by
  obtain ⟨x, a1, a2⟩ := a
  obtain ⟨y, b1, b2⟩ := b
  exact ⟨x ||| y, by rw [b1, a1, Int32.or_assoc], by rw [b2, a2, Int32.or_assoc]⟩
/-- registers and pools of both -/
def gM_S (o k : Nat) : Bool := pM_S o k || rg_S o k
theorem gM_p {o k : Nat} (h : pM_S o k = true) : gM_S o k = true := by unfold gM_S; rw [h]; rfl
theorem gM_g {o k : Nat} (h : rg_S o k = true) : gM_S o k = true := by unfold gM_S; rw [h, Bool.or_true]
theorem ps_p {o k : Nat} (h : ps_S o k = true) : pR_S o k = true := pR_c.mpr (Or.inl (Nat.eq_of_beq_eq_true h))
theorem gM_c {o k : Nat} : gM_S o k = true ↔ ((951 ≤ o ∧ o ≤ 956) ∨ (o = 943 ∧ (k = 5 ∨ k = 8 ∨ k = 17 ∨ k = 18 ∨ k = 21 ∨ (24 ≤ k ∧ k ≤ 26) ∨ (29 ≤ k ∧ k ≤ 38) ∨ k = 43 ∨ k = 47 ∨ k = 48))) := by
  constructor
  · intro h
    unfold gM_S at h
    rw [Bool.or_eq_true] at h
    rcases h with h | h
    · have := pM_c.mp h; omega
    · have := rg_c h; omega
  · intro h
    by_cases q : (951 ≤ o ∧ o ≤ 955) ∨ (o = 943 ∧ (k = 5 ∨ k = 8 ∨ k = 17 ∨ k = 18 ∨ k = 21 ∨ (24 ≤ k ∧ k ≤ 26) ∨ (29 ≤ k ∧ k ≤ 36)))
    · exact gM_p (pM_c.mpr q)
    · refine gM_g ?_
      unfold rg_S
      simp only [Bool.or_eq_true, Bool.and_eq_true, Nat.beq_eq]
      omega
section
variable {gR gM gR' gM' : am_G} {i i' : Int32}
theorem sf_pg (a : sf_ok ps_S ct_S gR gM i gR' gM' i') : sf_ok pR_S gM_S gR gM i gR' gM' i' := sf_wk a (fun _ _ => ps_p) (fun _ _ z => gM_g (ct_r z))
theorem sf_rg (a : sf_ok ps_S rg_S gR gM i gR' gM' i') : sf_ok pR_S gM_S gR gM i gR' gM' i' := sf_wk a (fun _ _ => ps_p) (fun _ _ z => gM_g z)
theorem sf_tg (a : sf_ok ps_S tk_S gR gM i gR' gM' i') : sf_ok pR_S gM_S gR gM i gR' gM' i' := sf_wk a (fun _ _ => ps_p) (fun _ _ z => gM_g (ct_r (tk_in z)))
theorem sf_ng (a : sf_ok pR_S (os_S ct_S pM_S) gR gM i gR' gM' i') : sf_ok pR_S gM_S gR gM i gR' gM' i' := sf_wk a (fun _ _ z => z) (fun o k z => by
  unfold os_S at z
  rw [Bool.or_eq_true] at z
  rcases z with z | z
  · exact gM_g (ct_r z)
  · exact gM_p z)
end
/-- what a notation's declaration changes -/
def nR_Z (o k : Nat) : Bool := pR_S o k || (Nat.beq o 54 || ((Nat.beq o 49 && Nat.beq k 9) || (Nat.beq o 33 && Nat.beq k 14)))
def nM_Z (o k : Nat) : Bool := gM_S o k || (Nat.beq o 990 || (Nat.beq o 943 && (Nat.beq k 104 || Nat.beq k 145)))
theorem nR_i {o k : Nat} (h : pR_S o k = true) : nR_Z o k = true := by unfold nR_Z; rw [h]; rfl
theorem nM_i {o k : Nat} (h : gM_S o k = true) : nM_Z o k = true := by unfold nM_Z; rw [h]; rfl
def nR_A (o k : Nat) : Bool := Nat.beq o 54 || ((Nat.beq o 49 && Nat.beq k 9) || (Nat.beq o 33 && Nat.beq k 14))
def nM_A (o k : Nat) : Bool := Nat.beq o 990 || (Nat.beq o 943 && (Nat.beq k 26 || (Nat.beq k 104 || Nat.beq k 145)))
theorem nR_Az : sr_ok nR_A := fun o k h => zR_c.mpr (by
  unfold nR_A at h
  simp only [Bool.or_eq_true, Bool.and_eq_true, Nat.beq_eq] at h
  omega)
theorem nM_Az : sm_ok nM_A := fun o k h => zM_c.mpr (by
  unfold nM_A at h
  simp only [Bool.or_eq_true, Bool.and_eq_true, Nat.beq_eq] at h
  omega)
theorem nR_Ai {o k : Nat} (h : nR_A o k = true) : nR_Z o k = true := by
  unfold nR_A at h
  unfold nR_Z
  rw [h, Bool.or_true]
theorem nM_Ai {o k : Nat} (h : nM_A o k = true) : nM_Z o k = true := by
  unfold nM_A at h
  unfold nM_Z
  simp only [Bool.or_eq_true, Bool.and_eq_true, Nat.beq_eq] at h ⊢
  rcases h with h | ⟨h1, h2 | h2⟩
  · exact Or.inr (Or.inl h)
  · exact Or.inl (gM_c.mpr (by omega))
  · exact Or.inr (Or.inr ⟨h1, h2⟩)
section
variable {X : cx_T} {gR gM gR0 gM0 : am_G} {i i0 s t : Int32}
theorem sf_na {gR' gM' : am_G} {i' : Int32} (a : sf_ok nR_A nM_A gR gM i gR' gM' i') : sf_ok nR_Z nM_Z gR gM i gR' gM' i' := sf_wk a (fun _ _ => nR_Ai) (fun _ _ => nM_Ai)
theorem sf_nz {gR' gM' : am_G} {i' : Int32} (a : sf_ok pR_S gM_S gR gM i gR' gM' i') : sf_ok nR_Z nM_Z gR gM i gR' gM' i' := sf_wk a (fun _ _ => nR_i) (fun _ _ => nM_i)
/-- a literal that is no blank -/
theorem bl_l {c : Int32} (h1 : c ≠ 32) (h2 : c ≠ 9) (h3 : c ≠ 10) (h4 : c ≠ 13) : ch_bl c = false := by
  have k : ∀ d : Int32, c ≠ d → c.toInt ≠ d.toInt := fun d h e => h (Int32.toInt_inj.mp e)
  have a1 := k 32 h1
  have a2 := k 9 h2
  have a3 := k 10 h3
  have a4 := k 13 h4
  refine ch_f ?_
  unfold bl_P
  have e1 : (32 : Int32).toInt = 32 := rfl
  have e2 : (9 : Int32).toInt = 9 := rfl
  have e3 : (10 : Int32).toInt = 10 := rfl
  have e4 : (13 : Int32).toInt = 13 := rfl
  omega
/-- the end of a notation's declaration: M in state 142, 141 or 143 -/
theorem sy_327e {Q : Unit → am_G → Int32 → am_G → Prop} {u2 u3 : Int32} (h : sy_ok X gR gM i s) (hs : s = 142 ∨ s = 143 ∧ ch_bl i = false ∧ i = 62 ∨ s = 141 ∧ ch_bl i = false)
    (hK : ∀ gR' i' gM', sy_ok X gR' gM' i' 45 → sf_ok pR_S gM_S gR gM i gR' gM' i' → sx_ok X (if u3 = 0 then lo_g (ai_in (am_i gR' 49 9) 20) (some (.inl (), (am_si (am_si gR' 54 ((am_i gR' 49 9)).toNatClampNeg u2) 49 9 ((am_i gR' 49 9) + 1)))) else some (.inl (), gR')) i' gM' Q) : sx_ok X (fj_327_150 gR u2 u3) i gM Q := by
  unfold fj_327_150
  have b62 : ch_bl 62 = false := bl_l (by decide) (by decide) (by decide) (by decide)
  rcases hs with e | ⟨e, hb, hi⟩ | ⟨e, hb⟩
  · subst e
    obtain ⟨gR1, i1, g1, a1, a2, a3, a4, a5, a6, a7⟩ := sy_bk h (fun g c hg hc => by rw [ms_142 hg, hc]; rfl)
    rw [a1, lo_is]
    refine si_m a2 (si_bd (sy_on (t := 45) a3 (by decide) (fun _ => by unfold st_in; decide) (fun g hg => by rw [ms_142 hg, b62]; rfl) (fun g hg w _ => by rw [ms_142 hg, a5, cond_false, if_neg w])) ?_)
    rintro _ gR2 i2 g2 ⟨_, b1, b2, _, _⟩
    exact hK gR2 i2 g2 b1 (sf_tr (sf_tg a4) (sf_pg b2))
  · subst e
    subst hi
    obtain ⟨gR1, i1, g1, a1, a2, a3, a4, a5, a6, a7⟩ := sy_bk h (fun g c hg hc => by rw [ms_143 hg, hc]; rfl)
    obtain ⟨z1, z2, z3⟩ := a7 hb
    subst z1
    subst z2
    subst z3
    rw [a1, lo_is]
    refine si_bd (sy_on (t := 45) h (by decide) (fun _ => by unfold st_in; decide) (fun g hg => by rw [ms_143 hg, b62]; rfl) (fun g hg w _ => absurd rfl w)) ?_
    rintro _ gR2 i2 g2 ⟨_, b1, b2, _, _⟩
    exact hK gR2 i2 g2 b1 (sf_pg b2)
  · subst e
    obtain ⟨gR1, i1, g1, a1, a2, a3, a4, a5, a6, a7⟩ := sy_bs (t := 143) h (fun g c hg hc => by rw [ms_141 hg, hc]; rfl) (fun g c hg hc => by rw [ms_143 hg, hc]; rfl)
    obtain ⟨z1, z2, z3⟩ := a7 hb
    subst z1
    subst z2
    subst z3
    rw [a1, lo_is]
    refine si_bd (sy_on (t := 45) h (by decide) (fun _ => by unfold st_in; decide) (fun g hg => by rw [ms_141 hg, b62]; rfl) (fun g hg w _ => by rw [ms_141 hg, hb, cond_false, if_neg w])) ?_
    rintro _ gR2 i2 g2 ⟨_, b1, b2, _, _⟩
    exact hK gR2 i2 g2 b1 (sf_pg b2)
/-- behind a notation's name -/
theorem sy_327b {Q : Unit → am_G → Int32 → am_G → Prop} {u2 u3 : Int32} (h : sy_ok X gR gM i 132)
    (hK : ∀ gR' i' gM', sy_ok X gR' gM' i' 45 → sf_ok pR_S gM_S gR gM i gR' gM' i' → sx_ok X (if u3 = 0 then lo_g (ai_in (am_i gR' 49 9) 20) (some (.inl (), (am_si (am_si gR' 54 ((am_i gR' 49 9)).toNatClampNeg u2) 49 9 ((am_i gR' 49 9) + 1)))) else some (.inl (), gR')) i' gM' Q) : sx_ok X (fj_327_73 gR u2 u3) i gM Q := by
  unfold fj_327_73
  have b83 : ch_bl 83 = false := bl_l (by decide) (by decide) (by decide) (by decide)
  have b80 : ch_bl 80 = false := bl_l (by decide) (by decide) (by decide) (by decide)
  have b62 : ch_bl 62 = false := bl_l (by decide) (by decide) (by decide) (by decide)
  refine si_bd (sy_sp (t := 133) h (fun _ => by unfold st_in; decide) (fun g c hg => ms_132 hg) (fun g c hg hc => by rw [ms_133 hg, if_neg (bl_ne hc b83), if_neg (bl_ne hc b80), hc]; rfl)) ?_
  rintro _ gR1 i1 g1 ⟨h1, f1, n1, _, _⟩
  rw [sy_is h1, lo_ps]
  by_cases q83 : i1 = 83
  · rw [decide_eq_true q83, if_neg (by decide)]
    unfold fj_327_96 fj_327_101
    rw [nd_t, lo_tl]
    unfold fm_303 fj_303_21
    rw [sy_is h1, lo_ps, decide_eq_false (by rw [q83]; decide), if_pos (by decide), lo_ta]
    refine si_bd (sy_w1 (u := 1) (sz := 6) (to := 134) h1 wl_SYSTEM wm_SYSTEM (by unfold st_in; decide) (by decide) (by decide) (Or.inr rfl) (by decide) (by decide) (by decide) (by decide) (fun _ => by rw [q83, ms_133 (sy_26 h1), if_pos rfl]; rfl)) ?_
    rintro _ gR2 i2 g2 ⟨h2, f2⟩
    rw [lo_tl, if_pos (show vp_nar .boolean (b2 false) = 0 from rfl)]
    refine si_bd (sy_sp (t := 135) h2 (fun _ => by unfold st_in; decide) (fun g c hg => ms_134 hg) (fun g c hg hc => by rw [ms_135 hg, hc]; rfl)) ?_
    rintro _ gR3 i3 g3 ⟨h3, f3, n3, _, _⟩
    refine si_bd (sy_328 h3 n3) ?_
    rintro _ gR4 i4 g4 ⟨h4, f4⟩
    refine sy_327e h4 (Or.inl rfl) fun gR' i' gM' e1 e2 => hK gR' i' gM' e1 ?_
    exact sf_tr (sf_tr (sf_tr (sf_tr (sf_pg f1) (sf_pg f2)) (sf_pg f3)) (sf_rg f4)) e2
  · rw [decide_eq_false q83, if_pos (by decide), sy_is h1, lo_ps]
    by_cases q80 : i1 = 80
    · rw [decide_eq_true q80, if_neg (by decide)]
      unfold fj_327_96 fj_327_101
      rw [nd_t, lo_tl]
      unfold fm_303 fj_303_21
      rw [sy_is h1, lo_ps, decide_eq_true q80, if_neg (by decide), lo_ta]
      refine si_bd (sy_w1 (u := 1) (sz := 6) (to := 137) h1 wl_PUBLIC wm_PUBLIC (by unfold st_in; decide) (by decide) (by decide) (Or.inr rfl) (by decide) (by decide) (by decide) (by decide) (fun _ => by rw [q80, ms_133 (sy_26 h1), if_neg (by decide), if_pos rfl]; rfl)) ?_
      rintro _ gR2 i2 g2 ⟨h2, f2⟩
      rw [lo_tl, if_neg (show ¬ vp_nar .boolean (b2 true) = 0 by decide)]
      refine si_bd (sy_sp (t := 138) h2 (fun _ => by unfold st_in; decide) (fun g c hg => ms_137 hg) (fun g c hg hc => by rw [ms_138 hg, hc]; rfl)) ?_
      rintro _ gR3 i3 g3 ⟨h3, f3, n3, _, _⟩
      refine si_bd (sy_330 h3 n3) ?_
      rintro _ gR4 i4 g4 ⟨h4, f4⟩
      have F4 := sf_tr (sf_tr (sf_tr (sf_pg f1) (sf_pg f2)) (sf_pg f3)) (sf_rg f4)
      obtain ⟨gR5, i5, g5, a1, a2, a3, a4, a5, a6, a7⟩ := sy_bs (t := 143) h4 (fun g c hg hc => by rw [ms_141 hg, hc]; rfl) (fun g c hg hc => by rw [ms_143 hg, hc]; rfl)
      rw [a1, lo_is]
      refine si_m a2 ?_
      have F5 := sf_tr F4 (sf_pg a4)
      cases q : ch_bl i4 with
      | false =>
        rw [if_pos (show b2 false = 0 from rfl)]
        rw [q, cond_false] at a3
        exact sy_327e a3 (Or.inr (Or.inr ⟨rfl, a5⟩)) fun gR' i' gM' e1 e2 => hK gR' i' gM' e1 (sf_tr F5 e2)
      | true =>
        rw [if_neg (show ¬ b2 true = 0 by decide), sy_is a3, lo_ps]
        rw [q, cond_true] at a3
        by_cases q62 : i5 = 62
        · rw [decide_eq_true q62, if_neg (by decide)]
          exact sy_327e a3 (Or.inr (Or.inl ⟨rfl, a5, q62⟩)) fun gR' i' gM' e1 e2 => hK gR' i' gM' e1 (sf_tr F5 e2)
        · rw [decide_eq_false q62, if_pos (by decide)]
          by_cases qe : i5 = -1
          · refine si_bd (Q := fun _ _ _ _ => False) ?_ fun _ _ _ _ z => z.elim
            unfold fm_328
            refine si_bd (Q := fun _ _ _ _ => False) ?_ fun _ _ _ _ z => z.elim
            unfold fm_250
            rw [sy_h a3, lo_ps, if_neg (by rw [qe]; decide), if_neg (by rw [qe]; decide)]
            unfold fj_250_26
            exact si_bd (sy_nd (Q := fun _ _ _ _ => False) a3 (fun _ => by unfold st_in; decide) fun w => absurd qe w) fun _ _ _ _ z => z.elim
          · obtain ⟨c1, c2, c3⟩ := sy_ag (SR := ps_S) (SM := rg_S) (t := 135) (gM' := am_si (am_si (am_si g5 943 29 0) 943 29 1) 943 26 135) a3 qe (by rw [ms_143 (sy_26 a3), a5, cond_false, if_neg q62]) rfl rfl (ag_si rfl (ag_si rfl (ag_si rfl ag_re))) (fx_tr (fx_tr (fx_si rfl) (fx_si rfl)) (fx_si rfl)) rg_z rfl (by decide)
            refine si_m c1 (si_bd (sy_328 c2 a5) ?_)
            rintro _ gR6 i6 g6 ⟨h6, f6⟩
            exact sy_327e h6 (Or.inl rfl) fun gR' i' gM' e1 e2 => hK gR' i' gM' e1 (sf_tr (sf_tr (sf_tr F5 (sf_rg c3)) (sf_rg f6)) e2)
    · rw [decide_eq_false q80, if_pos (by decide)]
      unfold fj_327_101
      exact si_bd (sy_n1 (Q := fun _ _ _ _ => False) h1 (fun _ => by unfold st_in; decide) (fun g hg _ => by rw [ms_133 hg, if_neg q83, if_neg q80, n1]; rfl)) fun _ _ _ _ z => z.elim
/-- a notation's declaration, M behind <! with its N in hand -/
theorem sy_327 (h : sy_ok X gR gM i 2) (hi : i = 78) (h27 : am_i gM 943 27 = 2) (W : no_w gR gM) :
    sx_ok X (fm_327 gR) i gM fun _ gR' i' gM' => sy_ok X gR' gM' i' 45 ∧ no_w gR' gM' ∧ sf_ok nR_Z nM_Z gR gM i gR' gM' i' ∧ br_q gR gM gR' gM' := by
  unfold fm_327
  refine sy_w2 (u := 1) (sz := 8) (to := 130) h wl_NOTA wl_TION wm_NOTATION (by unfold st_in; decide) (by decide) (by decide) (Or.inr rfl) (by decide) (by decide) (by decide) (by decide) (by decide) (by decide) (fun _ => ?_) ?_
  · rw [hi, ms_2 (sy_26 h)]
    unfold fm_112
    rw [if_neg (by decide), show am_i (am_si gM 943 29 0) 943 27 = am_i gM 943 27 from rfl, h27, if_neg (by decide), if_neg (by decide), if_neg (by decide), if_neg (by decide), if_pos rfl, lo_id]
    rfl
  intro gR1 i1 g1 h1 f1
  refine si_bd (sy_sp (t := 131) h1 (fun _ => by unfold st_in; decide) (fun g c hg => ms_130 hg) (fun g c hg hc => by rw [ms_131 hg, hc]; rfl)) ?_
  rintro _ gR2 i2 g2 ⟨h2, f2, n2, _, bn2⟩
  rw [sy_w h2, lo_ps]
  refine si_bd (sy_nm (SM := ct_S) (g0 := am_si g2 943 29 0) (k := 15) h2 bn2 (fun _ => by unfold st_in; decide) (fun _ => by rw [ms_131 (sy_26 h2), n2]; rfl) (fx_si rfl) ct_z (ag_si rfl ag_re) (ag_si rfl ag_re) rfl ?_) ?_
  · intro gA gB m hk _ _ _ _
    refine ⟨gB, ?_, ag_re, rfl⟩
    rw [nk_15 hk]
    unfold fm_109
    rw [if_neg (by decide), lo_id]
  rintro r gR3 i3 g3 ⟨m, gM1, d, nq, f3, k24, k25, _, hm⟩
  have F3 : sf_ok pR_S gM_S gR gM i gR3 gM1 i3 := sf_tr (sf_tr (sf_pg f1) (sf_pg f2)) (sf_ng f3)
  obtain ⟨K, w1, w2, w3, w4⟩ := W
  have r3 : am_i gR3 49 9 = nI K := ((F3.1.1 49 9 rfl).1).trans w2
  have m3 : am_i gM1 943 104 = nI K := ((F3.2.1.1 943 104 rfl).1).trans w3
  have e54 : ∀ k, am_i gR3 54 k = am_i gR 54 k := fun k => (F3.1.1 54 k rfl).1
  have e990 : ∀ k, am_i gM1 990 k = am_i gM 990 k := fun k => (F3.2.1.1 990 k rfl).1
  have nqk : ∀ k, k < K → nq_ok gR3 gM1 (am_i gR3 54 k) (am_i gM1 990 k) := fun k hk => by rw [e54, e990]; exact F3.2.2.1 _ _ (w4 k hk)
  have hany : ((List.range K).any fun k => decide (am_i gR3 54 k = r)) = ((List.range K).any fun k => decide (am_i gM1 990 k = nI m)) := an_cg fun k hk => by
    have := nq_eq d.1.2.2.1.1 (nqk k hk) nq
    by_cases q : am_i gR3 54 k = r
    · rw [decide_eq_true q, decide_eq_true (this.mp q)]
    · rw [decide_eq_false q, decide_eq_false fun z => q (this.mpr z)]
  rw [cm_167 r3 w1, lo_ps]
  have hn := nk_15 (m := nI m) (x := 0) k24
  rw [cm_109 m3 w1, ← hany] at hn
  cases q : (List.range K).any fun k => decide (am_i gR3 54 k = r) with
  | true =>
    rw [q, if_pos rfl] at hn
    rw [if_neg (show ¬ b2 true = 0 by decide)]
    obtain ⟨c1, c2, c3⟩ := sy_go (SR := nR_A) (SM := nM_A) (t := 132) d hn (fx_tr (fx_si rfl) (fx_si rfl)) nM_Az (ag_si rfl (ag_si rfl ag_re)) rfl rfl rfl (by decide)
    have e9 : fm_239 gR3 23 = some (am_si gR3 33 14 (am_i gR3 33 14 ||| (1 <<< ((23 : Int32) &&& 31)))) := rfl
    rw [e9, lo_ps]
    obtain ⟨c4, c5⟩ := sy_R (SR := nR_A) (SM := nM_A) (gR' := am_si gR3 33 14 (am_i gR3 33 14 ||| (1 <<< ((23 : Int32) &&& 31)))) c2 (fx_si rfl) nR_Az (fun k => rfl)
    refine si_m c1 (sy_327b c4 fun gR' i' gM' e1 e2 => ?_)
    rw [if_neg (show ¬ b2 true = 0 by decide)]
    have F : sf_ok nR_Z nM_Z gR3 gM1 i3 gR' gM' i' := sf_tr (sf_tr (sf_na c3) (sf_na c5)) (sf_nz e2)
    refine si_rt ⟨e1, ⟨K, w1, ?_, ?_, fun k hk => ?_⟩, sf_tr (sf_nz F3) F, ?_⟩
    · exact ((e2.1.1 49 9 rfl).1).trans r3
    · exact ((e2.2.1.1 943 104 rfl).1).trans m3
    · rw [(e2.1.1 54 k rfl).1, (e2.2.1.1 990 k rfl).1]
      exact F.2.2.1 _ _ (nqk k hk)
    · refine ⟨1 <<< ((23 : Int32) &&& 31), ?_, ?_⟩
      · rw [(e2.1.1 33 14 rfl).1]
        show am_i gR3 33 14 ||| _ = _
        rw [(F3.1.1 33 14 rfl).1]
      · rw [(e2.2.1.1 943 145 rfl).1]
        show am_i gM1 943 145 ||| _ = _
        rw [(F3.2.1.1 943 145 rfl).1]
  | false =>
    rw [q, if_neg (by decide)] at hn
    rw [if_pos (show b2 false = 0 from rfl), r3]
    by_cases q20 : K = 20
    · rw [if_pos q20] at hn
      rw [if_pos (by rw [q20]; rfl)]
      rw [k25] at hn
      have hwh : wh_ok gR3 (pw_R gR2) := by
        have := wh_pw gR2
        unfold wh_ok at this ⊢
        rw [(f3.1.1 39 4 rfl).1, (f3.1.1 39 5 rfl).1]
        exact this
      exact sy_gl d hn hwh ag_re rfl
    · rw [if_neg q20] at hn
      rw [if_neg (fun e => q20 ((nI_eq (by omega) (by decide)).mp (e.trans (show (20 : Int32) = nI 20 from rfl))))]
      obtain ⟨c1, c2, c3⟩ := sy_go (SR := nR_A) (SM := nM_A) (t := 132) d hn (fx_tr (fx_tr (fx_si rfl) (fx_si rfl)) (fx_si rfl)) nM_Az (ag_si rfl (ag_si rfl (ag_si rfl ag_re))) rfl rfl rfl (by decide)
      refine si_m c1 (sy_327b c2 fun gR' i' gM' e1 e2 => ?_)
      rw [if_pos (show b2 false = 0 from rfl)]
      have r9 : am_i gR' 49 9 = nI K := ((e2.1.1 49 9 rfl).1).trans r3
      rw [r9, ai_nI (by omega) (by omega), lo_gt, nI_clamp (by omega), nI_1]
      have F1 : sf_ok nR_Z nM_Z gR3 gM1 i3 gR' gM' i' := sf_tr (sf_na c3) (sf_nz e2)
      obtain ⟨c4, c5⟩ := sy_R (SR := nR_A) (SM := nM_A) (gR' := am_si (am_si gR' 54 K r) 49 9 (nI (K + 1))) e1 (fx_tr (fx_si rfl) (fx_si rfl)) nR_Az (fun k => rfl)
      have F := sf_tr F1 (sf_na c5)
      refine si_rt ⟨c4, ⟨K + 1, by omega, rfl, ?_, fun k hk => ?_⟩, sf_tr (sf_nz F3) F, ?_⟩
      · exact ((e2.2.1.1 943 104 rfl).1).trans rfl
      · have ea : am_i (am_si (am_si gR' 54 K r) 49 9 (nI (K + 1))) 54 k = if k = K then r else am_i gR3 54 k := by
          rw [gi_si, if_neg (by omega), gi_si]
          by_cases z : k = K
          · rw [if_pos ⟨rfl, z⟩, if_pos z]
          · rw [if_neg (fun y => z y.2), if_neg z]; exact (e2.1.1 54 k rfl).1
        have eb : am_i gM' 990 k = if k = K then nI m else am_i gM1 990 k := by
          rw [(e2.2.1.1 990 k rfl).1, gi_si, if_neg (by omega), gi_si, if_neg (by omega), gi_si]
          by_cases z : k = K
          · rw [if_pos ⟨rfl, z⟩, if_pos z]
          · rw [if_neg (fun y => z y.2), if_neg z]
        rw [ea, eb]
        by_cases z : k = K
        · rw [if_pos z, if_pos z]; exact F.2.2.1 _ _ nq
        · rw [if_neg z, if_neg z]; exact F.2.2.1 _ _ (nqk k (by omega))
      · refine br_re ?_ ?_
        · show am_i gR' 33 14 = _
          rw [(e2.1.1 33 14 rfl).1]; exact (F3.1.1 33 14 rfl).1
        · rw [(e2.2.1.1 943 145 rfl).1]; exact (F3.2.1.1 943 145 rfl).1
  end
