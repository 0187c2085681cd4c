/-! Names: each program's pool; a search in the chains finds what there is. -/
def np_pv (S : Nat → List Int32) (H : List Int32 → Nat) (b h : Nat) (p : Int32) : Prop := (p = -1 ∧ ∀ j, j < b → H (S j) ≠ h) ∨ ∃ q, q < b ∧ p = nI q ∧ H (S q) = h ∧ ∀ j, q < j → j < b → H (S j) ≠ h
def np_ok (sz : Nat) (S : Nat → List Int32) (H : List Int32 → Nat) (nx hd : Nat → Int32) (hm : Nat) : Prop :=
  (∀ i j, i < sz → j < sz → S i = S j → i = j) ∧ (∀ i, i < sz → np_pv S H i (H (S i)) (nx i)) ∧ ∀ h, h < hm → np_pv S H sz h (hd h)
theorem np_se {α β : Type} {b : (α → Option β) → α → Option β} {sz hm : Nat} {S : Nat → List Int32} {H : List Int32 → Nat} {nx hd : Nat → Int32} (N : np_ok sz S H nx hd hm) (w : List Int32) (X : Int32 → α) (r : Nat → Option β) (d : Option β)
    (hx : ∀ K, b K (X (-1)) = d) (hp : ∀ K q, q < sz → S q = w → b K (X (nI q)) = r q) (hs : ∀ K q, q < sz → S q ≠ w → b K (X (nI q)) = K (X (nx q))) :
    ∀ (c fuel : Nat) (p : Int32), c ≤ sz → c < fuel → np_pv S H c (H w) p → (∀ j, c ≤ j → j < sz → S j ≠ w) → (∃ q, q < sz ∧ S q = w ∧ lo_it b fuel (X p) = r q) ∨ ((∀ q, q < sz → S q ≠ w) ∧ lo_it b fuel (X p) = d) := by
  intro c
  induction c using Nat.strongRecOn with
  | _ c ih =>
    intro fuel p hc hf hp1 hno
    obtain ⟨m, rfl⟩ : ∃ m, fuel = m + 1 := ⟨fuel - 1, by omega⟩
    rcases hp1 with ⟨e, h1⟩ | ⟨q, hq, e, h1, h2⟩
    · subst e
      refine Or.inr ⟨fun q hq he => ?_, hx _⟩
      rcases Nat.lt_or_ge q c with z | z
      · exact h1 q z (by rw [he])
      · exact hno q z hq he
    · subst e
      by_cases z : S q = w
      · exact Or.inl ⟨q, by omega, z, hp _ q (by omega) z⟩
      · have e : lo_it b (m + 1) (X (nI q)) = lo_it b m (X (nx q)) := hs _ q (by omega) z
        rw [e]
        have g1 := N.2.1 q (by omega)
        rw [h1] at g1
        refine ih q hq m _ (by omega) (by omega) g1 fun j j1 j2 => ?_
        by_cases y : j = q
        · rw [y]; exact z
        · rcases Nat.lt_or_ge j c with x | x
          · intro e; exact h2 j (by omega) x (by rw [e])
          · exact hno j x j2
theorem np_sF {α β : Type} {b : (α → Option β) → α → Option β} {sz hm : Nat} {S : Nat → List Int32} {H : List Int32 → Nat} {nx hd : Nat → Int32} (N : np_ok sz S H nx hd hm) (w : List Int32) (X : Int32 → α) (r : Nat → Option β) (d : Option β)
    (hw : H w < hm) (hz : sz < 1000000000) (hx : ∀ K, b K (X (-1)) = d) (hp : ∀ K q, q < sz → S q = w → b K (X (nI q)) = r q) (hs : ∀ K q, q < sz → S q ≠ w → b K (X (nI q)) = K (X (nx q))) :
    (∃ q, q < sz ∧ S q = w ∧ lo_it b nf_F (X (hd (H w))) = r q) ∨ ((∀ q, q < sz → S q ≠ w) ∧ lo_it b nf_F (X (hd (H w))) = d) :=
  np_se N w X r d hx hp hs sz nf_F _ (Nat.le_refl _) (Nat.lt_of_lt_of_le hz nf_le) (N.2.2 _ hw) fun j h1 h2 => absurd h2 (Nat.not_lt.mpr h1)
/-- a new name comes to a pool -/
theorem np_add {sz hm : Nat} {S S' : Nat → List Int32} {H : List Int32 → Nat} {nx hd nx' hd' : Nat → Int32} (N : np_ok sz S H nx hd hm) (w : List Int32) (hw : H w < hm) (hno : ∀ q, q < sz → S q ≠ w) (hS : ∀ i, i < sz → S' i = S i) (hS1 : S' sz = w)
    (hn : ∀ i, i < sz → nx' i = nx i) (hn1 : nx' sz = hd (H w)) (hh : ∀ h, h < hm → h ≠ H w → hd' h = hd h) (hh1 : hd' (H w) = nI sz) : np_ok (sz + 1) S' H nx' hd' hm := by
  have pv : ∀ b h p, b ≤ sz → np_pv S H b h p → np_pv S' H b h p := by
    rintro b h p hb (⟨e, h1⟩ | ⟨q, hq, e, h1, h2⟩)
    · exact Or.inl ⟨e, fun j hj => by rw [hS j (by omega)]; exact h1 j hj⟩
    · exact Or.inr ⟨q, hq, e, by rw [hS q (by omega)]; exact h1, fun j j1 j2 => by rw [hS j (by omega)]; exact h2 j j1 j2⟩
  refine ⟨fun i j hi hj e => ?_, fun i hi => ?_, fun h hh2 => ?_⟩
  · by_cases a : i = sz
    · by_cases c : j = sz
      · omega
      · rw [a, hS1, hS j (by omega)] at e
        exact absurd e.symm (hno j (by omega))
    · by_cases c : j = sz
      · rw [c, hS1, hS i (by omega)] at e
        exact absurd e (hno i (by omega))
      · rw [hS i (by omega), hS j (by omega)] at e
        exact N.1 i j (by omega) (by omega) e
  · by_cases a : i = sz
    · rw [a, hn1, hS1]
      exact pv _ _ _ (Nat.le_refl _) (N.2.2 _ hw)
    · rw [hn i (by omega), hS i (by omega)]
      exact pv _ _ _ (by omega) (N.2.1 i (by omega))
  · by_cases a : h = H w
    · rw [a, hh1]
      exact Or.inr ⟨sz, Nat.lt_succ_self _, rfl, by rw [hS1], fun j j1 j2 => absurd j1 (by omega)⟩
    · rw [hh h hh2 a]
      rcases pv _ _ _ (Nat.le_refl _) (N.2.2 h hh2) with ⟨e, h1⟩ | ⟨q, hq, e, h1, h2⟩
      · refine Or.inl ⟨e, fun j hj => ?_⟩
        by_cases y : j = sz
        · rw [y, hS1]; exact fun z => a z.symm
        · exact h1 j (by omega)
      · refine Or.inr ⟨q, by omega, e, h1, fun j j1 j2 => ?_⟩
        by_cases y : j = sz
        · rw [y, hS1]; exact fun z => a z.symm
        · exact h2 j j1 (by omega)
theorem fo_fl {β : Type} (F : β → Int32 → β) (f : Nat → Int32) (a : Nat) (s : β) : ∀ n, fo_n (fun i s => F s (f (a + i))) n s = (sl_l f a n).foldl F s
  | 0 => rfl
  | n + 1 => by
    show F (fo_n _ n s) (f (a + n)) = _
    rw [fo_fl F f a s n]
    unfold sl_l
    rw [List.range_succ, List.map_append, List.foldl_append]
    rfl
theorem nI_16 {q : Nat} (h : q < 32768) : (nI q).toInt16.toInt32 = nI q := by
  rw [← Int32.toInt_inj, Int16.toInt_toInt32, Int32.toInt_toInt16, nI_toInt (by omega)]
  unfold Int.bmod
  dsimp only
  split <;> omega
theorem nI_8 {q : Nat} (h : q < 128) : (nI q).toInt8.toInt32 = nI q := by
  rw [← Int32.toInt_inj, Int8.toInt_toInt32, Int32.toInt_toInt8, nI_toInt (by omega)]
  unfold Int.bmod
  dsimp only
  split <;> omega
-- R's pool
def rn_s (g : am_G) (i : Nat) : List Int32 := sl_l (am_i g 44) (am_i g 45 i).toNatClampNeg (am_i g 46 i).toNatClampNeg
def rn_x (h : Int32) : Int32 := (h ^^^ (h.toUInt32 >>> ((10 : Int32).toUInt32 &&& Int32.toUInt32 31)).toInt32) &&& 1023
def rn_h (w : List Int32) : Nat := (rn_x (w.foldl (fun h c => 31 * h + c) 0)).toNatClampNeg
theorem rn_xl (h : Int32) : ∃ j, j < 1024 ∧ rn_x h = nI j := pk_andE _ 10 (by decide)
theorem rn_hl (w : List Int32) : rn_h w < 1024 ∧ rn_x (w.foldl (fun h c => 31 * h + c) 0) = nI (rn_h w) := by
  unfold rn_h
  obtain ⟨j, hj, e⟩ := rn_xl (w.foldl (fun h c => 31 * h + c) 0)
  rw [e, nI_clamp (by omega)]
  exact ⟨hj, rfl⟩
/-- R's pool holds sz names of u characters -/
def rn_ok (g : am_G) (sz u : Nat) : Prop := am_i g 43 5 = nI sz ∧ am_i g 43 6 = nI u ∧ sz ≤ 7200 ∧ u ≤ 14540 ∧ (∀ i, i < sz → ∃ a z, am_i g 45 i = nI a ∧ am_i g 46 i = nI z ∧ z ≤ 60 ∧ a + z ≤ u) ∧ np_ok sz (rn_s g) rn_h (am_i g 47) (am_i g 48) 1024
section
variable {g : am_G} {sz u d : Nat}
theorem cm_230 (hd : am_i g 43 7 = nI d) (h : d < 2 ^ 31) : fm_230 g = some (b2 (decide (60 < d))) := by
  unfold fm_230
  rw [hd, show (60 : Int32) = nI 60 from rfl]
  by_cases q : d ≤ 60
  · rw [if_pos (nI_le q (by omega)), decide_eq_false (by omega)]; rfl
  · rw [if_neg (nI_ge (by omega) h), decide_eq_true (by omega)]; rfl
theorem cm_231 (hu : am_i g 43 6 = nI u) (hul : u ≤ 14540) (hd : am_i g 43 7 = nI d) (h : d ≤ 60) : fm_231 g = some (nI (rn_h (sl_l (am_i g 44) u d))) := by
  unfold fm_231 fh_231_4
  have := (lo_fo (b := fun k (x : Int32 × Int32) => fb_231_4 g k x.1 x.2) (fun i (s : Int32) => (s, nI i)) (fun i s => 31 * s + am_i g 44 (u + i)) (fun _ _ => True) d (fun s => some (rn_x s)) ?_ ?_ 0 trivial (by omega)).1
  · rw [← (rn_hl _).2, ← fo_fl]
    exact this
  · intro K s _
    unfold fb_231_4
    dsimp only
    rw [hd, if_pos (nI_le (Nat.le_refl _) (by omega))]
    rfl
  · intro K i s hi _
    refine ⟨?_, trivial⟩
    unfold fb_231_4
    dsimp only
    rw [hd, if_neg (nI_ge hi (by omega)), hu, nI_add, ai_nI (by omega) (by omega), lo_gt, lo_ll, nI_clamp (by omega), nI_1]
theorem cm_232 (N : rn_ok g sz u) (hd : am_i g 43 7 = nI d) (h : d ≤ 60) {q : Nat} (hq : q < sz) : fm_232 g (nI q) = some (b2 (decide (rn_s g q = sl_l (am_i g 44) u d))) := by
  obtain ⟨n1, n2, n3, n4, n5, n6⟩ := N
  obtain ⟨a, z, e1, e2, hz, haz⟩ := n5 q hq
  unfold fm_232
  rw [ai_nI (by omega) (by omega), lo_gt, nI_clamp (by omega), e2, hd]
  have main : ∀ l : Bool, fh_232_21 g (nI q, b2 l, 0) = some (b2 (l && (List.range d).all fun i => decide (am_i g 44 (a + i) = am_i g 44 (u + i)))) := by
    intro l
    unfold fh_232_21
    refine lo_all (b := fun k (x : Int32 × Int32 × Int32) => fb_232_21 g k x.1 x.2.1 x.2.2) (fun i l => (nI q, b2 l, nI i)) (fun i => decide (am_i g 44 (a + i) = am_i g 44 (u + i))) d (fun l => some (b2 l)) ?_ ?_ ?_ l (by omega)
    · intro K l
      unfold fb_232_21
      dsimp only
      rw [hd, if_pos (nI_le (Nat.le_refl _) (by omega)), b2_n]
    · intro K i hi
      unfold fb_232_21
      dsimp only
      rw [b2_n, if_pos (show b2 false = 0 from rfl)]
      split <;> rfl
    · intro K i hi
      unfold fb_232_21
      dsimp only
      rw [hd, if_neg (nI_ge hi (by omega)), if_neg (show ¬ b2 true = 0 by decide), ai_nI (by omega) (by omega), lo_gt, nI_clamp (by omega), e1, nI_add, ai_nI (by omega) (by omega), lo_gt, n2, nI_add, ai_nI (by omega) (by omega), lo_gt,
        nI_clamp (by omega), nI_clamp (by omega), nI_1]
      by_cases y : am_i g 44 (a + i) = am_i g 44 (u + i)
      · rw [if_pos y, decide_eq_true y]; rfl
      · rw [if_neg y, decide_eq_false y]; rfl
  have s0 : rn_s g q = sl_l (am_i g 44) a z := by unfold rn_s; rw [e1, e2, nI_clamp (by omega), nI_clamp (by omega)]
  rw [s0]
  by_cases y : z = d
  · subst y
    rw [if_pos rfl, show (1 : Int32) = b2 true from rfl, main, Bool.true_and]
    congr 2
    rw [Bool.eq_iff_iff, List.all_eq_true, decide_eq_true_iff, sl_eq]
    constructor
    · intro h; exact ⟨rfl, fun i hi => of_decide_eq_true (h i (List.mem_range.mpr hi))⟩
    · intro h i hi; exact decide_eq_true (h.2 i (List.mem_range.mp hi))
  · rw [if_neg (fun e => y ((nI_eq (by omega) (by omega)).mp e)), show fh_232_21 g (nI q, 0, 0) = _ from main false, Bool.false_and, decide_eq_false]
    intro e
    exact y (sl_eq.mp e).1
/-- R's search: the number of the name that was read, or -1 -/
theorem cm_233 (N : rn_ok g sz u) (hd : am_i g 43 7 = nI d) (h : d ≤ 60) : (∃ q, q < sz ∧ rn_s g q = sl_l (am_i g 44) u d ∧ fm_233 g = some (nI q)) ∨ ((∀ q, q < sz → rn_s g q ≠ sl_l (am_i g 44) u d) ∧ fm_233 g = some (-1)) := by
  unfold fm_233
  rw [cm_230 hd (by omega), lo_ps, decide_eq_false (by omega), if_pos (show b2 false = 0 from rfl), cm_231 N.2.1 N.2.2.2.1 hd h, lo_ps, ai_nI (rn_hl _).1 (Nat.lt_trans (rn_hl _).1 (by decide)), lo_gt, lo_ll, nI_clamp (Nat.lt_trans (rn_hl _).1 (by decide))]
  have hz := N.2.2.1
  refine np_sF (b := fun k x => fb_233_19 g k x) N.2.2.2.2.2 (sl_l (am_i g 44) u d) (fun x => x) (fun q => some (nI q)) (some (-1)) (rn_hl _).1 (by omega) ?_ ?_ ?_
  · intro K
    unfold fb_233_19
    rfl
  · intro K q hq hs
    unfold fb_233_19
    rw [if_neg (fun e => absurd (nI_pos' (n := q) (by omega)) (by rw [e]; decide)), cm_232 N hd h hq, lo_ps, decide_eq_true hs]
    rfl
  · intro K q hq hs
    unfold fb_233_19
    rw [if_neg (fun e => absurd (nI_pos' (n := q) (by omega)) (by rw [e]; decide)), cm_232 N hd h hq, lo_ps, decide_eq_false hs, if_pos (show b2 false = 0 from rfl), ai_nI (by omega) (by omega), lo_gt, lo_ll, nI_clamp (by omega)]
end
/-- R's pool with one more name -/
def rn_ad (g : am_G) (sz u d h : Nat) : am_G := am_si (am_si (am_si (am_si (am_si (am_si g 45 sz (nI u)) 46 sz (nI d)) 47 sz (am_i g 48 h)) 48 h (nI sz)) 43 6 (nI (u + d))) 43 5 (nI (sz + 1))
theorem rn_fr {g : am_G} {sz u d h o k : Nat} (h1 : o ≠ 43 ∨ (k ≠ 5 ∧ k ≠ 6)) (h5 : o ≠ 45) (h6 : o ≠ 46) (h7 : o ≠ 47) (h8 : o ≠ 48) : am_i (rn_ad g sz u d h) o k = am_i g o k := by
  unfold rn_ad
  simp only [gi_si]
  rw [if_neg (by omega), if_neg (by omega), if_neg (by omega), if_neg (by omega), if_neg (by omega), if_neg (by omega)]
theorem rn_pv {S : Nat → List Int32} {H : List Int32 → Nat} {b h : Nat} {p : Int32} (K : np_pv S H b h p) (hb : b ≤ 32768) : p.toInt16.toInt32 = p := by
  rcases K with ⟨e, _⟩ | ⟨q, hq, e, _⟩
  · rw [e]; rfl
  · rw [e]; exact nI_16 (by omega)
section
variable {g : am_G} {sz u d : Nat}
theorem rn_new (N : rn_ok g sz u) (h : d ≤ 60) (hs : sz < 7200) (hu : u + d ≤ 14540) (hno : ∀ q, q < sz → rn_s g q ≠ sl_l (am_i g 44) u d) :
    rn_ok (rn_ad g sz u d (rn_h (sl_l (am_i g 44) u d))) (sz + 1) (u + d) ∧ rn_s (rn_ad g sz u d (rn_h (sl_l (am_i g 44) u d))) sz = sl_l (am_i g 44) u d ∧ ∀ j, j < sz → rn_s (rn_ad g sz u d (rn_h (sl_l (am_i g 44) u d))) j = rn_s g j := by
  generalize hw : rn_h (sl_l (am_i g 44) u d) = hh
  have e44 : ∀ k, am_i (rn_ad g sz u d hh) 44 k = am_i g 44 k := fun k => rn_fr (by omega) (by omega) (by omega) (by omega) (by omega)
  have e45 : ∀ k, am_i (rn_ad g sz u d hh) 45 k = if k = sz then nI u else am_i g 45 k := fun k => by unfold rn_ad; simp [gi_si]
  have e46 : ∀ k, am_i (rn_ad g sz u d hh) 46 k = if k = sz then nI d else am_i g 46 k := fun k => by unfold rn_ad; simp [gi_si]
  have e47 : ∀ k, am_i (rn_ad g sz u d hh) 47 k = if k = sz then am_i g 48 hh else am_i g 47 k := fun k => by unfold rn_ad; simp [gi_si]
  have e48 : ∀ k, am_i (rn_ad g sz u d hh) 48 k = if k = hh then nI sz else am_i g 48 k := fun k => by unfold rn_ad; simp [gi_si]
  have s1 : rn_s (rn_ad g sz u d hh) sz = sl_l (am_i g 44) u d := by
    unfold rn_s
    rw [e45, e46, if_pos rfl, if_pos rfl, nI_clamp (by omega), nI_clamp (by omega)]
    exact sl_cg fun i _ => e44 _
  have s2 : ∀ j, j < sz → rn_s (rn_ad g sz u d hh) j = rn_s g j := fun j hj => by
    unfold rn_s
    rw [e45, e46, if_neg (by omega), if_neg (by omega)]
    exact sl_cg fun i _ => e44 _
  obtain ⟨n1, n2, n3, n4, n5, n6⟩ := N
  refine ⟨⟨?_, ?_, by omega, by omega, fun i hi => ?_, ?_⟩, s1, s2⟩
  · unfold rn_ad; simp [gi_si]
  · unfold rn_ad; simp [gi_si]
  · rw [e45, e46]
    by_cases y : i = sz
    · rw [if_pos y, if_pos y]; exact ⟨u, d, rfl, rfl, h, Nat.le_refl _⟩
    · rw [if_neg y, if_neg y]
      obtain ⟨a, z, q1, q2, q3, q4⟩ := n5 i (by omega)
      exact ⟨a, z, q1, q2, q3, by omega⟩
  · refine np_add n6 (sl_l (am_i g 44) u d) (rn_hl _).1 hno s2 s1 (fun i hi => by rw [e47, if_neg (by omega)]) (by rw [e47, if_pos rfl, hw]) (fun k _ hk => by rw [e48, if_neg (by rw [← hw]; exact hk)]) (by rw [e48, if_pos hw])
/-- R takes the name that was read -/
theorem cm_234 (N : rn_ok g sz u) (hd : am_i g 43 7 = nI d) (h : d ≤ 60) (hs : sz < 7200) :
    (∃ q, q < sz ∧ rn_s g q = sl_l (am_i g 44) u d ∧ fm_234 g = some (nI q, g)) ∨ ((∀ q, q < sz → rn_s g q ≠ sl_l (am_i g 44) u d) ∧ fm_234 g = some (nI sz, rn_ad g sz u d (rn_h (sl_l (am_i g 44) u d)))) := by
  unfold fm_234
  have hsz := N.2.2.1
  rcases cm_233 N hd h with ⟨q, hq, e1, e2⟩ | ⟨hno, e2⟩
  · refine Or.inl ⟨q, hq, e1, ?_⟩
    rw [e2, lo_ps, if_neg (fun e => absurd (nI_pos' (n := q) (by omega)) (by rw [e]; decide))]
  · refine Or.inr ⟨hno, ?_⟩
    rw [e2, lo_ps, if_pos rfl, cm_231 N.2.1 N.2.2.2.1 hd h, lo_ps, N.1, ai_nI hs (by omega), lo_gt, ai_nI (rn_hl _).1 (Nat.lt_trans (rn_hl _).1 (by decide)), lo_gt, nI_clamp (by omega), nI_clamp (Nat.lt_trans (rn_hl _).1 (by decide)), N.2.1, hd]
    rw [nI_8 (by omega), nI_8 (by omega), nI_16 (by omega), nI_16 (by omega), nI_add, nI_1, nI_pred, rn_pv (N.2.2.2.2.2.2.2 _ (rn_hl _).1) (by omega)]
    rfl
end
-- M's pool
def mn_s (g : am_G) (i : Nat) : List Int32 := sl_l (am_i g 951) (am_i g 952 i).toNatClampNeg (am_i g 953 i).toNatClampNeg
def mn_f (h c : Int32) : Int32 := (31 * h + c) &&& 511
def mn_h (w : List Int32) : Nat := (w.foldl mn_f (nI w.length)).toNatClampNeg
theorem mn_hl {w : List Int32} (hw : w ≠ []) : mn_h w < 512 ∧ w.foldl mn_f (nI w.length) = nI (mn_h w) := by
  have : ∀ (l : List Int32) (s : Int32), l ≠ [] → ∃ j, j < 512 ∧ l.foldl mn_f s = nI j := by
    intro l
    induction l with
    | nil => intro s h; exact absurd rfl h
    | cons c l ih =>
      intro s _
      rw [List.foldl_cons]
      cases l with
      | nil => exact pk_andE _ 9 (by decide)
      | cons c2 l => exact ih _ (by simp)
  obtain ⟨j, hj, e⟩ := this w _ hw
  unfold mn_h
  rw [e, nI_clamp (by omega)]
  exact ⟨hj, rfl⟩
/-- M's pool holds sz names of u characters -/
def mn_ok (g : am_G) (sz u : Nat) : Prop := am_i g 943 21 = nI sz ∧ am_i g 943 17 = nI u ∧ sz ≤ 6000 ∧ u ≤ 19000 ∧ (∀ i, i < sz → ∃ a z, am_i g 952 i = nI a ∧ am_i g 953 i = nI z ∧ a + z ≤ u) ∧ np_ok sz (mn_s g) mn_h (am_i g 954) (am_i g 955) 512
def mn_ad (g : am_G) (sz u d h : Nat) : am_G := am_si (am_si (am_si (am_si (am_si (am_si g 954 sz (am_i g 955 h)) 955 h (nI sz)) 952 sz (nI u)) 953 sz (nI d)) 943 17 (nI (u + d))) 943 21 (nI (sz + 1))
theorem mn_fr {g : am_G} {sz u d h o k : Nat} (h1 : o ≠ 943 ∨ (k ≠ 17 ∧ k ≠ 21)) (h5 : o ≠ 954) (h6 : o ≠ 955) (h7 : o ≠ 952) (h8 : o ≠ 953) : am_i (mn_ad g sz u d h) o k = am_i g o k := by
  unfold mn_ad
  simp only [gi_si]
  rw [if_neg (by omega), if_neg (by omega), if_neg (by omega), if_neg (by omega), if_neg (by omega), if_neg (by omega)]
section
variable {g : am_G} {sz u d : Nat}
theorem cm_28 (N : mn_ok g sz u) (h : u + d ≤ 19000) {q : Nat} (hq : q < sz) : fm_28 g (nI q) (nI u) (nI d) = some (b2 (decide (mn_s g q = sl_l (am_i g 951) u d))) := by
  obtain ⟨n1, n2, n3, n4, n5, n6⟩ := N
  obtain ⟨a, z, e1, e2, haz⟩ := n5 q hq
  unfold fm_28
  rw [ai_nI (by omega) (by omega), lo_gt, nI_clamp (by omega), e2]
  have main : z = d → fh_28_20 g (nI q, nI u, nI d, b2 true, 0) = some (b2 (true && (List.range d).all fun i => decide (am_i g 951 (a + i) = am_i g 951 (u + i)))) := by
    intro hzd
    unfold fh_28_20
    refine lo_all (b := fun k (x : Int32 × Int32 × Int32 × Int32 × Int32) => fb_28_20 g k x.1 x.2.1 x.2.2.1 x.2.2.2.1 x.2.2.2.2) (fun i l => (nI q, nI u, nI d, b2 l, nI i)) (fun i => decide (am_i g 951 (a + i) = am_i g 951 (u + i))) d (fun l => some (b2 l)) ?_ ?_ ?_ true (by omega)
    · intro K l
      unfold fb_28_20
      dsimp only
      rw [if_pos (nI_le (Nat.le_refl _) (by omega)), b2_n]
    · intro K i hi
      unfold fb_28_20
      dsimp only
      rw [b2_n, if_pos (show b2 false = 0 from rfl)]
      split <;> rfl
    · intro K i hi
      unfold fb_28_20
      dsimp only
      rw [if_neg (nI_ge hi (by omega)), if_neg (show ¬ b2 true = 0 by decide), ai_nI (by omega) (by omega), lo_gt, nI_clamp (by omega), e1, nI_add, ai_nI (by omega) (by omega), lo_gt, nI_add, ai_nI (by omega) (by omega), lo_gt,
        nI_clamp (by omega), nI_clamp (by omega), nI_1]
      by_cases y : am_i g 951 (a + i) = am_i g 951 (u + i)
      · rw [if_pos y, decide_eq_true y]; rfl
      · rw [if_neg y, decide_eq_false y]; rfl
  have s0 : mn_s g q = sl_l (am_i g 951) a z := by unfold mn_s; rw [e1, e2, nI_clamp (by omega), nI_clamp (by omega)]
  rw [s0]
  by_cases y : z = d
  · subst y
    rw [if_pos rfl, show (1 : Int32) = b2 true from rfl, main rfl, Bool.true_and]
    congr 2
    rw [Bool.eq_iff_iff, List.all_eq_true, decide_eq_true_iff, sl_eq]
    constructor
    · intro h; exact ⟨rfl, fun i hi => of_decide_eq_true (h i (List.mem_range.mpr hi))⟩
    · intro h i hi; exact decide_eq_true (h.2 i (List.mem_range.mp hi))
  · rw [if_neg (fun e => y ((nI_eq (by omega) (by omega)).mp e)), decide_eq_false (fun e => y (sl_eq.mp e).1)]
    unfold fh_28_20
    obtain ⟨m, hm⟩ : ∃ m, nf_F = m + 1 := ⟨nf_F - 1, by have := nf_le; omega⟩
    rw [hm]
    show fb_28_20 g _ _ _ _ _ _ = _
    unfold fb_28_20
    rw [if_pos (show (0 : Int32) = 0 from rfl)]
    split
    · exact congrArg some (b2_n false)
    · exact congrArg some (b2_n false)
/-- M numbers the name that was read -/
theorem cm_29 (N : mn_ok g sz u) (hd : am_i g 943 18 = nI d) (h0 : 0 < d) (h : u + d ≤ 19000) (hs : sz < 6000) :
    (∃ q, q < sz ∧ mn_s g q = sl_l (am_i g 951) u d ∧ fm_29 g = some (nI q, g)) ∨ ((∀ q, q < sz → mn_s g q ≠ sl_l (am_i g 951) u d) ∧ fm_29 g = some (nI sz, mn_ad g sz u d (mn_h (sl_l (am_i g 951) u d)))) := by
  have hu := N.2.1
  have hne : sl_l (am_i g 951) u d ≠ [] := by
    intro e
    have := sl_len (am_i g 951) u d
    rw [e] at this
    exact absurd this (by simp; omega)
  have hl := mn_hl hne
  unfold fm_29 fh_29_7
  rw [lo_ll, hd]
  have := (lo_fo (b := fun k (x : am_G × Int32 × Int32) => fb_29_7 k x.1 x.2.1 x.2.2) (fun i (s : Int32) => (g, s, nI i)) (fun i s => mn_f s (am_i g 951 (u + i))) (fun _ _ => True) d (fun s => lo_g (ai_in s 512) (lo_l (am_i g 955 s.toNatClampNeg) fun x2 => fh_29_49 (g, s, x2))) ?_ ?_ (nI d) trivial (by omega)).1
  · rw [show ((g, nI d, (0 : Int32)) : am_G × Int32 × Int32) = (g, nI d, nI 0) from rfl, this, fo_fl, show nI d = nI (sl_l (am_i g 951) u d).length by rw [sl_len], hl.2, ai_nI hl.1 (Nat.lt_trans hl.1 (by decide)), lo_gt, lo_ll, nI_clamp (Nat.lt_trans hl.1 (by decide))]
    unfold fh_29_49
    refine np_sF (b := fun k (x : am_G × Int32 × Int32) => fb_29_49 k x.1 x.2.1 x.2.2) N.2.2.2.2.2 (sl_l (am_i g 951) u d) (fun x => (g, nI (mn_h (sl_l (am_i g 951) u d)), x)) (fun q => some (nI q, g)) (some (nI sz, mn_ad g sz u d (mn_h (sl_l (am_i g 951) u d)))) hl.1 (by omega) ?_ ?_ ?_
    · intro K
      unfold fb_29_49
      dsimp only
      rw [if_pos (by decide), ai_nI hl.1 (Nat.lt_trans hl.1 (by decide)), lo_gt, N.1, ai_nI hs (by omega), lo_gt, nI_clamp (by omega), nI_clamp (Nat.lt_trans hl.1 (by decide)), hu, hd, nI_add, nI_1, nI_pred]
      rfl
    · intro K q hq hS
      unfold fb_29_49
      dsimp only
      rw [if_neg (nI_pos (by omega)), hu, hd, cm_28 N h hq, lo_ps, decide_eq_true hS]
      rfl
    · intro K q hq hS
      unfold fb_29_49
      dsimp only
      rw [if_neg (nI_pos (by omega)), hu, hd, cm_28 N h hq, lo_ps, decide_eq_false hS, if_pos (show b2 false = 0 from rfl), ai_nI (by omega) (by omega), lo_gt, lo_ll, nI_clamp (by omega)]
  · intro K s _
    unfold fb_29_7
    dsimp only
    rw [hd, if_pos (nI_le (Nat.le_refl _) (by omega))]
  · intro K i s hi _
    refine ⟨?_, trivial⟩
    unfold fb_29_7
    dsimp only
    rw [hd, if_neg (nI_ge hi (by omega)), hu, nI_add, ai_nI (by omega) (by omega), lo_gt, lo_ll, nI_clamp (by omega), nI_1]
    rfl
theorem mn_new (N : mn_ok g sz u) (h0 : 0 < d) (hs : sz < 6000) (hu : u + d ≤ 19000) (hno : ∀ q, q < sz → mn_s g q ≠ sl_l (am_i g 951) u d) :
    mn_ok (mn_ad g sz u d (mn_h (sl_l (am_i g 951) u d))) (sz + 1) (u + d) ∧ mn_s (mn_ad g sz u d (mn_h (sl_l (am_i g 951) u d))) sz = sl_l (am_i g 951) u d ∧ ∀ j, j < sz → mn_s (mn_ad g sz u d (mn_h (sl_l (am_i g 951) u d))) j = mn_s g j := by
  have hne : sl_l (am_i g 951) u d ≠ [] := by
    intro e
    have := sl_len (am_i g 951) u d
    rw [e] at this
    exact absurd this (by simp; omega)
  have hl := mn_hl hne
  generalize hw : mn_h (sl_l (am_i g 951) u d) = hh
  rw [hw] at hl
  have e51 : ∀ k, am_i (mn_ad g sz u d hh) 951 k = am_i g 951 k := fun k => mn_fr (by omega) (by omega) (by omega) (by omega) (by omega)
  have e52 : ∀ k, am_i (mn_ad g sz u d hh) 952 k = if k = sz then nI u else am_i g 952 k := fun k => by unfold mn_ad; simp [gi_si]
  have e53 : ∀ k, am_i (mn_ad g sz u d hh) 953 k = if k = sz then nI d else am_i g 953 k := fun k => by unfold mn_ad; simp [gi_si]
  have e54 : ∀ k, am_i (mn_ad g sz u d hh) 954 k = if k = sz then am_i g 955 hh else am_i g 954 k := fun k => by unfold mn_ad; simp [gi_si]
  have e55 : ∀ k, am_i (mn_ad g sz u d hh) 955 k = if k = hh then nI sz else am_i g 955 k := fun k => by unfold mn_ad; simp [gi_si]
  have s1 : mn_s (mn_ad g sz u d hh) sz = sl_l (am_i g 951) u d := by
    unfold mn_s
    rw [e52, e53, if_pos rfl, if_pos rfl, nI_clamp (by omega), nI_clamp (by omega)]
    exact sl_cg fun i _ => e51 _
  have s2 : ∀ j, j < sz → mn_s (mn_ad g sz u d hh) j = mn_s g j := fun j hj => by
    unfold mn_s
    rw [e52, e53, if_neg (by omega), if_neg (by omega)]
    exact sl_cg fun i _ => e51 _
  obtain ⟨n1, n2, n3, n4, n5, n6⟩ := N
  refine ⟨⟨?_, ?_, by omega, by omega, fun i hi => ?_, ?_⟩, s1, s2⟩
  · unfold mn_ad; simp [gi_si]
  · unfold mn_ad; simp [gi_si]
  · rw [e52, e53]
    by_cases y : i = sz
    · rw [if_pos y, if_pos y]; exact ⟨u, d, rfl, rfl, Nat.le_refl _⟩
    · rw [if_neg y, if_neg y]
      obtain ⟨a, z, q1, q2, q3⟩ := n5 i (by omega)
      exact ⟨a, z, q1, q2, by omega⟩
  · exact np_add n6 (sl_l (am_i g 951) u d) (by rw [hw]; exact hl.1) hno s2 s1 (fun i hi => by rw [e54, if_neg (by omega)]) (by rw [e54, if_pos rfl, hw]) (fun k _ hk => by rw [e55, if_neg (by rw [← hw]; exact hk)]) (by rw [e55, if_pos hw])
end
