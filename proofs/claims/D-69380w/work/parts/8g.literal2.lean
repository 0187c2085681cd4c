/-! Literals of entities: the reading. -/
def r5_S (o k : Nat) : Bool := Nat.beq o 989 || (Nat.beq o 943 && (Nat.beq k 26 || Nat.beq k 102))
theorem r5_9 {o k : Nat} (h : r5_S o k = true) : l9_S o k = true := by
  unfold r5_S at h
  simp only [Bool.or_eq_true, Bool.and_eq_true, Nat.beq_eq] at h
  rcases h with h | ⟨h1, h2 | h2⟩
  · subst h; rfl
  · subst h1; subst h2; rfl
  · subst h1; subst h2; rfl
/-- M lays a reference that stays as it is behind its texts -/
theorem cm_101 {g : am_G} {m te : Nat} {w : List Int32} (h40 : am_i g 943 40 = 70) (h102 : am_i g 943 102 = nI te) (hw : mn_s g m = w) (hm : ∃ a z, am_i g 952 m = nI a ∧ am_i g 953 m = nI z ∧ a + z ≤ 19000) (hm6 : m < 6000) (hb : te + w.length + 2 ≤ 15000) :
    ∃ g1, fm_101 g (nI m) = some (0, g1) ∧ fx_i r5_S g g1 ∧ am_i g1 943 26 = 70 ∧ am_i g1 943 102 = nI (te + w.length + 2) ∧ (∀ k x, (38 :: (w ++ [59]))[k]? = some x → am_i g1 989 (te + k) = x) ∧ ∀ k, k < te → am_i g1 989 k = am_i g 989 k := by
  obtain ⟨a, z, e1, e2, e3⟩ := hm
  have hwl : w = sl_l (am_i g 951) a z := by rw [← hw]; unfold mn_s; rw [e1, e2, nI_clamp (by omega), nI_clamp (by omega)]
  have hz : w.length = z := by rw [hwl, sl_len]
  unfold fm_101
  rw [if_pos h40, h102, ai_nI (by omega) (by omega), lo_gt, nI_clamp (by omega), nI_1]
  unfold fh_101_32
  have := lo_fo (b := fun k (x : am_G × Int32 × Int32) => fb_101_32 k x.1 x.2.1 x.2.2) (fun i (s : am_G) => (s, nI m, nI i)) (fun i s => am_si s 989 (te + 1 + i) (am_i s 951 (a + i)))
    (fun i s => fx_i r5_S g s ∧ am_i s 943 102 = nI (te + 1) ∧ am_i s 989 te = 38 ∧ (∀ k, k < i → am_i s 989 (te + 1 + k) = am_i g 951 (a + k)) ∧ ∀ k, k < te → am_i s 989 k = am_i g 989 k) z
    (fun s => some ((0 : Int32), am_si (am_si (am_si (am_si s 943 102 (nI (te + 1 + z))) 989 (te + 1 + z) 59) 943 102 (nI (te + 1 + z + 1))) 943 26 70)) ?_ ?_ (am_si (am_si g 989 te 38) 943 102 (nI (te + 1))) ⟨fx_tr (fx_si rfl) (fx_si rfl), rfl, ?_, fun k hk => absurd hk (Nat.not_lt_zero _), fun k hk => ?_⟩ (by omega)
  · obtain ⟨e, i1, i2, i3, i4, i5⟩ := this
    generalize hs : fo_n (fun i s => am_si s 989 (te + 1 + i) (am_i s 951 (a + i))) z (am_si (am_si g 989 te 38) 943 102 (nI (te + 1))) = s at *
    refine ⟨_, e, fx_tr i1 (fx_tr (fx_tr (fx_tr (fx_si rfl) (fx_si rfl)) (fx_si rfl)) (fx_si rfl)), rfl, ?_, fun k x hx => ?_, fun k hk => ?_⟩
    · rw [gi_si, if_neg (by decide), gi_si, if_pos ⟨rfl, rfl⟩]; congr 1; omega
    · have c : ∀ k, am_i (am_si (am_si (am_si (am_si s 943 102 (nI (te + 1 + z))) 989 (te + 1 + z) 59) 943 102 (nI (te + 1 + z + 1))) 943 26 70) 989 k = if k = te + 1 + z then 59 else am_i s 989 k := fun k => by
        rw [gi_si, if_neg (by omega), gi_si, if_neg (by omega), gi_si]
        by_cases y : k = te + 1 + z
        · rw [if_pos ⟨rfl, y⟩, if_pos y]
        · rw [if_neg (fun v => y v.2), if_neg y, gi_si, if_neg (by omega)]
      rw [c]
      cases k with
      | zero =>
        have : x = 38 := (Option.some.inj hx).symm
        rw [this, Nat.add_zero, if_neg (by omega)]; exact i3
      | succ k =>
        have hx : (w ++ [59])[k]? = some x := hx
        rcases ap_at hx with ⟨y1, y2⟩ | ⟨y1, y2⟩
        · rw [if_neg (by omega), show te + (k + 1) = te + 1 + k by omega, i4 k (by omega)]
          rw [hwl, sl_at _ _ _ (by omega)] at y2
          exact Option.some.inj y2
        · rw [if_pos (by omega), y2]
    · rw [gi_si, if_neg (by omega), gi_si, if_neg (by omega), gi_si, if_neg (by omega), gi_si, if_neg (by omega)]; exact i5 k hk
  · intro K s ⟨i1, i2, i3, i4, i5⟩
    unfold fb_101_32
    dsimp only
    have e53 : am_i s 953 m = nI z := ((i1.1 953 m rfl).1).trans e2
    rw [ai_nI hm6 (by omega), lo_gt, nI_clamp (n := m) (by omega), e53, if_pos (nI_le (Nat.le_refl _) (by omega)), i2, nI_add, ai_nI (by omega) (by omega), lo_gt, nI_clamp (by omega), nI_1]
    rfl
  · intro K i s hi ⟨i1, i2, i3, i4, i5⟩
    have e53 : am_i s 953 m = nI z := ((i1.1 953 m rfl).1).trans e2
    have e52 : am_i s 952 m = nI a := ((i1.1 952 m rfl).1).trans e1
    refine ⟨?_, fx_tr i1 (fx_si rfl), ?_, ?_, fun k hk => ?_, fun k hk => ?_⟩
    · unfold fb_101_32
      dsimp only
      rw [ai_nI hm6 (by omega), lo_gt, nI_clamp (n := m) (by omega), e53, if_neg (nI_ge hi (by omega)), e52, nI_add, ai_nI (by omega) (by omega), lo_gt, i2, nI_add, ai_nI (by omega) (by omega), lo_gt, nI_clamp (by omega), nI_clamp (by omega), nI_1]
    · rw [gi_si, if_neg (by omega)]; exact i2
    · rw [gi_si, if_neg (by omega)]; exact i3
    · rw [gi_si]
      by_cases y : k = i
      · rw [if_pos ⟨rfl, by rw [y]⟩, y]; exact (i1.1 951 _ rfl).1
      · rw [if_neg (by omega)]; exact i4 k (by omega)
    · rw [gi_si, if_neg (by omega)]; exact i5 k hk
  · rw [gi_si, if_neg (by omega), gi_si, if_pos ⟨rfl, rfl⟩]
  · rw [gi_si, if_neg (by omega), gi_si, if_neg (by omega)]
def lM_S (o k : Nat) : Bool := rr_S o k || l9_S o k
theorem lM_r {o k : Nat} (h : rr_S o k = true) : lM_S o k = true := by unfold lM_S; rw [h]; rfl
theorem lM_9 {o k : Nat} (h : l9_S o k = true) : lM_S o k = true := by unfold lM_S; rw [h, Bool.or_true]
theorem l8_9 {o k : Nat} (h : l8_S o k = true) : l9_S o k = true := by
  unfold l8_S at h
  rw [Bool.and_eq_true] at h
  exact h.1
theorem tk_8 {o k : Nat} (h : tk_S o k = true) : l8_S o k = true := by
  unfold l8_S
  rw [Bool.and_eq_true]
  refine ⟨ct_9 (tk_in h), ?_⟩
  have := (ct_c (tk_in h)).1
  subst this
  rfl
/-- a literal is being read -/
def li_I (X : cx_T) (gR0 gM0 : am_G) (i0 : Int32) (tS : Nat) (L0 : List (List Int32)) (b0 fl0 : Nat) (q : Int32) (gA gN : am_G) (j : Int32) (lit : List Int32) : Prop := sy_ok X gA gN j 70 ∧ sf_ok pR_S lM_S gR0 gM0 i0 gA gN j ∧ (am_i gN 943 101 = nI tS ∧ am_i gN 943 38 = q ∧ am_i gN 943 102 = nI (tS + lit.length)) ∧
  (∀ k x, lit[k]? = some x → ch_ok x ∧ am_i gN 989 (tS + k) = x ∧ (k < 8000 → am_i gA 884 k = x)) ∧ lit.length + fl_R gA ≤ fl0 ∧ (am_i gA 39 4 = 0 → b0 + by_s lit ≤ bp_R gA) ∧ (∀ sM, am_i gN 943 21 = nI sM → sM ≤ 6000 → li_B L0 (nl_L gN sM) lit) ∧ ∀ k, k < tS → am_i gN 989 k = am_i gM0 989 k
section
variable {X : cx_T} {gR gM : am_G} {i s : Int32}
theorem sf_9 {gR' gM' : am_G} {i' : Int32} (f1 : fx_i ps_S gR gR') (f2 : fx_i l9_S gM gM') (n : ∀ a b, nq_ok gR gM a b → nq_ok gR' gM' a b) (m : mu_n gM' i' ≤ mu_n gM i) : sf_ok pR_S lM_S gR gM i gR' gM' i' := ⟨fx_w2 f1 fun _ _ => ps_p, fx_w2 f2 fun _ _ => lM_9, n, m⟩
/-- some characters come to a literal -/
theorem li_k {gR0 gM0 gA gN gB gO : am_G} {i0 j j' q : Int32} {tS b0 fl0 : Nat} {L0 : List (List Int32)} {lit v : List Int32} (h : li_I X gR0 gM0 i0 tS L0 b0 fl0 q gA gN j lit) (hy : sy_ok X gB gO j' 70) (f : sf_ok pR_S lM_S gA gN j gB gO j') (e101 : am_i gO 943 101 = am_i gN 943 101) (e38 : am_i gO 943 38 = am_i gN 943 38) (e102 : am_i gO 943 102 = nI (tS + lit.length + v.length)) (hv : ∀ x ∈ v, ch_ok x)
    (m9 : ∀ k x, v[k]? = some x → am_i gO 989 (tS + lit.length + k) = x) (m9b : ∀ k, k < tS + lit.length → am_i gO 989 k = am_i gN 989 k) (r8 : ∀ k x, v[k]? = some x → lit.length + k < 8000 → am_i gB 884 (lit.length + k) = x) (r8b : ∀ k, k < lit.length → k < 8000 → am_i gB 884 k = am_i gA 884 k) (hfl : v.length + fl_R gB ≤ fl_R gA) (hb : am_i gB 39 4 = am_i gA 39 4 ∧ (am_i gA 39 4 = 0 → bp_R gA + by_s v ≤ bp_R gB))
    (hB : ∀ sM, am_i gO 943 21 = nI sM → sM ≤ 6000 → li_B L0 (nl_L gO sM) (lit ++ v)) : li_I X gR0 gM0 i0 tS L0 b0 fl0 q gB gO j' (lit ++ v) := by
  obtain ⟨h1, h2, ⟨h3, h4, h5⟩, h6, h7, h8, h9, h10⟩ := h
  have hl : (lit ++ v).length = lit.length + v.length := List.length_append
  refine ⟨hy, sf_tr h2 f, ⟨e101.trans h3, e38.trans h4, by rw [hl, e102]; congr 1; omega⟩, fun k x hx => ?_, by omega, fun z => ?_, hB, fun k hk => (m9b k (by omega)).trans (h10 k hk)⟩
  · by_cases q1 : k < lit.length
    · rw [List.getElem?_append_left q1] at hx
      obtain ⟨y1, y2, y3⟩ := h6 k x hx
      exact ⟨y1, by rw [m9b _ (by omega)]; exact y2, fun k8 => by rw [r8b k q1 k8]; exact y3 k8⟩
    · rw [List.getElem?_append_right (by omega)] at hx
      have a := m9 _ x hx
      have b := r8 _ x hx
      rw [show tS + lit.length + (k - lit.length) = tS + k by omega] at a
      rw [show lit.length + (k - lit.length) = k by omega] at b
      exact ⟨hv x (List.mem_of_getElem? hx), a, b⟩
  · rw [hb.1] at z
    have := h8 z
    have := hb.2 z
    rw [by_ap]
    omega
def lt_Q (X : cx_T) (gR0 gM0 : am_G) (i0 : Int32) (tS : Nat) (L0 : List (List Int32)) (b0 fl0 : Nat) (a : Int32) (gR1 : am_G) (i' : Int32) (gM' : am_G) : Prop := ∃ q lit gA, (q = 34 ∨ q = 39) ∧ i' = q ∧ a = nI lit.length ∧ li_I X gR0 gM0 i0 tS L0 b0 fl0 q gA gM' q lit ∧ fm_177 gA = some gR1 ∧ fm_133 (am_si gM' 943 29 0) q = fm_108 (am_si gM' 943 29 0)
theorem si_1 (v : List Int32) (c : Int32) : ([c] : List Int32)[0]? = some c := rfl
theorem g1_v {c x : Int32} {k : Nat} (h : ([c] : List Int32)[k]? = some x) : k = 0 ∧ x = c := by
  cases k with
  | zero => exact ⟨rfl, (Option.some.inj h).symm⟩
  | succ k => cases h
theorem u8_4 (c : Int32) : u8_c c ≤ 4 := by
  unfold u8_c
  split
  · decide
  · split
    · decide
    · split <;> decide
theorem u8_a {c : Int32} (h : c < 128) : u8_c c = 1 := by unfold u8_c; rw [if_pos h]
end
