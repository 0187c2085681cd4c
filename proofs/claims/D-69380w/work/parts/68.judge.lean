/-! A judgement as a whole, if parsing goes alike. -/
/-- M reads what has been decoded -/
noncomputable def mr_d (g2 : am_G) (u1 : Int32) : Option (Int32 × am_G) := if (am_i g2 943 4) ≤ 5 then fj_137_89 g2 u1 else if (am_i g2 945 0) = 60 then if (am_i g2 945 1) = 63 then if (am_i g2 945 2) = 120 then if (am_i g2 945 3) = 109 then if (am_i g2 945 4) = 108 then lo_p (fm_16 g2 (am_i g2 945 5)) fun y3 => if y3 = 0 then fj_137_89 g2 u1 else fj_137_90 g2 u1 1 else fj_137_89 g2 u1 else fj_137_89 g2 u1 else fj_137_89 g2 u1 else fj_137_89 g2 u1 else fj_137_89 g2 u1
theorem cm_137 (g : am_G) (u : Int32) : fm_137 g u = lo_i (fm_20 g u) fun y1 g2 => if (0 : Int32) ≤ y1 then mr_d g2 u else some (-1, g2) := rfl
/-- both have decoded the text and begin to parse -/
def sb_ok (Z U : Nat) (G H gR gM : am_G) (N n lim : Nat) : Prop := bi_ok Z U G H gR gM ∧ tx_r gR N (nI n) ∧ tx_m gR gM N ∧ ra_ok gR ∧ ma_ok gM ∧ am_i gR 33 10 = nI lim ∧ am_i gM 943 15 = nI lim ∧ lim ≤ 100000 ∧ am_i gM 943 6 = nI n ∧ n ≤ 6000 ∧ am_i gR 33 11 = 0 ∧ am_i gR 33 12 = -1
/-- both have found the text right -/
def fr_ok (Z U : Nat) (G H gR gM : am_G) : Prop := am_sz gR = Z ∧ am_us gR = U ∧ ag_3 rx_S G gR ∧ mg_3 H gM ∧ am_i gM 943 142 = am_i gR 33 11 ∧ am_i gM 943 143 = am_i gR 33 12 ∧ am_i gM 943 144 = am_i gR 33 13 ∧ am_i gM 943 145 = am_i gR 33 14 ∧
  (∃ bs, re_ok gR bs ∧ am_i gR 872 3 = nI bs.length ∧ bs.length ≤ 30000 ∧ (∀ b ∈ bs, b < 256) ∧ am_i gM 943 138 = nI bs.length ∧ ∀ i b, bs[i]? = some b → (i < 15000 → am_i gM 1006 i = nI b) ∧ (15000 ≤ i → am_i gM 1007 (i - 15000) = nI b)) ∧
  am_i gM 943 146 = 1 ∧ am_i gR 39 6 = am_i gM 943 14 ∧ am_i gR 49 5 = am_i gM 943 49 ∧ am_i gR 855 5 + am_i gR 861 5 = am_i gM 943 95 ∧ am_i gR 49 6 = am_i gM 943 77 ∧ am_i gR 33 15 = am_i gM 943 112 ∧ gs_ok gR
/-- parsing goes alike: WHAT IS LEFT -/
def pz_ok : Prop := ∀ (Z U : Nat) (G H gR gM : am_G) (N n lim : Nat), sb_ok Z U G H gR gM N n lim → ∃ r, fm_254 gR = some r ∧ match r with
  | (.inl _, gR') => ∃ gM' gM'', mr_d gM (nI n) = some (0, gM') ∧ fj_138_58 gM' 1 = some (if am_i gR' 33 14 = 0 then 3 else 2, gM'') ∧ fr_ok Z U G H gR' gM''
  | (.inr _, gR') => ∃ gM', mr_d gM (nI n) = some (-1, gM') ∧ ft_ok Z U G H gR' gM'
/-- M up to its text: from a memory m with the bytes, along with R's decoding -/
theorem mp_ok {B : Nat → Nat} {n lim : Nat} {m gC : am_G} (hB : ∀ k, B k < 256) (hn : n ≤ 6000) (hm : ∀ k, k < n → am_i m 944 k = nI (B k)) (hC : ∀ k, k < n → am_i gC 34 k = e8_b (B k)) (h4 : am_i gC 35 4 = 0) (h3 : am_i gC 35 3 = 0) (hg : gs_ok gC) :
    ∃ mB mD, fm_136 (am_si m 943 15 (nI lim)) = some mB ∧ ma_ok mB ∧ fx_i an_S (am_si m 943 15 (nI lim)) mB ∧ mD = am_si (am_si (am_si mB 943 6 (nI n)) 943 1 0) 943 4 0 ∧ de_Q n gC mD (lo_it de_R nf_F (gC, nI n)) (fm_20 (am_si (am_si mB 943 6 (nI n)) 943 1 0) (nI n)) := by
  obtain ⟨mB, e1, e2, e3⟩ := cm_136 (am_si m 943 15 (nI lim))
  refine ⟨mB, _, e1, e3, e2, rfl, ?_⟩
  have hnf := nf_le
  refine de_lp hB hn n 0 0 nf_F nf_F gC _ (by omega) (by omega) (by omega) ⟨Nat.zero_le _, Nat.le_refl _, h4, h3, rfl, e3.2.2.1, fun i hi => absurd hi (Nat.not_lt_zero _), hC, fun k hk => ?_, hg, fun w => absurd w.1 (Nat.lt_irrefl _), fun i hi => absurd hi (Nat.not_lt_zero _)⟩
  rw [gi_si, if_neg (by omega), gi_si, if_neg (by omega), gi_si, if_neg (by omega), (e2.1 944 k rfl).1, gi_si, if_neg (by omega)]
  exact hm k hk
def di_S (o k : Nat) : Bool := dr_S o k
theorem ma_dm {g h : am_G} (K : ma_ok g) (f : fx_i dm_S g h) : ma_ok h := by
  have c : ∀ k, k ≠ 4 → am_i h 943 k = am_i g 943 k := fun k hk => (f.1 943 k (by
    show (false || (false || (true && Nat.beq k 4))) = false
    rw [beq_f hk]
    rfl)).1
  have d : ∀ k, am_i h 955 k = am_i g 955 k := fun k => (f.1 955 k rfl).1
  obtain ⟨a1, a2, a3, a4, a5, a6, a7, a8, a9, b1, b2, b3, b4, b5, b6, b7, b8, b9, c1, c2, c3, c4, c5, c6, c7, c8, c9, d1, d2, d3, d4, d5, d6, d7, d8⟩ := K
  exact ⟨(c 5 (by decide)).trans a1, (c 8 (by decide)).trans a2, (c 9 (by decide)).trans a3, (c 14 (by decide)).trans a4, (c 17 (by decide)).trans a5, (c 21 (by decide)).trans a6, fun k hk => (d k).trans (a7 k hk), (c 26 (by decide)).trans a8, (c 27 (by decide)).trans a9, (c 28 (by decide)).trans b1, (c 43 (by decide)).trans b2, (c 44 (by decide)).trans b3, (c 49 (by decide)).trans b4, (c 57 (by decide)).trans b5, (c 61 (by decide)).trans b6, (c 77 (by decide)).trans b7, (c 86 (by decide)).trans b8, (c 94 (by decide)).trans b9, (c 95 (by decide)).trans c1, (c 101 (by decide)).trans c2, (c 104 (by decide)).trans c3, (c 106 (by decide)).trans c4, (c 112 (by decide)).trans c5, (c 128 (by decide)).trans c6, (c 129 (by decide)).trans c7, (c 135 (by decide)).trans c8, (c 134 (by decide)).trans c9, (c 138 (by decide)).trans d1, (c 139 (by decide)).trans d2, (c 140 (by decide)).trans d3, (c 142 (by decide)).trans d4, (c 143 (by decide)).trans d5, (c 144 (by decide)).trans d6, (c 145 (by decide)).trans d7, (c 146 (by decide)).trans d8⟩
theorem ra_dr {g h : am_G} (K : ra_ok g) (f : fx_i dr_S g h) : ra_ok h := by
  have c : ∀ o k, dr_S o k = false → am_i h o k = am_i g o k := fun o k q => (f.1 o k q).1
  obtain ⟨a1, a2, a3, a4, a5, a6, a7, a8, a9, b1, b2, b3, b4, b5, b6, b7, b8, b9, c1, c2, c3, c4, c5, c6, c7⟩ := K
  exact ⟨(c 33 14 rfl).trans a1, (c 33 15 rfl).trans a2, (c 33 16 rfl).trans a3, (c 33 17 rfl).trans a4, (c 33 24 rfl).trans a5, (c 43 5 rfl).trans a6, (c 43 6 rfl).trans a7, fun k hk => (c 48 k rfl).trans (a8 k hk), (c 49 5 rfl).trans a9, (c 49 6 rfl).trans b1, (c 49 7 rfl).trans b2, (c 49 8 rfl).trans b3, (c 49 9 rfl).trans b4, (c 855 5 rfl).trans b5, (c 855 6 rfl).trans b6, (c 861 5 rfl).trans b7, (c 861 6 rfl).trans b8, (c 867 4 rfl).trans b9, (c 867 5 rfl).trans c1, ((f.1 872 1 rfl).2.2).trans c2, (c 872 2 rfl).trans c3, (c 872 3 rfl).trans c4, (c 39 4 rfl).trans c5, (c 42 0 rfl).trans c6, (c 39 6 rfl).trans c7⟩
def bg_S (o k : Nat) : Bool := fo_S o k || (Nat.beq o 33 && (Nat.ble 10 k && Nat.ble k 13))
theorem bg_lo {o k : Nat} (h : o < 33 ∨ o = 34 ∨ 943 ≤ o) : bg_S o k = false := by
  unfold bg_S fo_S
  rw [beq_f (show o ≠ 43 by omega), beq_f (show o ≠ 48 by omega), beq_f (show o ≠ 872 by omega), beq_f (show o ≠ 49 by omega), beq_f (show o ≠ 855 by omega), beq_f (show o ≠ 861 by omega), beq_f (show o ≠ 867 by omega), beq_f (show o ≠ 39 by omega), beq_f (show o ≠ 42 by omega), beq_f (show o ≠ 33 by omega)]
  rfl
theorem dr_lo {o k : Nat} (h : o < 33 ∨ o = 34 ∨ 943 ≤ o) : dr_S o k = false := by
  unfold dr_S
  rw [beq_f (show o ≠ 36 by omega), beq_f (show o ≠ 37 by omega), beq_f (show o ≠ 38 by omega), beq_f (show o ≠ 35 by omega)]
  rfl
theorem an_lo {o k : Nat} (h : o < 943) : an_S o k = false := by
  unfold an_S
  rw [beq_f (show o ≠ 955 by omega), beq_f (show o ≠ 943 by omega)]
  rfl
theorem dm_lo {o k : Nat} (h : o < 943) : dm_S o k = false := by
  unfold dm_S
  rw [beq_f (show o ≠ 945 by omega), beq_f (show o ≠ 946 by omega), beq_f (show o ≠ 943 by omega)]
  rfl
theorem rx_of {o k : Nat} (h : o < 33 ∨ o = 34 ∨ 943 ≤ o) : rx_S o k = true := by
  unfold rx_S
  rcases h with h | h | h
  · rw [blt_t h]; rfl
  · subst h; rfl
  · rw [show Nat.ble 943 o = true from Nat.ble_eq_true_of_le h]; simp
theorem mx_of {o k : Nat} (h : o < 943) : mx_S o k = true := by unfold mx_S; rw [blt_t h]; rfl
/-- what is between the calls after a judgement: from R's last memory and M's last memory, which has R's cells -/
theorem iv_mk {xs : Nat → Int32} {j : Nat} {g1 g2 : am_G} (hg : gs_ok g1) (hx : ∀ k, am_i g1 0 k = xs k) (hs : am_i g1 32 1 = 0) (ho : ∀ o k, o < 943 → am_i g2 o k = am_i g1 o k) (hz : g2.2.2.2 = g1.2.2.2) (h1 : am_i g2 943 1 = 0) (h142 : am_i g2 943 142 = am_i g1 33 11) (h143 : am_i g2 943 143 = am_i g1 33 12)
    (h144 : am_i g2 943 144 = am_i g1 33 13) (h145 : am_i g2 943 145 = am_i g1 33 14) (h139 : am_i g2 943 139 = 0)
    (hl : ∃ bs, re_ok g1 bs ∧ am_i g1 872 3 = nI bs.length ∧ bs.length ≤ 30000 ∧ (∀ b ∈ bs, b < 256) ∧ am_i g2 943 138 = nI bs.length ∧ ∀ i b, bs[i]? = some b → (i < 15000 → am_i g2 1006 i = nI b) ∧ (15000 ≤ i → am_i g2 1007 (i - 15000) = nI b))
    (hc : (am_i g2 943 146 = 0 ∧ am_i g1 39 6 = 0 ∧ am_i g1 49 5 = 0 ∧ am_i g1 855 5 + am_i g1 861 5 = 0 ∧ am_i g1 49 6 = 0 ∧ am_i g1 33 15 = 0) ∨ (am_i g2 943 146 = 1 ∧ am_i g1 39 6 = am_i g2 943 14 ∧ am_i g1 49 5 = am_i g2 943 49 ∧ am_i g1 855 5 + am_i g1 861 5 = am_i g2 943 95 ∧ am_i g1 49 6 = am_i g2 943 77 ∧ am_i g1 33 15 = am_i g2 943 112))
    (z1 : 1008 ≤ am_sz g1) (z2 : am_sz g1 ≤ 1008 + j) (z3 : am_us g1 ≤ 388717 + 6 * j) : iv_ok xs j g2 := by
  have z : am_sz g2 = am_sz g1 ∧ am_us g2 = am_us g1 := ⟨congrArg (fun x => x.1) hz, congrArg (fun x => x.2) hz⟩
  obtain ⟨bs, l1, l2, l3, l4, l5, l6⟩ := hl
  refine ⟨gs_lo hg (fun o k h => ho o k (by omega)), fun k => (ho 0 k (by decide)).trans (hx k), ⟨0, (ho 32 1 (by decide)).trans hs, h1, by decide, fun k hk => absurd hk (Nat.not_lt_zero _)⟩, ?_, ?_, ?_, ?_, ⟨bs, re_cg l1 (ho 872 2 (by decide)) (fun k => ho 873 k (by decide)), (ho 872 3 (by decide)).trans l2, l3, l4, 0, h139, by rw [Nat.zero_add]; exact l5, by omega, fun i b q => by rw [Nat.zero_add]; exact l6 i b q⟩, ?_, by rw [z.1]; exact z1, by rw [z.1]; exact z2, by rw [z.2]; exact z3⟩
  · rw [ho 33 11 (by decide)]; exact h142
  · rw [ho 33 12 (by decide)]; exact h143
  · rw [ho 33 13 (by decide)]; exact h144
  · rw [ho 33 14 (by decide)]; exact h145
  · unfold cn_ok
    rw [ho 39 6 (by decide), ho 49 5 (by decide), ho 855 5 (by decide), ho 861 5 (by decide), ho 49 6 (by decide), ho 33 15 (by decide)]
    exact hc
theorem jd_pz (J : pz_ok) : jd_ok := by
  intro xs j g a b K
  obtain ⟨k1, k2, ⟨f, b1, b2, b3, b4⟩, k4, k5, k6, k7, k8, k9, k10, k11, k12⟩ := id K
  have no : ∀ h1 : fm_5 g a b = some (0, g), ∀ h2 : fm_138 g a b = some (0, g), ∃ r g1 g2, fm_5 g a b = some (r, g1) ∧ (∀ k, am_i g1 0 k = xs k) ∧ fm_138 g1 a b = some (r, g2) ∧ iv_ok xs (j + 1) g2 := fun h1 h2 => ⟨0, g, g, h1, k2, h2, iv_up K⟩
  by_cases ha : a < 0
  · exact no (by unfold fm_5; rw [if_pos ha]) (by unfold fm_138; rw [if_pos ha])
  obtain ⟨n, hn31, rfl⟩ := nI_of ha
  by_cases hfa : nI f < nI n
  · exact no (by unfold fm_5; rw [if_neg ha, b1, if_pos hfa]) (by unfold fm_138; rw [if_neg ha, b2, if_pos hfa])
  have hnf : n ≤ f := by
    rcases Nat.lt_or_ge f n with w | w
    · exact absurd (nI_lt w hn31) hfa
    · exact w
  by_cases hb0 : b < 0
  · exact no (by unfold fm_5; rw [if_neg ha, b1, if_neg hfa, if_pos hb0]) (by unfold fm_138; rw [if_neg ha, b2, if_neg hfa, if_pos hb0])
  obtain ⟨lim, hl31, rfl⟩ := nI_of hb0
  by_cases hbl : nI lim ≤ 100000
  · -- the judgement
    have hlim : lim ≤ 100000 := (nI_leI (b := 100000) hl31 (by decide)).mp hbl
    have hn6 : n ≤ 6000 := by omega
    -- the bytes
    have ex : ∀ k, ∃ x, x < 256 ∧ (k < f → am_i g 34 k = e8_b x ∧ am_i g 944 k = nI x) := fun k => by
      by_cases w : k < f
      · obtain ⟨x, x1, x2, x3⟩ := b4 k w
        exact ⟨x, x1, fun _ => ⟨x2, x3⟩⟩
      · exact ⟨0, by decide, fun q => absurd q w⟩
    obtain ⟨B, hBB⟩ : ∃ B : Nat → Nat, ∀ k, B k < 256 ∧ (k < f → am_i g 34 k = e8_b (B k) ∧ am_i g 944 k = nI (B k)) := ⟨fun k => Classical.choose (ex k), fun k => Classical.choose_spec (ex k)⟩
    have hB : ∀ k, B k < 256 := fun k => (hBB k).1
    -- R begins
    obtain ⟨gB, r1, r2, r3, r4, r5, r6, r7⟩ := cm_252 (am_si g 32 1 0) (nI lim)
    have r2 : fx_i bg_S (am_si g 32 1 0) gB := r2
    have gBlo : ∀ o k, (o < 33 ∨ o = 34 ∨ 943 ≤ o) → am_i gB o k = am_i (am_si g 32 1 0) o k ∧ am_j gB o k = am_j (am_si g 32 1 0) o k ∧ am_r gB o k = am_r (am_si g 32 1 0) o k := fun o k h => r2.1 o k (bg_lo h)
    generalize hgC : am_si (am_si gB 35 3 0) 35 4 0 = gC at *
    have fC : fx_i dr_S gB gC := hgC ▸ fx_tr (fx_si rfl) (fx_si rfl)
    have gsC : gs_ok gC := gs_dr (gs_lo k1 (fun o k h => ((gBlo o k (by omega)).1).trans (by rw [gi_si, if_neg (by omega)]))) fC
    have raC : ra_ok gC := ra_dr r3 fC
    have hC34 : ∀ k, k < n → am_i gC 34 k = e8_b (B k) := fun k hk => by
      rw [(fC.1 34 k rfl).1, (gBlo 34 k (by omega)).1, gi_si, if_neg (by omega)]
      exact ((hBB k).2 (by omega)).1
    have hC4 : am_i gC 35 4 = 0 := by rw [← hgC]; rfl
    have hC3 : am_i gC 35 3 = 0 := by rw [← hgC]; rfl
    have hCz : am_sz gC = am_sz g ∧ am_us gC = am_us g := by
      have : gC.2.2.2 = g.2.2.2 := (fC.2.1.trans r2.2.1).trans rfl
      exact ⟨congrArg (fun x => x.1) this, congrArg (fun x => x.2) this⟩
    -- cells of M (and statics) are as they were
    have hCm : ∀ o k, (o < 32 ∨ 943 ≤ o) → am_i gC o k = am_i g o k := fun o k h => by
      rw [(fC.1 o k (dr_lo (by omega))).1, (gBlo o k (by omega)).1, gi_si, if_neg (by omega)]
    have e153 : fm_153 gB (nI n) = lo_it de_R nf_F (gC, nI n) := by rw [← hgC]; rfl
    have e5 : fm_5 g (nI n) (nI lim) = lo_i (fm_251 (am_si g 32 1 0) (nI n) (nI lim)) fun y1 g2 => some (y1, g2) := by
      unfold fm_5
      rw [if_neg ha, b1, if_neg hfa, if_neg hb0, if_pos hbl]
    -- M from a memory m
    have Mr : ∀ m : am_G, (∀ o k, 943 ≤ o → am_i m o k = am_i g o k) → ∃ mB mD, fm_138 m (nI n) (nI lim) = lo_i (fm_137 (am_si (am_si mB 943 6 (nI n)) 943 1 0) (nI n)) (fun y3 g4 => if y3 = 0 then fj_138_58 g4 1 else fj_138_58 g4 0) ∧ ma_ok mB ∧ fx_i an_S (am_si m 943 15 (nI lim)) mB ∧ mD = am_si (am_si (am_si mB 943 6 (nI n)) 943 1 0) 943 4 0 ∧
        de_Q n gC mD (lo_it de_R nf_F (gC, nI n)) (fm_20 (am_si (am_si mB 943 6 (nI n)) 943 1 0) (nI n)) := by
      intro m hm
      obtain ⟨mB, mD, u1, u2, u3, u4, u5⟩ := mp_ok (lim := lim) (m := m) hB hn6 (fun k hk => by rw [hm 944 k (by decide)]; exact ((hBB k).2 (by omega)).2) hC34 hC4 hC3 gsC
      refine ⟨mB, mD, ?_, u2, u3, u4, u5⟩
      unfold fm_138
      rw [if_neg ha, hm 943 1 (by decide), b2, if_neg hfa, if_neg hb0, if_pos hbl, u1, lo_ps]
    have low : ∀ {m mB gm : am_G}, fx_i an_S (am_si m 943 15 (nI lim)) mB → fx_i dm_S (am_si (am_si (am_si mB 943 6 (nI n)) 943 1 0) 943 4 0) gm → (∀ o k, o < 943 → am_i gm o k = am_i m o k) ∧ gm.2.2.2 = m.2.2.2 ∧ am_i gm 943 1 = 0 ∧ am_i gm 943 6 = nI n ∧ am_i gm 943 15 = nI lim := by
      intro m mB gm f1 f2
      refine ⟨fun o k h => ?_, f2.2.1.trans (f1.2.1.trans rfl), ((f2.1 943 1 rfl).1).trans rfl, ((f2.1 943 6 rfl).1).trans rfl, ((f2.1 943 15 rfl).1).trans (((f1.1 943 15 rfl).1).trans rfl)⟩
      rw [(f2.1 o k (dm_lo h)).1, gi_si, if_neg (by omega), gi_si, if_neg (by omega), gi_si, if_neg (by omega), (f1.1 o k (an_lo h)).1, gi_si, if_neg (by omega)]
    have e251 : fm_251 (am_si g 32 1 0) (nI n) (nI lim) = lo_i (lo_it de_R nf_F (gC, nI n)) fun y3 g4 => if y3 = 0 then lo_c (fm_254 g4) (fun _ g6 => if am_i g6 33 14 = 0 then some (3, g6) else some (2, g6)) (fun y5 g6 => fj_251_45 g6 y5) else some (1, am_si (am_si g4 33 11 1) 33 12 (am_i g4 35 4)) := by
      unfold fm_251
      rw [r1, lo_ps, e153]
    obtain ⟨mB0, mD0, _, v2, v3, v4, v5⟩ := Mr g (fun _ _ _ => rfl)
    rcases v5 with ⟨N, gR', gM', w1, w2, w3, w4, w5, w6⟩ | ⟨q, e, gR', gm', w1, w2, w3, w4, w5, w6⟩
    · -- the text is decoded
      have hRm : ∀ o k, (o < 32 ∨ 943 ≤ o) → am_i gR' o k = am_i g o k := fun o k h => ((w5.1 o k (dr_lo (by omega))).1).trans (hCm o k h)
      have gsR : gs_ok gR' := gs_dr gsC w5
      have raR : ra_ok gR' := ra_dr raC w5
      have hRz : am_sz gR' = am_sz g ∧ am_us gR' = am_us g := by
        have : gR'.2.2.2 = gC.2.2.2 := w5.2.1
        exact ⟨(congrArg (fun x => x.1) this).trans hCz.1, (congrArg (fun x => x.2) this).trans hCz.2⟩
      have hR33 : ∀ k, am_i gR' 33 k = am_i gB 33 k := fun k => ((w5.1 33 k rfl).1).trans ((fC.1 33 k rfl).1)
      have hR32 : am_i gR' 32 1 = 0 := by
        rw [(w5.1 32 1 rfl).1, (fC.1 32 1 rfl).1, (gBlo 32 1 (by omega)).1]
        rfl
      have SB : ∀ {m mB gm : am_G} {N : Nat}, ma_ok mB → fx_i an_S (am_si m 943 15 (nI lim)) mB → fx_i dm_S (am_si (am_si (am_si mB 943 6 (nI n)) 943 1 0) 943 4 0) gm → tx_r gR' N (nI n) → tx_m gR' gm N → sb_ok (am_sz gR') (am_us gR') gR' gm gR' gm N n lim := by
        intro m mB gm N u2 u3 f2 t1 t2
        obtain ⟨_, _, l3, l4, l5⟩ := low u3 f2
        have ma : ma_ok gm := ma_dm (g := am_si (am_si (am_si mB 943 6 (nI n)) 943 1 0) 943 4 0) u2 f2
        refine ⟨⟨rfl, rfl, by rw [hRz.1]; exact k10, ag_re, ⟨ag_re, rfl⟩, by rw [hR33]; exact r7, ma.2.2.2.2.2.2.2.2.2.2.2.2.2.2.2.2.2.2.2.2.2.2.2.2.2.2.2.2.2.2.2.2.1, gsR⟩, t1, t2, raR, ma, by rw [hR33]; exact r4, l5, hlim, l4, hn6, by rw [hR33]; exact r5, by rw [hR33]; exact r6⟩
      have J0 := J _ _ _ _ _ _ _ _ _ (SB v2 v3 (v4 ▸ w6) w3 w4)
      obtain ⟨r, j1, j2⟩ := J0
      have again : ∀ g1 : am_G, (∀ o k, 943 ≤ o → am_i g1 o k = am_i g o k) → ∃ mB gm N', fm_138 g1 (nI n) (nI lim) = lo_i (mr_d gm (nI n)) (fun y3 g4 => if y3 = 0 then fj_138_58 g4 1 else fj_138_58 g4 0) ∧ ma_ok mB ∧ fx_i an_S (am_si g1 943 15 (nI lim)) mB ∧ fx_i dm_S (am_si (am_si (am_si mB 943 6 (nI n)) 943 1 0) 943 4 0) gm ∧ tx_r gR' N' (nI n) ∧ tx_m gR' gm N' := by
        intro g1 hm
        obtain ⟨mB, mD, x1, x2, x3, x4, x5⟩ := Mr g1 hm
        rcases x5 with ⟨N', gR2, gM2, y1, y2, y3, y4, y5, y6⟩ | ⟨q, e, gR2, gm2, y1, y2, y3, y4, y5, y6⟩
        · have eg : gR2 = gR' := by
            have := y1.symm.trans w1
            exact congrArg (fun p => p.2) (Option.some.inj this)
          subst eg
          refine ⟨mB, gM2, N', ?_, x2, x3, x4 ▸ y6, y3, y4⟩
          rw [x1, cm_137, y2, lo_is, if_pos (by decide)]
        · have := y1.symm.trans w1
          exact absurd (congrArg (fun p => p.1) (Option.some.inj this)) y2
      obtain ⟨ra | rx, gR2⟩ := r
      · -- R returns
        obtain ⟨gM3, gM4, j3, j4, j5⟩ := j2
        have hx943 : ∀ o k, 943 ≤ o → am_i gR2 o k = am_i g o k := fun o k h => ((j5.2.2.1 o k (rx_of (by omega))).1).trans (hRm o k (by omega))
        obtain ⟨mB, gm, N', x1, x2, x3, x4, x5, x6⟩ := again gR2 hx943
        obtain ⟨r', t1, t2⟩ := J _ _ _ _ _ _ _ _ _ (SB x2 x3 x4 x5 x6)
        have er : r' = (.inl ra, gR2) := Option.some.inj (t1.symm.trans j1)
        subst er
        obtain ⟨gM5, gM6, t3, t4, t5⟩ := t2
        obtain ⟨l1, l2, l3, l4, l5⟩ := low x3 x4
        have ma : ma_ok gm := ma_dm (g := am_si (am_si (am_si mB 943 6 (nI n)) 943 1 0) 943 4 0) x2 x4
        obtain ⟨p1, p2, p3, p4, p5, p6, p7, p8, p9, p10, p11, p12, p13, p14, p15, p16⟩ := t5
        refine ⟨if am_i gR2 33 14 = 0 then 3 else 2, gR2, gM6, ?_, fun k => ((p3 0 k (rx_of (by omega))).1).trans ((hRm 0 k (by omega)).trans (k2 k)), ?_, ?_⟩
        · rw [e5, e251, w1, lo_is, if_pos rfl, j1]
          show lo_i (if am_i gR2 33 14 = 0 then some (3, gR2) else some (2, gR2)) _ = _
          by_cases z : am_i gR2 33 14 = 0
          · rw [if_pos z, if_pos z, lo_is]
          · rw [if_neg z, if_neg z, lo_is]
        · rw [x1, t3, lo_is, if_pos rfl, t4]
        · refine iv_mk (g1 := gR2) p16 (fun k => ((p3 0 k (rx_of (by omega))).1).trans ((hRm 0 k (by omega)).trans (k2 k))) (((p3 32 1 (rx_of (by omega))).1).trans hR32) (fun o k h => ((p4.1 o k (mx_of h)).1).trans (l1 o k h)) (p4.2.trans l2) (((p4.1 943 1 rfl).1).trans l3) p5 p6 p7 p8 (((p4.1 943 139 rfl).1).trans ma.2.2.2.2.2.2.2.2.2.2.2.2.2.2.2.2.2.2.2.2.2.2.2.2.2.2.2.2.1) p9 (Or.inr ⟨p10, p11, p12, p13, p14, p15⟩) ?_ ?_ ?_
          · rw [p1, hRz.1]; exact k10
          · rw [p1, hRz.1]; omega
          · rw [p2, hRz.2]; omega
      · -- R throws
        obtain ⟨gM3, j3, j5⟩ := j2
        obtain ⟨gF, o1, o2, o3⟩ := cm_253 gR2
        have hF : ∀ o k, (o < 33 ∨ o = 34 ∨ 943 ≤ o) → am_i gF o k = am_i gR2 o k := fun o k h => (o2.1 o k (by
          have := bg_lo (k := k) h
          unfold bg_S at this
          cases z : fo_S o k with
          | false => rfl
          | true => rw [z] at this; cases this)).1
        have hx943 : ∀ o k, 943 ≤ o → am_i gF o k = am_i g o k := fun o k h => (hF o k (by omega)).trans (((j5.2.2.1 o k (rx_of (by omega))).1).trans (hRm o k (by omega)))
        obtain ⟨mB, gm, N', x1, x2, x3, x4, x5, x6⟩ := again gF hx943
        obtain ⟨r', t1, t2⟩ := J _ _ _ _ _ _ _ _ _ (SB x2 x3 x4 x5 x6)
        have er : r' = (.inr rx, gR2) := Option.some.inj (t1.symm.trans j1)
        subst er
        obtain ⟨gM5, t3, t5⟩ := t2
        obtain ⟨l1, l2, l3, l4, l5⟩ := low x3 x4
        have ma : ma_ok gm := ma_dm (g := am_si (am_si (am_si mB 943 6 (nI n)) 943 1 0) 943 4 0) x2 x4
        obtain ⟨p1, p2, p3, p4, p5, p6, p7⟩ := t5
        have c33 : ∀ k, k = 11 ∨ k = 12 ∨ k = 13 → am_i gF 33 k = am_i gR2 33 k := fun k h => by
          rcases h with rfl | rfl | rfl
          · exact (o2.1 33 11 rfl).1
          · exact (o2.1 33 12 rfl).1
          · exact (o2.1 33 13 rfl).1
        have gsF : gs_ok gF := gs_lo gsR (fun o k h => (hF o k (by omega)).trans ((p3 o k (rx_of (by omega))).1))
        have hzF : am_sz gF = am_sz g + 1 ∧ am_us gF = am_us g + 6 := by
          have : gF.2.2.2 = gR2.2.2.2 := o2.2.1
          exact ⟨(congrArg (fun x => x.1) this).trans (p1.trans (by rw [hRz.1])), (congrArg (fun x => x.2) this).trans (p2.trans (by rw [hRz.2]))⟩
        refine ⟨1, gF, am_si (am_si (am_si gM5 943 146 0) 943 138 0) 943 145 0, ?_, fun k => (hF 0 k (by omega)).trans (((p3 0 k (rx_of (by omega))).1).trans ((hRm 0 k (by omega)).trans (k2 k))), ?_, ?_⟩
        · rw [e5, e251, w1, lo_is, if_pos rfl, j1]
          show lo_i (fj_251_45 gR2 rx) _ = _
          unfold fj_251_45
          rw [o1, lo_ps, lo_is]
        · rw [x1, t3, lo_is, if_neg (by decide)]
          rfl
        · refine iv_mk (g1 := gF) gsF (fun k => (hF 0 k (by omega)).trans (((p3 0 k (rx_of (by omega))).1).trans ((hRm 0 k (by omega)).trans (k2 k)))) ((hF 32 1 (by omega)).trans (((p3 32 1 (rx_of (by omega))).1).trans hR32)) (fun o k h => ?_) (p4.2.trans l2) (((p4.1 943 1 rfl).1).trans l3) ?_ ?_ ?_ ?_ (((p4.1 943 139 rfl).1).trans ma.2.2.2.2.2.2.2.2.2.2.2.2.2.2.2.2.2.2.2.2.2.2.2.2.2.2.2.2.1) ⟨[], ⟨o3.2.2.2.2.2.2.2.2.2.2.2.2.2.2.2.2.2.2.2.2.1, fun i b q => (nomatch q)⟩, o3.2.2.2.2.2.2.2.2.2.2.2.2.2.2.2.2.2.2.2.2.2.1, by decide, fun b q => (nomatch q), rfl, fun i b q => (nomatch q)⟩ (Or.inl ⟨rfl, o3.2.2.2.2.2.2.2.2.2.2.2.2.2.2.2.2.2.2.2.2.2.2.2.2, o3.2.2.2.2.2.2.2.2.1, ?_, o3.2.2.2.2.2.2.2.2.2.1, o3.2.1⟩) ?_ ?_ ?_
          · rw [gi_si, if_neg (by omega), gi_si, if_neg (by omega), gi_si, if_neg (by omega)]
            exact ((p4.1 o k (mx_of h)).1).trans (l1 o k h)
          · rw [c33 11 (Or.inl rfl)]; exact p5
          · rw [c33 12 (Or.inr (Or.inl rfl))]; exact p6
          · rw [c33 13 (Or.inr (Or.inr rfl))]; exact p7
          · rw [o3.1]; rfl
          · rw [o3.2.2.2.2.2.2.2.2.2.2.2.2.2.1, o3.2.2.2.2.2.2.2.2.2.2.2.2.2.2.2.1]; rfl
          · rw [hzF.1]; omega
          · rw [hzF.1]; omega
          · rw [hzF.2]; omega
    · -- bytes that are no text
      have eR : am_i gR' 35 4 = nI q := w3
      have hRm : ∀ o k, (o < 32 ∨ 943 ≤ o) → am_i gR' o k = am_i g o k := fun o k h => ((w5.1 o k (dr_lo (by omega))).1).trans (hCm o k h)
      have raR : ra_ok gR' := ra_dr raC w5
      have hR33 : ∀ k, am_i gR' 33 k = am_i gB 33 k := fun k => ((w5.1 33 k rfl).1).trans ((fC.1 33 k rfl).1)
      generalize hg1 : am_si (am_si gR' 33 11 1) 33 12 (am_i gR' 35 4) = g1
      have c1 : ∀ o k, o ≠ 33 → am_i g1 o k = am_i gR' o k := fun o k h => by rw [← hg1, gi_si, if_neg (by omega), gi_si, if_neg (by omega)]
      have c1k : ∀ k, k ≠ 11 → k ≠ 12 → am_i g1 33 k = am_i gR' 33 k := fun k h1 h2 => by rw [← hg1, gi_si, if_neg (by omega), gi_si, if_neg (by omega)]
      obtain ⟨mB, mD, x1, x2, x3, x4, x5⟩ := Mr g1 (fun o k h => (c1 o k (by omega)).trans (hRm o k (by omega)))
      rcases x5 with ⟨N', gR2, gM2, y1, y2, y3, y4, y5, y6⟩ | ⟨q2, e2, gR2, gm2, y1, y2, y3, y4, y5, y6⟩
      · have := w1.symm.trans y1
        exact absurd (congrArg (fun p => p.1) (Option.some.inj this)) w2
      · have eg : gR2 = gR' := congrArg (fun p => p.2) (Option.some.inj (y1.symm.trans w1))
        subst eg
        obtain ⟨l1, l2, l3, l4, l5⟩ := low x3 (x4 ▸ y6)
        have ma : ma_ok gm2 := ma_dm (g := am_si (am_si (am_si mB 943 6 (nI n)) 943 1 0) 943 4 0) x2 (x4 ▸ y6)
        have hgz : am_sz g1 = am_sz g ∧ am_us g1 = am_us g := by
          have : g1.2.2.2 = gC.2.2.2 := by rw [← hg1]; exact w5.2.1
          exact ⟨(congrArg (fun x => x.1) this).trans hCz.1, (congrArg (fun x => x.2) this).trans hCz.2⟩
        refine ⟨1, g1, am_si (am_si (am_si (am_si (am_si gm2 943 142 1) 943 143 (nI q2)) 943 146 0) 943 138 0) 943 145 0, ?_, fun k => (c1 0 k (by decide)).trans ((hRm 0 k (by omega)).trans (k2 k)), ?_, ?_⟩
        · rw [e5, e251, w1, lo_is, if_neg w2, hg1, lo_is]
        · rw [x1, cm_137, y4, lo_is, if_neg (by decide), lo_is, if_neg (by decide)]
          rfl
        · have raG : ∀ o k, o ≠ 33 → am_i g1 o k = am_i gR2 o k := c1
          refine iv_mk (g1 := g1) (gs_lo (gs_dr gsC w5) (fun o k h => c1 o k (by omega))) (fun k => (c1 0 k (by decide)).trans ((hRm 0 k (by omega)).trans (k2 k))) ?_ (fun o k h => ?_) l2 ?_ ?_ ?_ ?_ ?_ ?_ ⟨[], ⟨(c1 872 2 (by decide)).trans raR.2.2.2.2.2.2.2.2.2.2.2.2.2.2.2.2.2.2.2.2.1, fun i b q => (nomatch q)⟩, (c1 872 3 (by decide)).trans raR.2.2.2.2.2.2.2.2.2.2.2.2.2.2.2.2.2.2.2.2.2.1, by decide, fun b q => (nomatch q), rfl, fun i b q => (nomatch q)⟩ (Or.inl ⟨rfl, (c1 39 6 (by decide)).trans raR.2.2.2.2.2.2.2.2.2.2.2.2.2.2.2.2.2.2.2.2.2.2.2.2, (c1 49 5 (by decide)).trans raR.2.2.2.2.2.2.2.2.1, ?_, (c1 49 6 (by decide)).trans raR.2.2.2.2.2.2.2.2.2.1, (c1k 15 (by decide) (by decide)).trans raR.2.1⟩) ?_ ?_ ?_
          · rw [c1 32 1 (by decide), (w5.1 32 1 rfl).1, (fC.1 32 1 rfl).1, (gBlo 32 1 (by omega)).1]; rfl
          · rw [gi_si, if_neg (by omega), gi_si, if_neg (by omega), gi_si, if_neg (by omega), gi_si, if_neg (by omega), gi_si, if_neg (by omega)]; exact l1 o k h
          · exact l3
          · rw [← hg1]; rfl
          · rw [← hg1]
            show nI q2 = am_i gR2 35 4
            rw [y3]
          · rw [c1k 13 (by decide) (by decide), hR33, r7]
            exact ma.2.2.2.2.2.2.2.2.2.2.2.2.2.2.2.2.2.2.2.2.2.2.2.2.2.2.2.2.2.2.2.2.1
          · rw [c1k 14 (by decide) (by decide), raR.1]; rfl
          · exact ma.2.2.2.2.2.2.2.2.2.2.2.2.2.2.2.2.2.2.2.2.2.2.2.2.2.2.2.2.1
          · rw [c1 855 5 (by decide), c1 861 5 (by decide), raR.2.2.2.2.2.2.2.2.2.2.2.2.2.1, raR.2.2.2.2.2.2.2.2.2.2.2.2.2.2.2.1]; rfl
          · rw [hgz.1]; exact k10
          · rw [hgz.1]; omega
          · rw [hgz.2]; omega
  · exact no (by unfold fm_5; rw [if_neg ha, b1, if_neg hfa, if_neg hb0, if_neg hbl]) (by unfold fm_138; rw [if_neg ha, b2, if_neg hfa, if_neg hb0, if_neg hbl])
theorem vc_pz (J : pz_ok) : Claimed_1_1 ∧ Claimed_1_2 := vc_jd (jd_pz J)
