/-! R and M step by step: a character is passed; a fault. -/
def ag_3 (S : Nat → Nat → Bool) (g h : am_G) : Prop := ∀ o k, S o k = true → am_i h o k = am_i g o k ∧ am_j h o k = am_j g o k ∧ am_r h o k = am_r g o k
section
variable {S : Nat → Nat → Bool} {g h h' : am_G} {a k : Nat}
theorem ag_re : ag_3 S g g := fun _ _ _ => ⟨rfl, rfl, rfl⟩
theorem ag_tr {u : am_G} (x : ag_3 S g h) (y : ag_3 S h u) : ag_3 S g u := fun o j q => ⟨(y o j q).1.trans (x o j q).1, (y o j q).2.1.trans (x o j q).2.1, (y o j q).2.2.trans (x o j q).2.2⟩
theorem ag_sy (x : ag_3 S g h) : ag_3 S h g := fun o j q => ⟨(x o j q).1.symm, (x o j q).2.1.symm, (x o j q).2.2.symm⟩
theorem ag_wk {T : Nat → Nat → Bool} (x : ag_3 S g h) (w : ∀ o k, T o k = true → S o k = true) : ag_3 T g h := fun o j q => x o j (w o j q)
theorem ag_si {x : Int32} (hS : S a k = false) (y : ag_3 S g h) : ag_3 S g (am_si h a k x) := fun o j q => by
  refine ⟨?_, (y o j q).2.1, (y o j q).2.2⟩
  rw [gi_si]
  by_cases z : o = a ∧ j = k
  · rw [z.1, z.2, hS] at q; cases q
  · rw [if_neg z]; exact (y o j q).1
theorem ag_sj {x : Int64} (hS : S a k = false) (y : ag_3 S g h) : ag_3 S g (am_sj h a k x) := fun o j q => by
  refine ⟨(y o j q).1, ?_, (y o j q).2.2⟩
  rw [gj_sj]
  by_cases z : o = a ∧ j = k
  · rw [z.1, z.2, hS] at q; cases q
  · rw [if_neg z]; exact (y o j q).2.1
theorem ag_sr {x : Option Nat} (hS : S a k = false) (y : ag_3 S g h) : ag_3 S g (am_sr h a k x) := fun o j q => by
  refine ⟨(y o j q).1, (y o j q).2.1, ?_⟩
  rw [gr_sr]
  by_cases z : o = a ∧ j = k
  · rw [z.1, z.2, hS] at q; cases q
  · rw [if_neg z]; exact (y o j q).2.2
theorem ag_ex (y : ag_3 S g h) : ag_3 S g (am_ex h) := y
theorem ag_fx {T : Nat → Nat → Bool} (f : fx_i T h h') (w : ∀ o k, S o k = true → T o k = false) (y : ag_3 S g h) : ag_3 S g h' := fun o j q => by
  have := f.1 o j (w o j q)
  exact ⟨this.1.trans (y o j q).1, this.2.1.trans (y o j q).2.1, this.2.2.trans (y o j q).2.2⟩
end
/-- M's cells that the feed is made of -/
def fd_S (o k : Nat) : Bool := Nat.beq o 947 || (Nat.beq o 945 || (Nat.beq o 946 || (Nat.beq o 943 && (Nat.beq k 4 || (Nat.beq k 5 || (Nat.beq k 8 || (Nat.beq k 9 || (Nat.beq k 13 || (Nat.beq k 14 || Nat.beq k 15)))))))))
theorem fd_mf {o k : Nat} (h : mf_S o k = true) : fd_S o k = true := by
  unfold mf_S at h
  unfold fd_S
  cases h1 : Nat.beq o 947 with
  | true => rfl
  | false =>
    rw [h1, Bool.false_or, Bool.and_eq_true] at h
    rw [h.1]
    obtain rfl := Nat.eq_of_beq_eq_true h.1
    have := h.2
    cases h2 : Nat.beq k 5 <;> cases h3 : Nat.beq k 8 <;> cases h4 : Nat.beq k 9 <;> simp [h2, h3, h4] at this ⊢
theorem mm_cg {g h : am_G} (f : ag_3 fd_S g h) : mm_n h = mm_n g := by
  unfold mm_n mc_n
  rw [(f 943 4 rfl).1, (f 943 5 rfl).1, (f 943 8 rfl).1, (f 943 9 rfl).1, (f 943 14 rfl).1, (f 943 15 rfl).1]
section
variable {gR gM g1 : am_G} {N p : Nat} {n i : Int32} {rs : List (List Int32)}
/-- M's memory behind the item in hand -/
theorem fs_in (S : fs_ok gR gM N n p rs i) (hi : i ≠ -1) : am_i gM 943 29 = 1 ∧ mf_ok gM (nx_p p rs) (nx_r rs) ∧ (∀ rest, rs ≠ [] :: rest) ∧ nx_p p rs ≤ N ∧ am_i gM 943 30 = rf_w gR p rs ∧ (rs = [] → p < N) ∧ ch_ok i := by
  obtain ⟨s1, s2, s3, s4, s5, s6, s7⟩ := S
  have hc : ch_ok i := by
    rcases rf_hc s1 s3 with q | q
    · exact absurd (s6.trans q) hi
    · rw [s6]; exact q
  cases rs with
  | nil =>
    have q : p < N := by
      rcases Nat.lt_or_ge p N with q | q
      · exact q
      · refine absurd (s6.trans ?_) hi
        show (if p < N then am_i gR 37 p else -1) = -1
        rw [if_neg (by omega)]
    have s7 : if p < N then mf_ok gM (p + 1) [] ∧ am_i gM 943 30 = am_i gR 38 p ∧ am_i gM 943 29 = 1 else mf_ok gM p [] ∧ am_i gM 943 30 = n := s7
    rw [if_pos q] at s7
    exact ⟨s7.2.2, s7.1, fun _ z => (nomatch z), q, s7.2.1, fun _ => q, hc⟩
  | cons r rest =>
    cases r with
    | nil => exact absurd s6 hi
    | cons c r => exact ⟨s7.2.2, s7.1, fun _ z => (nomatch (List.cons.inj z).1), s4, s7.2.1.trans (s5 (List.cons_ne_nil _ _)), fun z => (nomatch z), hc⟩
/-- a character that both are done with -/
theorem fs_ps (S : fs_ok gR gM N n p rs i) (hi : i ≠ -1) (hs : fm_133 (am_si gM 943 29 0) i = some (0, g1)) (ha : am_i g1 943 29 = 0) (hf : ag_3 fd_S gM g1) :
    ∃ gR' i' g2, fm_177 gR = some gR' ∧ fx_i ps_S gR gR' ∧ (∀ res, mi_ok n i' g2 res → mi_ok n i gM res) ∧ fs_ok gR' g2 N n (nx_p p rs) (nx_r rs) i' ∧ fx_i tk_S g1 g2 := by
  obtain ⟨a1, a2, a3, a4, a5, a6, a7⟩ := fs_in S hi
  obtain ⟨s1, s2, s3, s4, s5, s6, s7⟩ := S
  have hN := s1.1
  obtain ⟨gR', e1, e2, e3⟩ := cm_177 s3 a3 (by omega)
  have T' : tx_r gR' N n := ⟨hN, ((e2.1 35 3 rfl).1).trans s1.2.1, ((e2.1 38 N rfl).1).trans s1.2.2.1, fun j hj => by rw [(e2.1 37 j rfl).1]; exact s1.2.2.2.1 j hj, pl_cg s1.2.2.2.2 (fun k => (e2.1 37 k rfl).1) (fun k => (e2.1 38 k rfl).1)⟩
  have M' : tx_m gR' g1 N := ⟨((hf 943 4 rfl).1).trans s2.1, fun j hj => ⟨by rw [(hf 945 j rfl).1, (e2.1 37 j rfl).1]; exact (s2.2 j hj).1, by rw [(hf 946 j rfl).1, (e2.1 38 j rfl).1]; exact (s2.2 j hj).2⟩⟩
  obtain ⟨g2, b1, b2, b3⟩ := fs_tk T' M' e3 a4 (fun z => by
    rw [(hf 943 13 rfl).1, (e2.1 39 5 rfl).1]
    refine s5 ?_
    intro y
    subst y
    exact z rfl) (mf_cg a2 fun o k q => (hf o k (fd_mf q)).1)
  exact ⟨gR', _, g2, e1, e2, fun res h => mi_d hi a1 hs ha (by rw [mm_cg hf]; omega) (b1 res h), b2, b3⟩
end
-- faults
/-- outside of R -/
def rx_S (o k : Nat) : Bool := Nat.blt o 33 || (Nat.beq o 34 || Nat.ble 943 o)
/-- outside of M, and what M leaves as it is -/
def mx_S (o k : Nat) : Bool := Nat.blt o 943 || (Nat.ble 1008 o || (Nat.beq o 943 && (Nat.beq k 1 || (Nat.beq k 6 || (Nat.beq k 15 || Nat.beq k 139)))))
/-- M's memory: nothing but M's own cells has changed, nothing is made -/
def mg_3 (H gM : am_G) : Prop := ag_3 mx_S H gM ∧ gM.2.2.2 = H.2.2.2
/-- what holds throughout -/
def bi_ok (Z U : Nat) (G H gR gM : am_G) : Prop := am_sz gR = Z ∧ am_us gR = U ∧ 1008 ≤ Z ∧ ag_3 rx_S G gR ∧ mg_3 H gM ∧ am_i gR 33 13 = 0 ∧ am_i gM 943 144 = 0 ∧ gs_ok gR
/-- both have faulted alike -/
def ft_ok (Z U : Nat) (G H gR gM : am_G) : Prop := am_sz gR = Z + 1 ∧ am_us gR = U + 6 ∧ ag_3 rx_S G gR ∧ mg_3 H gM ∧ am_i gM 943 142 = am_i gR 33 11 ∧ am_i gM 943 143 = am_i gR 33 12 ∧ am_i gM 943 144 = am_i gR 33 13
section
variable {α : Type} {Z U : Nat} {G H gR gM g1 : am_G} {N p : Nat} {n i : Int32} {rs : List (List Int32)}
/-- R's fault -/
theorem rt_f {f w : Int32} (B : bi_ok Z U G H gR gM) : ∃ a, fm_236 gR f w = some (a, am_ex (am_si (am_si gR 33 11 f) 33 12 w)) ∧ (Nat.ble 1008 a && Nat.blt a (am_sz (am_ex (am_si (am_si gR 33 11 f) 33 12 w)))) = true := by
  refine ⟨am_sz gR, rfl, ?_⟩
  rw [Bool.and_eq_true]
  constructor
  · exact Nat.ble_eq_true_of_le (by rw [B.1]; exact B.2.2.1)
  · exact Nat.blt_eq.mpr (Nat.lt_succ_self _)
theorem ft_mk {f w : Int32} {g2 : am_G} (B : bi_ok Z U G H gR gM) (h1 : am_i g2 943 142 = f) (h2 : am_i g2 943 143 = w) (h3 : am_i g2 943 144 = 0) (h4 : ag_3 mx_S gM g2) (h5 : g2.2.2.2 = gM.2.2.2) : ft_ok Z U G H (am_ex (am_si (am_si gR 33 11 f) 33 12 w)) g2 := by
  obtain ⟨b1, b2, b3, b4, b5, b6, b7, b8⟩ := B
  refine ⟨?_, ?_, ag_ex (ag_si rfl (ag_si rfl b4)), ⟨ag_tr b5.1 h4, h5.trans b5.2⟩, ?_, ?_, ?_⟩
  · show am_sz gR + 1 = _; rw [b1]
  · show am_us gR + 6 = _; rw [b2]
  · rw [h1]; rfl
  · rw [h2]; rfl
  · rw [h3]; exact b6.symm
/-- M's fail -/
theorem cm_21 (g : am_G) (k w : Int32) : fm_21 g k w = some (-1, am_si (am_si g 943 142 k) 943 143 (if am_i g 943 9 ≤ 0 then w else am_i g 943 13)) := by
  unfold fm_21 fj_21_21
  split <;> rfl
theorem cm_23 (g : am_G) : fm_23 g = some (-1, am_si (am_si g 943 142 2) 943 143 (if am_i g 943 9 ≤ 0 then am_i g 943 30 else am_i g 943 13)) := by
  unfold fm_23
  rw [cm_21]
  rfl
/-- cells that a fault of M looks at -/
def wr_S (o k : Nat) : Bool := mx_S o k || (Nat.beq o 943 && (Nat.beq k 9 || (Nat.beq k 13 || (Nat.beq k 30 || Nat.beq k 144))))
theorem wr_mx {o k : Nat} (h : mx_S o k = true) : wr_S o k = true := by unfold wr_S; rw [h]; rfl
/-- where a fault of the item in hand lies -/
theorem fs_w (S : fs_ok gR gM N n p rs i) (hi : i ≠ -1) {g' : am_G} (h9 : am_i g' 943 9 = am_i gM 943 9) (h13 : am_i g' 943 13 = am_i gM 943 13) : (if am_i g' 943 9 ≤ 0 then am_i gM 943 30 else am_i g' 943 13) = rf_w gR p rs := by
  obtain ⟨a1, a2, a3, a4, a5, a6, a7⟩ := fs_in S hi
  rw [h9, h13, a5]
  have h9 := a2.2.1
  cases rs with
  | nil => rw [h9, if_pos (by decide)]
  | cons r rest =>
    have hl : rest.length + 1 ≤ 16 := S.2.2.1.2.1
    have h9 : am_i gM 943 9 = nI (rest.length + 1) := h9
    rw [h9, if_neg (nI_nle (by omega) (by omega))]
    exact S.2.2.2.2.1 (List.cons_ne_nil _ _)
/-- states in which neither an entity nor the text may end -/
def st_in (s : Int32) : Prop := s ≠ 5 ∧ s ≠ 0 ∧ s ≠ 45 ∧ s ≠ 50 ∧ s ≠ 58
/-- R's need fails, and M's character is wrong -/
theorem nd_f {Q : Unit → am_G → Int32 → am_G → Prop} (B : bi_ok Z U G H gR gM) (S : fs_ok gR gM N n p rs i) (hst : i = -1 → st_in (am_i gM 943 26))
    (hc : i ≠ -1 → ∃ g', fm_133 (am_si gM 943 29 0) i = fm_23 g' ∧ ag_3 wr_S gM g' ∧ g'.2.2.2 = gM.2.2.2) : si_ok n (ft_ok Z U G H) (fm_238 gR 0) i gM Q := by
  have T := S.1
  have F := S.2.2.1
  have hp := S.2.2.2.1
  have hh : fm_176 gR = some i := by rw [cm_176 T F hp, S.2.2.2.2.2.1]
  have hw : fm_178 gR = some (rf_w gR p rs) := cm_178 T F hp
  have thr : ∀ f, ∃ a, fj_238_32 gR f = some (.inr a, am_ex (am_si (am_si gR 33 11 f) 33 12 (rf_w gR p rs))) := by
    intro f
    obtain ⟨a, e1, e2⟩ := rt_f (f := f) (w := rf_w gR p rs) B
    exact ⟨a, by unfold fj_238_32; rw [hw, lo_ps, e1, lo_is, e2, lo_gt]⟩
  by_cases q : i = -1
  · have hst := hst q
    obtain ⟨s5, s0, s45, s50, s58⟩ := hst
    subst q
    cases rs with
    | nil =>
      have pN : ¬ p < N := by
        intro z
        have e : (-1 : Int32) = if p < N then am_i gR 37 p else -1 := S.2.2.2.2.2.1
        rw [if_pos z] at e
        exact (ch_n (T.2.2.2.1 p z)).1 e.symm
      have hpN : p = N := by omega
      have K : if p < N then mf_ok gM (p + 1) [] ∧ am_i gM 943 30 = am_i gR 38 p ∧ am_i gM 943 29 = 1 else mf_ok gM p [] ∧ am_i gM 943 30 = n := S.2.2.2.2.2.2
      rw [if_neg pN] at K
      have k9 : am_i gM 943 9 = 0 := K.1.2.1
      obtain ⟨a, e⟩ := thr 2
      have e0 : fm_238 gR 0 = fj_238_32 gR 2 := by
        unfold fm_238
        rw [if_pos rfl, F.1, if_pos (show nI ([] : List (List Int32)).length ≤ 0 by decide)]
        rfl
      refine ⟨_, e0.trans e, am_si (am_si (am_si gM 943 30 n) 943 142 2) 943 143 n, ?_, ?_⟩
      · unfold mi_ok
        rw [if_pos rfl, k9, if_neg (by decide)]
        unfold fj_137_138
        rw [if_pos rfl, if_neg s5]
        unfold fj_137_160
        rw [if_pos rfl, show am_i (am_si gM 943 30 n) 943 26 = am_i gM 943 26 from rfl, if_neg s0]
        unfold fj_137_179
        rw [cm_23, lo_is]
        unfold fj_137_184
        rw [if_neg (by decide), show am_i (am_si gM 943 30 n) 943 9 = am_i gM 943 9 from rfl, k9, if_pos (by decide)]
        rfl
      · have hwn : rf_w gR p [] = n := by show am_i gR 38 p = n; rw [hpN]; exact T.2.2.1
        rw [hwn]
        exact ft_mk B rfl rfl B.2.2.2.2.2.2.1 (ag_si rfl (ag_si rfl (ag_si rfl ag_re))) rfl
    | cons r rest =>
      have hl : rest.length + 1 ≤ 16 := F.2.1
      cases r with
      | cons c r =>
        have e : (-1 : Int32) = c := S.2.2.2.2.2.1
        obtain ⟨⟨t, e', a, s, z, h1, h2, h3, h4, h5, h6, h7, h8, h9, h10, h11⟩, _⟩ := F.2.2.2
        exact absurd e.symm (ch_n (h11 c (List.mem_cons_self))).1
      | nil =>
        have K : mf_ok gM p ([] :: rest) := S.2.2.2.2.2.2
        have k9 : am_i gM 943 9 = nI (rest.length + 1) := K.2.1
        have f1 : am_i gR 39 4 = nI (rest.length + 1) := F.1
        obtain ⟨a, e⟩ := thr 13
        have e0 : fm_238 gR 0 = fj_238_32 gR 13 := by
          unfold fm_238
          rw [if_pos rfl, f1, if_neg (nI_nle (by omega) (by omega)), hh, lo_ps, if_pos rfl]
        have h13 : am_i gM 943 13 = am_i gR 39 5 := S.2.2.2.2.1 (List.cons_ne_nil _ _)
        have el : fm_103 gM = some (-1, am_si (am_si gM 943 142 13) 943 143 (am_i gM 943 13)) := by
          have e3 : fm_21 gM 13 0 = some (-1, am_si (am_si gM 943 142 13) 943 143 (am_i gM 943 13)) := by
            rw [cm_21, k9, if_neg (nI_nle (by omega) (by omega))]
          have z0 : fj_103_104 gM 0 = some (-1, am_si (am_si gM 943 142 13) 943 143 (am_i gM 943 13)) := by
            unfold fj_103_104
            rw [if_pos rfl, e3, lo_is]
          unfold fm_103
          rw [if_neg s5]
          unfold fj_103_17
          rw [k9, nI_pred, lo_ll, ai_nI (by omega) (by omega), lo_gt, if_neg s50, if_neg s58, if_neg s45]
          unfold fj_103_59
          rw [z0]
          simp
        refine ⟨_, e0.trans e, am_si (am_si (am_si gM 943 142 13) 943 143 (am_i gM 943 13)) 943 30 n, ?_, ?_⟩
        · unfold mi_ok
          rw [if_pos rfl, k9, if_pos (show (0 : Int32) < nI (rest.length + 1) from nI_lt (a := 0) (by omega) (by omega))]
          intro k hk
          rw [el, lo_is]
          refine mr_f k ?_ (by decide)
          have : 1 ≤ mm_n gM := by
            unfold mm_n mc_n
            rw [k9, nI_clamp (by omega)]
            omega
          omega
        · have hwn : rf_w gR p ([] :: rest) = am_i gM 943 13 := h13.symm
          rw [hwn]
          exact ft_mk B rfl rfl B.2.2.2.2.2.2.1 (ag_si rfl (ag_si rfl (ag_si rfl ag_re))) rfl
  · obtain ⟨g', e1, e2, e2z⟩ := hc q
    have hi := fs_in S q
    obtain ⟨a, e⟩ := thr 2
    have e0 : fm_238 gR 0 = fj_238_32 gR 2 := by
      unfold fm_238
      rw [if_pos rfl, hh]
      unfold fj_238_31
      split
      · rfl
      · rw [lo_ps, if_neg q]
    have e9 : am_i g' 943 9 = am_i gM 943 9 := (e2 943 9 rfl).1
    have e13 : am_i g' 943 13 = am_i gM 943 13 := (e2 943 13 rfl).1
    have e30 : am_i g' 943 30 = am_i gM 943 30 := (e2 943 30 rfl).1
    have hm := mi_f (n := n) (y := -1) q hi.1 (by decide) (e1.trans (cm_23 g'))
    refine ⟨_, e0.trans e, _, hm, ?_⟩
    rw [e30, fs_w S q e9 e13]
    exact ft_mk B rfl rfl (((e2 943 144 rfl).1).trans B.2.2.2.2.2.2.1) (ag_si rfl (ag_si rfl (ag_si rfl (ag_wk e2 fun _ _ => wr_mx)))) e2z
end
