/-! Values in quotes. -/
section
variable {X : cx_T} {gR gM : am_G} {i s : Int32}
/-- where an entity's text may not end -/
def lv_n (gM : am_G) (F : Nat) (s : Int32) : Prop := (am_i gM 948 (F - 1) = 0 ∧ (s ≠ 50 ∨ am_i gM 943 106 ≠ am_i gM 949 (F - 1))) ∨ (am_i gM 948 (F - 1) = 1 ∧ s ≠ 58) ∨ (am_i gM 948 (F - 1) = 2 ∧ s ≠ 45)
theorem cm_103n {F : Nat} (hF : am_i gM 943 9 = nI F) (hF0 : 0 < F) (hF2 : F ≤ 16) (h5 : am_i gM 943 26 ≠ 5) (hk : lv_n gM F (am_i gM 943 26)) : fm_103 gM = some (-1, am_si (am_si gM 943 142 13) 943 143 (am_i gM 943 13)) := by
  have z0 : fj_103_104 gM 0 = some (-1, am_si (am_si gM 943 142 13) 943 143 (am_i gM 943 13)) := by
    unfold fj_103_104
    rw [if_pos rfl, cm_21, hF, if_neg (nI_nle hF0 (by omega)), lo_is]
  unfold fm_103
  rw [if_neg h5]
  unfold fj_103_17 fj_103_59
  rw [hF, show nI F - 1 = nI (F - 1) by rw [show F = (F - 1) + 1 by omega, nI_pred]; rfl, lo_ll, ai_nI (by omega) (by omega), lo_gt, nI_clamp (by omega)]
  rcases hk with ⟨k1, k2⟩ | ⟨k1, k2⟩ | ⟨k1, k2⟩
  · rw [k1, if_pos rfl]
    by_cases q : am_i gM 943 26 = 50
    · rw [if_pos q, if_neg (k2.resolve_left fun z => z q)]; exact z0
    · rw [if_neg q]; exact z0
  · rw [k1, if_neg (by decide), if_pos rfl, if_neg k2]; exact z0
  · rw [k1, if_neg (by decide), if_neg (by decide), if_neg k2]; exact z0
/-- R's need fails at an end -/
theorem sy_ne {Q : Unit → am_G → Int32 → am_G → Prop} (h : sy_ok X gR gM (-1) s) (h5 : s ≠ 5) (h0 : s ≠ 0) (hk : ∀ F, am_i gM 943 9 = nI F → 0 < F → F ≤ 16 → lv_n gM F s) : sx_ok X (fm_238 gR 0) (-1) gM Q := by
  have h' := h
  obtain ⟨B, ⟨p, rs, S⟩, W, h26⟩ := h
  have T := S.1
  have F := S.2.2.1
  have thr : ∀ f, ∃ a, fj_238_32 gR f = some (.inr a, am_ex (am_si (am_si gR 33 11 f) 33 12 (rf_w gR p rs))) := by
    intro f
    obtain ⟨a, e1, e2⟩ := rt_f (f := f) (w := rf_w gR p rs) B
    exact ⟨a, by unfold fj_238_32; rw [rs_w S, lo_ps, e1, lo_is, e2, lo_gt]⟩
  cases rs with
  | nil =>
    have pN : ¬ p < X.2.2.2.2.1 := by
      intro z
      have e : (-1 : Int32) = if p < X.2.2.2.2.1 then am_i gR 37 p else -1 := S.2.2.2.2.2.1
      rw [if_pos z] at e
      exact (ch_n (T.2.2.2.1 p z)).1 e.symm
    have hpN : p = X.2.2.2.2.1 := by have := S.2.2.2.1; omega
    have K : if p < X.2.2.2.2.1 then mf_ok gM (p + 1) [] ∧ am_i gM 943 30 = am_i gR 38 p ∧ am_i gM 943 29 = 1 else mf_ok gM p [] ∧ am_i gM 943 30 = X.2.2.2.2.2 := S.2.2.2.2.2.2
    rw [if_neg pN] at K
    have k9 : am_i gM 943 9 = 0 := K.1.2.1
    obtain ⟨a, e⟩ := thr 2
    have e0 : fm_238 gR 0 = fj_238_32 gR 2 := by
      unfold fm_238
      rw [if_pos rfl, F.1, if_pos (show nI ([] : List (List Int32)).length ≤ 0 by decide)]
      rfl
    refine ⟨_, e0.trans e, am_si (am_si (am_si gM 943 30 X.2.2.2.2.2) 943 142 2) 943 143 X.2.2.2.2.2, ?_, ?_⟩
    · unfold mi_ok
      rw [if_pos rfl, k9, if_neg (by decide)]
      unfold fj_137_138
      rw [if_pos rfl, h26, if_neg h5]
      unfold fj_137_160
      rw [if_pos rfl, show am_i (am_si gM 943 30 X.2.2.2.2.2) 943 26 = am_i gM 943 26 from rfl, h26, if_neg h0]
      unfold fj_137_179
      rw [cm_23, lo_is]
      unfold fj_137_184
      rw [if_neg (by decide), show am_i (am_si gM 943 30 X.2.2.2.2.2) 943 9 = am_i gM 943 9 from rfl, k9, if_pos (by decide)]
      rfl
    · have hwn : rf_w gR p [] = X.2.2.2.2.2 := by show am_i gR 38 p = _; rw [hpN]; exact T.2.2.1
      rw [hwn]
      exact ft_mk B rfl rfl B.2.2.2.2.2.2.1 (ag_si rfl (ag_si rfl (ag_si rfl ag_re))) rfl
  | cons r rest =>
    have hl : rest.length + 1 ≤ 16 := F.2.1
    cases r with
    | cons c r =>
      have e : (-1 : Int32) = c := S.2.2.2.2.2.1
      obtain ⟨⟨t, e', a, st, z, h1, h2, h3, h4, h5, h6, h7, h8, h9, h10, h11⟩, _⟩ := F.2.2.2
      exact absurd e.symm (ch_n (h11 c (List.mem_cons_self))).1
    | nil =>
      have K : mf_ok gM p ([] :: rest) := S.2.2.2.2.2.2
      have k9 : am_i gM 943 9 = nI (rest.length + 1) := K.2.1
      have f1 : am_i gR 39 4 = nI (rest.length + 1) := F.1
      obtain ⟨a, e⟩ := thr 13
      have e0 : fm_238 gR 0 = fj_238_32 gR 13 := by
        unfold fm_238
        rw [if_pos rfl, f1, if_neg (nI_nle (by omega) (by omega)), sy_h h', lo_ps, if_pos rfl]
      have h13 : am_i gM 943 13 = am_i gR 39 5 := S.2.2.2.2.1 (List.cons_ne_nil _ _)
      have el := cm_103n k9 (by omega) hl (by rw [h26]; exact h5) (by rw [h26]; exact hk _ k9 (by omega) hl)
      refine ⟨_, e0.trans e, am_si (am_si (am_si gM 943 142 13) 943 143 (am_i gM 943 13)) 943 30 X.2.2.2.2.2, ?_, ?_⟩
      · unfold mi_ok
        rw [if_pos rfl, k9, if_pos (show (0 : Int32) < nI (rest.length + 1) from nI_lt (a := 0) (by omega) (by omega))]
        intro k hk
        rw [el, lo_is]
        refine mr_f k ?_ (by decide)
        have : 1 ≤ mm_n gM := by
          unfold mm_n mc_n
          rw [k9, nI_clamp (by omega)]
          omega
        omega
      · have hwn : rf_w gR p ([] :: rest) = am_i gM 943 13 := h13.symm
        rw [hwn]
        exact ft_mk B rfl rfl B.2.2.2.2.2.2.1 (ag_si rfl (ag_si rfl (ag_si rfl ag_re))) rfl
/-- what reading a value changes -/
def vR_S (o k : Nat) : Bool := pR_S o k || (eR_Z o k || (Nat.beq o 883 || (Nat.beq o 33 && (Nat.beq k 30 || Nat.beq k 31))))
def vM_S (o k : Nat) : Bool := rr_S o k || (eM_Z o k || (Nat.beq o 1001 || (Nat.beq o 943 && (Nat.beq k 38 || (Nat.beq k 125 || (Nat.beq k 126 || (Nat.beq k 127 || Nat.beq k 145)))))))
theorem vR_c {o k : Nat} : vR_S o k = true ↔ (pR_S o k = true ∨ eR_Z o k = true ∨ o = 883 ∨ (o = 33 ∧ (k = 30 ∨ k = 31))) := by
  unfold vR_S
  simp only [Bool.or_eq_true, Bool.and_eq_true, Nat.beq_eq]
theorem vM_c {o k : Nat} : vM_S o k = true ↔ (rr_S o k = true ∨ eM_Z o k = true ∨ o = 1001 ∨ (o = 943 ∧ (k = 38 ∨ k = 125 ∨ k = 126 ∨ k = 127 ∨ k = 145))) := by
  unfold vM_S
  simp only [Bool.or_eq_true, Bool.and_eq_true, Nat.beq_eq]
theorem vR_p {o k : Nat} (h : pR_S o k = true) : vR_S o k = true := vR_c.mpr (Or.inl h)
theorem vR_e {o k : Nat} (h : eR_Z o k = true) : vR_S o k = true := vR_c.mpr (Or.inr (Or.inl h))
theorem vR_l {o k : Nat} (h : lR_Z o k = true) : vR_S o k = true := vR_e (eR_c.mpr (by have := lR_c.mp h; omega))
theorem vM_r {o k : Nat} (h : rr_S o k = true) : vM_S o k = true := vM_c.mpr (Or.inl h)
theorem vM_e {o k : Nat} (h : eM_Z o k = true) : vM_S o k = true := vM_c.mpr (Or.inr (Or.inl h))
theorem vM_l {o k : Nat} (h : lM_Z o k = true) : vM_S o k = true := by
  have z := lM_c.mp h
  by_cases q : k = 43 ∨ k = 9 ∨ k = 8
  · exact vM_e (eM_c.mpr (by omega))
  · exact vM_r (rr_c.mpr (by omega))
theorem vM_en {o k : Nat} (h : os_S (fun o k => Nat.beq o 943 && (Nat.beq k 29 || Nat.beq k 145)) (os_S eM_Z tk_S) o k = true) : vM_S o k = true := by
  unfold os_S at h
  simp only [Bool.or_eq_true, Bool.and_eq_true, Nat.beq_eq] at h
  rcases h with ⟨h1, h2 | h2⟩ | h | h
  · exact vM_r (rr_c.mpr (by omega))
  · exact vM_c.mpr (by omega)
  · exact vM_e h
  · exact vM_r (ct_rr (tk_in h))
def vr_A (o k : Nat) : Bool := Nat.beq o 883 || (Nat.beq o 33 && (Nat.beq k 30 || Nat.beq k 31))
def vm_A (o k : Nat) : Bool := ct_S o k || (Nat.beq o 1001 || (Nat.beq o 943 && (Nat.beq k 38 || (Nat.beq k 39 || (Nat.beq k 40 || (Nat.beq k 125 || (Nat.beq k 126 || Nat.beq k 127)))))))
theorem vr_z : sr_ok vr_A := fun o k h => zR_c.mpr (by
  unfold vr_A at h
  simp only [Bool.or_eq_true, Bool.and_eq_true, Nat.beq_eq] at h
  omega)
theorem vm_c {o k : Nat} (h : vm_A o k = true) : ct_S o k = true ∨ o = 1001 ∨ (o = 943 ∧ (k = 38 ∨ k = 39 ∨ k = 40 ∨ k = 125 ∨ k = 126 ∨ k = 127)) := by
  unfold vm_A at h
  simp only [Bool.or_eq_true, Bool.and_eq_true, Nat.beq_eq] at h
  exact h
theorem vm_z : sm_ok vm_A := fun o k h => zM_c.mpr (by
  rcases vm_c h with z | z | z
  · have := ct_c z; omega
  · omega
  · omega)
theorem vm_t {o k : Nat} (h : tk_S o k = true) : vm_A o k = true := by unfold vm_A; rw [tk_in h]; rfl
theorem vr_v {o k : Nat} (h : vr_A o k = true) : vR_S o k = true := by
  unfold vr_A at h
  simp only [Bool.or_eq_true, Bool.and_eq_true, Nat.beq_eq] at h
  exact vR_c.mpr (Or.inr (Or.inr h))
theorem vm_v {o k : Nat} (h : vm_A o k = true) : vM_S o k = true := by
  rcases vm_c h with z | z | z
  · exact vM_r (ct_rr z)
  · exact vM_c.mpr (by omega)
  · by_cases q : k = 39 ∨ k = 40
    · exact vM_r (rr_c.mpr (by omega))
    · exact vM_c.mpr (by omega)
/-- a value is being read: v so far -/
def va_I (X : cx_T) (gR0 gM0 : am_G) (i0 : Int32) (t F0 : Nat) (q df : Int32) (gA gN : am_G) (j : Int32) (v : List Int32) : Prop := sy_ok X gA gN j 58 ∧ sf_ok vR_S vM_S gR0 gM0 i0 gA gN j ∧ am_i gN 943 145 = am_i gM0 943 145 ∧ (am_i gA 33 30 = nI t ∧ am_i gA 33 31 = nI v.length ∧ v.length ≤ 400 ∧ am_i gN 943 125 = nI v.length ∧ am_i gN 943 38 = q ∧ am_i gN 943 127 = nI F0 ∧ am_i gN 943 126 = df) ∧
  (∀ k x, v[k]? = some x → am_i gA 883 (t + k) = x ∧ am_i gN 1001 k = x ∧ ch_ok x) ∧ (∀ k, k < t → am_i gA 883 k = am_i gR0 883 k) ∧ ∃ F, am_i gN 943 9 = nI F ∧ am_i gA 39 4 = nI F ∧ F0 ≤ F ∧ F ≤ 16 ∧ (∀ d, F0 ≤ d → d < F → am_i gN 948 d = 1) ∧ (∀ d, d < F0 → am_i gN 948 d = am_i gM0 948 d ∧ am_i gN 949 d = am_i gM0 949 d) ∧ (0 < F0 → am_i gA 39 5 = am_i gR0 39 5)
theorem cm_82 {g : am_G} {n : Nat} {c wh : Int32} (h : am_i g 943 125 = nI n) (hn : n ≤ 400) : fm_82 g c wh = if n = 400 then fm_22 g 10 wh else some (0, am_si (am_si g 1001 n c) 943 125 (nI (n + 1))) := by
  unfold fm_82
  rw [h]
  by_cases q : n = 400
  · rw [if_pos (by rw [q]; rfl), if_pos q, lo_id]
  · rw [if_neg (fun e => q ((nI_eq (by omega) (by decide)).mp (e.trans (show (400 : Int32) = nI 400 from rfl)))), if_neg q, ai_nI (by omega) (by omega), lo_gt, nI_clamp (by omega), nI_1]
theorem cm_277 {g : am_G} {n t : Nat} {c wh : Int32} (h : am_i g 33 31 = nI n) (hn : n ≤ 400) (ht : am_i g 33 30 = nI t) (ht2 : t ≤ 4800) : fm_277 g c wh = if n = 400 then (lo_i (fm_237 g 10 wh) fun y2 g3 => lo_g (Nat.ble 1008 y2 && Nat.blt y2 (am_sz g3)) (some (.inr y2, g3))) else some (.inl (), am_si (am_si g 883 (t + n) c) 33 31 (nI (n + 1))) := by
  unfold fm_277
  rw [h]
  by_cases q : n = 400
  · rw [if_pos (by rw [q]; rfl), if_pos q]
  · rw [if_neg (fun e => q ((nI_eq (by omega) (by decide)).mp (e.trans (show (400 : Int32) = nI 400 from rfl)))), if_neg q, ht, nI_add, ai_nI (by omega) (by omega), lo_gt, nI_clamp (by omega), nI_1]
end
