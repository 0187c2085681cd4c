/-! References to characters. -/
def hx_P (c : Int32) : Prop := dg_P c ∨ (¬ c < 97 ∧ c ≤ 102) ∨ (¬ c < 65 ∧ ¬ (70 : Int32) < c)
def hv_c (c : Int32) : Int32 := if (57 : Int32) < c then (lw_c c - 97) + 10 else c - 48
def md_4 (c : Int32) : Int32 := if c < 65 then -1 else if (70 : Int32) < c then -1 else c - 55
def md_h (c : Int32) : Int32 := if c < 97 then md_4 c else if (102 : Int32) < c then md_4 c else c - 87
def md_c (hex : Bool) (c : Int32) : Int32 := if c < 48 then (bif hex then md_h c else -1) else if (57 : Int32) < c then (bif hex then md_h c else -1) else c - 48
def dx_P (hex : Bool) (c : Int32) : Prop := bif hex then hx_P c else dg_P c
theorem cm_270 (g : am_G) (c : Int32) : (hx_P c → fm_270 g c = some 1) ∧ (¬ hx_P c → fm_270 g c = some 0) := by
  unfold fm_270 fj_270_19
  have e2 := cm_259 g c
  by_cases q : dg_P c
  · rw [e2.1 q, lo_ps, if_neg (by decide)]
    exact ⟨fun _ => rfl, fun z => absurd (Or.inl q) z⟩
  · rw [e2.2 q, lo_ps, if_pos rfl]
    unfold hx_P
    by_cases h1 : c < 97
    · rw [if_pos h1]
      by_cases h2 : c < 65
      · rw [if_pos h2]
        exact ⟨fun z => by rcases z with z | z | z; exact absurd z q; exact absurd h1 z.1; exact absurd h2 z.1, fun _ => rfl⟩
      · rw [if_neg h2]
        by_cases h3 : (70 : Int32) < c
        · rw [if_pos h3]
          exact ⟨fun z => by rcases z with z | z | z; exact absurd z q; exact absurd h1 z.1; exact absurd h3 z.2, fun _ => rfl⟩
        · rw [if_neg h3]
          exact ⟨fun _ => rfl, fun z => absurd (Or.inr (Or.inr ⟨h2, h3⟩)) z⟩
    · rw [if_neg h1]
      by_cases h4 : c ≤ 102
      · rw [if_pos h4]
        exact ⟨fun _ => rfl, fun z => absurd (Or.inr (Or.inl ⟨h1, h4⟩)) z⟩
      · rw [if_neg h4]
        by_cases h2 : c < 65
        · rw [if_pos h2]
          exact ⟨fun z => by rcases z with z | z | z; exact absurd z q; exact absurd z.2 h4; exact absurd h2 z.1, fun _ => rfl⟩
        · rw [if_neg h2]
          by_cases h3 : (70 : Int32) < c
          · rw [if_pos h3]
            exact ⟨fun z => by rcases z with z | z | z; exact absurd z q; exact absurd z.2 h4; exact absurd h3 z.2, fun _ => rfl⟩
          · rw [if_neg h3]
            exact ⟨fun _ => rfl, fun z => absurd (Or.inr (Or.inr ⟨h2, h3⟩)) z⟩
theorem cm_271 (g : am_G) (c : Int32) : fm_271 g c = some (hv_c c) := by
  unfold fm_271 hv_c
  by_cases q : (57 : Int32) < c
  · rw [if_pos q, if_pos q, cm_261, lo_ps]
  · rw [if_neg q, if_neg q]
theorem cm_105 (g : am_G) (c : Int32) (hex : Bool) : fm_105 g c (bif hex then 16 else 10) = fj_105_70 g (bif hex then 16 else 10) (md_c hex c) := by
  unfold fm_105 md_c
  have e19 : fj_105_19 g c (bif hex then 16 else 10) = fj_105_70 g (bif hex then 16 else 10) (bif hex then md_h c else -1) := by
    unfold fj_105_19 fj_105_44 fj_105_69
    cases hex with
    | false => rw [cond_false, cond_false, if_neg (by decide), if_neg (by decide)]
    | true =>
      rw [cond_true, cond_true, if_pos rfl]
      unfold md_h md_4
      by_cases h1 : c < 97
      · rw [if_pos h1, if_pos rfl, if_pos h1]
        by_cases h2 : c < 65
        · rw [if_pos h2, if_pos h2]
        · rw [if_neg h2, if_neg h2]
          by_cases h3 : (70 : Int32) < c
          · rw [if_pos h3, if_pos h3]
          · rw [if_neg h3, if_neg h3]
      · rw [if_neg h1, if_neg h1]
        by_cases h4 : (102 : Int32) < c
        · rw [if_pos h4, if_pos rfl, if_pos h4]
          by_cases h2 : c < 65
          · rw [if_pos h2, if_pos h2]
          · rw [if_neg h2, if_neg h2]
            by_cases h3 : (70 : Int32) < c
            · rw [if_pos h3, if_pos h3]
            · rw [if_neg h3, if_neg h3]
        · rw [if_neg h4, if_neg h4]
  by_cases h1 : c < 48
  · rw [if_pos h1, if_pos h1]; exact e19
  · rw [if_neg h1, if_neg h1]
    by_cases h2 : (57 : Int32) < c
    · rw [if_pos h2, if_pos h2]; exact e19
    · rw [if_neg h2, if_neg h2]
theorem dg_ck : (List.range 128).all (fun k => (List.range 2).all fun h => let hex := Nat.beq h 1; let c := nI k; let p := (bif hex then (decide (¬ c < 48 ∧ ¬ (57 : Int32) < c) || (decide (¬ c < 97 ∧ c ≤ 102) || decide (¬ c < 65 ∧ ¬ (70 : Int32) < c))) else decide (¬ c < 48 ∧ ¬ (57 : Int32) < c)); bif p then decide (md_c hex c = hv_c c) && (List.range 16).any (fun d => decide (hv_c c = nI d)) else decide (md_c hex c = -1)) = true := by decide +kernel
theorem dx_i (hex : Bool) (c : Int32) : (bif hex then (decide (¬ c < 48 ∧ ¬ (57 : Int32) < c) || (decide (¬ c < 97 ∧ c ≤ 102) || decide (¬ c < 65 ∧ ¬ (70 : Int32) < c))) else decide (¬ c < 48 ∧ ¬ (57 : Int32) < c)) = true ↔ dx_P hex c := by
  unfold dx_P hx_P dg_P
  cases hex with
  | false => rw [cond_false, cond_false, decide_eq_true_iff]
  | true => rw [cond_true, cond_true, Bool.or_eq_true, Bool.or_eq_true, decide_eq_true_iff, decide_eq_true_iff, decide_eq_true_iff]
/-- both programs' digits -/
theorem dg_al {hex : Bool} {c : Int32} (h : ch_ok c) : (dx_P hex c → ∃ d, d < 16 ∧ md_c hex c = nI d ∧ hv_c c = nI d) ∧ (¬ dx_P hex c → md_c hex c = -1) := by
  obtain ⟨k, hk, rfl⟩ := h
  by_cases q : k < 128
  · have a := List.all_eq_true.mp dg_ck k (List.mem_range.mpr q)
    have b := List.all_eq_true.mp a (bif hex then 1 else 0) (List.mem_range.mpr (by cases hex <;> decide))
    have e : Nat.beq (bif hex then 1 else 0) 1 = hex := by cases hex <;> rfl
    dsimp only at b
    rw [e] at b
    have i := dx_i hex (nI k)
    constructor
    · intro z
      rw [i.mpr z, cond_true, Bool.and_eq_true, decide_eq_true_iff] at b
      obtain ⟨d, d1, d2⟩ := an_t.mp b.2
      have d2 := of_decide_eq_true d2
      exact ⟨d, d1, b.1.trans d2, d2⟩
    · intro z
      rw [sb_f (fun w => z (i.mp w)), cond_false] at b
      exact of_decide_eq_true b
  · have t : (nI k).toInt = k := nI_toInt (by omega)
    have l48 : ¬ nI k < 48 := by rw [Int32.lt_iff_toInt_lt, t]; show ¬ (k : Int) < 48; omega
    have l57 : (57 : Int32) < nI k := by rw [Int32.lt_iff_toInt_lt, t]; show (57 : Int) < k; omega
    have l97 : ¬ nI k < 97 := by rw [Int32.lt_iff_toInt_lt, t]; show ¬ (k : Int) < 97; omega
    have l102 : (102 : Int32) < nI k := by rw [Int32.lt_iff_toInt_lt, t]; show (102 : Int) < k; omega
    have l65 : ¬ nI k < 65 := by rw [Int32.lt_iff_toInt_lt, t]; show ¬ (k : Int) < 65; omega
    have l70 : (70 : Int32) < nI k := by rw [Int32.lt_iff_toInt_lt, t]; show (70 : Int) < k; omega
    have m : md_c hex (nI k) = -1 := by
      unfold md_c md_h md_4
      rw [if_neg l48, if_pos l57, if_neg l97, if_pos l102, if_neg l65, if_pos l70]
      cases hex <;> rfl
    have n102 : ¬ nI k ≤ 102 := by
      rw [Int32.le_iff_toInt_le]
      rw [Int32.lt_iff_toInt_lt] at l102
      omega
    refine ⟨fun z => ?_, fun _ => m⟩
    exfalso
    unfold dx_P at z
    cases hex with
    | false => exact z.2 l57
    | true =>
      rcases z with z | z | z
      · exact z.2 l57
      · exact n102 z.2
      · exact z.2 l70
theorem dx_m1 (hex : Bool) : ¬ dx_P hex (-1) := by
  intro z
  unfold dx_P at z
  cases hex with
  | false => exact dg_m1 z
  | true =>
    rcases z with z | z | z
    · exact dg_m1 z
    · exact z.1 (by decide)
    · exact z.1 (by decide)
theorem bl_59 : ch_bl 59 = false := bl_l (by decide) (by decide) (by decide) (by decide)
section
variable {X : cx_T} {gR gM gR0 gM0 : am_G} {i i0 s t : Int32}
/-- M's registers of a reference -/
def rf_S (o k : Nat) : Bool := Nat.beq o 943 && (ct_S o k || (Nat.ble 39 k && Nat.ble k 41))
theorem rf_c {o k : Nat} (h : rf_S o k = true) : o = 943 ∧ (k = 5 ∨ k = 8 ∨ (26 ≤ k ∧ k ≤ 41) ∧ k ≠ 27 ∧ k ≠ 28) := by
  unfold rf_S at h
  simp only [Bool.and_eq_true, Bool.or_eq_true, Nat.beq_eq, Nat.ble_eq] at h
  obtain ⟨e, z | z⟩ := h
  · have := ct_c z; omega
  · omega
theorem rf_z : sm_ok rf_S := fun o k h => zM_c.mpr (by have := rf_c h; omega)
theorem ct_rf {o k : Nat} (h : ct_S o k = true) : rf_S o k = true := by
  unfold rf_S
  rw [h, (ct_c h).1]
  rfl
/-- what M has read of a number -/
def nu_S (o k : Nat) : Bool := Nat.beq o 943 && (ct_S o k || Nat.beq k 41)
theorem nu_c {o k : Nat} (h : nu_S o k = true) : o = 943 ∧ (ct_S o k = true ∨ k = 41) := by
  unfold nu_S at h
  simp only [Bool.and_eq_true, Bool.or_eq_true, Nat.beq_eq] at h
  exact h
theorem nu_z : sm_ok nu_S := fun o k h => zM_c.mpr (by
  obtain ⟨e, z | z⟩ := nu_c h
  · have := ct_c z; omega
  · omega)
theorem ct_nu {o k : Nat} (h : ct_S o k = true) : nu_S o k = true := by
  unfold nu_S
  rw [h, (ct_c h).1]
  rfl
/-- a digit: M's step -/
theorem cm_dg {g : am_G} {hex : Bool} {c : Int32} {v d : Nat} (hv : am_i g 943 41 = nI v) (hv2 : v ≤ 1114112) (hd : d < 16) (hm : md_c hex c = nI d) :
    fm_105 g c (bif hex then 16 else 10) = some (0, am_si (am_si (am_si g 943 41 (nI (v * (bif hex then 16 else 10) + d))) 943 41 (nI (min 1114112 (v * (bif hex then 16 else 10) + d)))) 943 26 (bif hex then 65 else 63)) := by
  rw [cm_105, hm]
  unfold fj_105_70 fj_105_111 fj_105_128
  rw [if_pos (show (0 : Int32) ≤ nI d from nI_pos' (by omega)), hv]
  have e : nI v * (bif hex then 16 else 10) + nI d = nI (v * (bif hex then 16 else 10) + d) := by
    cases hex with
    | false => rw [cond_false, cond_false, show (10 : Int32) = nI 10 from rfl, pk_mul, nI_add]
    | true => rw [cond_true, cond_true, show (16 : Int32) = nI 16 from rfl, pk_mul, nI_add]
  have hb : v * (bif hex then 16 else 10) + d < 2 ^ 31 := by cases hex <;> simp only [cond_false, cond_true] <;> omega
  rw [e, show (1114112 : Int32) = nI 1114112 from rfl]
  have ht : ∀ (g : am_G) (t1 : Int32), (if (bif hex then (16 : Int32) else 10) = 10 then lo_i (fm_25 (am_si g 943 41 t1) 63) (fun y1 g2 => some (y1, g2)) else lo_i (fm_25 (am_si g 943 41 t1) 65) fun y1 g2 => some (y1, g2)) = some (0, am_si (am_si g 943 41 t1) 943 26 (bif hex then 65 else 63)) := by
    intro g t1
    cases hex <;> rfl
  by_cases q : v * (bif hex then 16 else 10) + d ≤ 1114112
  · rw [if_pos (nI_le q (by decide)), ht, Nat.min_eq_right q]
  · rw [if_neg (nI_ge (by omega) hb), ht, Nat.min_eq_left (by omega)]
theorem cm_nd {g : am_G} {hex : Bool} {c : Int32} (hm : md_c hex c = -1) : fm_105 g c (bif hex then 16 else 10) = fm_23 g := by
  rw [cm_105, hm]
  unfold fj_105_70
  rw [if_neg (by decide), lo_id]
/-- R passes what is in hand, M has still to do with it -/
theorem sy_77 (h : sy_ok X gR gM i s) (hi : i ≠ -1) : ∃ gR', fm_177 gR = some gR' ∧ fx_i ps_S gR gR' ∧ gs_ok gR' ∧ bi_ok X.1 X.2.1 X.2.2.1 X.2.2.2.1 gR' gM := by
  obtain ⟨B, ⟨p, rs, S⟩, w, h26⟩ := h
  obtain ⟨a1, a2, a3, a4, a5, a6, a7⟩ := fs_in S hi
  obtain ⟨gR', e1, e2, e3⟩ := cm_177 S.2.2.1 a3 (by have := S.1.1; have := S.2.2.2.1; omega)
  have B' := bi_ct B e2 (fx_re : fx_i ct_S gM gM)
  exact ⟨gR', e1, e2, B'.2.2.2.2.2.2.2, B'⟩
/-- what R has of a number, M with the ; in hand -/
def nu_Q (X : cx_T) (gR gM : am_G) (i a : Int32) (gR1 : am_G) (i' : Int32) (gM' : am_G) : Prop := ∃ (hex : Bool) (gR' : am_G) (v : Nat), i' = 59 ∧ sy_ok X gR' gM' 59 (bif hex then 65 else 63) ∧ a = nI v ∧ v ≤ 1114112 ∧ am_i gM' 943 41 = nI v ∧ ch_al (nI v) = true ∧ fm_177 gR' = some gR1 ∧ sf_ok ps_S nu_S gR gM i gR' gM' 59 ∧ fm_133 (am_si gM' 943 29 0) 59 = fm_104 (am_si gM' 943 29 0) ∧ mu_n gM' 59 < mu_n gM i
theorem cm_dx (g : am_G) (hex : Bool) (c : Int32) : (dx_P hex c → (if b2 hex = 0 then fm_259 g c else fm_270 g c) = some 1) ∧ (¬ dx_P hex c → (if b2 hex = 0 then fm_259 g c else fm_270 g c) = some 0) := by
  cases hex with
  | false => exact cm_259 g c
  | true => exact cm_270 g c
theorem sf_cn {gR' gM' : am_G} {i' : Int32} (a : sf_ok ps_S ct_S gR gM i gR' gM' i') : sf_ok ps_S nu_S gR gM i gR' gM' i' := sf_wk a (fun _ _ z => z) (fun _ _ => ct_nu)
/-- R's digits, M in state 63 or 65 -/
theorem sy_272l {hex : Bool} {wh : Int32} (hwm : am_i gM0 943 39 = wh) (hwh : wh_ok gR0 wh) {v : Nat} (h : sy_ok X gR gM i s) (hs : (s = (bif hex then 65 else 63) ∧ mu_n gM i < mu_n gM0 i0) ∨ (s = (bif hex then 64 else 61) ∧ dx_P hex i)) (hv : am_i gM 943 41 = nI v) (hv2 : v ≤ 1114112) (f : sf_ok ps_S nu_S gR0 gM0 i0 gR gM i) :
    sx_ok X (fh_272_52 (gR, wh, b2 hex, nI v)) i gM fun a gR1 i' gM' => nu_Q X gR0 gM0 i0 a gR1 i' gM' := by
  unfold fh_272_52
  refine sx_F (I := fun (x : am_G × Int32 × Int32 × Int32) j gN => ∃ (w : Nat) (s : Int32), sy_ok X x.1 gN j s ∧ ((s = (bif hex then 65 else 63) ∧ mu_n gN j < mu_n gM0 i0) ∨ (s = (bif hex then 64 else 61) ∧ dx_P hex j)) ∧ x.2.1 = wh ∧ x.2.2.1 = b2 hex ∧ x.2.2.2 = nI w ∧ am_i gN 943 41 = nI w ∧ w ≤ 1114112 ∧ sf_ok ps_S nu_S gR0 gM0 i0 x.1 gN j) (fun x j gN ⟨_, s, z, _⟩ => ⟨x.1, s, z⟩) ?_ (x := (gR, wh, b2 hex, nI v)) ⟨v, s, h, hs, rfl, rfl, rfl, hv, hv2, f⟩
  rintro K ⟨gA, wh', hx', n'⟩ j gN ⟨w, s, hA, hs, rfl, e2, e3, hw, hw2, fA⟩ ih
  dsimp only at e2 e3 hA fA
  subst e2
  subst e3
  show sx_ok X (fb_272_52 K gA wh' (b2 hex) (nI w)) j gN _
  have body : fb_272_52 K gA wh' (b2 hex) (nI w) = lo_p (if b2 hex = 0 then fm_259 gA j else fm_270 gA j) fun y3 => if y3 = 0 then fj_272_127 gA wh' (nI w) else fj_272_86 K gA wh' (b2 hex) (nI w) := by
    unfold fb_272_52
    rw [sy_h hA, lo_ps, lo_ps]
    cases hex <;> rfl
  rw [body]
  by_cases hd : dx_P hex j
  · rw [(cm_dx gA hex j).1 hd, lo_ps, if_neg (by decide)]
    have hj : j ≠ -1 := fun e => dx_m1 hex (e ▸ hd)
    obtain ⟨d, d1, d2, d3⟩ := (dg_al ((sy_c hA).resolve_left hj)).1 hd
    have hno : ∀ c : Int32, md_c hex c = -1 → j ≠ c := fun c hc e => by
      rw [e, hc] at d2
      exact absurd d2 (fun z => absurd (nI_pos' (n := d) (by omega)) (by rw [← z]; decide))
    have step : ∀ g : am_G, am_i g 943 26 = s → fm_133 g j = fm_105 g j (bif hex then 16 else 10) := by
      intro g hg
      rcases hs with ⟨e, _⟩ | ⟨e, _⟩
      · rw [e] at hg
        cases hex with
        | false => rw [ms_63 hg, if_neg (hno 59 (by decide))]; rfl
        | true => rw [ms_65 hg, if_neg (hno 59 (by decide))]; rfl
      · rw [e] at hg
        cases hex with
        | false => rw [ms_61 hg, if_neg (hno 120 (by decide))]; rfl
        | true => rw [ms_64 hg]; rfl
    have hb : w * (bif hex then 16 else 10) + d < 2 ^ 31 := by cases hex <;> simp only [cond_false, cond_true] <;> omega
    obtain ⟨gR2, i2, g2, a1, a2, a3, a4, a5, a6, a7⟩ := sy_ps (SM := nu_S) (g1 := am_si (am_si (am_si (am_si gN 943 29 0) 943 41 (nI (w * (bif hex then 16 else 10) + d))) 943 41 (nI (min 1114112 (w * (bif hex then 16 else 10) + d)))) 943 26 (bif hex then 65 else 63)) hA hj (by rw [step _ (sy_26 hA), cm_dg (g := am_si gN 943 29 0) hw hw2 d1 d2]) rfl (fx_tr (fx_tr (fx_tr (fx_si rfl) (fx_si rfl)) (fx_si rfl)) (fx_si rfl)) (ag_si rfl (ag_si rfl (ag_si rfl (ag_si rfl ag_re)))) nu_z (fun _ _ z => ct_nu (tk_in z))
    have ev : ∀ t2 : Int32, t2 = (bif hex then 16 else 10) → fj_272_101 K gA wh' (b2 hex) 1114112 (nI w) t2 = K (gR2, wh', b2 hex, nI (min 1114112 (w * (bif hex then 16 else 10) + d))) := by
      intro t2 e
      subst e
      unfold fj_272_101
      rw [sy_h hA, lo_ps, cm_271, lo_ps, d3]
      have e : nI w * (bif hex then 16 else 10) + nI d = nI (w * (bif hex then 16 else 10) + d) := by
        cases hex with
        | false => rw [cond_false, cond_false, show (10 : Int32) = nI 10 from rfl, pk_mul, nI_add]
        | true => rw [cond_true, cond_true, show (16 : Int32) = nI 16 from rfl, pk_mul, nI_add]
      unfold fm_334
      rw [e, show (1114112 : Int32) = nI 1114112 from rfl]
      by_cases q : w * (bif hex then 16 else 10) + d < 1114112
      · rw [if_pos (nI_lt q (by decide)), lo_ps, a1, lo_ps, Nat.min_eq_right (by omega)]
      · rw [if_neg (nI_nlt (by omega) hb), lo_ps, a1, lo_ps, Nat.min_eq_left (by omega)]
    have e86 : fj_272_86 K gA wh' (b2 hex) (nI w) = K (gR2, wh', b2 hex, nI (min 1114112 (w * (bif hex then 16 else 10) + d))) := by
      unfold fj_272_86
      cases hex with
      | false => rw [if_pos (show b2 false = 0 from rfl)]; exact ev 10 rfl
      | true => rw [if_neg (show ¬ b2 true = 0 by decide)]; exact ev 16 rfl
    rw [e86]
    exact si_m a2 (ih (gR2, wh', b2 hex, nI (min 1114112 (w * (bif hex then 16 else 10) + d))) i2 g2 ⟨_, _, a3, Or.inl ⟨rfl, Nat.lt_of_lt_of_le a6 fA.2.2.2⟩, rfl, rfl, rfl, ((a5.1 943 41 rfl).1).trans rfl, Nat.min_le_left _ _, sf_tr fA a4⟩ a6)
  · rw [(cm_dx gA hex j).2 hd, lo_ps, if_pos rfl]
    obtain ⟨hs1, hmu⟩ := hs.resolve_right fun z => hd z.2
    subst hs1
    have hst : st_in (bif hex then 65 else 63) := by cases hex <;> (unfold st_in; decide)
    have step : ∀ g : am_G, am_i g 943 26 = (bif hex then 65 else 63) → fm_133 g j = if j = 59 then fm_104 g else fm_105 g j (bif hex then 16 else 10) := by
      intro g hg
      cases hex with
      | false => exact ms_63 hg
      | true => exact ms_65 hg
    unfold fj_272_127 fm_244
    rw [sy_is hA, lo_ps]
    by_cases q : j = 59
    · subst q
      rw [decide_eq_true rfl, show b2 true = 1 from rfl, nd_t, lo_tl]
      obtain ⟨gR1, e1, e2, e3, e4⟩ := sy_77 hA (by decide)
      rw [e1, lo_ps, lo_tl, cm_184 e3, lo_ps]
      have hs := step _ (sy_26 hA)
      rw [if_pos rfl] at hs
      cases ha : ch_al (nI w) with
      | true =>
        rw [if_neg (show ¬ b2 true = 0 by decide)]
        exact ⟨_, rfl, 59, gN, fun _ z => z, hex, gA, w, rfl, hA, rfl, hw2, hw, ha, e1, fA, hs, hmu⟩
      | false =>
        rw [if_pos (show b2 false = 0 from rfl)]
        have hwx : wh_ok gA wh' := by
          unfold wh_ok at hwh ⊢
          rw [(fA.1.1 39 4 rfl).1, (fA.1.1 39 5 rfl).1]
          exact hwh
        have h39 : am_i gN 943 39 = wh' := ((fA.2.1.1 943 39 rfl).1).trans hwm
        unfold fm_104 at hs
        rw [cm_15, lo_ps, show am_i (am_si gN 943 29 0) 943 41 = am_i gN 943 41 from rfl, hw, ha, if_pos (show b2 false = 0 from rfl), lo_id, show am_i (am_si gN 943 29 0) 943 39 = am_i gN 943 39 from rfl, h39, cm_21, sy_wh hA hwx (g' := am_si gN 943 29 0) rfl rfl] at hs
        obtain ⟨B, ⟨p, rs, S⟩, ww, h26⟩ := hA
        exact th_fa e4 (mi_f (by decide) (fs_in S (by decide)).1 (by decide) hs) rfl rfl B.2.2.2.2.2.2.1 (ag_si rfl (ag_si rfl (ag_si rfl (ag_si rfl ag_re)))) rfl
    · rw [decide_eq_false q]
      refine si_bd (Q := fun _ _ _ _ => False) (si_bd (sy_nd (Q := fun _ _ _ _ => False) hA (fun _ => hst) fun ww => ⟨am_si gN 943 29 0, ?_, ag_si rfl ag_re, rfl⟩) fun _ _ _ _ z => z.elim) fun _ _ _ _ z => z.elim
      rw [step _ (sy_26 hA), if_neg q]
      exact cm_nd ((dg_al ((sy_c hA).resolve_left ww)).2 hd)
/-- R's number, M behind &# -/
theorem sy_272 {wh : Int32} (h : sy_ok X gR gM i 61) (h41 : am_i gM 943 41 = 0) (hwm : am_i gM 943 39 = wh) (hwh : wh_ok gR wh) : sx_ok X (fm_272 gR wh) i gM fun a gR1 i' gM' => nu_Q X gR gM i a gR1 i' gM' := by
  -- the first digit must be there
  have first : ∀ (hex : Bool) (gA gN : am_G) (j : Int32), sy_ok X gA gN j (bif hex then 64 else 61) → (hex = false → j ≠ 120) → am_i gN 943 41 = nI 0 → sf_ok ps_S nu_S gR gM i gA gN j → sx_ok X (fj_272_18 gA wh (b2 hex)) j gN fun a gR1 i' gM' => nu_Q X gR gM i a gR1 i' gM' := by
    intro hex gA gN j hA h120 hw fA
    have step : ∀ g : am_G, am_i g 943 26 = (bif hex then 64 else 61) → fm_133 g j = fm_105 g j (bif hex then 16 else 10) := by
      intro g hg
      cases hex with
      | false => rw [ms_61 hg, if_neg (h120 rfl)]; rfl
      | true => rw [ms_64 hg]; rfl
    have body : fj_272_18 gA wh (b2 hex) = lo_p (if b2 hex = 0 then fm_259 gA j else fm_270 gA j) fun y3 => fj_272_47 gA wh (b2 hex) y3 := by
      unfold fj_272_18
      rw [sy_h hA, lo_ps, lo_ps]
      cases hex <;> rfl
    rw [body]
    unfold fj_272_47
    by_cases hd : dx_P hex j
    · rw [(cm_dx gA hex j).1 hd, lo_ps, nd_t, lo_tl]
      exact sy_272l (hex := hex) (wh := wh) (v := 0) hwm hwh hA (Or.inr ⟨rfl, hd⟩) hw (by decide) fA
    · rw [(cm_dx gA hex j).2 hd, lo_ps]
      refine si_bd (sy_nd (Q := fun _ _ _ _ => False) hA (fun _ => by cases hex <;> (unfold st_in; decide)) fun ww => ⟨am_si gN 943 29 0, ?_, ag_si rfl ag_re, rfl⟩) fun _ _ _ _ z => z.elim
      rw [step _ (sy_26 hA)]
      exact cm_nd ((dg_al ((sy_c hA).resolve_left ww)).2 hd)
  unfold fm_272
  rw [sy_is h, lo_ps]
  by_cases q : i = 120
  · rw [decide_eq_true q, if_neg (by decide)]
    obtain ⟨gR2, i2, g2, a1, a2, a3, a4, a5, a6⟩ := sy_p1 (t := 64) h (by rw [q]; decide) (by rw [ms_61 (sy_26 h), if_pos q])
    rw [a1, lo_ps]
    exact si_m a2 (first true gR2 g2 i2 a3 (fun z => (nomatch z)) (((a4.2.1.1 943 41 rfl).1).trans h41) (sf_cn a4))
  · rw [decide_eq_false q, if_pos (by decide)]
    exact first false gR gM i h (fun _ => q) h41 sf_re
end
