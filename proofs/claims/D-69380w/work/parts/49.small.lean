/-! R's small readers along with M: blanks, one character, a quote. -/
def fl_n (N p : Nat) (rs : List (List Int32)) : Nat := match rs with
  | [] => N - p
  | r :: _ => r.length
theorem fl_d {gR gM : am_G} {N p : Nat} {n i : Int32} {rs : List (List Int32)} (S : fs_ok gR gM N n p rs i) (hi : i ≠ -1) : fl_n N (nx_p p rs) (nx_r rs) < fl_n N p rs := by
  obtain ⟨a1, a2, a3, a4, a5, a6, a7⟩ := fs_in S hi
  cases rs with
  | nil => have := a6 rfl; show N - (p + 1) < N - p; omega
  | cons r rest =>
    cases r with
    | nil => exact absurd rfl (a3 rest)
    | cons c r => show r.length < r.length + 1; omega
theorem fl_b {gR : am_G} {N p : Nat} {n : Int32} {rs : List (List Int32)} (T : tx_r gR N n) (F : rf_ok gR p rs) : fl_n N p rs ≤ 8000 := by
  cases rs with
  | nil => show N - p ≤ 8000; have := T.1; omega
  | cons r rest =>
    obtain ⟨⟨t, e, a, s, z, h1, h2, h3, h4, h5, h6, h7, h8, h9, h10, h11⟩, _⟩ := F.2.2.2
    show r.length ≤ 8000
    rw [h10, sl_len]
    omega
theorem bl_m1 : ch_bl (-1) = false := ch_f (by
  rw [show (-1 : Int32).toInt = -1 from rfl]
  unfold bl_P
  omega)
theorem bg_m1 : ch_bg (-1) = false := ch_f (by
  rw [show (-1 : Int32).toInt = -1 from rfl]
  unfold bg_P
  omega)
theorem px_m1 : ch_px (-1) = false := ch_f (by
  rw [show (-1 : Int32).toInt = -1 from rfl]
  unfold px_P
  omega)
theorem pt_m1 : ch_pt (-1) = false := by unfold ch_pt; rw [bg_m1, px_m1]; rfl
theorem bl_n {i : Int32} (h : ch_bl i = true) : i ≠ -1 := fun e => by rw [e, bl_m1] at h; cases h
theorem pt_n {i : Int32} (h : ch_pt i = true) : i ≠ -1 := fun e => by rw [e, pt_m1] at h; cases h
theorem bg_n {i : Int32} (h : ch_bg i = true) : i ≠ -1 := fun e => by rw [e, bg_m1] at h; cases h
section
variable {gR gM g1 : am_G} {N p : Nat} {n i : Int32} {rs : List (List Int32)}
theorem rs_h (S : fs_ok gR gM N n p rs i) : fm_176 gR = some i := by rw [cm_176 S.1 S.2.2.1 S.2.2.2.1, S.2.2.2.2.2.1]
theorem rs_w (S : fs_ok gR gM N n p rs i) : fm_178 gR = some (rf_w gR p rs) := cm_178 S.1 S.2.2.1 S.2.2.2.1
theorem cm_240 (S : fs_ok gR gM N n p rs i) (c : Int32) : fm_240 gR c = some (b2 (decide (i = c))) := by
  unfold fm_240
  rw [rs_h S, lo_ps]
  by_cases q : i = c
  · rw [if_pos q, decide_eq_true q]; rfl
  · rw [if_neg q, decide_eq_false q]; rfl
theorem cm_241 (S : fs_ok gR gM N n p rs i) : fm_241 gR = some (b2 (ch_bl i)) := by
  unfold fm_241
  rw [rs_h S, lo_ps, cm_185, lo_ps, b2_n]
theorem fx_pt {g h k : am_G} (a : fx_i ps_S g h) (b : fx_i ps_S h k) : fx_i ps_S g k := fx_tr a b
theorem tk_29 (g : am_G) : fx_i tk_S g (am_si g 943 29 0) := fx_si rfl
/-- R's blanks, in a state in which M passes over blanks -/
theorem bk_lp {s : Int32} (hb : ∀ (g : am_G) (c : Int32), am_i g 943 26 = s → ch_bl c = true → fm_133 g c = some (0, g)) : ∀ (m fuel : Nat) {gR gM : am_G} {p : Nat} {rs : List (List Int32)} {i : Int32} (b : Bool), fl_n N p rs ≤ m → m < fuel →
    fs_ok gR gM N n p rs i → am_i gM 943 26 = s → ∃ gR' i' gM' p' rs', lo_it (fun k (x : am_G × Int32) => fb_242_2 k x.1 x.2) fuel (gR, b2 b) = some (b2 (b || ch_bl i), gR') ∧ (∀ res, mi_ok n i' gM' res → mi_ok n i gM res) ∧
      fs_ok gR' gM' N n p' rs' i' ∧ am_i gM' 943 26 = s ∧ fx_i ps_S gR gR' ∧ fx_i tk_S gM gM' ∧ ch_bl i' = false := by
  intro m
  induction m with
  | zero =>
    intro fuel gR gM p rs i b hm hf S h26
    obtain ⟨fu, rfl⟩ : ∃ m, fuel = m + 1 := ⟨fuel - 1, by omega⟩
    have hb0 : ch_bl i = false := by
      cases q : ch_bl i with
      | false => rfl
      | true => have := fl_d S (bl_n q); omega
    refine ⟨gR, i, gM, p, rs, ?_, fun _ q => q, S, h26, fx_re, fx_re, hb0⟩
    show fb_242_2 _ _ _ = _
    unfold fb_242_2
    dsimp only
    rw [cm_241 S, lo_ps, hb0, if_pos (show b2 false = 0 from rfl), b2_n, Bool.or_false]
  | succ m ih =>
    intro fuel gR gM p rs i b hm hf S h26
    obtain ⟨fu, rfl⟩ : ∃ m, fuel = m + 1 := ⟨fuel - 1, by omega⟩
    cases q : ch_bl i with
    | false =>
      refine ⟨gR, i, gM, p, rs, ?_, fun _ q => q, S, h26, fx_re, fx_re, q⟩
      show fb_242_2 _ _ _ = _
      unfold fb_242_2
      dsimp only
      rw [cm_241 S, lo_ps, q, if_pos (show b2 false = 0 from rfl), b2_n, Bool.or_false]
    | true =>
      have hi := bl_n q
      obtain ⟨gR1, i1, g2, e1, e2, e3, e4, e5⟩ := fs_ps S hi (hb (am_si gM 943 29 0) i (h26 ▸ rfl) q) rfl (ag_si rfl ag_re)
      have hd := fl_d S hi
      have h262 : am_i g2 943 26 = s := ((e5.1 943 26 rfl).1).trans h26
      obtain ⟨gR', i', gM', p', rs', f1, f2, f3, f4, f5, f6, f7⟩ := ih fu true (by omega) (by omega) e4 h262
      refine ⟨gR', i', gM', p', rs', ?_, fun res z => e3 res (f2 res z), f3, f4, fx_tr e2 f5, fx_tr (fx_tr (tk_29 gM) e5) f6, f7⟩
      show fb_242_2 _ _ _ = _
      unfold fb_242_2
      dsimp only
      rw [cm_241 S, lo_ps, q, if_neg (show ¬ b2 true = 0 by decide), e1, lo_ps, Bool.or_true]
      exact f1
theorem bk_ok {s : Int32} (hb : ∀ (g : am_G) (c : Int32), am_i g 943 26 = s → ch_bl c = true → fm_133 g c = some (0, g)) (S : fs_ok gR gM N n p rs i) (h26 : am_i gM 943 26 = s) :
    ∃ gR' i' gM' p' rs', fm_242 gR = some (b2 (ch_bl i), gR') ∧ (∀ res, mi_ok n i' gM' res → mi_ok n i gM res) ∧ fs_ok gR' gM' N n p' rs' i' ∧ am_i gM' 943 26 = s ∧ fx_i ps_S gR gR' ∧ fx_i tk_S gM gM' ∧ ch_bl i' = false := by
  have := bk_lp hb (fl_n N p rs) nf_F false (Nat.le_refl _) (Nat.lt_of_le_of_lt (fl_b S.1 S.2.2.1) (Nat.lt_of_lt_of_le (by decide) nf_le)) S h26
  exact this
end
-- what holds throughout goes on
theorem bi_fx {Z U : Nat} {G H gR gM gR' gM' : am_G} {T1 T2 : Nat → Nat → Bool} (B : bi_ok Z U G H gR gM) (f1 : fx_i T1 gR gR') (f2 : fx_i T2 gM gM') (h1 : ∀ o k, T1 o k = true → 33 ≤ o ∧ o < 943 ∧ o ≠ 34 ∧ ¬ (o = 33 ∧ k = 13)) (h2 : ∀ o k, T2 o k = true → mx_S o k = false ∧ ¬ (o = 943 ∧ k = 144)) :
    bi_ok Z U G H gR' gM' := by
  obtain ⟨b1, b2, b3, b4, b5, b6, b7, b8⟩ := B
  have n1 : ∀ o k, ¬ (33 ≤ o ∧ o < 943 ∧ o ≠ 34 ∧ ¬ (o = 33 ∧ k = 13)) → T1 o k = false := fun o k h => by
    cases q : T1 o k with
    | false => rfl
    | true => exact absurd (h1 o k q) h
  have n2 : ∀ o k, mx_S o k = true → T2 o k = false := fun o k h => by
    cases q : T2 o k with
    | false => rfl
    | true => rw [(h2 o k q).1] at h; cases h
  have z : am_sz gR' = am_sz gR ∧ am_us gR' = am_us gR := by
    have := f1.2.1
    exact ⟨congrArg (fun x => x.1) this, congrArg (fun x => x.2) this⟩
  have lo : ∀ o k, o < 32 → am_i gR' o k = am_i gR o k := fun o k ho => (f1.1 o k (n1 o k (by omega))).1
  obtain ⟨s1, s2, s3, s4, a, b, c, d, e⟩ := b8
  refine ⟨z.1.trans b1, z.2.trans b2, b3, ?_, ?_, ?_, ?_, ⟨fun k hk => (lo 17 k (by decide)).trans (s1 k hk), fun k hk => (lo 18 k (by decide)).trans (s2 k hk), fun k hk => (lo 19 k (by decide)).trans (s3 k hk), fun o o1 o2 => (lo o 0 (by omega)).trans (s4 o o1 o2), (lo 11 0 (by decide)).trans a, (lo 12 0 (by decide)).trans b, (lo 13 0 (by decide)).trans c, (lo 14 0 (by decide)).trans d, (lo 15 0 (by decide)).trans e⟩⟩
  · refine ag_fx f1 (fun o k h => n1 o k (fun w => ?_)) b4
    unfold rx_S at h
    rw [blt_f (show ¬ o < 33 by omega), beq_f (show o ≠ 34 by omega)] at h
    have := Nat.le_of_ble_eq_true (show Nat.ble 943 o = true by simpa using h)
    omega
  · exact ⟨ag_fx f2 n2 b5.1, f2.2.1.trans b5.2⟩
  · exact ((f1.1 33 13 (n1 33 13 (by omega))).1).trans b6
  · refine ((f2.1 943 144 ?_).1).trans b7
    cases q : T2 943 144 with
    | false => rfl
    | true => exact absurd ⟨rfl, rfl⟩ (h2 943 144 q).2
theorem ps_h {o k : Nat} (h : ps_S o k = true) : 33 ≤ o ∧ o < 943 ∧ o ≠ 34 ∧ ¬ (o = 33 ∧ k = 13) := by
  obtain rfl := Nat.eq_of_beq_eq_true (show Nat.beq o 42 = true from h)
  omega
/-- M's registers that any reader may change -/
def ct_S (o k : Nat) : Bool := Nat.beq o 943 && (Nat.beq k 5 || (Nat.beq k 8 || (Nat.beq k 29 || (Nat.beq k 30 || (Nat.beq k 26 || (Nat.beq k 31 || (Nat.beq k 32 || (Nat.beq k 33 || (Nat.beq k 34 || (Nat.beq k 35 || Nat.beq k 36))))))))))
theorem ct_c {o k : Nat} (h : ct_S o k = true) : o = 943 ∧ (k = 5 ∨ k = 8 ∨ k = 29 ∨ k = 30 ∨ k = 26 ∨ k = 31 ∨ k = 32 ∨ k = 33 ∨ k = 34 ∨ k = 35 ∨ k = 36) := by
  unfold ct_S at h
  simp only [Bool.and_eq_true, Bool.or_eq_true, Nat.beq_eq] at h
  exact h
theorem ct_h {o k : Nat} (h : ct_S o k = true) : mx_S o k = false ∧ ¬ (o = 943 ∧ k = 144) := by
  obtain ⟨e, w⟩ := ct_c h
  clear h
  subst e
  rcases w with rfl | rfl | rfl | rfl | rfl | rfl | rfl | rfl | rfl | rfl | rfl <;> exact ⟨rfl, by omega⟩
theorem tk_c {o k : Nat} (h : ct_S o k = false) : tk_S o k = false := by
  cases q : tk_S o k with
  | false => rfl
  | true =>
    unfold tk_S at q
    simp only [Bool.and_eq_true, Bool.or_eq_true, Nat.beq_eq] at q
    obtain ⟨rfl, q⟩ := q
    rcases q with rfl | rfl | rfl | rfl <;> cases h
theorem tk_ct {g h : am_G} (f : fx_i tk_S g h) : fx_i ct_S g h := fx_wk f fun _ _ => tk_c
theorem bi_ct {Z U : Nat} {G H gR gM gR' gM' : am_G} (B : bi_ok Z U G H gR gM) (f1 : fx_i ps_S gR gR') (f2 : fx_i ct_S gM gM') : bi_ok Z U G H gR' gM' := bi_fx B f1 f2 (fun _ _ => ps_h) (fun _ _ => ct_h)
section
variable {Z U : Nat} {G H gR gM g1 : am_G} {N p : Nat} {n i : Int32} {rs : List (List Int32)}
theorem nd_t (g : am_G) : fm_238 g 1 = some (.inl (), g) := by
  unfold fm_238
  rw [if_neg (by decide)]
/-- one character that M passes by some act A -/
theorem on_ok {c : Int32} {A : am_G → am_G} (B : bi_ok Z U G H gR gM) (S : fs_ok gR gM N n p rs i) (hA : i = c → fm_133 (am_si gM 943 29 0) c = some (0, A (am_si gM 943 29 0))) (hA1 : am_i (A (am_si gM 943 29 0)) 943 29 = 0) (hA2 : ag_3 fd_S gM (A (am_si gM 943 29 0)))
    (hst : i = -1 → st_in (am_i gM 943 26)) (hc : c ≠ -1) (hw : i ≠ c → i ≠ -1 → ∃ g', fm_133 (am_si gM 943 29 0) i = fm_23 g' ∧ ag_3 wr_S gM g' ∧ g'.2.2.2 = gM.2.2.2) :
    si_ok n (ft_ok Z U G H) (fm_244 gR c) i gM fun _ gR' i' gM' => i = c ∧ ∃ p' rs', fs_ok gR' gM' N n p' rs' i' ∧ fx_i ps_S gR gR' ∧ fx_i tk_S (A (am_si gM 943 29 0)) gM' := by
  unfold fm_244
  rw [cm_240 S, lo_ps]
  by_cases q : i = c
  · rw [decide_eq_true q, show b2 true = 1 from rfl, nd_t, lo_tl]
    subst q
    obtain ⟨gR1, i1, g2, e1, e2, e3, e4, e5⟩ := fs_ps S hc (hA rfl) hA1 hA2
    rw [e1, lo_ps]
    exact ⟨_, rfl, i1, g2, e3, rfl, _, _, e4, e2, e5⟩
  · rw [decide_eq_false q, show b2 false = 0 from rfl]
    exact si_bd (nd_f (Q := fun _ _ _ _ => False) B S hst (hw q)) fun _ _ _ _ z => z.elim
/-- the same, where M goes to a state t -/
theorem on_go {c s t : Int32} (B : bi_ok Z U G H gR gM) (S : fs_ok gR gM N n p rs i) (h26 : am_i gM 943 26 = s) (hs : ∀ g : am_G, am_i g 943 26 = s → fm_133 g c = some (0, am_si g 943 26 t)) (hst : i = -1 → st_in s) (hc : c ≠ -1)
    (hw : ∀ (g : am_G) (d : Int32), am_i g 943 26 = s → d ≠ c → d = i → fm_133 g d = fm_23 g) :
    si_ok n (ft_ok Z U G H) (fm_244 gR c) i gM fun _ gR' i' gM' => i = c ∧ ∃ p' rs', fs_ok gR' gM' N n p' rs' i' ∧ fx_i ps_S gR gR' ∧ fx_i ct_S gM gM' ∧ am_i gM' 943 26 = t := by
  refine si_wk (on_ok (A := fun g => am_si g 943 26 t) B S (fun _ => hs _ (h26 ▸ rfl)) rfl (ag_si rfl (ag_si rfl ag_re)) (h26 ▸ hst) hc fun q _ => ⟨am_si gM 943 29 0, hw _ _ (h26 ▸ rfl) q rfl, ag_si rfl ag_re, rfl⟩) ?_
  rintro _ gR' i' gM' ⟨e, p', rs', h1, h2, h3⟩
  exact ⟨e, p', rs', h1, h2, fx_tr (fx_tr (fx_si rfl) (fx_si rfl)) (tk_ct h3), ((h3.1 943 26 rfl).1).trans rfl⟩
/-- at least one blank -/
theorem sp_ok {s t : Int32} (B : bi_ok Z U G H gR gM) (S : fs_ok gR gM N n p rs i) (h26 : am_i gM 943 26 = s) (hs : ∀ (g : am_G) (c : Int32), am_i g 943 26 = s → fm_133 g c = bif ch_bl c then some (0, am_si g 943 26 t) else fm_23 g)
    (hb : ∀ (g : am_G) (c : Int32), am_i g 943 26 = t → ch_bl c = true → fm_133 g c = some (0, g)) (hst : st_in s) :
    si_ok n (ft_ok Z U G H) (fm_243 gR) i gM fun _ gR' i' gM' => ∃ p' rs', fs_ok gR' gM' N n p' rs' i' ∧ fx_i ps_S gR gR' ∧ fx_i ct_S gM gM' ∧ am_i gM' 943 26 = t ∧ ch_bl i' = false := by
  unfold fm_243
  rw [cm_241 S, lo_ps]
  cases q : ch_bl i with
  | false =>
    refine si_bd (nd_f (Q := fun _ _ _ _ => False) B S (fun _ => h26 ▸ hst) fun _ => ⟨am_si gM 943 29 0, ?_, ag_si rfl ag_re, rfl⟩) fun _ _ _ _ z => z.elim
    rw [hs _ _ (h26 ▸ rfl), q]
    rfl
  | true =>
    rw [show b2 true = 1 from rfl, nd_t, lo_tl]
    have hi := bl_n q
    obtain ⟨gR1, i1, g2, e1, e2, e3, e4, e5⟩ := fs_ps (g1 := am_si (am_si gM 943 29 0) 943 26 t) S hi (by rw [hs _ _ (h26 ▸ rfl), q]; rfl) rfl (ag_si rfl (ag_si rfl ag_re))
    have h262 : am_i g2 943 26 = t := ((e5.1 943 26 rfl).1).trans rfl
    obtain ⟨m, hm⟩ : ∃ m, nf_F = m + 1 := ⟨nf_F - 1, by have := nf_le; omega⟩
    obtain ⟨gR', i', gM', p', rs', f1, f2, f3, f4, f5, f6, f7⟩ := bk_lp hb (fl_n N (nx_p p rs) (nx_r rs)) m true (Nat.le_refl _) (by have := fl_b e4.1 e4.2.2.1; have := nf_le; omega) e4 h262
    have eb : fm_242 gR = some (b2 true, gR') := by
      unfold fm_242 fh_242_2
      rw [hm]
      show fb_242_2 _ _ _ = _
      unfold fb_242_2
      dsimp only
      rw [cm_241 S, lo_ps, q, if_neg (show ¬ b2 true = 0 by decide), e1, lo_ps]
      exact f1
    rw [eb, lo_is]
    exact ⟨_, rfl, i', gM', fun res z => e3 res (f2 res z), p', rs', f3, fx_tr e2 f5, fx_tr (fx_tr (fx_si rfl) (fx_si rfl)) (tk_ct (fx_tr e5 f6)), f4, f7⟩
end
