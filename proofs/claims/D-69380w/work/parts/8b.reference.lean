/-! References. -/
/-- what M does with a character that a reference stands for -/
noncomputable def ra_c (fr : Int32) (g : am_G) (c wh : Int32) : Option (Int32 × am_G) := if fr = 58 then lo_i (fm_82 g c wh) fun y9 g10 => if (0 : Int32) ≤ y9 then fm_25 g10 58 else some ((-1), g10) else lo_p (fm_46 g) fun g4 => lo_p (fm_40 g4 c) fun g6 => fm_44 g6
/-- M's registers of a reference, and the pool -/
def rr_S (o k : Nat) : Bool := pM_S o k || (Nat.beq o 943 && (Nat.beq k 39 || (Nat.beq k 40 || (Nat.beq k 41 || Nat.beq k 73))))
theorem rr_c {o k : Nat} : rr_S o k = true ↔ ((951 ≤ o ∧ o ≤ 955) ∨ (o = 943 ∧ (k = 5 ∨ k = 8 ∨ k = 17 ∨ k = 18 ∨ k = 21 ∨ (24 ≤ k ∧ k ≤ 26) ∨ (29 ≤ k ∧ k ≤ 36) ∨ k = 39 ∨ k = 40 ∨ k = 41 ∨ k = 73))) := by
  unfold rr_S
  rw [Bool.or_eq_true, pM_c]
  simp only [Bool.or_eq_true, Bool.and_eq_true, Nat.beq_eq]
  omega
theorem rr_y : tm_ok rr_S := fun o k q => yM_c.mpr (by
  have := rr_c.mp q
  by_cases z : (o = 943 ∧ (k = 17 ∨ k = 21)) ∨ (951 ≤ o ∧ o ≤ 955)
  · exact Or.inr z
  · exact Or.inl (zM_c.mpr (by omega)))
def r4_S (o k : Nat) : Bool := Nat.beq o 943 && (ct_S o k || (Nat.beq k 41 || Nat.beq k 73))
theorem r4_c {o k : Nat} (h : r4_S o k = true) : o = 943 ∧ (ct_S o k = true ∨ k = 41 ∨ k = 73) := by
  unfold r4_S at h
  simp only [Bool.and_eq_true, Bool.or_eq_true, Nat.beq_eq] at h
  exact h
theorem r4_z : sm_ok r4_S := fun o k h => zM_c.mpr (by
  obtain ⟨e, z | z⟩ := r4_c h
  · have := ct_c z; omega
  · omega)
theorem r4_r {o k : Nat} (h : r4_S o k = true) : rr_S o k = true := rr_c.mpr (by
  obtain ⟨e, z | z⟩ := r4_c h
  · have := ct_c z; omega
  · omega)
theorem ct_r4 {o k : Nat} (h : ct_S o k = true) : r4_S o k = true := by
  unfold r4_S
  rw [h, (ct_c h).1]
  rfl
theorem nu_r {o k : Nat} (h : nu_S o k = true) : rr_S o k = true := rr_c.mpr (by
  obtain ⟨e, z | z⟩ := nu_c h
  · have := ct_c z; omega
  · omega)
theorem ct_rr {o k : Nat} (h : ct_S o k = true) : rr_S o k = true := r4_r (ct_r4 h)
theorem pM_rr {o k : Nat} (h : pM_S o k = true) : rr_S o k = true := by unfold rr_S; rw [h]; rfl
theorem os_rr {o k : Nat} (h : os_S r4_S pM_S o k = true) : rr_S o k = true := by
  unfold os_S at h
  rw [Bool.or_eq_true] at h
  rcases h with h | h
  · exact r4_r h
  · exact pM_rr h
section
variable {X : cx_T} {gR gM : am_G} {i s : Int32}
/-- a character has come of a reference; M has still the ; in hand -/
def rc_P (X : cx_T) (fr wh : Int32) (gR gM : am_G) (i a : Int32) (gR1 : am_G) (i' : Int32) (gM' : am_G) : Prop := a ≠ -1 ∧ ch_ok a ∧ ∃ gR' s', i' = 59 ∧ sy_ok X gR' gM' 59 s' ∧ fm_177 gR' = some gR1 ∧ fm_133 (am_si gM' 943 29 0) 59 = ra_c fr (am_si gM' 943 29 0) a wh ∧ sf_ok pR_S rr_S gR gM i gR' gM' 59
/-- an entity has been entered -/
def re_P (X : cx_T) (fr bo : Int32) (gR gM : am_G) (i a : Int32) (gR1 : am_G) (i' : Int32) (gM' : am_G) : Prop := a = -1 ∧ ∃ gR' gA gX, sf_ok pR_S rr_S gR gM i gR' gA 59 ∧ en_P X (fun o k => Nat.beq o 943 && (Nat.beq k 29 || Nat.beq k 145)) gX gR' gA 59 (if fr = 50 then 0 else 1) gR1 i' gM' ∧ am_i gM' 943 145 = (if fr = 50 then am_i gM 943 145 ||| bo else am_i gM 943 145)
theorem cm_46x {g g4 : am_G} (h : fm_46 g = some g4) : ∃ x, g4 = am_si g 943 145 x := by
  unfold fm_46 fj_46_35 fm_24 at h
  rw [lo_ll] at h
  have same : some g = some g4 → ∃ x, g4 = am_si g 943 145 x := fun e => ⟨am_i g 943 145, by rw [si_id g 943 145 rfl]; exact (Option.some.inj e).symm⟩
  cases e : ai_in ((am_i g 943 106) - 1) 40 with
  | false => rw [e] at h; cases h
  | true =>
    rw [e, lo_gt] at h
    split at h
    · exact same h
    · rename_i z
      cases e2 : ai_in (am_i g 992 (((am_i g 943 106) - 1)).toNatClampNeg) 40 with
      | false => rw [e2] at h; cases h
      | true =>
        rw [e2, lo_gt] at h
        split at h
        · exact ⟨_, (Option.some.inj h).symm⟩
        · split at h
          · exact ⟨_, (Option.some.inj h).symm⟩
          · exact same h
theorem f1_72 {g g' : am_G} {K : Nat} {a : Int32} {pc : Bool} (h1 : ∀ k, am_i g' (en_t pc + 1) k = am_i g (en_t pc + 1) k) (h5 : am_i g' (en_t pc) 5 = am_i g (en_t pc) 5) (hK : am_i g (en_t pc) 5 = nI K) (hK2 : K ≤ 40) : fm_172 g' (en_t pc) a = fm_172 g (en_t pc) a := by
  rcases cm_172 (gR := g) (a := a) pc rfl hK hK2 with ⟨k, k1, k2, k3, k4⟩ | ⟨k1, k2⟩
  · rcases cm_172 (gR := g') (a := a) pc rfl (h5.trans hK) hK2 with ⟨l, l1, l2, l3, l4⟩ | ⟨l1, l2⟩
    · rw [k4, l4]
      congr 2
      rcases Nat.lt_trichotomy k l with q | q | q
      · exact absurd ((h1 k).trans k2) (l3 k q)
      · exact q.symm
      · exact absurd ((h1 l).symm.trans l2) (k3 l q)
    · exact absurd ((h1 k).trans k2) (l1 k k1)
  · rcases cm_172 (gR := g') (a := a) pc rfl (h5.trans hK) hK2 with ⟨l, l1, l2, l3, l4⟩ | ⟨l1, l2⟩
    · exact absurd ((h1 l).symm.trans l2) (k1 l l1)
    · rw [k2, l2]
theorem ch_of {v : Nat} (h : ch_al (nI v) = true) (hv : v ≤ 1114112) : ch_ok (nI v) := by
  refine ⟨v, ?_, rfl⟩
  rcases Nat.lt_or_ge v 1114112 with z | z
  · exact z
  · have : v = 1114112 := by omega
    subst this
    exfalso
    have e : ch_al (nI 1114112) = false := ch_f (by rw [nI_toInt (by decide)]; unfold al_P; omega)
    rw [e] at h
    cases h
/-- R's reference behind the &, M in state 60 -/
theorem sy_274 {fr wh bo : Int32} (h : sy_ok X gR gM i 60) (hfr : fr = 58 ∨ fr = 50) (h40 : am_i gM 943 40 = fr) (h39 : am_i gM 943 39 = wh) (hwh : wh_ok gR wh) (hbn : bn_ok gR)
    (hbo : fr = 50 → ∀ g : am_G, fx_i (os_S rr_S tk_S) gM g → fm_45 g = some (am_si g 943 145 (am_i g 943 145 ||| bo))) :
    sx_ok X (lo_p (fm_240 gR 35) fun y5 => if y5 = 0 then lo_t (fm_248 gR) fun y7 g8 => lo_p (fm_273 g8) fun y9 => lo_p (fm_233 g8) fun y11 => lo_t (fm_244 g8 59) fun y13 g14 => if y9 = (-1) then lo_t (fm_275 g14 855 y11 wh) fun y15 g16 => some (.inl (-1), g16) else some (.inl y9, g14) else lo_p (fm_177 gR) fun g18 => lo_t (fm_272 g18 wh) fun y19 g20 => some (.inl y19, g20)) i gM
      fun a gR1 i' gM' => rc_P X fr wh gR gM i a gR1 i' gM' ∨ re_P X fr bo gR gM i a gR1 i' gM' := by
  rw [sy_is h, lo_ps]
  have hfrn : fr ≠ 70 := by rcases hfr with e | e <;> (rw [e]; decide)
  by_cases q : i = 35
  · rw [decide_eq_true q, if_neg (by decide)]
    obtain ⟨gR2, i2, g2, a1, a2, a3, a4, a5, a6, a7⟩ := sy_ps (SM := r4_S) (g1 := am_si (am_si (am_si gM 943 29 0) 943 41 0) 943 26 61) h (by rw [q]; decide) (by rw [ms_60 (sy_26 h), if_pos q]) rfl (fx_tr (fx_tr (fx_si rfl) (fx_si rfl)) (fx_si rfl)) (ag_si rfl (ag_si rfl (ag_si rfl ag_re))) r4_z (fun _ _ z => ct_r4 (tk_in z))
    rw [a1, lo_ps]
    have hwh2 : wh_ok gR2 wh := by
      unfold wh_ok at hwh ⊢
      rw [(a4.1.1 39 4 rfl).1, (a4.1.1 39 5 rfl).1]
      exact hwh
    refine si_m a2 (si_bd (sy_272 (wh := wh) a3 (((a5.1 943 41 rfl).1).trans rfl) (((a4.2.1.1 943 39 rfl).1).trans h39) hwh2) ?_)
    rintro a gR3 i3 g3 ⟨hex, gR', v, rfl, b1, rfl, b2', b3, b4, b5, b6, b7, _⟩
    have F : sf_ok pR_S rr_S gR gM i gR' g3 59 := sf_tr (sf_wk a4 (fun _ _ => ps_p) (fun _ _ => r4_r)) (sf_wk b6 (fun _ _ => ps_p) (fun _ _ => nu_r))
    have hch := ch_of b4 b2'
    refine si_rt (Or.inl ⟨(ch_n hch).1, hch, gR', _, rfl, b1, b5, ?_, F⟩)
    rw [b7]
    unfold fm_104 ra_c
    have e40 : am_i g3 943 40 = fr := ((b6.2.1.1 943 40 rfl).1).trans (((a4.2.1.1 943 40 rfl).1).trans h40)
    have e39 : am_i g3 943 39 = wh := ((b6.2.1.1 943 39 rfl).1).trans (((a4.2.1.1 943 39 rfl).1).trans h39)
    rw [cm_15, lo_ps, show am_i (am_si g3 943 29 0) 943 41 = am_i g3 943 41 from rfl, b3, b4, if_neg (show ¬ b2 true = 0 by decide), show am_i (am_si g3 943 29 0) 943 40 = am_i g3 943 40 from rfl, e40, if_neg hfrn, show am_i (am_si g3 943 29 0) 943 39 = am_i g3 943 39 from rfl, e39]
    by_cases z : fr = 58
    · rw [if_pos z, if_pos z]
      rfl
    · rw [if_neg z, if_neg z]
      have e46 : ∀ g4, fm_46 (am_si g3 943 29 0) = some g4 → am_i g4 943 41 = nI v := by
        intro g4 hg
        obtain ⟨x, e⟩ := cm_46x hg
        rw [e]; exact b3
      cases hg : fm_46 (am_si g3 943 29 0) with
      | none => rfl
      | some g4 => rw [lo_ps, lo_ps, e46 g4 hg]; simp only [lo_id]
  · rw [decide_eq_false q, if_pos (by decide)]
    refine si_bd (sy_sl (SM := r4_S) (g0 := am_si (am_si gM 943 29 0) 943 41 0) (k := 4) h hbn (fun _ => by unfold st_in; decide) (fun _ => by rw [ms_60 (sy_26 h), if_neg q]) (fx_tr (fx_si rfl) (fx_si rfl)) r4_z (ag_si rfl (ag_si rfl ag_re)) (ag_si rfl (ag_si rfl ag_re)) rfl) ?_
    rintro _ gR2 i2 g2 ⟨w, p1, p2, p3, p4, ⟨v, p5⟩, ⟨u, hq⟩, p6⟩
    obtain ⟨m, gM1, k1, k2, k3, k4, k5, k6, k7, k8, k9, k10, k11, k12⟩ := sy_kn p1
    obtain ⟨B, ⟨p, rs, S⟩, n1, P, w3, w4, ⟨ps, hm, hl⟩, hpt, hne, hv, hk', hwh'⟩ := p1
    have hmx : ∃ a z, am_i gM1 952 m = nI a ∧ am_i gM1 953 m = nI z ∧ a + z ≤ 19000 := by
      obtain ⟨t, t1, t2, t3⟩ := k6
      obtain ⟨sR, uR, sM, uM, x1, x2, _⟩ := k4.2.2.1.1
      have : sM = t := sz_u x2.1 t1 (by have := x2.2.2.1; omega) (by omega)
      subst this
      obtain ⟨a, z, y1, y2, y3⟩ := x2.2.2.2.2.1 m t2
      exact ⟨a, z, y1, y2, by have := x2.2.2.2.1; omega⟩
    rw [cm_273 hq hv hne (by omega), lo_ps]
    -- what R finds
    have hfind : ∃ y, fm_233 gR2 = some y ∧ ((∃ r, y = nI r ∧ nq_ok gR2 gM1 y (nI m)) ∨ (y = -1 ∧ ∀ x, ¬ nq_ok gR2 gM1 x (nI m))) := by
      obtain ⟨t, t1, t2, t3⟩ := k6
      by_cases q60 : w.length ≤ 60
      · rcases nt_F k4.2.2.1.1 hq q60 k5 t1 t2 t3 with ⟨r, r1, r2⟩ | ⟨r1, r2⟩
        · exact ⟨nI r, r1, Or.inl ⟨r, rfl, r2⟩⟩
        · exact ⟨-1, r1, Or.inr ⟨rfl, r2⟩⟩
      · refine ⟨-1, ?_, Or.inr ⟨rfl, fun x hx => ?_⟩⟩
        · unfold fm_233
          rw [cm_230 hq.2.2.1 (by omega), lo_ps, decide_eq_true (by omega), if_neg (show ¬ b2 true = 0 by decide)]
        · obtain ⟨r, m', s1, s2, e0, e0', e1, e2, e3, e4, e5, e6, e7⟩ := hx
          have hmm : m' = m := ((nI_eq (by omega) (by omega)).mp e0').symm
          subst hmm
          obtain ⟨sR, uR, sM, uM, x1, x2, _⟩ := k4.2.2.1.1
          have hs1 : s1 = sR := sz_u e1 x1.1 (by omega) (by have := x1.2.2.1; omega)
          subst hs1
          obtain ⟨a, z, y1, y2, y3, y4⟩ := x1.2.2.2.2.1 r e3
          have hu := x1.2.2.2.1
          have : (rn_s gR2 r).length = z := by unfold rn_s; rw [sl_len, y2, nI_clamp (by omega)]
          rw [e7, k5] at this
          omega
    obtain ⟨y, fy, hy⟩ := hfind
    rw [fy, lo_ps]
    -- M goes on to state 62
    obtain ⟨c1, c2, c3⟩ := sy_go (SR := pR_S) (SM := r4_S) (gM3 := am_si (am_si gM1 943 73 (nI m)) 943 26 62) (t := 62) ⟨k4, k3, hpt, k10⟩ (by rw [nk_4 k8]; unfold fm_100; rw [lo_id]; rfl) (fx_tr (fx_si rfl) (fx_si rfl)) r4_z (ag_si rfl (ag_si rfl ag_re)) rfl rfl rfl (by decide)
    generalize hg3 : am_si (am_si gM1 943 73 (nI m)) 943 26 62 = g3 at c1 c2 c3
    have hcell : ∀ k, k ≠ 26 → k ≠ 73 → am_i g3 943 k = am_i gM1 943 k := fun k h1 h2 => by rw [← hg3, gi_si, if_neg (by omega), gi_si, if_neg (by omega)]
    have e73 : am_i g3 943 73 = nI m := by rw [← hg3]; rfl
    have e40 : am_i g3 943 40 = fr := (hcell 40 (by decide) (by decide)).trans (((k3.1 943 40 rfl).1).trans (((p2.2.1.1 943 40 rfl).1).trans h40))
    have e39 : am_i g3 943 39 = wh := (hcell 39 (by decide) (by decide)).trans (((k3.1 943 39 rfl).1).trans (((p2.2.1.1 943 39 rfl).1).trans h39))
    have F : sf_ok pR_S rr_S gR gM i gR2 g3 i2 := by
      refine sf_tr (sf_wk p2 (fun _ _ z => z) (fun _ _ => os_rr)) (sf_tr (gR' := gR2) (gM' := gM1) (i' := i2) ⟨fx_re, fx_w2 k3 fun _ _ z => pM_rr (kn_p z), k7, by rw [k11]; exact Nat.le_refl _⟩ (sf_wk c3 (fun _ _ z => z) (fun _ _ => r4_r)))
    refine si_m c1 ?_
    have hmn : mn_s g3 m = w := by rw [← hg3]; exact k5
    have hmx3 : ∃ a z, am_i g3 952 m = nI a ∧ am_i g3 953 m = nI z ∧ a + z ≤ 19000 := by rw [← hg3]; exact hmx
    have hy3 : (∃ r, y = nI r ∧ nq_ok gR2 g3 y (nI m)) ∨ (y = -1 ∧ ∀ x, ¬ nq_ok gR2 g3 x (nI m)) := by rw [← hg3]; exact hy
    unfold fm_244
    rw [sy_is c2, lo_ps]
    by_cases q59 : i2 = 59
    · subst q59
      rw [decide_eq_true rfl, show b2 true = 1 from rfl, nd_t, lo_tl]
      obtain ⟨gR3, d1, d2, d3, d4⟩ := sy_77 c2 (by decide)
      rw [d1, lo_ps, lo_tl]
      have hs : fm_133 (am_si g3 943 29 0) 59 = fm_101 (am_si g3 943 29 0) (nI m) := by
        rw [ms_62 (sy_26 c2), if_pos rfl, show am_i (am_si g3 943 29 0) 943 73 = am_i g3 943 73 from rfl, e73]
      unfold fm_101 at hs
      rw [show am_i (am_si g3 943 29 0) 943 40 = am_i g3 943 40 from rfl, e40, if_neg hfrn, cm_31 (g := am_si g3 943 29 0) hmn hmx3 k1, lo_ps, show am_i (am_si g3 943 29 0) 943 39 = am_i g3 943 39 from rfl, e39] at hs
      rcases bi_c w with hb | ⟨hb1, hb2, hb3⟩
      · -- an entity
        rw [if_pos hb]
        have hbm : bi_M w = 0 := by unfold bi_M; rw [if_pos hb]
        rw [hbm, if_pos (by decide)] at hs
        have hwh3 : wh_ok gR2 wh := by
          unfold wh_ok at hwh ⊢
          rw [(F.1.1 39 4 rfl).1, (F.1.1 39 5 rfl).1]
          exact hwh
        obtain ⟨En0, _, _, _, v1, v2, v3, _⟩ := c2.2.2.1.2.2.1
        have w172 : ∀ a, fm_172 gR3 855 a = fm_172 gR2 855 a := fun a => f1_72 (pc := false) (fun k => (d2.1 856 k rfl).1) ((d2.1 855 5 rfl).1) v3 (by have := en_le g3 false En0; omega)
        rcases en_fd false c2.2.2.1.1 c2.2.2.1.2.2.1 hy3 with ⟨j, En, j1, j2, j3, j4, j5, j6, j7⟩ | ⟨j1, j2⟩
        · rw [show fm_99 (am_si g3 943 29 0) (nI m) 0 = some (nI j) from j5, lo_ps, if_pos (show (0 : Int32) ≤ nI j from nI_pos' (by omega))] at hs
          have hent : ∀ (gX : am_G), fm_133 (am_si g3 943 29 0) 59 = fm_102 gX (nI j) (if fr = 50 then 0 else 1) wh → fx_i (fun o k => Nat.beq o 943 && (Nat.beq k 29 || Nat.beq k 145)) g3 gX → am_i gX 943 29 = 0 → am_i gX 943 145 = (if fr = 50 then am_i gM 943 145 ||| bo else am_i gM 943 145) →
              sx_ok X (lo_t (fm_275 gR3 855 y wh) fun y15 g16 => some (.inl (-1), g16)) 59 g3 fun a gR1 i' gM' => rc_P X fr wh gR gM i a gR1 i' gM' ∨ re_P X fr bo gR gM i a gR1 i' gM' := by
            intro gX e1 e2 e3 e4
            have hsm : sm_ok (fun o k => Nat.beq o 943 && (Nat.beq k 29 || Nat.beq k 145)) := fun o k z => zM_c.mpr (by
              simp only [Bool.and_eq_true, Bool.or_eq_true, Nat.beq_eq] at z
              omega)
            refine si_bd (sy_en (pc := false) (kd := (if fr = 50 then 0 else 1)) (SM := fun o k => Nat.beq o 943 && (Nat.beq k 29 || Nat.beq k 145)) c2 (by decide) d1 j1 j2 j3 j4 j6 ((w172 y).trans j7) hwh3 e1 e2 hsm (ag_f2 e2 fun o k z => ?_) (ag_f2 e2 fun o k z => ?_) e3 ((e2.1 943 106 rfl).1)) ?_
            · refine sb_f fun y => ?_
              unfold fd_S at z
              simp only [Bool.and_eq_true, Bool.or_eq_true, Nat.beq_eq] at z y
              omega
            · refine sb_f fun y => ?_
              unfold wr_S mx_S at z
              simp only [Bool.and_eq_true, Bool.or_eq_true, Nat.beq_eq, Nat.ble_eq, Nat.blt_eq] at z y
              omega
            · rintro _ gR4 i4 g4 hP
              exact si_rt (Or.inr ⟨rfl, gR2, g3, gX, F, hP, ((hP.2.2.2.1.1 943 145 rfl).1).trans e4⟩)
          unfold fj_101_205 fj_101_221 at hs
          rcases hfr with e | e
          · rw [e, if_neg (by decide), if_neg (show ¬ am_i (am_si g3 943 29 0) 943 40 = 50 by rw [show am_i (am_si g3 943 29 0) 943 40 = am_i g3 943 40 from rfl, e40, e]; decide), lo_id, show am_i (am_si g3 943 29 0) 943 39 = am_i g3 943 39 from rfl, e39] at hs
            refine hent _ (by rw [hs, e]; rfl) (fx_si rfl) rfl ?_
            rw [e, if_neg (by decide)]
            show am_i g3 943 145 = _
            exact (F.2.1.1 943 145 rfl).1
          · have hbo' := hbo e (am_si g3 943 29 0) (fx_tr (fx_w2 F.2.1 fun _ _ => os_l) (fx_si rfl))
            rw [e, if_pos rfl, hbo', lo_ps, if_pos (show am_i (am_si (am_si g3 943 29 0) 943 145 _) 943 40 = 50 by rw [show am_i (am_si (am_si g3 943 29 0) 943 145 _) 943 40 = am_i g3 943 40 from rfl, e40, e]), lo_id, show am_i (am_si (am_si g3 943 29 0) 943 145 _) 943 39 = am_i g3 943 39 from rfl, e39] at hs
            refine hent _ (by rw [hs, e]; rfl) (fx_tr (fx_si rfl) (fx_si rfl)) rfl ?_
            rw [e, if_pos rfl]
            show am_i g3 943 145 ||| bo = _
            rw [(F.2.1.1 943 145 rfl).1]
        · rw [show fm_99 (am_si g3 943 29 0) (nI m) 0 = some (-1) from j1, lo_ps, if_neg (by decide), lo_id] at hs
          refine si_bd (Q := fun _ _ _ _ => False) ?_ fun _ _ _ _ z => z.elim
          have e275 : fm_275 gR3 855 y wh = lo_i (fm_236 gR3 5 wh) fun y14 g15 => lo_g (Nat.ble 1008 y14 && Nat.blt y14 (am_sz g15)) (some (.inr y14, g15)) := by
            have e14 : fj_275_14 gR3 855 wh (-1) = lo_i (fm_236 gR3 5 wh) fun y14 g15 => lo_g (Nat.ble 1008 y14 && Nat.blt y14 (am_sz g15)) (some (.inr y14, g15)) := by
              unfold fj_275_14
              rw [if_pos rfl]
            unfold fm_275
            by_cases z : y = -1
            · rw [if_pos z]; exact e14
            · rw [if_neg z, show Nat.beq (v0_kd 855) 12 = true from rfl, lo_gt, w172 y, show (855 : Nat) = en_t false from rfl, j2 z, lo_ps]; exact e14
          rw [e275]
          rw [cm_21, sy_wh c2 hwh3 (g' := am_si g3 943 29 0) rfl rfl] at hs
          obtain ⟨B3, ⟨p3', rs3, S3⟩, _, _⟩ := c2
          exact th_fa d4 (mi_f (by decide) (fs_in S3 (by decide)).1 (by decide) hs) rfl rfl B3.2.2.2.2.2.2.1 (ag_si rfl (ag_si rfl (ag_si rfl (ag_si rfl ag_re)))) rfl
      · -- a character with a name
        rw [if_neg hb1]
        have hbm : bi_M w = bi_R w := by unfold bi_M; rw [if_neg hb1]
        have hnle : ¬ bi_R w ≤ 0 := by
          rw [Int32.lt_iff_toInt_lt] at hb3
          rw [Int32.le_iff_toInt_le]
          omega
        rw [hbm, if_neg hnle] at hs
        refine si_rt (Or.inl ⟨hb1, hb2, gR2, 62, rfl, c2, d1, ?_, F⟩)
        rw [hs]
        unfold ra_c
        rcases hfr with e | e
        · rw [e, if_neg (by decide), if_pos rfl]
          rfl
        · rw [e, if_pos rfl, if_neg (by decide)]
          simp only [lo_id]
    · rw [decide_eq_false q59]
      refine si_bd (Q := fun _ _ _ _ => False) (si_bd (sy_n1 (Q := fun _ _ _ _ => False) c2 (fun _ => by unfold st_in; decide) (fun g hg _ => by rw [ms_62 hg, if_neg q59])) fun _ _ _ _ z => z.elim) fun _ _ _ _ z => z.elim
end
