/-! Values in quotes: the reading. -/
theorem lo_pt {α β γ : Type} (A : Option α) (F : α → Option ((β ⊕ Nat) × am_G)) (K : β → am_G → Option ((γ ⊕ Nat) × am_G)) : lo_t (lo_p A F) K = lo_p A fun a => lo_t (F a) K := by
  cases A <;> rfl
section
variable {X : cx_T} {gR gM : am_G} {i s : Int32}
theorem sy_30 (h : sy_ok X gR gM i s) (hi : i ≠ -1) : am_i gM 943 30 = pw_R gR := by
  obtain ⟨B, ⟨p, rs, S⟩, _⟩ := h
  rw [← pw_fs S]; exact (fs_in S hi).2.2.2.2.1
theorem ap_v {v : List Int32} {c x : Int32} {k : Nat} (h : (v ++ [c])[k]? = some x) : (k < v.length ∧ v[k]? = some x) ∨ (k = v.length ∧ x = c) := ap_at h
/-- one more character: R has kept it in gB, M in gO -/
theorem va_k {gR0 gM0 gA gN gB gO : am_G} {i0 j j' q df c : Int32} {t F0 : Nat} {v : List Int32} (h : va_I X gR0 gM0 i0 t F0 q df gA gN j v) (hv : v.length < 400) (hc : ch_ok c) (hy : sy_ok X gB gO j' 58) (f : sf_ok vR_S vM_S gA gN j gB gO j') (e145 : am_i gO 943 145 = am_i gN 943 145)
    (eR : am_i gB 33 30 = am_i gA 33 30 ∧ am_i gB 33 31 = nI (v.length + 1) ∧ (∀ k, am_i gB 883 k = if k = t + v.length then c else am_i gA 883 k) ∧ am_i gB 39 4 = am_i gA 39 4 ∧ am_i gB 39 5 = am_i gA 39 5)
    (eM : am_i gO 943 125 = nI (v.length + 1) ∧ am_i gO 943 38 = am_i gN 943 38 ∧ am_i gO 943 127 = am_i gN 943 127 ∧ am_i gO 943 126 = am_i gN 943 126 ∧ (∀ k, am_i gO 1001 k = if k = v.length then c else am_i gN 1001 k) ∧ am_i gO 943 9 = am_i gN 943 9 ∧ ∀ d, am_i gO 948 d = am_i gN 948 d ∧ am_i gO 949 d = am_i gN 949 d) : va_I X gR0 gM0 i0 t F0 q df gB gO j' (v ++ [c]) := by
  obtain ⟨h1, h2, h3, ⟨a1, a2, a3, a4, a5, a6, a7⟩, h5, h6, F, b1, b2, b3, b4, b5, b6, b7⟩ := h
  obtain ⟨r1, r2, r3, r4, r5⟩ := eR
  obtain ⟨m1, m2, m3, m3b, m4, m5, m6⟩ := eM
  have hl : (v ++ [c]).length = v.length + 1 := by rw [List.length_append]; rfl
  refine ⟨hy, sf_tr h2 f, e145.trans h3, ⟨r1.trans a1, by rw [hl]; exact r2, by omega, by rw [hl]; exact m1, m2.trans a5, m3.trans a6, m3b.trans a7⟩, fun k x hx => ?_, fun k hk => ?_, F, m5.trans b1, r4.trans b2, b3, b4, fun d d1 d2 => by rw [(m6 d).1]; exact b5 d d1 d2, fun d hd => by rw [(m6 d).1, (m6 d).2]; exact b6 d hd, fun z => r5.trans (b7 z)⟩
  · rcases ap_v hx with ⟨y1, y2⟩ | ⟨y1, y2⟩
    · obtain ⟨z1, z2, z3⟩ := h5 k x y2
      exact ⟨by rw [r3, if_neg (by omega)]; exact z1, by rw [m4, if_neg (by omega)]; exact z2, z3⟩
    · subst y1
      rw [y2]
      exact ⟨by rw [r3, if_pos rfl], by rw [m4, if_pos rfl], hc⟩
  · rw [r3, if_neg (by omega)]; exact h6 k hk
/-- nothing kept: R in gB, M in gO, with some more or fewer entities -/
theorem va_s {gR0 gM0 gA gN gB gO : am_G} {i0 j j' q df : Int32} {t F0 F2 : Nat} {v : List Int32} (h : va_I X gR0 gM0 i0 t F0 q df gA gN j v) (hy : sy_ok X gB gO j' 58) (f : sf_ok vR_S vM_S gA gN j gB gO j') (e145 : am_i gO 943 145 = am_i gN 943 145)
    (eR : am_i gB 33 30 = am_i gA 33 30 ∧ am_i gB 33 31 = am_i gA 33 31 ∧ (∀ k, am_i gB 883 k = am_i gA 883 k)) (eM : am_i gO 943 125 = am_i gN 943 125 ∧ am_i gO 943 38 = am_i gN 943 38 ∧ am_i gO 943 127 = am_i gN 943 127 ∧ am_i gO 943 126 = am_i gN 943 126 ∧ (∀ k, am_i gO 1001 k = am_i gN 1001 k))
    (eF : am_i gO 943 9 = nI F2 ∧ am_i gB 39 4 = nI F2 ∧ F0 ≤ F2 ∧ F2 ≤ 16 ∧ (∀ d, F0 ≤ d → d < F2 → am_i gO 948 d = 1) ∧ (∀ d, d < F0 → am_i gO 948 d = am_i gN 948 d ∧ am_i gO 949 d = am_i gN 949 d) ∧ (0 < F0 → am_i gB 39 5 = am_i gA 39 5)) : va_I X gR0 gM0 i0 t F0 q df gB gO j' v := by
  obtain ⟨h1, h2, h3, ⟨a1, a2, a3, a4, a5, a6, a7⟩, h5, h6, F, b1, b2, b3, b4, b5, b6, b7⟩ := h
  obtain ⟨r1, r2, r3⟩ := eR
  obtain ⟨m1, m2, m3, m3b, m4⟩ := eM
  obtain ⟨c1, c2, c3, c4, c5, c6, c7⟩ := eF
  refine ⟨hy, sf_tr h2 f, e145.trans h3, ⟨r1.trans a1, r2.trans a2, a3, m1.trans a4, m2.trans a5, m3.trans a6, m3b.trans a7⟩, fun k x hx => ?_, fun k hk => by rw [r3]; exact h6 k hk, F2, c1, c2, c3, c4, c5, fun d hd => by rw [(c6 d hd).1, (c6 d hd).2]; exact b6 d hd, fun z => (c7 z).trans (b7 z)⟩
  rw [r3, m4]; exact h5 k x hx
theorem vA_bl (c : Int32) (h : ch_ok c) : ch_ok (bif ch_bl c then 32 else c) := by
  cases ch_bl c with
  | true => exact ⟨32, by decide, rfl⟩
  | false => exact h
/-- what comes of a value: M has still the quote in hand -/
def va_Q (X : cx_T) (gR0 gM0 : am_G) (i0 : Int32) (t F0 : Nat) (df : Int32) (gR1 : am_G) (i' : Int32) (gM' : am_G) : Prop := ∃ q v gA, (q = 34 ∨ q = 39) ∧ i' = q ∧ va_I X gR0 gM0 i0 t F0 q df gA gM' q v ∧ am_i gM' 943 9 = nI F0 ∧ fm_177 gA = some gR1 ∧ fm_133 (am_si gM' 943 29 0) q = fm_85 (am_si gM' 943 29 0)
theorem va_lp {gR0 gM0 : am_G} {i0 q df : Int32} {t F0 : Nat} {v : List Int32} (hq : q = 34 ∨ q = 39) (ht : t ≤ 4800) (hF0 : F0 ≤ 16) (hkd : ∀ F, F = F0 → 0 < F → am_i gM0 948 (F - 1) = 0 ∨ am_i gM0 948 (F - 1) = 2) (h : va_I X gR0 gM0 i0 t F0 q df gR gM i v) :
    sx_ok X (fh_276_23 (gR, q, nI F0)) i gM fun _ gR1 i' gM' => va_Q X gR0 gM0 i0 t F0 df gR1 i' gM' := by
  unfold fh_276_23
  refine sx_F (I := fun (x : am_G × Int32 × Int32) j gN => ∃ v, x.2.1 = q ∧ x.2.2 = nI F0 ∧ va_I X gR0 gM0 i0 t F0 q df x.1 gN j v) (fun x j gN ⟨_, _, _, z⟩ => ⟨x.1, 58, z.1⟩) ?_ (x := (gR, q, nI F0)) ⟨v, rfl, rfl, h⟩
  rintro K ⟨gA, q', F'⟩ j gN ⟨v, e1, e2, hI⟩ ih
  dsimp only at e1 e2 hI
  subst e1
  subst e2
  show sx_ok X (fb_276_23 K gA q' (nI F0)) j gN _
  have hI' := hI
  obtain ⟨h1, h2, h3, ⟨a1, a2, a3, a4, a5, a6, a7⟩, h5, h6, F, b1, b2', b3, b4, b5, b6, b7⟩ := hI
  have hq1 : q' ≠ -1 := qt_n hq
  have hq38 : q' ≠ 38 := by rcases hq with e | e <;> (rw [e]; decide)
  have hq60 : q' ≠ 60 := by rcases hq with e | e <;> (rw [e]; decide)
  have g0e : ∀ k, am_i (am_si gN 943 29 0) 943 k = if k = 29 then 0 else am_i gN 943 k := fun k => by
    rw [gi_si]
    by_cases z : k = 29
    · rw [if_pos ⟨rfl, z⟩, if_pos z]
    · rw [if_neg (fun y => z y.2), if_neg z]
  -- M's step
  have hM : fm_133 (am_si gN 943 29 0) j = if j = q' then (if F = F0 then fm_85 (am_si gN 943 29 0) else fj_83_24 (am_si gN 943 29 0) j) else fj_83_24 (am_si gN 943 29 0) j := by
    rw [ms_58 (sy_26 h1)]
    unfold fm_83
    rw [show am_i (am_si gN 943 29 0) 943 38 = am_i gN 943 38 from rfl, a5, show am_i (am_si gN 943 29 0) 943 9 = am_i gN 943 9 from rfl, b1, show am_i (am_si gN 943 29 0) 943 127 = am_i gN 943 127 from rfl, a6]
    by_cases z : j = q'
    · rw [if_pos z, if_pos z]
      by_cases y : F = F0
      · rw [if_pos (by rw [y]), if_pos y, lo_id]
      · rw [if_neg (fun w => y ((nI_eq (by omega) (by omega)).mp w)), if_neg y]
    · rw [if_neg z, if_neg z]
  -- the general step of both
  have h42 : ¬ (j = q' ∧ F = F0) → sx_ok X (fj_276_42 K gA q' (nI F0)) j gN fun _ gR1 i' gM' => va_Q X gR0 gM0 i0 t F0 df gR1 i' gM' := by
    intro hx
    have hM2 : fm_133 (am_si gN 943 29 0) j = fj_83_24 (am_si gN 943 29 0) j := by
      rw [hM]
      by_cases z : j = q'
      · rw [if_pos z, if_neg (fun y => hx ⟨z, y⟩)]
      · rw [if_neg z]
    unfold fj_276_42
    rw [sy_h h1, lo_ps]
    by_cases qe : j = -1
    · rw [if_pos qe, b2']
      by_cases qF : F = F0
      · -- the text ends
        rw [if_pos (nI_le (by omega) (by omega))]
        unfold fj_276_78
        rw [if_neg (by rw [qe]; decide), if_neg (by rw [qe]; decide)]
        unfold fj_276_149 fj_276_167 fj_276_168
        rw [if_neg (by rw [qe]; decide), if_pos qe]
        subst qe
        refine si_bd (sy_ne (Q := fun _ _ _ _ => False) h1 (by decide) (by decide) (fun F2 y1 y2 y3 => ?_)) fun _ _ _ _ z => z.elim
        have : F2 = F := sz_u y1 b1 (by omega) (by omega)
        subst this
        have hd := hkd F2 qF y2
        rw [← (b6 (F2 - 1) (by omega)).1] at hd
        rcases hd with z | z
        · exact Or.inl ⟨z, Or.inl (by decide)⟩
        · exact Or.inr (Or.inr ⟨z, by decide⟩)
      · -- an entity's text ends
        rw [if_neg (nI_ge (by omega) (by omega))]
        subst qe
        obtain ⟨gB, j2, gO, y1, y2, y3, y4, y5, y6, y7, y8, y9, y10⟩ := sy_lv h1 b1 (by omega) b4 (Or.inr (Or.inl ⟨b5 (F - 1) (by omega) (by omega), rfl⟩))
        rw [y1, lo_ps]
        refine si_m y2 (ih (gB, q', nI F0) j2 gO ⟨v, rfl, rfl, va_s (F2 := F - 1) hI' y3 ⟨fx_w2 y4 fun _ _ => vR_l, fx_w2 y5 fun _ _ => vM_l, y6, Nat.le_of_lt y7⟩ ((y5.1 943 145 rfl).1) ⟨(y4.1 33 30 rfl).1, (y4.1 33 31 rfl).1, fun k => (y4.1 883 k rfl).1⟩ ⟨(y5.1 943 125 rfl).1, (y5.1 943 38 rfl).1, (y5.1 943 127 rfl).1, (y5.1 943 126 rfl).1, fun k => (y5.1 1001 k rfl).1⟩ ⟨y8, y9, by omega, by omega, fun d d1 d2 => by rw [(y5.1 948 d rfl).1]; exact b5 d d1 (by omega), fun d _ => ⟨(y5.1 948 d rfl).1, (y5.1 949 d rfl).1⟩, fun _ => (y4.1 39 5 rfl).1⟩⟩ y7)
    · rw [if_neg qe]
      have hch := (sy_c h1).resolve_left qe
      unfold fj_276_78
      by_cases q38 : j = 38
      · -- a reference
        rw [if_pos q38, sy_w h1, lo_ps]
        unfold fm_274
        rw [sy_w h1, lo_ps]
        have hM3 : fm_133 (am_si gN 943 29 0) j = some (0, am_si (am_si (am_si (am_si gN 943 29 0) 943 39 (am_i gN 943 30)) 943 40 58) 943 26 60) := by
          rw [hM2]
          unfold fj_83_24
          rw [if_neg (by rw [q38]; decide), if_pos q38, lo_id]
          rfl
        obtain ⟨gB, j2, gO, y1, y2, y3, y4, y5, y6, y7⟩ := sy_ps (SM := vm_A) h1 qe hM3 rfl (fx_tr (fx_tr (fx_tr (fx_si rfl) (fx_si rfl)) (fx_si rfl)) (fx_si rfl)) (ag_si rfl (ag_si rfl (ag_si rfl (ag_si rfl ag_re)))) vm_z (fun _ _ => vm_t)
        rw [y1, lo_ps]
        have n38 : ch_pt j = false := by
          rw [q38]
          unfold ch_pt
          rw [show ch_bg 38 = false from ch_f (by rw [show (38 : Int32).toInt = 38 from rfl]; unfold bg_P; omega), show ch_px 38 = false from ch_f (by rw [show (38 : Int32).toInt = 38 from rfl]; unfold px_P; omega)]
          rfl
        have w39 : am_i gO 943 39 = pw_R gA := ((y5.1 943 39 rfl).1).trans (sy_30 h1 qe)
        have hwh : wh_ok gB (pw_R gA) := by
          have := wh_pw gA
          unfold wh_ok at this ⊢
          rw [(y4.1.1 39 4 rfl).1, (y4.1.1 39 5 rfl).1]
          exact this
        refine si_m y2 ?_
        refine si_bd (sy_274 (fr := 58) (bo := 0) y3 (Or.inl rfl) (((y5.1 943 40 rfl).1).trans rfl) w39 hwh (y7 n38) (fun z => absurd z (by decide))) ?_
        have Y4 : sf_ok vR_S vM_S gA gN j gB gO j2 := sf_wk y4 (fun _ _ z => vR_p (ps_p z)) (fun _ _ => vm_v)
        rintro a gR1 i1 gM1 (⟨p1, p2, gR', s', rfl, p3, p4, p5, p6⟩ | ⟨rfl, gR', gX, gY, p1, p2, p3⟩)
        · -- a character
          rw [if_neg p1]
          have cR : ∀ o k, pR_S o k = false → ps_S o k = false → am_i gR' o k = am_i gA o k := fun o k z1 z2 => ((p6.1.1 o k z1).1).trans ((y4.1.1 o k z2).1)
          have cM : ∀ o k, rr_S o k = false → vm_A o k = false → am_i gM1 o k = am_i gN o k := fun o k z1 z2 => ((p6.2.1.1 o k z1).1).trans ((y4.2.1.1 o k z2).1)
          obtain ⟨gRx, u1, u2, u3, u4⟩ := sy_77 p3 (by decide)
          rw [p4] at u1
          have u1 := Option.some.inj u1
          subst u1
          have r31 : am_i gR1 33 31 = nI v.length := ((u2.1 33 31 rfl).1).trans ((cR 33 31 rfl rfl).trans a2)
          have r30 : am_i gR1 33 30 = nI t := ((u2.1 33 30 rfl).1).trans ((cR 33 30 rfl rfl).trans a1)
          have m125 : am_i gM1 943 125 = nI v.length := ((p6.2.1.1 943 125 rfl).1).trans (((y5.1 943 125 rfl).1).trans a4)
          rw [cm_277 r31 a3 r30 ht]
          unfold ra_c at p5
          rw [if_pos rfl, cm_82 (g := am_si gM1 943 29 0) m125 a3] at p5
          by_cases q400 : v.length = 400
          · rw [if_pos q400]
            rw [if_pos q400, cm_22] at p5
            refine si_bd (Q := fun _ _ _ _ => False) ?_ fun _ _ _ _ z => z.elim
            have hwh2 : wh_ok gR' (pw_R gA) := by
              unfold wh_ok at hwh ⊢
              rw [(p6.1.1 39 4 rfl).1, (p6.1.1 39 5 rfl).1]
              exact hwh
            rw [sy_wh p3 hwh2 (g' := am_si gM1 943 29 0) rfl rfl, lo_is, if_neg (by decide)] at p5
            obtain ⟨B3, ⟨p3', rs3, S3⟩, _, _⟩ := p3
            exact th_fl u4 (mi_f (by decide) (fs_in S3 (by decide)).1 (by decide) p5) rfl rfl rfl (ag_si rfl (ag_si rfl (ag_si rfl (ag_si rfl (ag_si rfl ag_re))))) rfl
          · rw [if_neg q400, lo_tl]
            rw [if_neg q400, lo_is, if_pos (by decide)] at p5
            obtain ⟨gR5, i5, gM5, z1, z2, z3, z4, z5, z6, z7⟩ := sy_ps (SM := vm_A) (g1 := am_si (am_si (am_si (am_si gM1 943 29 0) 1001 v.length a) 943 125 (nI (v.length + 1))) 943 26 58) p3 (by decide) p5 rfl (fx_tr (fx_tr (fx_tr (fx_si rfl) (fx_si rfl)) (fx_si rfl)) (fx_si rfl)) (ag_si rfl (ag_si rfl (ag_si rfl (ag_si rfl ag_re)))) vm_z (fun _ _ => vm_t)
            rw [p4] at z1
            have z1 := Option.some.inj z1
            subst z1
            obtain ⟨w1, w2⟩ := sy_R (SR := vr_A) (SM := vm_A) (gR' := am_si (am_si gR1 883 (t + v.length) a) 33 31 (nI (v.length + 1))) z3 (fx_tr (fx_si rfl) (fx_si rfl)) vr_z (fun k => rfl)
            have Ff : sf_ok vR_S vM_S gA gN j (am_si (am_si gR1 883 (t + v.length) a) 33 31 (nI (v.length + 1))) gM5 i5 := sf_tr Y4 (sf_tr (sf_wk p6 (fun _ _ => vR_p) (fun _ _ => vM_r)) (sf_tr (sf_wk z4 (fun _ _ z => vR_p (ps_p z)) (fun _ _ => vm_v)) (sf_wk w2 (fun _ _ => vr_v) (fun _ _ => vm_v))))
            have tkc : ∀ o k, tk_S o k = false → am_i gM5 o k = am_i (am_si (am_si (am_si (am_si gM1 943 29 0) 1001 v.length a) 943 125 (nI (v.length + 1))) 943 26 58) o k := fun o k z => (z5.1 o k z).1
            refine si_m z2 (ih (am_si (am_si gR1 883 (t + v.length) a) 33 31 (nI (v.length + 1)), q', nI F0) i5 gM5 ⟨v ++ [a], rfl, rfl, va_k hI' (by omega) p2 w1 Ff ?_ ⟨?_, rfl, fun k => ?_, ?_, ?_⟩ ⟨(tkc 943 125 rfl).trans rfl, ?_, ?_, ?_, fun k => ?_, ?_, fun d => ⟨?_, ?_⟩⟩⟩ ?_)
            · rw [tkc 943 145 rfl]; show am_i gM1 943 145 = _; exact cM 943 145 rfl rfl
            · show am_i gR1 33 30 = _; rw [r30, a1]
            · show am_i (am_si gR1 883 (t + v.length) a) 883 k = _
              rw [gi_si]
              by_cases z : k = t + v.length
              · rw [if_pos ⟨rfl, z⟩, if_pos z]
              · rw [if_neg (fun y => z y.2), if_neg z, (u2.1 883 k rfl).1]; exact cR 883 k rfl rfl
            · show am_i gR1 39 4 = _; rw [(u2.1 39 4 rfl).1]; exact cR 39 4 rfl rfl
            · show am_i gR1 39 5 = _; rw [(u2.1 39 5 rfl).1]; exact cR 39 5 rfl rfl
            · rw [tkc 943 38 rfl]; show am_i gM1 943 38 = _; rw [(p6.2.1.1 943 38 rfl).1]; exact ((y5.1 943 38 rfl).1).trans rfl
            · rw [tkc 943 127 rfl]; show am_i gM1 943 127 = _; rw [(p6.2.1.1 943 127 rfl).1]; exact ((y5.1 943 127 rfl).1).trans rfl
            · rw [tkc 943 126 rfl]; show am_i gM1 943 126 = _; rw [(p6.2.1.1 943 126 rfl).1]; exact ((y5.1 943 126 rfl).1).trans rfl
            · rw [tkc 1001 k rfl, gi_si, if_neg (by omega), gi_si, if_neg (by omega), gi_si]
              by_cases z : k = v.length
              · rw [if_pos ⟨rfl, z⟩, if_pos z]
              · rw [if_neg (fun y => z y.2), if_neg z]
                show am_i gM1 1001 k = _
                rw [(p6.2.1.1 1001 k rfl).1]; exact ((y5.1 1001 k rfl).1).trans rfl
            · rw [tkc 943 9 rfl]; show am_i gM1 943 9 = _; exact cM 943 9 rfl rfl
            · rw [tkc 948 d rfl]; exact cM 948 d rfl rfl
            · rw [tkc 949 d rfl]; exact cM 949 d rfl rfl
            · have := p6.2.2.2; omega
        · -- an entity
          rw [if_pos rfl]
          obtain ⟨q1, q2, q3, q3b, q4, q5, q6, F3, q7, q8, q9, q10, q11, q12, q13, q14, q15, q16⟩ := p2
          have cR : ∀ o k, pR_S o k = false → ps_S o k = false → am_i gR' o k = am_i gA o k := fun o k z1 z2 => ((p1.1.1 o k z1).1).trans ((y4.1.1 o k z2).1)
          have cM : ∀ o k, rr_S o k = false → vm_A o k = false → am_i gX o k = am_i gN o k := fun o k z1 z2 => ((p1.2.1.1 o k z1).1).trans ((y4.2.1.1 o k z2).1)
          have hF3 : F3 = F := sz_u q7 ((cM 943 9 rfl rfl).trans b1) (by omega) (by omega)
          subst hF3
          have Ff : sf_ok vR_S vM_S gA gN j gR1 gM1 i1 := sf_tr Y4 (sf_tr (sf_wk p1 (fun _ _ => vR_p) (fun _ _ => vM_r)) ⟨fx_w2 q2 fun _ _ => vR_e, fx_w2 q3 fun _ _ => vM_en, q4, Nat.le_of_lt q5⟩)
          refine ih (gR1, q', nI F0) i1 gM1 ⟨v, rfl, rfl, va_s (F2 := F3 + 1) hI' q1 Ff ?_ ⟨?_, ?_, fun k => ?_⟩ ⟨?_, ?_, ?_, ?_, fun k => ?_⟩ ⟨q9, q15, by omega, by omega, fun d d1 d2 => ?_, fun d hd => ⟨?_, ?_⟩, fun z => ?_⟩⟩ ?_
          · rw [p3, if_neg (by decide)]; exact ((y5.1 943 145 rfl).1).trans rfl
          · rw [(q2.1 33 30 rfl).1]; exact cR 33 30 rfl rfl
          · rw [(q2.1 33 31 rfl).1]; exact cR 33 31 rfl rfl
          · rw [(q2.1 883 k rfl).1]; exact cR 883 k rfl rfl
          · rw [(q3.1 943 125 rfl).1, (p1.2.1.1 943 125 rfl).1]; exact ((y5.1 943 125 rfl).1).trans rfl
          · rw [(q3.1 943 38 rfl).1, (p1.2.1.1 943 38 rfl).1]; exact ((y5.1 943 38 rfl).1).trans rfl
          · rw [(q3.1 943 127 rfl).1, (p1.2.1.1 943 127 rfl).1]; exact ((y5.1 943 127 rfl).1).trans rfl
          · rw [(q3.1 943 126 rfl).1, (p1.2.1.1 943 126 rfl).1]; exact ((y5.1 943 126 rfl).1).trans rfl
          · rw [(q3.1 1001 k rfl).1, (p1.2.1.1 1001 k rfl).1]; exact ((y5.1 1001 k rfl).1).trans rfl
          · by_cases z : d = F3
            · rw [z]; exact q10
            · rw [(q12 d (by omega)).1, cM 948 d rfl rfl]; exact b5 d d1 (by omega)
          · rw [(q12 d (by omega)).1]; exact cM 948 d rfl rfl
          · rw [(q12 d (by omega)).2]; exact cM 949 d rfl rfl
          · rw [q16 (by omega)]; exact cR 39 5 rfl rfl
          · have := p1.2.2.2; omega
      · rw [if_neg q38]
        by_cases q60 : j = 60
        · rw [if_pos q60, b2']
          have hM3 : fm_133 (am_si gN 943 29 0) j = if F ≤ F0 then fm_23 (am_si gN 943 29 0) else fm_21 (am_si gN 943 29 0) 7 0 := by
            rw [hM2]
            unfold fj_83_24
            rw [if_pos q60, show am_i (am_si gN 943 29 0) 943 9 = am_i gN 943 9 from rfl, b1, show am_i (am_si gN 943 29 0) 943 127 = am_i gN 943 127 from rfl, a6, lo_id, lo_id]
            by_cases y : F ≤ F0
            · rw [if_pos (nI_le y (by omega)), if_pos y]
            · rw [if_neg (nI_ge (by omega) (by omega)), if_neg y]
          by_cases y : F ≤ F0
          · rw [if_pos (nI_le y (by omega))]
            rw [if_pos y] at hM3
            unfold fj_276_149 fj_276_167 fj_276_168
            rw [if_pos q60]
            exact si_bd (sy_nd (Q := fun _ _ _ _ => False) h1 (fun z => absurd z qe) fun _ => ⟨_, hM3, ag_si rfl ag_re, rfl⟩) fun _ _ _ _ z => z.elim
          · rw [if_neg (nI_ge (by omega) (by omega)), sy_w h1, lo_ps]
            rw [if_neg y, cm_21, show am_i (am_si gN 943 29 0) 943 9 = am_i gN 943 9 from rfl, b1, if_neg (nI_nle (by omega) (by omega))] at hM3
            obtain ⟨B3, ⟨p3', rs3, S3⟩, _, _⟩ := h1
            refine th_fa B3 (mi_f qe (fs_in S3 qe).1 (by decide) hM3) rfl ?_ B3.2.2.2.2.2.2.1 (ag_si rfl (ag_si rfl (ag_si rfl (ag_si rfl ag_re)))) rfl
            show am_i gN 943 13 = pw_R gA
            unfold pw_R
            rw [b2', if_neg (nI_ne0 (by omega) (by omega))]
            refine S3.2.2.2.2.1 fun e => ?_
            have := S3.2.2.1.1
            rw [e, b2'] at this
            exact nI_ne0 (n := F) (by omega) (by omega) this
        · -- a character
          rw [if_neg q60]
          unfold fj_276_149 fj_276_168
          rw [if_neg q60, if_neg qe, nd_t, lo_tl, cm_185, lo_ps]
          have hM3 : fm_133 (am_si gN 943 29 0) j = fm_82 (am_si gN 943 29 0) (bif ch_bl j then 32 else j) (pw_R gA) := by
            rw [hM2]
            unfold fj_83_24 fj_83_97
            rw [if_neg q60, if_neg q38, cm_16, lo_ps, show am_i (am_si gN 943 29 0) 943 30 = am_i gN 943 30 from rfl, sy_30 h1 qe]
            cases ch_bl j with
            | true => rw [if_neg (show ¬ b2 true = 0 by decide), lo_id]; rfl
            | false => rw [if_pos (show b2 false = 0 from rfl), lo_id]; rfl
          have hR3 : (if b2 (ch_bl j) = 0 then fj_276_187 K gA q' (nI F0) j else fj_276_187 K gA q' (nI F0) 32) = fj_276_187 K gA q' (nI F0) (bif ch_bl j then 32 else j) := by
            cases ch_bl j <;> rfl
          rw [hR3]
          generalize hc' : (bif ch_bl j then (32 : Int32) else j) = c' at hM3 ⊢
          have hc : ch_ok c' := by rw [← hc']; exact vA_bl j hch
          unfold fj_276_187
          rw [sy_w h1, lo_ps, cm_277 a2 a3 a1 ht]
          rw [cm_82 (g := am_si gN 943 29 0) a4 a3] at hM3
          by_cases q400 : v.length = 400
          · rw [if_pos q400]
            rw [if_pos q400] at hM3
            refine si_bd (Q := fun _ _ _ _ => False) ?_ fun _ _ _ _ z => z.elim
            exact sy_fl h1 qe (wh_pw gA) hM3 (ag_si rfl ag_re) rfl
          · rw [if_neg q400, lo_tl]
            rw [if_neg q400] at hM3
            obtain ⟨w1, w2⟩ := sy_R (SR := vr_A) (SM := vm_A) (gR' := am_si (am_si gA 883 (t + v.length) c') 33 31 (nI (v.length + 1))) h1 (fx_tr (fx_si rfl) (fx_si rfl)) vr_z (fun k => rfl)
            obtain ⟨gR5, i5, gM5, z1, z2, z3, z4, z5, z6, z7⟩ := sy_ps (SM := vm_A) (g1 := am_si (am_si (am_si gN 943 29 0) 1001 v.length c') 943 125 (nI (v.length + 1))) w1 qe hM3 rfl (fx_tr (fx_tr (fx_si rfl) (fx_si rfl)) (fx_si rfl)) (ag_si rfl (ag_si rfl (ag_si rfl ag_re))) vm_z (fun _ _ => vm_t)
            rw [z1, lo_ps]
            have z3 : sy_ok X gR5 gM5 i5 58 := by
              have e : am_i (am_si (am_si (am_si gN 943 29 0) 1001 v.length c') 943 125 (nI (v.length + 1))) 943 26 = 58 := h1.2.2.2
              rw [e] at z3; exact z3
            have tkc : ∀ o k, tk_S o k = false → am_i gM5 o k = am_i (am_si (am_si (am_si gN 943 29 0) 1001 v.length c') 943 125 (nI (v.length + 1))) o k := fun o k z => (z5.1 o k z).1
            have psc : ∀ o k, ps_S o k = false → am_i gR5 o k = am_i (am_si (am_si gA 883 (t + v.length) c') 33 31 (nI (v.length + 1))) o k := fun o k z => (z4.1.1 o k z).1
            refine si_m z2 (ih (gR5, q', nI F0) i5 gM5 ⟨v ++ [c'], rfl, rfl, va_k hI' (by omega) hc z3 (sf_tr (sf_wk w2 (fun _ _ => vr_v) (fun _ _ => vm_v)) (sf_wk z4 (fun _ _ z => vR_p (ps_p z)) (fun _ _ => vm_v))) ((tkc 943 145 rfl).trans rfl) ⟨(psc 33 30 rfl).trans rfl, (psc 33 31 rfl).trans rfl, fun k => ?_, (psc 39 4 rfl).trans rfl, (psc 39 5 rfl).trans rfl⟩ ⟨(tkc 943 125 rfl).trans rfl, (tkc 943 38 rfl).trans rfl, (tkc 943 127 rfl).trans rfl, (tkc 943 126 rfl).trans rfl, fun k => ?_, (tkc 943 9 rfl).trans rfl, fun d => ⟨(tkc 948 d rfl).trans rfl, (tkc 949 d rfl).trans rfl⟩⟩⟩ z6)
            · rw [psc 883 k rfl, gi_si, if_neg (by omega), gi_si]
              by_cases z : k = t + v.length
              · rw [if_pos ⟨rfl, z⟩, if_pos z]
              · rw [if_neg (fun y => z y.2), if_neg z]
            · rw [tkc 1001 k rfl, gi_si, if_neg (by omega), gi_si]
              by_cases z : k = v.length
              · rw [if_pos ⟨rfl, z⟩, if_pos z]
              · rw [if_neg (fun y => z y.2), if_neg z]
                rfl
  unfold fb_276_23
  rw [b2']
  by_cases qF : F = F0
  · rw [if_neg (nI_nlt (by omega) (by omega)), sy_is h1, lo_ps]
    by_cases qq : j = q'
    · rw [decide_eq_true qq, if_neg (by decide)]
      obtain ⟨gB, y1, y2, y3, y4⟩ := sy_77 h1 (by rw [qq]; exact hq1)
      rw [y1, lo_ps]
      rw [if_pos qq, if_pos qF] at hM
      subst qq
      exact ⟨_, rfl, j, gN, fun _ z => z, j, v, gA, hq, rfl, hI', by rw [b1, qF], y1, hM⟩
    · rw [decide_eq_false qq, if_pos (by decide)]
      exact h42 fun z => qq z.1
  · rw [if_pos (nI_lt (by omega) (by omega))]
    exact h42 fun z => qF z.2
/-- M's registers that its step sets anyway may be other ones -/
theorem mi_eq {n i : Int32} {g g' : am_G} {res : Int32 × am_G} (hi : i ≠ -1) (h29 : am_i g 943 29 = 1) (hs : fm_133 (am_si g 943 29 0) i = fm_133 (am_si g' 943 29 0) i) (hm : mm_n g' = mm_n g) (h26 : am_i g' 943 26 = am_i g 943 26) (h : mi_ok n i g' res) : mi_ok n i g res := by
  unfold mi_ok at h ⊢
  rw [if_neg hi] at h ⊢
  refine ⟨h29, fun k j hk hj => ?_⟩
  rw [← h.2 k j (by rw [hm]; exact hk) (by rw [h26]; exact hj)]
  obtain ⟨m, rfl⟩ : ∃ m, j = m + 1 := ⟨j - 1, by have := rk_2 (am_i g 943 26); omega⟩
  have e : ∀ x : am_G, am_i x 943 29 = 1 → lo_it mr_I (m + 1) (x, i, 0) = lo_i (fm_133 (am_si x 943 29 0) i) fun y g2 => lo_it mr_I m (g2, i, y) := by
    intro x hx
    rw [mr_i]
    unfold fb_134_104
    rw [hx, if_neg (by decide), if_pos rfl]
  rw [e g h29, e g' h.1, hs]
/-- R's value, M ahead of the quote -/
theorem sy_276 {dflt : Int32} {t : Nat} (h : sy_ok X gR gM i s) (hd : dflt = 0 ∨ dflt = 1) (hst : st_in s) (ht : t ≤ 4800) (hs : i ≠ -1 → fm_133 (am_si gM 943 29 0) i = if i = 34 then fm_84 (am_si gM 943 29 0) i dflt else if i = 39 then fm_84 (am_si gM 943 29 0) i dflt else fm_23 (am_si gM 943 29 0))
    (hkd : ∀ F, am_i gM 943 9 = nI F → F ≤ 16 → 0 < F → am_i gM 948 (F - 1) = 0 ∨ am_i gM 948 (F - 1) = 2) :
    sx_ok X (fm_276 gR (nI t)) i gM fun _ gR1 i' gM' => ∃ F0, am_i gM 943 9 = nI F0 ∧ F0 ≤ 16 ∧ va_Q X gR gM i t F0 dflt gR1 i' gM' := by
  obtain ⟨F0, hF, hF2⟩ : ∃ F0, am_i gM 943 9 = nI F0 ∧ F0 ≤ 16 := by
    obtain ⟨F, En, mt, lim, a1, a2, a3, _⟩ := h.2.2.1.2.2.2
    exact ⟨F, a1, a3⟩
  have h4 : am_i gR 39 4 = nI F0 := by
    obtain ⟨F, En, mt, lim, a1, a2, a3, _⟩ := h.2.2.1.2.2.2
    have : F = F0 := sz_u a1 hF (by omega) (by omega)
    rw [← this]; exact a2
  unfold fm_276 fm_250
  rw [sy_h h, lo_ps]
  by_cases q : i = 34 ∨ i = 39
  · have hi : i ≠ -1 := qt_n q
    have e : (if i = 34 then fj_250_21 gR i else if i = 39 then fj_250_21 gR i else fj_250_26 gR i 0) = fj_250_26 gR i 1 := by
      unfold fj_250_21
      rcases q with q | q
      · rw [if_pos q]
      · rw [if_neg (by rw [q]; decide), if_pos q]
    rw [e]
    unfold fj_250_26
    rw [nd_t, lo_tl]
    have hM : fm_133 (am_si gM 943 29 0) i = some (0, am_si (am_si (am_si (am_si (am_si (am_si gM 943 29 0) 943 38 i) 943 125 0) 943 126 dflt) 943 127 (am_i gM 943 9)) 943 26 58) := by
      have e84 : fm_84 (am_si gM 943 29 0) i dflt = some (0, am_si (am_si (am_si (am_si (am_si (am_si gM 943 29 0) 943 38 i) 943 125 0) 943 126 dflt) 943 127 (am_i gM 943 9)) 943 26 58) := by
        unfold fm_84
        rw [show (decide (dflt = 0) || decide (dflt = 1)) = true by rcases hd with z | z <;> (subst z; rfl), lo_gt, cm_25, lo_is]
        rfl
      rw [hs hi]
      rcases q with q | q
      · rw [if_pos q]; exact e84
      · rw [if_neg (by rw [q]; decide), if_pos q]; exact e84
    obtain ⟨gB, j2, gO, y1, y2, y3, y4, y5, y6, y7⟩ := sy_ps (SM := vm_A) h hi hM rfl (fx_tr (fx_tr (fx_tr (fx_tr (fx_tr (fx_si rfl) (fx_si rfl)) (fx_si rfl)) (fx_si rfl)) (fx_si rfl)) (fx_si rfl)) (ag_si rfl (ag_si rfl (ag_si rfl (ag_si rfl (ag_si rfl (ag_si rfl ag_re)))))) vm_z (fun _ _ => vm_t)
    rw [y1, lo_ps, lo_tl, lo_ll, (y4.1.1 39 4 rfl).1, h4]
    obtain ⟨w1, w2⟩ := sy_R (SR := vr_A) (SM := vm_A) (gR' := am_si (am_si gB 33 30 (nI t)) 33 31 0) y3 (fx_tr (fx_si rfl) (fx_si rfl)) vr_z (fun k => rfl)
    have tkc : ∀ o k, tk_S o k = false → am_i gO o k = am_i (am_si (am_si (am_si (am_si (am_si (am_si gM 943 29 0) 943 38 i) 943 125 0) 943 126 dflt) 943 127 (am_i gM 943 9)) 943 26 58) o k := fun o k z => (y5.1 o k z).1
    have hI : va_I X gR gM i t F0 i dflt (am_si (am_si gB 33 30 (nI t)) 33 31 0) gO j2 [] := by
      refine ⟨w1, sf_tr (sf_wk y4 (fun _ _ z => vR_p (ps_p z)) (fun _ _ => vm_v)) (sf_wk w2 (fun _ _ => vr_v) (fun _ _ => vm_v)), (tkc 943 145 rfl).trans rfl, ⟨rfl, rfl, by decide, (tkc 943 125 rfl).trans rfl, (tkc 943 38 rfl).trans rfl, (tkc 943 127 rfl).trans hF, (tkc 943 126 rfl).trans rfl⟩, fun k x hx => (nomatch hx), fun k _ => (y4.1.1 883 k rfl).1, F0, (tkc 943 9 rfl).trans hF, ((y4.1.1 39 4 rfl).1).trans h4, Nat.le_refl _, hF2, fun d d1 d2 => absurd d2 (by omega), fun d _ => ⟨(tkc 948 d rfl).trans rfl, (tkc 949 d rfl).trans rfl⟩, fun _ => (y4.1.1 39 5 rfl).1⟩
    refine si_m y2 (si_wk (va_lp q ht hF2 (fun F e z => hkd F (e ▸ hF) (e ▸ hF2) z) hI) ?_)
    rintro _ gR1 i1 gM1 hQ
    exact ⟨F0, hF, hF2, hQ⟩
  · have n1 : ¬ i = 34 := fun e => q (Or.inl e)
    have n2 : ¬ i = 39 := fun e => q (Or.inr e)
    rw [if_neg n1, if_neg n2]
    unfold fj_250_26
    refine si_bd (Q := fun _ _ _ _ => False) ?_ fun _ _ _ _ z => z.elim
    refine si_bd (sy_nd (Q := fun _ _ _ _ => False) h (fun _ => hst) fun hi => ⟨am_si gM 943 29 0, ?_, ag_si rfl ag_re, rfl⟩) fun _ _ _ _ z => z.elim
    rw [hs hi, if_neg n1, if_neg n2]
end
