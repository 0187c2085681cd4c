/-! Both enter an entity; both leave it. -/
theorem mf_en {g g' : am_G} {p F j z st R mt : Nat} {kd wh : Int32} {rs : List (List Int32)} {r : List Int32} (K : mf_ok g p rs) (E : en_M g g' F j z st R mt kd wh) (hR : R = (rw_l rs).length) (hF : F = rs.length) (hr : r = sl_l (am_i g 989) st z) (hb : R + 1 + z ≤ 9000) : mf_ok g' p (r :: rs) := by
  obtain ⟨e0, e1, e2, e3, e4, e5, e6, e7, e8, e9, e10, e11, e12, e13⟩ := E
  obtain ⟨k5, k9, k8, kl, kr⟩ := K
  have hl : (rw_l (r :: rs)).length = R + 1 + z := by
    show (rw_l rs ++ (-1 :: r.reverse)).length = _
    rw [List.length_append, List.length_cons, List.length_reverse, hr, sl_len, hR]
    omega
  refine ⟨((e0.1 943 5 rfl).1).trans k5, by rw [e1, hF]; rfl, by rw [hl]; exact e2, by omega, fun x y h => ?_⟩
  have h : (rw_l rs ++ (-1 :: r.reverse))[x]? = some y := h
  rcases Nat.lt_trichotomy x R with q | q | q
  · rw [List.getElem?_append_left (by omega)] at h
    rw [e13 x q]; exact kr x y h
  · rw [q, hR, List.getElem?_append_right (Nat.le_refl _), Nat.sub_self] at h
    have : y = -1 := (Option.some.inj h).symm
    rw [q, this]; exact e11
  · rw [List.getElem?_append_right (by omega), show x - (rw_l rs).length = (x - R - 1) + 1 by omega, List.getElem?_cons_succ] at h
    have hx := (List.getElem?_eq_some_iff.mp h).1
    rw [List.length_reverse, hr, sl_len] at hx
    rw [List.getElem?_reverse (by rw [hr, sl_len]; exact hx), hr, sl_len, sl_at _ _ _ (by omega)] at h
    have hy := Option.some.inj h
    rw [show x = R + 1 + (x - R - 1) by omega, e12 _ hx, ← hy]
theorem rl_nx {gR gM : am_G} {N p : Nat} {n i : Int32} {rs : List (List Int32)} (S : fs_ok gR gM N n p rs i) (hi : i ≠ -1) : (N - nx_p p rs) + rl_n (nx_r rs) + 1 = (N - p) + rl_n rs ∧ (nx_r rs).length = rs.length := by
  obtain ⟨a1, a2, a3, a4, a5, a6, a7⟩ := fs_in S hi
  cases rs with
  | nil => have := a6 rfl; exact ⟨by show N - (p + 1) + 0 + 1 = N - p + 0; omega, rfl⟩
  | cons r rest =>
    cases r with
    | nil => exact absurd rfl (a3 rest)
    | cons c r => exact ⟨by show N - p + (r.length + rl_n rest) + 1 = N - p + (r.length + 1 + rl_n rest); omega, rfl⟩
section
variable {X : cx_T} {gR gM gR1 gX : am_G} {i s : Int32} {SM : Nat → Nat → Bool}
/-- R's and M's memories when both have entered -/
def en_P (X : cx_T) (SM : Nat → Nat → Bool) (gX gR gM : am_G) (i kd : Int32) (gR' : am_G) (i' : Int32) (gM' : am_G) : Prop := sy_ok X gR' gM' i' (eg_s kd) ∧ fx_i eR_Z gR gR' ∧ fx_i (os_S SM (os_S eM_Z tk_S)) gM gM' ∧ fx_i (os_S eM_Z tk_S) gX gM' ∧ (∀ a b, nq_ok gR gM a b → nq_ok gR' gM' a b) ∧ mu_n gM' i' < mu_n gM i ∧ bn_ok gR' ∧
  ∃ F, am_i gM 943 9 = nI F ∧ F < 16 ∧ am_i gM' 943 9 = nI (F + 1) ∧ am_i gM' 948 F = kd ∧ am_i gM' 949 F = am_i gM 943 106 ∧ (∀ d, d < F → am_i gM' 948 d = am_i gM 948 d ∧ am_i gM' 949 d = am_i gM 949 d) ∧ am_i gM' 943 43 = 0 ∧ am_i gR 39 4 = nI F ∧ am_i gR' 39 4 = nI (F + 1) ∧ (0 < F → am_i gR' 39 5 = am_i gR 39 5)
theorem sy_en {pc : Bool} {j En : Nat} {a kd wh : Int32} (h : sy_ok X gR gM i s) (hi : i ≠ -1) (e1 : fm_177 gR = some gR1) (hE : am_i gM 943 95 = nI En) (hE2 : En ≤ 40) (hj : j < En) (hpc : am_i gM 986 j = b2 pc) (ha : a ≠ -1) (hfd : fm_172 gR1 (en_t pc) a = some (nI (en_n gM pc j))) (hwh : wh_ok gR wh)
    (hs : fm_133 (am_si gM 943 29 0) i = fm_102 gX (nI j) kd wh) (f0 : fx_i SM gM gX) (hS : sm_ok SM) (hf : ag_3 fd_S gM gX) (hwr : ag_3 wr_S gM gX) (h29 : am_i gX 943 29 = 0) (h106 : am_i gX 943 106 = am_i gM 943 106) : sx_ok X (fm_275 gR1 (en_t pc) a wh) i gM (fun _ gR' i' gM' => en_P X SM gX gR gM i kd gR' i' gM') := by
  have h' := h
  obtain ⟨B, ⟨p, rs, S⟩, ⟨w1, w2, w3, w4⟩, h26⟩ := h
  obtain ⟨a1, a2, a3, a4, a5, a6, a7⟩ := fs_in S hi
  have hN := S.1.1
  obtain ⟨gRx, x1, x2, x3⟩ := cm_177 S.2.2.1 a3 (by have := S.2.2.2.1; omega)
  rw [e1] at x1
  have x1 := Option.some.inj x1
  subst x1
  obtain ⟨F, En', mt, lim, v1, v2, v3, v4, v5, v6, v7, v8, v9, v10, v11, v12, v13, v14⟩ := w4
  have eEn : En' = En := sz_u v4 hE (by omega) (by omega)
  subst eEn
  have w3' := w3
  obtain ⟨En2, tS, uG, uP, c1, c2, c3, c4, c5, c6, c7, c8, c9, c10⟩ := w3
  have eEn2 : En2 = En' := sz_u c2 hE (by omega) (by omega)
  subst eEn2
  obtain ⟨pc', sR, sM, z, d1, d2, d3, d4, d5, d6, d7, d8, d9⟩ := c10 j hj
  have hpc' : pc' = pc := by
    rw [hpc] at d1
    cases pc <;> cases pc' <;> first | rfl | exact absurd d1 (by decide)
  subst hpc'
  have hle := en_le gM pc' j
  have hlF : rs.length = F := sz_u S.2.2.1.1 v2 (by have := S.2.2.1.2.1; omega) (by omega)
  obtain ⟨nx1, nx2⟩ := rl_nx S hi
  have hnr : rl_n (nx_r rs) ≤ rl_n rs := by
    cases rs with
    | nil => exact Nat.le_refl _
    | cons r rest => show r.tail.length + _ ≤ r.length + _; rw [List.length_tail]; omega
  -- R's cells behind the pass
  have r1 : ∀ o k, o ≠ 42 → am_i gR1 o k = am_i gR o k := fun o k q => (x2.1 o k (beq_f q)).1
  have B1 : bi_ok X.1 X.2.1 X.2.2.1 X.2.2.2.1 gR1 gM := bi_ct B x2 fx_re
  have hxx : (en_x gM j).length = z := by unfold en_x; rw [sl_len, d6, nI_clamp (by omega)]
  have mX : ∀ o k, zM_S o k = false → am_i gX o k = am_i gM o k := fun o k q => (f0.1 o k (sb_f fun w => by rw [hS o k w] at q; cases q)).1
  have cM := cm_102 (g := gX) (F := F) (j := j) (z := z) (st := sM) (R := (rw_l (nx_r rs)).length) (mt := mt) (lim := lim) (kd := kd) (wh := wh) ((mX 943 9 rfl).trans v1) v3 (by omega) ((mX 988 j rfl).trans d6) ((mX 987 j rfl).trans d5) (by omega) (((hf 943 8 rfl).1).trans a2.2.2.1) (fun hF hno => by
      have hb := rw_bd (N := X.2.2.2.2.1) (n := i) (i := i) w2 w3' ⟨F, En2, mt, lim, v1, v2, v3, v4, v5, v6, v7, v8, v9, v10, v11, v12, v13, v14⟩ S.2.2.1 hE hE2 v1 v3 hj (fun f hf' => by rw [← mX 950 f rfl]; exact hno f hf')
      rw [hxx] at hb
      have := rw_n (nx_r rs)
      omega) ((mX 943 14 rfl).trans v7) ((mX 943 15 rfl).trans v11) (by omega) v9
  have hwx : wh_ok gR1 wh := by
    unfold wh_ok at hwh ⊢
    rw [r1 39 4 (by decide), r1 39 5 (by decide)]
    exact hwh
  unfold fm_275
  rw [if_neg ha]
  obtain ⟨k1, k2, k3, k4, k5, k6⟩ := en_tk pc'
  obtain ⟨q1, q2, q3, q4, q5⟩ := en_ti pc' (e := en_n gM pc' j) (by omega)
  have hne : ¬ nI (en_n gM pc' j) = -1 := fun z => absurd (nI_pos' (n := en_n gM pc' j) (by omega)) (by rw [z]; decide)
  rw [k1, lo_gt, hfd, lo_ps]
  unfold fj_275_14
  rw [if_neg hne, k1, lo_gt, k5, lo_ms, q4, lo_gt, nI_clamp (n := en_n gM pc' j) (by omega), r1 (en_t pc' + 4) _ (by cases pc' <;> decide)]
  have thr : ∀ (g2 : am_G) (f : Int32), fm_133 (am_si gM 943 29 0) i = fm_21 gX f wh → sx_ok X (lo_i (fm_236 gR1 f wh) fun y9 g10 => lo_g (Nat.ble 1008 y9 && Nat.blt y9 (am_sz g10)) (some (.inr y9, g10))) i gM (fun (_ : Unit) gR' i' gM' => en_P X SM gX gR gM i kd gR' i' gM') := by
    intro _ f e
    rw [cm_21, sy_wh h' hwh (g' := gX) ((hwr 943 9 rfl).1) ((hwr 943 13 rfl).1)] at e
    exact th_fa B1 (mi_f hi a1 (by decide) e) rfl rfl (((hwr 943 144 rfl).1).trans B.2.2.2.2.2.2.1) (ag_si rfl (ag_si rfl (ag_si rfl (ag_wk hwr fun _ _ => wr_mx)))) f0.2.1
  by_cases hop : ∃ f, f < F ∧ am_i gM 950 f = nI j
  · rw [(v14 j pc' hj hpc).1 hop, if_neg (by decide)]
    exact thr gX 6 (hs.trans (cM.1 (by obtain ⟨f, y1, y2⟩ := hop; exact ⟨f, y1, (mX 950 f rfl).trans y2⟩)))
  · have hno : ∀ f, f < F → am_i gM 950 f ≠ nI j := fun f y1 y2 => hop ⟨f, y1, y2⟩
    have hnoX : ∀ f, f < F → am_i gX 950 f ≠ nI j := fun f y1 y2 => hno f y1 ((mX 950 f rfl).symm.trans y2)
    obtain ⟨cA, cB, cC⟩ := cM.2 hnoX
    rw [(v14 j pc' hj hpc).2 hno, if_pos rfl, r1 39 4 (by decide), v2]
    by_cases q16 : F = 16
    · rw [if_pos (by rw [q16]; rfl)]
      have e := hs.trans (cA q16)
      rw [cm_22, sy_wh h' hwh (g' := gX) ((hwr 943 9 rfl).1) ((hwr 943 13 rfl).1)] at e
      exact th_fl B1 (mi_f hi a1 (by decide) e) rfl rfl rfl (ag_si rfl (ag_si rfl (ag_si rfl (ag_si rfl (ag_wk hwr fun _ _ => wr_mx))))) f0.2.1
    · rw [if_neg (fun e => q16 ((nI_eq (by omega) (by decide)).mp (e.trans (show (16 : Int32) = nI 16 from rfl)))), k4, lo_ms, q3, lo_gt, r1 39 6 (by decide), v6, r1 (en_t pc' + 3) _ (by cases pc' <;> decide), d4, nI_add, r1 33 10 (by decide), v10]
      by_cases qm : mt + z ≤ lim
      · rw [if_pos (nI_le qm (by omega))]
        obtain ⟨g1, y1, y2⟩ := cC (by omega) qm
        have y2' := y2
        obtain ⟨m0, m1, m2, m3, m4, m5, m6, m7, m8, m9, m10, m11, m12, m13⟩ := y2
        obtain ⟨gR', z1, z2, z2b, z3, z4, z5, z6, z7, z8, z9, z10, z11⟩ := cm_179 (gR := gR1) (F := F) (e := en_n gM pc' j) (z := z) (mt := mt) (pc := pc') (wh := wh) ((r1 39 4 (by decide)).trans v2) (by omega) (by omega) ((r1 (en_t pc' + 3) _ (by cases pc' <;> decide)).trans d4) ((r1 39 6 (by decide)).trans v6)
        rw [z1, lo_ps]
        -- R's cells
        have rE : ∀ o k, eR_Z o k = false → am_i gR' o k = am_i gR o k := fun o k q => ((z2 o k q).1).trans (r1 o k fun e => by rw [e] at q; cases q)
        have p42 : am_i gR' 42 0 = am_i gR1 42 0 := ((z9 0 (by omega)).2.2)
        have fR : fx_i eR_Z gR gR' := by
          refine ⟨fun o k q => ?_, z2b.trans x2.2.1, fun d hd => ?_⟩
          · have y := x2.1 o k (beq_f fun e => by rw [e] at q; cases q)
            have w := z2 o k q
            exact ⟨w.1.trans y.1, w.2.1.trans y.2.1, w.2.2.trans y.2.2⟩
          · by_cases q : d = 0
            · rw [q, p42]; exact x2.2.2 0 rfl
            · rw [if_neg q] at hd; cases hd
        have hlen : (nx_r rs).length = F := nx2.trans hlF
        -- the text
        have hr : sl_l (am_i gM 989) sM z = sl_l (am_i gR (en_t pc' + 5)) sR z := sl_eq.mpr ⟨rfl, fun k hk => ((d9 k hk).1).symm⟩
        have r5 : ∀ k, am_i gR' (en_t pc' + 5) k = am_i gR (en_t pc' + 5) k := fun k => rE _ k (eR_f (by cases pc' <;> (simp only [en_t, cond_false, cond_true]; omega)))
        have T' : tx_r gR' X.2.2.2.2.1 X.2.2.2.2.2 := ⟨hN, (rE 35 3 rfl).trans S.1.2.1, (rE 38 _ rfl).trans S.1.2.2.1, fun k hk => by rw [rE 37 k rfl]; exact S.1.2.2.2.1 k hk, pl_cg S.1.2.2.2.2 (fun k => rE 37 k rfl) (fun k => rE 38 k rfl)⟩
        have M' : tx_m gR' g1 X.2.2.2.2.1 := ⟨((m0.1 943 4 rfl).1).trans (((hf 943 4 rfl).1).trans S.2.1.1), fun k hk => ⟨by rw [(m0.1 945 k rfl).1, (hf 945 k rfl).1, rE 37 k rfl]; exact (S.2.1.2 k hk).1, by rw [(m0.1 946 k rfl).1, (hf 946 k rfl).1, rE 38 k rfl]; exact (S.2.1.2 k hk).2⟩⟩
        have F' : rf_ok gR' (nx_p p rs) (sl_l (am_i gM 989) sM z :: nx_r rs) := by
          refine ⟨?_, ?_, ?_, ?_, ?_⟩
          · rw [z3]; show nI (F + 1) = nI ((nx_r rs).length + 1); rw [hlen]
          · show (nx_r rs).length + 1 ≤ 16; omega
          · rw [p42]; exact x3.2.2.1
          · rw [hlen]
            refine ⟨en_t pc', en_n gM pc' j, 0, sR, z, z6, by cases pc'; exact Or.inl rfl; exact Or.inr rfl, z7, by omega, z8, ?_, ?_, Nat.zero_le _, by omega, ?_, fun x hx => ?_⟩
            · rw [rE (en_t pc' + 2) _ (eR_f (by cases pc' <;> (simp only [en_t, cond_false, cond_true]; omega)))]; exact d3
            · rw [rE (en_t pc' + 3) _ (eR_f (by cases pc' <;> (simp only [en_t, cond_false, cond_true]; omega)))]; exact d4
            · rw [hr, Nat.add_zero, Nat.sub_zero]; exact (sl_cg fun k _ => (r5 _)).symm
            · unfold sl_l at hx
              obtain ⟨k, hk, rfl⟩ := List.mem_map.mp hx
              exact (d9 k (List.mem_range.mp hk)).2
          · refine rf_l2 (g := gR1) (fun o k o1 o2 o3 o4 => (z2 o k (eR_f (by omega))).1) (nx_r rs) (fun d hd1 hd2 => z9 d (by omega)) x3.2.2.2
        have hmf : mf_ok gX (nx_p p rs) (nx_r rs) := mf_cg a2 fun o k q => (hf o k (fd_mf q)).1
        have hb9 : (rw_l (nx_r rs)).length + 1 + z ≤ 9000 := by
          have hb := rw_bd (N := X.2.2.2.2.1) (n := i) (i := i) w2 w3' ⟨F, En2, mt, lim, v1, v2, v3, v4, v5, v6, v7, v8, v9, v10, v11, v12, v13, v14⟩ S.2.2.1 hE hE2 v1 v3 hj hno
          rw [hxx] at hb
          have := rw_n (nx_r rs)
          omega
        have K' : mf_ok g1 (nx_p p rs) (sl_l (am_i gM 989) sM z :: nx_r rs) := mf_en hmf y2' rfl hlen.symm (sl_cg fun k hk => (mX 989 _ rfl).symm) hb9
        obtain ⟨g2, t1, t2, t3⟩ := fs_tk T' M' F' a4 (fun _ => by
            rw [m4, z5]
            by_cases q0 : F = 0
            · rw [if_pos q0, if_pos q0]
            · rw [if_neg q0, if_neg q0, (hf 943 13 rfl).1, r1 39 5 (by decide)]
              exact S.2.2.2.2.1 (fun e => q0 (by rw [← hlF, e]; rfl))) K'
        have c2M : ∀ o k, eM_Z o k = false → tk_S o k = false → zM_S o k = false → am_i g2 o k = am_i gM o k := fun o k q1 q2 q3 => ((t3.1 o k q2).1).trans (((m0.1 o k q1).1).trans (mX o k q3))
        have fM : fx_i (os_S SM (os_S eM_Z tk_S)) gM g2 := fx_tr (fx_w2 f0 fun _ _ => os_l) (fx_tr (fx_w2 m0 fun _ _ q => os_r (os_l q)) (fx_w2 t3 fun _ _ q => os_r (os_r q)))
        have tkf : ∀ {o k}, ¬ (o = 943 ∧ (k = 5 ∨ k = 8 ∨ k = 29 ∨ k = 30)) → tk_S o k = false := fun {o k} q => sb_f fun w => by
          unfold tk_S at w
          simp only [Bool.and_eq_true, Bool.or_eq_true, Nat.beq_eq] at w
          exact q w
        have cc : ∀ o k, ¬ ((o = 943 ∧ (k = 5 ∨ k = 8 ∨ k = 9 ∨ k = 13 ∨ k = 14 ∨ k = 18 ∨ (24 ≤ k ∧ k ≠ 95 ∧ k ≠ 101 ∧ k ≠ 139 ∧ k ≠ 144))) ∨ (947 ≤ o ∧ o ≤ 950) ∨ (956 ≤ o ∧ o ≤ 984) ∨ (990 ≤ o ∧ o ≤ 1007)) → am_i g2 o k = am_i gM o k := fun o k q => c2M o k (eM_f (by omega)) (tkf (by omega)) (zM_f (by omega))
        -- the world
        obtain ⟨n1, n2, n3⟩ := nm_cg (gR' := gR') (gM' := g2) w1 (fun k hk => rE 43 k (eR_f (by omega))) (fun u k _ _ _ => rE 44 k rfl) (fun o k o1 o2 => rE o k (eR_f (by omega))) (fun k hk => cc 943 k (by omega)) (fun u k _ _ _ => cc 951 k (by omega)) (fun o k o1 o2 => cc o k (by omega))
        have hp1 : p ≤ nx_p p rs := by cases rs with
          | nil => exact Nat.le_succ _
          | cons _ _ => exact Nat.le_refl _
        have P' : po_w gR' g2 := po_cg w2 S.1.2.2.2.2 (fun k => rE 37 k rfl) (fun k => rE 38 k rfl) S.2.2.1.2.2.1 (p42.trans x3.2.2.1) hp1 a4 hN (cc 943 21 (by omega)) (cc 943 95 (by omega)) (cc 943 101 (by omega)) n3 (fun _ _ _ k _ => en_xc (fun o k o1 o2 => cc o k (by omega)) k)
        have W' : en_w gR' g2 := by
          refine en_cg n2 (fun o k q => ?_) (fun o k q => ?_) w3'
          · have ho : 855 ≤ o ∧ o ≤ 866 ∧ o ≠ 859 ∧ o ≠ 865 := by
              unfold tR_S at q
              simp only [Bool.and_eq_true, Nat.ble_eq, Bool.not_eq_true', nb_f] at q
              exact q
            exact ⟨(fR.1 o k (eR_f (by omega))).1, (fR.1 o k (eR_f (by omega))).2.1, (fR.1 o k (eR_f (by omega))).2.2⟩
          · have ho : (o = 943 ∧ (k = 95 ∨ k = 101)) ∨ (985 ≤ o ∧ o ≤ 989) := by
              unfold tM_S at q
              simp only [Bool.or_eq_true, Bool.and_eq_true, Nat.beq_eq, Nat.ble_eq] at q
              exact q
            have y := f0.1 o k (sb_f fun w => by have := zM_c.mp (hS o k w); omega)
            have w := m0.1 o k (eM_f (by omega))
            have u := t3.1 o k (tkf (by omega))
            exact ⟨u.1.trans (w.1.trans y.1), u.2.1.trans (w.2.1.trans y.2.1), u.2.2.trans (w.2.2.trans y.2.2)⟩
        have enn : ∀ pc k, en_n g2 pc k = en_n gM pc k := fun pc k => by
          induction k with
          | zero => rfl
          | succ k ih => show en_n g2 pc k + _ = en_n gM pc k + _; rw [ih, cc 986 k (by omega)]
        have e950 : ∀ d, d < F → am_i g2 950 d = am_i gM 950 d := fun d hd => ((t3.1 950 d rfl).1).trans (((m10 d hd).1).trans (mX 950 d rfl))
        have e950F : am_i g2 950 F = nI j := ((t3.1 950 F rfl).1).trans m7
        have V' : fr_w gR' g2 := by
          refine ⟨F + 1, En2, mt + z, lim, ((t3.1 943 9 rfl).1).trans m1, z3, by omega, (cc 943 95 (by omega)).trans v4, v5, z4, ((t3.1 943 14 rfl).1).trans m3, qm, v9, (rE 33 10 rfl).trans v10, (cc 943 15 (by omega)).trans v11, fun d hd => ?_, fun d d' hd hd' e => ?_, fun k pk hk hpk => ?_⟩
          · by_cases q : d = F
            · subst q
              exact ⟨j, pc', hj, e950F, (cc 986 j (by omega)).trans hpc, z6, by rw [enn]; exact z7⟩
            · obtain ⟨jj, pp, u1, u2, u3, u4, u5⟩ := v12 d (by omega)
              exact ⟨jj, pp, u1, (e950 d (by omega)).trans u2, (cc 986 jj (by omega)).trans u3, ((z9 (d + 1) (by omega)).1).trans (((x2.1 40 (d + 1) rfl).2.2).trans u4), by rw [enn, (z9 (d + 1) (by omega)).2.1, r1 41 _ (by decide)]; exact u5⟩
          · by_cases q : d = F
            · by_cases q' : d' = F
              · omega
              · rw [q, e950F, e950 d' (by omega)] at e
                exact absurd e.symm (hno d' (by omega))
            · by_cases q' : d' = F
              · rw [q', e950F, e950 d (by omega)] at e
                exact absurd e (hno d (by omega))
              · rw [e950 d (by omega), e950 d' (by omega)] at e
                exact v13 d d' (by omega) (by omega) e
          · rw [cc 986 k (by omega)] at hpk
            rw [enn]
            have hko := v14 k pk hk hpk
            by_cases q : k = j
            · subst q
              have : pk = pc' := by rw [hpc] at hpk; cases pk <;> cases pc' <;> first | rfl | exact absurd hpk (by decide)
              subst this
              exact ⟨fun _ => z10, fun w => absurd e950F (w F (by omega))⟩
            · have e859 : am_i gR' (en_t pk + 4) (en_n gM pk k) = am_i gR (en_t pk + 4) (en_n gM pk k) := by
                rw [z11 _ _ (by cases pk <;> decide) (fun y => ?_)]
                · exact r1 _ _ (by cases pk <;> decide)
                · have hpp : pk = pc' := by
                    have := y.1
                    cases pk <;> cases pc' <;> first | rfl | exact absurd this (by decide)
                  subst hpp
                  rcases Nat.lt_trichotomy k j with w | w | w
                  · have := en_lt hpk w; omega
                  · exact q w
                  · have := en_lt hpc w; omega
              rw [e859]
              refine ⟨fun ⟨d, u1, u2⟩ => hko.1 ?_, fun w => hko.2 fun d hd => ?_⟩
              · by_cases w : d = F
                · rw [w, e950F] at u2
                  exact absurd ((nI_eq (by omega) (by omega)).mp u2).symm q
                · exact ⟨d, by omega, (e950 d (by omega)).symm.trans u2⟩
              · rw [← e950 d hd]; exact w d (by omega)
        have hmc : mc_n g2 15 = mc_n gM 15 := by unfold mc_n; rw [cc 943 15 (by omega)]
        have hmu : mu_n g2 (rf_h gR' X.2.2.2.2.1 (nx_p p rs) (sl_l (am_i gM 989) sM z :: nx_r rs)) < mu_n gM i := by
          have h14 : mc_n g2 14 = mt + z := by unfold mc_n; rw [(t3.1 943 14 rfl).1, m3, nI_clamp (by omega)]
          have h14' : mc_n gM 14 = mt := by unfold mc_n; rw [v7, nI_clamp (by omega)]
          have h15 : mc_n gM 15 = lim := by unfold mc_n; rw [v11, nI_clamp (by omega)]
          rw [mu_fs S, mu_fs t2, hmc, h14, h14', h15]
          show 3 * (_ + ((sl_l (am_i gM 989) sM z).length + rl_n (nx_r rs)) + _) + ((nx_r rs).length + 1) < _
          rw [sl_len]
          omega
        have hbi : bi_ok X.1 X.2.1 X.2.2.1 X.2.2.2.1 gR' g2 := by
          refine bi_fx B fR fM (fun o k q => by have := eR_c.mp q; omega) (fun o k q => ?_)
          unfold os_S at q
          rw [Bool.or_eq_true, Bool.or_eq_true] at q
          rcases q with q | q | q
          · exact zM_h (hS o k q)
          · have := eM_c.mp q
            exact ⟨sb_f fun w => by have := mx_c.mp w; omega, by omega⟩
          · exact zM_h (ct_z o k (tk_in q))
        have hmv : ∀ res, mi_ok X.2.2.2.2.2 (rf_h gR' X.2.2.2.2.1 (nx_p p rs) (sl_l (am_i gM 989) sM z :: nx_r rs)) g2 res → mi_ok X.2.2.2.2.2 i gM res := fun res hres => by
          refine mi_d hi a1 (hs.trans y1) (((m0.1 943 29 rfl).1).trans h29) ?_ (t1 res hres)
          have q1 := mm_mf M'.1 hN (by have := a4; omega) K'
          have q2 := mm_mf S.2.1.1 hN (by have := a4; omega) a2
          have h14 : mc_n g1 14 = mt + z := by unfold mc_n; rw [m3, nI_clamp (by omega)]
          have h14' : mc_n gM 14 = mt := by unfold mc_n; rw [v7, nI_clamp (by omega)]
          have h15 : mc_n gM 15 = lim := by unfold mc_n; rw [v11, nI_clamp (by omega)]
          have h15' : mc_n g1 15 = lim := by unfold mc_n; rw [(m0.1 943 15 rfl).1, mX 943 15 rfl, v11, nI_clamp (by omega)]
          rw [q1, q2, h14, h14', h15, h15']
          show 3 * (_ + ((sl_l (am_i gM 989) sM z).length + rl_n (nx_r rs)) + _) + ((nx_r rs).length + 1) ≤ _
          rw [sl_len]
          omega
        refine ⟨_, rfl, _, g2, hmv, ⟨hbi, ⟨_, _, t2⟩, ⟨n1, P', W', V'⟩, ((t3.1 943 26 rfl).1).trans m5⟩, fR, fM, fx_tr (fx_w2 m0 fun _ _ => os_l) (fx_w2 t3 fun _ _ => os_r), n2, hmu, ?_, F, v1, by omega, ((t3.1 943 9 rfl).1).trans m1, ((t3.1 948 F rfl).1).trans m8, ?_, fun d hd => ⟨?_, ?_⟩, ((t3.1 943 43 rfl).1).trans m6, v2, z3, fun hF0 => ?_⟩
        · unfold bn_ok bn_d
          rw [z3, nI_clamp (by omega), if_neg (by omega)]
          exact ⟨en_t pc', en_n gM pc' j, 0, sR, z6, z7, by omega, z8, by omega, (rE (en_t pc' + 2) _ (eR_f (by cases pc' <;> (simp only [en_t, cond_false, cond_true]; omega)))).trans d3, by omega, Or.inl rfl⟩
        · rw [(t3.1 949 F rfl).1, m9]; exact h106
        · rw [(t3.1 948 d rfl).1, (m10 d hd).2.1]; exact mX 948 d rfl
        · rw [(t3.1 949 d rfl).1, (m10 d hd).2.2]; exact mX 949 d rfl
        · rw [z5, if_neg (by omega)]; exact r1 39 5 (by decide)
      · rw [if_neg (nI_ge (by omega) (by omega))]
        exact thr gX 14 (hs.trans (cB (by omega) (by omega)))
end
