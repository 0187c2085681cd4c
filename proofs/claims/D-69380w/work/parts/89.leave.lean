/-! Both leave an entity. -/
theorem mi_l {n : Int32} {g g' : am_G} {res : Int32 × am_G} (h9 : 0 < am_i g 943 9) (e : fm_103 g = some (0, g')) (hm : mm_n g' < mm_n g) (h : mr_ok n g' res) : mi_ok n (-1) g res := by
  unfold mi_ok
  rw [if_pos rfl, if_pos h9]
  intro k hk
  rw [e, lo_is]
  exact h k (by omega)
/-- what M changes when it leaves an entity -/
def lM_Z (o k : Nat) : Bool := Nat.beq o 943 && (Nat.beq k 5 || (Nat.beq k 8 || (Nat.beq k 9 || (Nat.beq k 29 || (Nat.beq k 30 || Nat.beq k 43)))))
def lR_Z (o k : Nat) : Bool := Nat.beq o 859 || (Nat.beq o 865 || (Nat.beq o 39 && Nat.beq k 4))
theorem lM_c {o k : Nat} : lM_Z o k = true ↔ (o = 943 ∧ (k = 5 ∨ k = 8 ∨ k = 9 ∨ k = 29 ∨ k = 30 ∨ k = 43)) := by
  unfold lM_Z
  simp only [Bool.or_eq_true, Bool.and_eq_true, Nat.beq_eq]
theorem lR_c {o k : Nat} : lR_Z o k = true ↔ (o = 859 ∨ o = 865 ∨ (o = 39 ∧ k = 4)) := by
  unfold lR_Z
  simp only [Bool.or_eq_true, Bool.and_eq_true, Nat.beq_eq]
theorem lM_f {o k : Nat} (h : ¬ (o = 943 ∧ (k = 5 ∨ k = 8 ∨ k = 9 ∨ k = 29 ∨ k = 30 ∨ k = 43))) : lM_Z o k = false := sb_f fun q => h (lM_c.mp q)
theorem lR_f {o k : Nat} (h : ¬ (o = 859 ∨ o = 865 ∨ (o = 39 ∧ k = 4))) : lR_Z o k = false := sb_f fun q => h (lR_c.mp q)
section
variable {X : cx_T} {gR gM : am_G} {s : Int32}
/-- the end of an entity's text, where it may end -/
def lv_k (gM : am_G) (F : Nat) (s : Int32) : Prop := (am_i gM 948 (F - 1) = 0 ∧ s = 50 ∧ am_i gM 943 106 = am_i gM 949 (F - 1)) ∨ (am_i gM 948 (F - 1) = 1 ∧ s = 58) ∨ (am_i gM 948 (F - 1) = 2 ∧ s = 45)
theorem sy_lv {F : Nat} (h : sy_ok X gR gM (-1) s) (hF : am_i gM 943 9 = nI F) (hF0 : 0 < F) (hF2 : F ≤ 16) (hk : lv_k gM F s) :
    ∃ gR' i' gM', fm_180 gR = some gR' ∧ mv_ok X (-1) gM i' gM' ∧ sy_ok X gR' gM' i' s ∧ fx_i lR_Z gR gR' ∧ fx_i lM_Z gM gM' ∧ (∀ a b, nq_ok gR gM a b → nq_ok gR' gM' a b) ∧ mu_n gM' i' < mu_n gM (-1) ∧ am_i gM' 943 9 = nI (F - 1) ∧ am_i gR' 39 4 = nI (F - 1) ∧ am_i gM' 943 43 = 0 := by
  obtain ⟨B, ⟨p, rs, S⟩, ⟨w1, w2, w3, w4⟩, h26⟩ := h
  obtain ⟨F', En, mt, lim, v1, v2, v3, v4, v5, v6, v7, v8, v9, v10, v11, v12, v13, v14⟩ := w4
  have eF : F' = F := sz_u v1 hF (by omega) (by omega)
  subst eF
  obtain ⟨s1, s2, s3, s4, s5, s6, s7⟩ := S
  have S0 : fs_ok gR gM X.2.2.2.2.1 X.2.2.2.2.2 p rs (-1) := ⟨s1, s2, s3, s4, s5, s6, s7⟩
  have hN := s1.1
  have hl : rs.length = F' := sz_u s3.1 v2 (by have := s3.2.1; omega) (by omega)
  cases rs with
  | nil => exact absurd hl (by show ¬ 0 = F'; omega)
  | cons r rest =>
    cases r with
    | cons c r =>
      have e : (-1 : Int32) = c := s6
      obtain ⟨⟨t, e', a, st, z, h1, h2, h3, h4, h5, h6, h7, h8, h9, h10, h11⟩, _⟩ := s3.2.2.2
      exact absurd e.symm (ch_n (h11 c (List.mem_cons_self))).1
    | nil =>
      have hl : rest.length + 1 = F' := hl
      have K : mf_ok gM p ([] :: rest) := s7
      obtain ⟨k5, k9, k8, kl, kr⟩ := K
      have hrl : (rw_l ([] :: rest)).length = (rw_l rest).length + 1 := by show (rw_l rest ++ [-1]).length = _; rw [List.length_append]; rfl
      -- M
      have hM : fm_103 gM = some (0, am_si (am_si (am_si gM 943 9 (nI (F' - 1))) 943 8 (nI (rw_l rest).length)) 943 43 0) := by
        have e104 : fj_103_104 gM 1 = some (0, am_si (am_si (am_si gM 943 9 (nI (F' - 1))) 943 8 (nI (rw_l rest).length)) 943 43 0) := by
          unfold fj_103_104
          rw [if_neg (by decide), hF, k8, hrl, show F' = (F' - 1) + 1 by omega, nI_pred, nI_pred]
          rfl
        unfold fm_103
        have hs5 : am_i gM 943 26 ≠ 5 := by rw [h26]; rcases hk with z | z | z <;> simp only [z.2] <;> decide
        rw [if_neg hs5]
        unfold fj_103_17
        rw [hF, show nI F' - 1 = nI (F' - 1) by rw [show F' = (F' - 1) + 1 by omega, nI_pred]; rfl, lo_ll, ai_nI (by omega) (by omega), lo_gt, nI_clamp (by omega), h26]
        rcases hk with ⟨z1, z2, z3⟩ | ⟨z1, z2⟩ | ⟨z1, z2⟩
        · rw [z1, if_pos rfl, z2, if_pos rfl, if_pos z3]; exact e104
        · rw [z1, if_neg (by decide), if_pos rfl, z2, if_pos rfl]; exact e104
        · rw [z1, if_neg (by decide), if_neg (by decide), z2, if_pos rfl]; exact e104
      generalize hg1 : am_si (am_si (am_si gM 943 9 (nI (F' - 1))) 943 8 (nI (rw_l rest).length)) 943 43 0 = g1 at hM
      have f1 : fx_i lM_Z gM g1 := by rw [← hg1]; exact fx_tr (fx_tr (fx_si rfl) (fx_si rfl)) (fx_si rfl)
      have g19 : am_i g1 943 9 = nI (F' - 1) := by rw [← hg1]; rfl
      have g18 : am_i g1 943 8 = nI (rw_l rest).length := by rw [← hg1]; rfl
      have g143 : am_i g1 943 43 = 0 := by rw [← hg1]; rfl
      have c1 : ∀ o k, lM_Z o k = false → am_i g1 o k = am_i gM o k := fun o k q => (f1.1 o k q).1
      have g147 : ∀ k, am_i g1 947 k = am_i gM 947 k := fun k => c1 947 k rfl
      have g15 : am_i g1 943 5 = am_i gM 943 5 := by rw [← hg1]; rfl
      -- R
      obtain ⟨j, pc, hj, b1, b2, b3, b4⟩ := v12 (F' - 1) (by omega)
      rw [show F' - 1 + 1 = F' by omega] at b3 b4
      have hle := en_le gM pc j
      obtain ⟨k1, k2, k3, k4, k5', k6⟩ := en_tk pc
      obtain ⟨q1, q2, q3, q4, q5⟩ := en_ti pc (e := en_n gM pc j) (by omega)
      have ht4 : en_t pc + 4 = 859 ∨ en_t pc + 4 = 865 := by cases pc <;> decide
      have hR : fm_180 gR = some (am_si (am_si gR (en_t pc + 4) (en_n gM pc j) 0) 39 4 (nI (F' - 1))) := by
        unfold fm_180
        have e4 : am_i (am_si gR (en_t pc + 4) (en_n gM pc j) 0) 39 4 = nI F' := by rw [gi_si, if_neg (by omega)]; exact v2
        rw [v2, ai_nI (by omega) (by omega), lo_gt, nI_clamp (by omega), b3, lo_ms, k1, lo_gt, k5', lo_ms, b4, q5, lo_gt, nI_clamp (by omega), e4, show F' = (F' - 1) + 1 by omega, nI_pred]
        rfl
      generalize hgR : am_si (am_si gR (en_t pc + 4) (en_n gM pc j) 0) 39 4 (nI (F' - 1)) = gR' at hR
      have fR : fx_i lR_Z gR gR' := by
        rw [← hgR]
        refine fx_tr (fx_si (lR_c.mpr (by omega)) (by cases pc <;> rfl)) (fx_si rfl)
      have r1 : ∀ o k, lR_Z o k = false → am_i gR' o k = am_i gR o k := fun o k q => (fR.1 o k q).1
      have r394 : am_i gR' 39 4 = nI (F' - 1) := by rw [← hgR]; rfl
      have r42 : ∀ d, am_i gR' 42 d = am_i gR 42 d := fun d => r1 42 d rfl
      have rop : ∀ o k, (o = 859 ∨ o = 865) → am_i gR' o k = if o = en_t pc + 4 ∧ k = en_n gM pc j then 0 else am_i gR o k := fun o k ho => by
        rw [← hgR, gi_si, if_neg (by omega), gi_si]
      have T' : tx_r gR' X.2.2.2.2.1 X.2.2.2.2.2 := ⟨hN, (r1 35 3 rfl).trans s1.2.1, (r1 38 _ rfl).trans s1.2.2.1, fun k hk => by rw [r1 37 k rfl]; exact s1.2.2.2.1 k hk, pl_cg s1.2.2.2.2 (fun k => r1 37 k rfl) (fun k => r1 38 k rfl)⟩
      have M' : tx_m gR' g1 X.2.2.2.2.1 := ⟨(c1 943 4 rfl).trans s2.1, fun k hk => ⟨by rw [c1 945 k rfl, r1 37 k rfl]; exact (s2.2 k hk).1, by rw [c1 946 k rfl, r1 38 k rfl]; exact (s2.2 k hk).2⟩⟩
      have F'' : rf_ok gR' p rest := by
        refine ⟨by rw [r394]; congr 1; omega, by omega, (r42 0).trans s3.2.2.1, ?_⟩
        exact rf_l2 (g := gR) (fun o k o1 o2 o3 o4 => r1 o k (lR_f (by omega))) rest (fun d _ _ => ⟨(fR.1 40 d rfl).2.2, r1 41 d rfl, r42 d⟩) s3.2.2.2.2
      have K' : mf_ok g1 p rest := by
        refine ⟨g15.trans k5, by rw [g19]; congr 1; omega, g18, by omega, fun x y hx => ?_⟩
        rw [g147]
        refine kr x y ?_
        show (rw_l rest ++ [-1])[x]? = some y
        rw [List.getElem?_append_left (List.getElem?_eq_some_iff.mp hx).1]
        exact hx
      obtain ⟨g2, t1, t2, t3⟩ := fs_tk T' M' F'' s4 (fun z => by
        rw [c1 943 13 rfl, r1 39 5 rfl]
        exact s5 (List.cons_ne_nil _ _)) K'
      have tkf : ∀ {o k}, ¬ (o = 943 ∧ (k = 5 ∨ k = 8 ∨ k = 29 ∨ k = 30)) → tk_S o k = false := fun {o k} q => sb_f fun w => by
        unfold tk_S at w
        simp only [Bool.and_eq_true, Bool.or_eq_true, Nat.beq_eq] at w
        exact q w
      have fM : fx_i lM_Z gM g2 := fx_tr f1 (fx_w2 t3 fun o k q => lM_c.mpr (by
        unfold tk_S at q
        simp only [Bool.and_eq_true, Bool.or_eq_true, Nat.beq_eq] at q
        omega))
      have cc : ∀ o k, lM_Z o k = false → am_i g2 o k = am_i gM o k := fun o k q => (fM.1 o k q).1
      obtain ⟨n1, n2, n3⟩ := nm_cg (gR' := gR') (gM' := g2) w1 (fun k hk => r1 43 k (lR_f (by omega))) (fun u k _ _ _ => r1 44 k rfl) (fun o k o1 o2 => r1 o k (lR_f (by omega))) (fun k hk => cc 943 k (lM_f (by omega))) (fun u k _ _ _ => cc 951 k rfl) (fun o k o1 o2 => cc o k (lM_f (by omega)))
      have P' : po_w gR' g2 := po_cg w2 s1.2.2.2.2 (fun k => r1 37 k rfl) (fun k => r1 38 k rfl) s3.2.2.1 ((r42 0).trans s3.2.2.1) (Nat.le_refl _) s4 hN (cc 943 21 rfl) (cc 943 95 rfl) (cc 943 101 rfl) n3 (fun _ _ _ k _ => en_xc (fun o k o1 o2 => cc o k (lM_f (by omega))) k)
      have W' : en_w gR' g2 := by
        refine en_cg n2 (fun o k q => fR.1 o k (lR_f ?_)) (fun o k q => fM.1 o k (lM_f ?_)) w3
        · unfold tR_S at q
          simp only [Bool.and_eq_true, Nat.ble_eq, Bool.not_eq_true', nb_f] at q
          omega
        · unfold tM_S at q
          simp only [Bool.or_eq_true, Bool.and_eq_true, Nat.beq_eq, Nat.ble_eq] at q
          omega
      have enn : ∀ pc k, en_n g2 pc k = en_n gM pc k := fun pc k => by
        induction k with
        | zero => rfl
        | succ k ih => show en_n g2 pc k + _ = en_n gM pc k + _; rw [ih, cc 986 k rfl]
      have V' : fr_w gR' g2 := by
        refine ⟨F' - 1, En, mt, lim, ((t3.1 943 9 rfl).1).trans g19, r394, by omega, (cc 943 95 rfl).trans v4, v5, (r1 39 6 rfl).trans v6, (cc 943 14 rfl).trans v7, v8, v9, (r1 33 10 rfl).trans v10, (cc 943 15 rfl).trans v11, fun d hd => ?_, fun d d' hd hd' e => v13 d d' (by omega) (by omega) (by rw [← cc 950 d rfl, ← cc 950 d' rfl]; exact e), fun k pk hk hpk => ?_⟩
        · obtain ⟨jj, pp, u1, u2, u3, u4, u5⟩ := v12 d (by omega)
          exact ⟨jj, pp, u1, (cc 950 d rfl).trans u2, (cc 986 jj rfl).trans u3, ((fR.1 40 (d + 1) rfl).2.2).trans u4, by rw [enn, r1 41 _ rfl]; exact u5⟩
        · rw [cc 986 k rfl] at hpk
          rw [enn, rop _ _ (by cases pk <;> decide)]
          have hko := v14 k pk hk hpk
          by_cases q : k = j
          · subst q
            have : pk = pc := by rw [b2] at hpk; cases pk <;> cases pc <;> first | rfl | exact absurd hpk (by decide)
            subst this
            rw [if_pos ⟨rfl, rfl⟩]
            refine ⟨fun ⟨d, u1, u2⟩ => ?_, fun _ => rfl⟩
            rw [cc 950 d rfl] at u2
            have := v13 d (F' - 1) (by omega) (by omega) (u2.trans b1.symm)
            omega
          · rw [if_neg (fun y => ?_)]
            · refine ⟨fun ⟨d, u1, u2⟩ => hko.1 ⟨d, by omega, (cc 950 d rfl).symm.trans u2⟩, fun w => hko.2 fun d hd u2 => ?_⟩
              by_cases z : d = F' - 1
              · rw [z, b1] at u2
                exact q ((nI_eq (by omega) (by omega)).mp u2).symm
              · exact w d (by omega) ((cc 950 d rfl).trans u2)
            · have hpp : pk = pc := by
                have := y.1
                cases pk <;> cases pc <;> first | rfl | exact absurd this (by decide)
              subst hpp
              rcases Nat.lt_trichotomy k j with w | w | w
              · have := en_lt hpk w; omega
              · exact q w
              · have := en_lt b2 w; omega
      have h15 : mc_n g2 15 = mc_n gM 15 := by unfold mc_n; rw [cc 943 15 rfl]
      have h14 : mc_n g2 14 = mc_n gM 14 := by unfold mc_n; rw [cc 943 14 rfl]
      refine ⟨gR', _, g2, hR, fun res hres => mi_l (by rw [hF]; exact nI_lt (a := 0) hF0 (by omega)) hM ?_ (t1 res hres), ⟨?_, ⟨_, _, t2⟩, ⟨n1, P', W', V'⟩, (cc 943 26 rfl).trans h26⟩, fR, fM, n2, ?_, ((t3.1 943 9 rfl).1).trans g19, r394, ((t3.1 943 43 rfl).1).trans g143⟩
      · have y1 := mm_mf M'.1 hN (by omega) K'
        have y2 := mm_mf s2.1 hN (by omega) (show mf_ok gM p ([] :: rest) from s7)
        have z15 : mc_n g1 15 = mc_n gM 15 := by unfold mc_n; rw [c1 943 15 rfl]
        have z14 : mc_n g1 14 = mc_n gM 14 := by unfold mc_n; rw [c1 943 14 rfl]
        rw [y1, y2, z15, z14]
        show 3 * (_ + rl_n rest + _) + rest.length < 3 * (_ + (0 + rl_n rest) + _) + (rest.length + 1)
        omega
      · exact bi_fx B fR fM (fun o k q => by have := lR_c.mp q; omega) (fun o k q => by have := lM_c.mp q; exact ⟨sb_f fun w => by have := mx_c.mp w; omega, by omega⟩)
      · rw [mu_fs S0, mu_fs t2, h15, h14]
        show 3 * (_ + rl_n rest + _) + rest.length < 3 * (_ + (0 + rl_n rest) + _) + (rest.length + 1)
        omega
end
