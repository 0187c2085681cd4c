/-! Words: R's letters one by one, M's state 6. -/
noncomputable def rw_1 : List Int32 → am_G → Option ((Unit ⊕ Nat) × am_G)
  | [], g => some (.inl (), g)
  | c :: cs, g => lo_t (fm_244 g c) fun _ g' => rw_1 cs g'
def wb_b (L : Int64) (j : Nat) : Int32 := ((L.toUInt64 >>> ((8 * nI j).toInt64.toUInt64 &&& Int64.toUInt64 63)).toInt64).toInt32 &&& 255
def wb_l (L : Int64) : Nat → List Int32
  | 0 => []
  | j + 1 => if wb_b L j ≤ 0 then wb_l L j else wb_b L j :: wb_l L j
theorem wb_lp (L : Int64) : ∀ (j fuel : Nat) (g : am_G), j < 9 → j < fuel → lo_it (fun k (x : am_G × Int64 × Int32) => fb_245_3 k x.1 x.2.1 x.2.2) fuel (g, L, nI j - 1) = rw_1 (wb_l L j) g
  | 0, fuel, g, _, hf => by
    obtain ⟨m, rfl⟩ : ∃ m, fuel = m + 1 := ⟨fuel - 1, by omega⟩
    show fb_245_3 _ _ _ _ = _
    unfold fb_245_3
    rw [if_pos (show nI 0 - 1 < 0 by decide)]
    rfl
  | j + 1, fuel, g, h9, hf => by
    obtain ⟨m, rfl⟩ : ∃ m, fuel = m + 1 := ⟨fuel - 1, by omega⟩
    show fb_245_3 _ _ _ _ = _
    unfold fb_245_3
    dsimp only
    rw [nI_pred, if_neg (nI_pos (by omega)), lo_ll]
    have e : nI j + -1 = nI j - 1 := by rw [← Int32.sub_eq_add_neg]
    show (if wb_b L j ≤ 0 then _ else lo_t (fm_244 g (wb_b L j)) _) = _
    show _ = rw_1 (if wb_b L j ≤ 0 then wb_l L j else wb_b L j :: wb_l L j) g
    by_cases q : wb_b L j ≤ 0
    · rw [if_pos q, if_pos q, e]
      exact wb_lp L j m g (by omega) (by omega)
    · rw [if_neg q, if_neg q]
      show _ = lo_t (fm_244 g (wb_b L j)) fun _ g' => rw_1 (wb_l L j) g'
      congr 1
      funext _ g3
      rw [e]
      exact wb_lp L j m g3 (by omega) (by omega)
theorem cm_245 (g : am_G) (L : Int64) : fm_245 g L = rw_1 (wb_l L 8) g :=
  wb_lp L 8 nf_F g (by decide) (Nat.lt_of_lt_of_le (by decide) nf_le)
/-- the letter that M waits for -/
def mw_d (W : Int64) (sz : Nat) (u : Int32) (a : Nat) : Int32 := (if u = 0 then 96 else 64) + (((W >>> ((5 * ((nI sz - 1) - nI a)).toInt64 &&& 63)) &&& 31)).toInt32
def mw_l (W : Int64) (sz : Nat) (u : Int32) : Nat → List Int32
  | 0 => []
  | m + 1 => mw_d W sz u (sz - 1 - m) :: mw_l W sz u m
/-- M reads a word; these letters are still to come -/
def mw_ok (g : am_G) (W : Int64) (sz : Nat) (u : Int32) (m : Nat) (to : Int32) : Prop := am_i g 943 26 = 6 ∧ am_i g 943 35 = to ∧ am_j g 943 31 = W ∧ am_i g 943 32 = nI sz ∧ am_i g 943 34 = u ∧ sz ≤ 12 ∧ m < sz ∧ am_i g 943 33 = nI (sz - 1 - m)
theorem mw_s {g : am_G} {W : Int64} {sz m : Nat} {u to c : Int32} (K : mw_ok g W sz u m to) : fm_133 g c = if c = mw_d W sz u (sz - 1 - m) then (if m = 0 then (if to = 7 then fm_21 (am_si g 943 33 (nI sz)) 10 (am_i g 943 36) else some (0, am_si (am_si g 943 33 (nI sz)) 943 26 to))
    else some (0, am_si g 943 33 (nI (sz - m)))) else fm_23 g := by
  obtain ⟨k1, k2, k3, k4, k5, k6, k7, k8⟩ := K
  rw [ms_6 k1, k2, k3, k4, k5, k8, nI_1]
  have key : ∀ x : Int32, (if c = x then if nI sz ≤ nI (sz - 1 - m + 1) then if to = 7 then fm_21 (am_si g 943 33 (nI (sz - 1 - m + 1))) 10 (am_i g 943 36) else some (0, am_si (am_si g 943 33 (nI (sz - 1 - m + 1))) 943 26 to) else some (0, am_si g 943 33 (nI (sz - 1 - m + 1))) else fm_23 g) =
      (if c = x then (if m = 0 then (if to = 7 then fm_21 (am_si g 943 33 (nI sz)) 10 (am_i g 943 36) else some (0, am_si (am_si g 943 33 (nI sz)) 943 26 to)) else some (0, am_si g 943 33 (nI (sz - m)))) else fm_23 g) := by
    intro x
    by_cases q : m = 0
    · rw [if_pos (show nI sz ≤ nI (sz - 1 - m + 1) from nI_le (by omega) (by omega)), if_pos q, show sz - 1 - m + 1 = sz by omega]
    · rw [if_neg (show ¬ nI sz ≤ nI (sz - 1 - m + 1) from nI_ge (by omega) (by omega)), if_neg q, show sz - 1 - m + 1 = sz - m by omega]
  unfold mw_d
  by_cases hu : u = 0
  · rw [if_pos hu, if_pos hu, lo_ll]; exact key _
  · rw [if_neg hu, if_neg hu, lo_ll]; exact key _
section
variable {Z U : Nat} {G H : am_G} {N : Nat} {n : Int32}
/-- some letters of a word, of which more may follow -/
theorem wd_ok {W : Int64} {sz : Nat} {u to : Int32} (hto : to ≠ 7) : ∀ (cs : List Int32) (m : Nat) {gR gM : am_G} {p : Nat} {rs : List (List Int32)} {i : Int32} (ds : List Int32), bi_ok Z U G H gR gM → fs_ok gR gM N n p rs i → mw_ok gM W sz u m to → mw_l W sz u (m + 1) = cs ++ ds → cs ≠ [] → (∀ c ∈ cs, c ≠ -1) →
    si_ok n (ft_ok Z U G H) (rw_1 cs gR) i gM fun _ gR' i' gM' => ∃ p' rs', fs_ok gR' gM' N n p' rs' i' ∧ fx_i ps_S gR gR' ∧ fx_i ct_S gM gM' ∧ (if ds = [] then am_i gM' 943 26 = to else ∃ m', mw_ok gM' W sz u m' to ∧ mw_l W sz u (m' + 1) = ds)
  | [], _, _, _, _, _, _, _, _, _, _, _, h, _ => absurd rfl h
  | c :: cs, m, gR, gM, p, rs, i, ds, B, S, K, hl, _, hcs => by
    have hd : mw_d W sz u (sz - 1 - m) = c := (List.cons.inj hl).1
    have htl : mw_l W sz u m = cs ++ ds := (List.cons.inj hl).2
    have K0 : mw_ok (am_si gM 943 29 0) W sz u m to := K
    have hw : i ≠ c → i ≠ -1 → ∃ g', fm_133 (am_si gM 943 29 0) i = fm_23 g' ∧ ag_3 wr_S gM g' ∧ g'.2.2.2 = gM.2.2.2 := fun q _ => ⟨am_si gM 943 29 0, by rw [mw_s K0, hd, if_neg q], ag_si rfl ag_re, rfl⟩
    have hst : i = -1 → st_in (am_i gM 943 26) := fun _ => by rw [K.1]; unfold st_in; decide
    show si_ok n (ft_ok Z U G H) (lo_t (fm_244 gR c) fun _ g' => rw_1 cs g') i gM _
    have hm := K.2.2.2.2.2.2.1
    have hsz := K.2.2.2.2.2.1
    by_cases q : m = 0
    · subst q
      have e0 : cs = [] ∧ ds = [] := by
        have : cs ++ ds = [] := htl.symm
        exact List.append_eq_nil_iff.mp this
      obtain ⟨rfl, rfl⟩ := e0
      refine si_bd (on_ok (A := fun g => am_si (am_si g 943 33 (nI sz)) 943 26 to) B S (fun _ => by rw [mw_s K0, hd, if_pos rfl, if_pos rfl, if_neg hto]) rfl (ag_si rfl (ag_si rfl (ag_si rfl ag_re))) hst (hcs c (List.mem_cons_self)) hw) ?_
      rintro _ gR' i' gM' ⟨_, p', rs', h1, h2, h3⟩
      refine si_rt ⟨p', rs', h1, h2, fx_tr (fx_tr (fx_tr (fx_si rfl) (fx_si rfl)) (fx_si rfl)) (tk_ct h3), ?_⟩
      rw [if_pos rfl]
      exact ((h3.1 943 26 rfl).1).trans rfl
    · refine si_bd (on_ok (A := fun g => am_si g 943 33 (nI (sz - m))) B S (fun _ => by rw [mw_s K0, hd, if_pos rfl, if_neg q]) rfl (ag_si rfl (ag_si rfl ag_re)) hst (hcs c (List.mem_cons_self)) hw) ?_
      rintro _ gR' i' gM' ⟨_, p', rs', h1, h2, h3⟩
      have f3 : fx_i ct_S gM gM' := fx_tr (fx_tr (fx_si rfl) (fx_si rfl)) (tk_ct h3)
      have K' : mw_ok gM' W sz u (m - 1) to := ⟨((h3.1 943 26 rfl).1).trans K.1, ((h3.1 943 35 rfl).1).trans K.2.1, ((h3.1 943 31 rfl).2.1).trans K.2.2.1, ((h3.1 943 32 rfl).1).trans K.2.2.2.1, ((h3.1 943 34 rfl).1).trans K.2.2.2.2.1, hsz, by omega, by
        rw [(h3.1 943 33 rfl).1, gi_si, if_pos ⟨rfl, rfl⟩]
        congr 1
        omega⟩
      have htl' : mw_l W sz u (m - 1 + 1) = cs ++ ds := by rw [show m - 1 + 1 = m by omega]; exact htl
      cases cs with
      | nil =>
        refine si_rt ⟨p', rs', h1, h2, f3, ?_⟩
        have hne : ds ≠ [] := by
          intro e
          rw [e] at htl'
          cases htl'
        rw [if_neg hne]
        exact ⟨m - 1, K', htl'⟩
      | cons c2 cs =>
        refine si_wk (wd_ok hto (c2 :: cs) (m - 1) ds (bi_ct B h2 f3) h1 K' htl' (List.cons_ne_nil _ _) (fun x hx => hcs x (List.mem_cons_of_mem _ hx))) ?_
        rintro _ gR2 i2 gM2 ⟨p2, rs2, g1, g2, g3, g4⟩
        exact ⟨p2, rs2, g1, fx_tr h2 g2, fx_tr f3 g3, g4⟩
/-- M begins a word with the character in hand -/
theorem mw_b {g : am_G} {W : Int64} {sz : Nat} {u to : Int32} (hu : u = 0 ∨ u = 1) (h1 : 0 < sz) (h2 : sz ≤ 12) : ∃ g', fm_34 g W (nI sz) u to = some (0, g') ∧ mw_ok g' W sz u (sz - 1) to ∧ fx_i ct_S g g' ∧ am_i g' 943 29 = 1 ∧ am_i g' 943 36 = am_i g 943 30 ∧ ag_3 fd_S g g' ∧ am_i g' 943 30 = am_i g 943 30 := by
  refine ⟨am_si (am_si (am_si (am_si (am_si (am_si (am_si (am_sj g 943 31 W) 943 32 (nI sz)) 943 33 0) 943 34 u) 943 35 to) 943 36 (am_i g 943 30)) 943 29 1) 943 26 6, ?_, ?_, ?_, ?_, ?_, ?_, ?_⟩
  · unfold fm_34
    rw [cm_26, lo_is, show (decide (u = 0) || decide (u = 1)) = true by rcases hu with rfl | rfl <;> rfl, lo_gt]
  · exact ⟨rfl, rfl, rfl, rfl, rfl, h2, by omega, by rw [show sz - 1 - (sz - 1) = 0 by omega]; rfl⟩
  · exact fx_tr (fx_tr (fx_tr (fx_tr (fx_tr (fx_tr (fx_tr (fx_sj rfl) (fx_si rfl)) (fx_si rfl)) (fx_si rfl)) (fx_si rfl)) (fx_si rfl)) (fx_si rfl)) (fx_si rfl)
  · rfl
  · rfl
  · exact ag_si rfl (ag_si rfl (ag_si rfl (ag_si rfl (ag_si rfl (ag_si rfl (ag_si rfl (ag_sj rfl ag_re)))))))
  · rfl
end
