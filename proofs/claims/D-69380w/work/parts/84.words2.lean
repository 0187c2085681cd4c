/-! Words, quotes, identifiers, notations over the core. -/
section
variable {Z U : Nat} {G H : am_G} {N : Nat} {n : Int32}
/-- some letters of a word, of which more may follow -/
theorem wd_x {W : Int64} {sz : Nat} {u to : Int32} : ∀ (cs : List Int32) (m : Nat) {gR gM : am_G} {p : Nat} {rs : List (List Int32)} {i : Int32} (ds : List Int32), (ds = [] → to ≠ 7) → bi_ok Z U G H gR gM → fs_ok gR gM N n p rs i → mw_ok gM W sz u m to → mw_l W sz u (m + 1) = cs ++ ds → cs ≠ [] → (∀ c ∈ cs, c ≠ -1) →
    si_ok n (ft_ok Z U G H) (rw_1 cs gR) i gM fun _ gR' i' gM' => ∃ p' rs', fs_ok gR' gM' N n p' rs' i' ∧ fx_i ps_S gR gR' ∧ fx_i ct_S gM gM' ∧ (if ds = [] then am_i gM' 943 26 = to else ∃ m', mw_ok gM' W sz u m' to ∧ mw_l W sz u (m' + 1) = ds) ∧ am_i gM' 943 36 = am_i gM 943 36
  | [], _, _, _, _, _, _, _, _, _, _, _, _, h, _ => absurd rfl h
  | c :: cs, m, gR, gM, p, rs, i, ds, hto, B, S, K, hl, _, hcs => by
    have hd : mw_d W sz u (sz - 1 - m) = c := (List.cons.inj hl).1
    have htl : mw_l W sz u m = cs ++ ds := (List.cons.inj hl).2
    have K0 : mw_ok (am_si gM 943 29 0) W sz u m to := K
    have hw : i ≠ c → i ≠ -1 → ∃ g', fm_133 (am_si gM 943 29 0) i = fm_23 g' ∧ ag_3 wr_S gM g' ∧ g'.2.2.2 = gM.2.2.2 := fun q _ => ⟨am_si gM 943 29 0, by rw [mw_s K0, hd, if_neg q], ag_si rfl ag_re, rfl⟩
    have hst : i = -1 → st_in (am_i gM 943 26) := fun _ => by rw [K.1]; unfold st_in; decide
    show si_ok n (ft_ok Z U G H) (lo_t (fm_244 gR c) fun _ g' => rw_1 cs g') i gM _
    have hm := K.2.2.2.2.2.2.1
    have hsz := K.2.2.2.2.2.1
    by_cases q : m = 0
    · subst q
      have e0 : cs = [] ∧ ds = [] := by
        have : cs ++ ds = [] := htl.symm
        exact List.append_eq_nil_iff.mp this
      obtain ⟨rfl, rfl⟩ := e0
      refine si_bd (on_ok (A := fun g => am_si (am_si g 943 33 (nI sz)) 943 26 to) B S (fun _ => by rw [mw_s K0, hd, if_pos rfl, if_pos rfl, if_neg (hto rfl)]) rfl (ag_si rfl (ag_si rfl (ag_si rfl ag_re))) hst (hcs c (List.mem_cons_self)) hw) ?_
      rintro _ gR' i' gM' ⟨_, p', rs', h1, h2, h3⟩
      refine si_rt ⟨p', rs', h1, h2, fx_tr (fx_tr (fx_tr (fx_si rfl) (fx_si rfl)) (fx_si rfl)) (tk_ct h3), ?_, ((h3.1 943 36 rfl).1).trans rfl⟩
      rw [if_pos rfl]
      exact ((h3.1 943 26 rfl).1).trans rfl
    · refine si_bd (on_ok (A := fun g => am_si g 943 33 (nI (sz - m))) B S (fun _ => by rw [mw_s K0, hd, if_pos rfl, if_neg q]) rfl (ag_si rfl (ag_si rfl ag_re)) hst (hcs c (List.mem_cons_self)) hw) ?_
      rintro _ gR' i' gM' ⟨_, p', rs', h1, h2, h3⟩
      have f3 : fx_i ct_S gM gM' := fx_tr (fx_tr (fx_si rfl) (fx_si rfl)) (tk_ct h3)
      have K' : mw_ok gM' W sz u (m - 1) to := ⟨((h3.1 943 26 rfl).1).trans K.1, ((h3.1 943 35 rfl).1).trans K.2.1, ((h3.1 943 31 rfl).2.1).trans K.2.2.1, ((h3.1 943 32 rfl).1).trans K.2.2.2.1, ((h3.1 943 34 rfl).1).trans K.2.2.2.2.1, hsz, by omega, by
        rw [(h3.1 943 33 rfl).1, gi_si, if_pos ⟨rfl, rfl⟩]
        congr 1
        omega⟩
      have htl' : mw_l W sz u (m - 1 + 1) = cs ++ ds := by rw [show m - 1 + 1 = m by omega]; exact htl
      cases cs with
      | nil =>
        refine si_rt ⟨p', rs', h1, h2, f3, ?_, ((h3.1 943 36 rfl).1).trans rfl⟩
        have hne : ds ≠ [] := by
          intro e
          rw [e] at htl'
          cases htl'
        rw [if_neg hne]
        exact ⟨m - 1, K', htl'⟩
      | cons c2 cs =>
        refine si_wk (wd_x (c2 :: cs) (m - 1) ds hto (bi_ct B h2 f3) h1 K' htl' (List.cons_ne_nil _ _) (fun x hx => hcs x (List.mem_cons_of_mem _ hx))) ?_
        rintro _ gR2 i2 gM2 ⟨p2, rs2, g1, g2, g3, g4, g5⟩
        exact ⟨p2, rs2, g1, fx_tr h2 g2, fx_tr f3 g3, g4, g5.trans (((h3.1 943 36 rfl).1).trans rfl)⟩
/-- R reads letters; M begins a word with whatever is in hand -/
theorem ww_x {gR gM g0 : am_G} {p : Nat} {rs : List (List Int32)} {i : Int32} {W : Int64} {sz : Nat} {u to s : Int32} {cs ds : List Int32} (B : bi_ok Z U G H gR gM) (S : fs_ok gR gM N n p rs i) (h26 : am_i gM 943 26 = s) (hst : st_in s) (hr : 2 < rk_n s) (hto : ds = [] → to ≠ 7) (hu : u = 0 ∨ u = 1) (h1 : 0 < sz) (h2 : sz ≤ 12)
    (hl : mw_l W sz u sz = cs ++ ds) (hne : cs ≠ []) (hcs : ∀ c ∈ cs, c ≠ -1) (hs : i ≠ -1 → fm_133 (am_si gM 943 29 0) i = fm_34 g0 W (nI sz) u to) (hf : ag_3 fd_S gM g0) (h30 : am_i g0 943 30 = am_i gM 943 30) (hb0 : bi_ok Z U G H gR g0) :
    si_ok n (ft_ok Z U G H) (rw_1 cs gR) i gM fun _ gR' i' gM' => ∃ p' rs', fs_ok gR' gM' N n p' rs' i' ∧ fx_i ps_S gR gR' ∧ fx_i ct_S g0 gM' ∧ (if ds = [] then am_i gM' 943 26 = to else ∃ m', mw_ok gM' W sz u m' to ∧ mw_l W sz u (m' + 1) = ds) ∧ am_i gM' 943 36 = am_i gM 943 30 := by
  by_cases q : i = -1
  · cases cs with
    | nil => exact absurd rfl hne
    | cons c cs =>
      show si_ok n (ft_ok Z U G H) (lo_t (fm_244 gR c) fun _ g' => rw_1 cs g') i gM _
      refine si_bd (Q := fun _ _ _ _ => False) ?_ fun _ _ _ _ z => z.elim
      unfold fm_244
      have hc : i ≠ c := fun e => hcs c (List.mem_cons_self) (e.symm.trans q)
      rw [cm_240 S, lo_ps, decide_eq_false hc]
      exact si_bd (nd_f (Q := fun _ _ _ _ => False) B S (fun _ => h26 ▸ hst) fun w => absurd q w) fun _ _ _ _ z => z.elim
  · obtain ⟨g', e1, e2, e3, e4, e5, e6, e7⟩ := mw_b (g := g0) (W := W) (to := to) hu h1 h2
    obtain ⟨m1, S1⟩ := fs_ag S q ((hs q).trans e1) e4 (e7.trans h30) (ag_tr hf e6) (by rw [e2.1, h26]; exact hr)
    have B1 := bi_ct hb0 fx_re e3
    refine si_m m1 (si_wk (wd_x cs (sz - 1) ds hto B1 S1 e2 (by rw [show sz - 1 + 1 = sz by omega]; exact hl) hne hcs) ?_)
    rintro _ gR2 i2 gM2 ⟨p2, rs2, g1, g2, g3, g4, g5⟩
    exact ⟨p2, rs2, g1, g2, fx_tr e3 g3, g4, g5.trans (e5.trans h30)⟩
end
section
variable {X : cx_T} {gR gM gR0 gM0 : am_G} {i i0 s t : Int32}
theorem sy_26 (h : sy_ok X gR gM i s) : am_i (am_si gM 943 29 0) 943 26 = s := h.2.2.2
/-- loops -/
theorem sx_lp {α β : Type} {b : (α → Option ((β ⊕ Nat) × am_G)) → α → Option ((β ⊕ Nat) × am_G)} {Q : β → am_G → Int32 → am_G → Prop} (I : α → Int32 → am_G → Prop)
    (hs : ∀ K x i gM, I x i gM → (∀ x' i' gM', I x' i' gM' → mu_n gM' i' < mu_n gM i → sx_ok X (K x') i' gM' Q) → sx_ok X (b K x) i gM Q) : ∀ (m fuel : Nat) (x : α) (i : Int32) (gM : am_G), I x i gM → mu_n gM i ≤ m → m < fuel → sx_ok X (lo_it b fuel x) i gM Q := by
  intro m
  induction m with
  | zero =>
    intro fuel x i gM h hm hf
    obtain ⟨fu, rfl⟩ : ∃ m, fuel = m + 1 := ⟨fuel - 1, by omega⟩
    exact hs (lo_it b fu) x i gM h (fun x' i' gM' _ z => absurd z (by omega))
  | succ m ih =>
    intro fuel x i gM h hm hf
    obtain ⟨fu, rfl⟩ : ∃ m, fuel = m + 1 := ⟨fuel - 1, by omega⟩
    exact hs (lo_it b fu) x i gM h (fun x' i' gM' h' z => ih fu x' i' gM' h' (by omega) (by omega))
theorem sx_F {α β : Type} {b : (α → Option ((β ⊕ Nat) × am_G)) → α → Option ((β ⊕ Nat) × am_G)} {Q : β → am_G → Int32 → am_G → Prop} (I : α → Int32 → am_G → Prop) (hI : ∀ x i gM, I x i gM → ∃ gR s, sy_ok X gR gM i s)
    (hs : ∀ K x i gM, I x i gM → (∀ x' i' gM', I x' i' gM' → mu_n gM' i' < mu_n gM i → sx_ok X (K x') i' gM' Q) → sx_ok X (b K x) i gM Q) {x : α} (h : I x i gM) : sx_ok X (lo_it b nf_F x) i gM Q := by
  obtain ⟨gR, s, hy⟩ := hI x i gM h
  have := mu_b hy
  have := nf_le
  exact sx_lp I hs (mu_n gM i) nf_F x i gM h (Nat.le_refl _) (by omega)
/-- a character is passed, M as it stands -/
theorem sy_p0 (h : sy_ok X gR gM i s) (hi : i ≠ -1) (hs : fm_133 (am_si gM 943 29 0) i = some (0, am_si gM 943 29 0)) :
    ∃ gR' i' gM', fm_177 gR = some gR' ∧ mv_ok X i gM i' gM' ∧ sy_ok X gR' gM' i' s ∧ sf_ok ps_S ct_S gR gM i gR' gM' i' ∧ mu_n gM' i' < mu_n gM i ∧ (ch_pt i = false → bn_ok gR') := by
  obtain ⟨gR1, i1, g2, e1, e2, e3, e4, e5, e6, e7⟩ := sy_ps (SM := ct_S) h hi hs rfl (fx_si rfl) (ag_si rfl ag_re) ct_z (fun _ _ => tk_in)
  rw [sy_26 h] at e3
  exact ⟨gR1, i1, g2, e1, e2, e3, e4, e6, e7⟩
theorem sy_p1 (h : sy_ok X gR gM i s) (hi : i ≠ -1) (hs : fm_133 (am_si gM 943 29 0) i = some (0, am_si (am_si gM 943 29 0) 943 26 t)) :
    ∃ gR' i' gM', fm_177 gR = some gR' ∧ mv_ok X i gM i' gM' ∧ sy_ok X gR' gM' i' t ∧ sf_ok ps_S ct_S gR gM i gR' gM' i' ∧ mu_n gM' i' < mu_n gM i ∧ (ch_pt i = false → bn_ok gR') := by
  obtain ⟨gR1, i1, g2, e1, e2, e3, e4, e5, e6, e7⟩ := sy_ps (SM := ct_S) h hi hs rfl (fx_tr (fx_si rfl) (fx_si rfl)) (ag_si rfl (ag_si rfl ag_re)) ct_z (fun _ _ => tk_in)
  exact ⟨gR1, i1, g2, e1, e2, e3, e4, e6, e7⟩
/-- a word, or its first letters -/
theorem sy_wa {SM : Nat → Nat → Bool} {g0 : am_G} {L W : Int64} {sz : Nat} {u to : Int32} {cs ds : List Int32} (h : sy_ok X gR gM i s) (hL : wb_l L 8 = cs) (hl : mw_l W sz u sz = cs ++ ds) (hst : st_in s) (hr : 2 < rk_n s) (hto : ds = [] → to ≠ 7) (hu : u = 0 ∨ u = 1) (h1 : 0 < sz) (h2 : sz ≤ 12) (hne : cs ≠ []) (hcs : ∀ c ∈ cs, c ≠ -1)
    (hs : i ≠ -1 → fm_133 (am_si gM 943 29 0) i = fm_34 g0 W (nI sz) u to) (f0 : fx_i SM gM g0) (hS : sm_ok SM) (hct : ∀ o k, ct_S o k = true → SM o k = true) (hfd : ag_3 fd_S gM g0) (h30 : am_i g0 943 30 = am_i gM 943 30) :
    sx_ok X (fm_245 gR L) i gM fun _ gR' i' gM' => sf_ok ps_S SM gR gM i gR' gM' i' ∧ sy_ok X gR' gM' i' (if ds = [] then to else 6) ∧ (ds ≠ [] → ∃ m', mw_ok gM' W sz u m' to ∧ mw_l W sz u (m' + 1) = ds) ∧ fx_i ct_S g0 gM' := by
  have h' := h
  obtain ⟨B, ⟨p, rs, S⟩, w, h26⟩ := h
  rw [cm_245, hL]
  refine si_wk (ww_x (g0 := g0) B S h26 hst hr hto hu h1 h2 hl hne hcs hs hfd h30 (bi_z B (fx_re : fx_i ps_S gR gR) f0 ps_z hS)) ?_
  rintro _ gR' i' gM' ⟨p', rs', S', f1, f2, m1, _⟩
  have fM : fx_i SM gM gM' := fx_tr f0 (fx_w2 f2 hct)
  by_cases q : ds = []
  · rw [if_pos q] at m1
    rw [if_pos q]
    obtain ⟨c1, c2⟩ := sy_mk h' S' f1 fM ps_z hS m1
    exact ⟨c2, c1, fun z => absurd q z, f2⟩
  · rw [if_neg q] at m1
    rw [if_neg q]
    obtain ⟨m', k1, k2⟩ := m1
    obtain ⟨c1, c2⟩ := sy_mk h' S' f1 fM ps_z hS k1.1
    exact ⟨c2, c1, fun _ => ⟨m', k1, k2⟩, f2⟩
/-- the rest of a word -/
theorem sy_wb {L W : Int64} {sz m : Nat} {u to : Int32} {cs ds : List Int32} (h : sy_ok X gR gM i s) (hL : wb_l L 8 = cs) (K : mw_ok gM W sz u m to) (hl : mw_l W sz u (m + 1) = cs ++ ds) (hto : ds = [] → to ≠ 7) (hne : cs ≠ []) (hcs : ∀ c ∈ cs, c ≠ -1) :
    sx_ok X (fm_245 gR L) i gM fun _ gR' i' gM' => sf_ok ps_S ct_S gR gM i gR' gM' i' ∧ sy_ok X gR' gM' i' (if ds = [] then to else 6) ∧ (ds ≠ [] → ∃ m', mw_ok gM' W sz u m' to ∧ mw_l W sz u (m' + 1) = ds) := by
  have h' := h
  obtain ⟨B, ⟨p, rs, S⟩, w, h26⟩ := h
  rw [cm_245, hL]
  refine si_wk (wd_x cs m ds hto B S K hl hne hcs) ?_
  rintro _ gR' i' gM' ⟨p', rs', S', f1, f2, m1, _⟩
  by_cases q : ds = []
  · rw [if_pos q] at m1
    rw [if_pos q]
    obtain ⟨c1, c2⟩ := sy_mk h' S' f1 f2 ps_z ct_z m1
    exact ⟨c2, c1, fun z => absurd q z⟩
  · rw [if_neg q] at m1
    rw [if_neg q]
    obtain ⟨m', k1, k2⟩ := m1
    obtain ⟨c1, c2⟩ := sy_mk h' S' f1 f2 ps_z ct_z k1.1
    exact ⟨c2, c1, fun _ => ⟨m', k1, k2⟩⟩
/-- a whole word that M begins as it stands -/
theorem sy_w1 {L W : Int64} {sz : Nat} {u to : Int32} {cs : List Int32} (h : sy_ok X gR gM i s) (hL : wb_l L 8 = cs) (hl : mw_l W sz u sz = cs) (hst : st_in s) (hr : 2 < rk_n s) (hto : to ≠ 7) (hu : u = 0 ∨ u = 1) (h1 : 0 < sz) (h2 : sz ≤ 12) (hne : cs ≠ []) (hcs : ∀ c ∈ cs, c ≠ -1)
    (hs : i ≠ -1 → fm_133 (am_si gM 943 29 0) i = fm_34 (am_si gM 943 29 0) W (nI sz) u to) :
    sx_ok X (fm_245 gR L) i gM fun _ gR' i' gM' => sy_ok X gR' gM' i' to ∧ sf_ok ps_S ct_S gR gM i gR' gM' i' := by
  refine si_wk (sy_wa (SM := ct_S) (ds := []) h hL (hl.trans (List.append_nil _).symm) hst hr (fun _ => hto) hu h1 h2 hne hcs hs (fx_si rfl) ct_z (fun _ _ z => z) (ag_si rfl ag_re) rfl) ?_
  rintro _ gR' i' gM' ⟨a1, a2, a3, a4⟩
  rw [if_pos rfl] at a2
  exact ⟨a2, a1⟩
/-- two readings of R's are one word of M's -/
theorem sy_w2 {α : Type} {L1 L2 W : Int64} {sz : Nat} {u to : Int32} {cs ds : List Int32} {K : am_G → Option ((α ⊕ Nat) × am_G)} {Q : α → am_G → Int32 → am_G → Prop} (h : sy_ok X gR gM i s) (hL1 : wb_l L1 8 = cs) (hL2 : wb_l L2 8 = ds) (hl : mw_l W sz u sz = cs ++ ds) (hst : st_in s) (hr : 2 < rk_n s) (hto : to ≠ 7) (hu : u = 0 ∨ u = 1) (h1 : 0 < sz) (h2 : sz ≤ 12) (hne : cs ≠ []) (hcs : ∀ c ∈ cs, c ≠ -1) (hne2 : ds ≠ []) (hds : ∀ c ∈ ds, c ≠ -1)
    (hs : i ≠ -1 → fm_133 (am_si gM 943 29 0) i = fm_34 (am_si gM 943 29 0) W (nI sz) u to) (hK : ∀ gR' i' gM', sy_ok X gR' gM' i' to → sf_ok ps_S ct_S gR gM i gR' gM' i' → sx_ok X (K gR') i' gM' Q) :
    sx_ok X (lo_t (fm_245 gR L1) fun _ g2 => lo_t (fm_245 g2 L2) fun _ g4 => K g4) i gM Q := by
  refine si_bd (sy_wa (SM := ct_S) (ds := ds) h hL1 hl hst hr (fun z => absurd z hne2) hu h1 h2 hne hcs hs (fx_si rfl) ct_z (fun _ _ z => z) (ag_si rfl ag_re) rfl) ?_
  rintro _ gR' i' gM' ⟨a1, a2, a3, a4⟩
  obtain ⟨m', k1, k2⟩ := a3 hne2
  refine si_bd (sy_wb (ds := []) a2 hL2 k1 (k2.trans (List.append_nil _).symm) (fun _ => hto) hne2 hds) ?_
  rintro _ gR2 i2 gM2 ⟨b1, b2, _⟩
  rw [if_pos rfl] at b2
  exact hK gR2 i2 gM2 b2 (sf_tr a1 b1)
/-- a word whose first letter isn't there -/
theorem sy_w0 {α : Type} {L : Int64} {c : Int32} {cs : List Int32} {K : Unit → am_G → Option ((α ⊕ Nat) × am_G)} {Q : α → am_G → Int32 → am_G → Prop} (h : sy_ok X gR gM i s) (hL : wb_l L 8 = c :: cs) (hne : i ≠ c) (hst : i = -1 → st_in s) (hw : i ≠ -1 → ∃ g', fm_133 (am_si gM 943 29 0) i = fm_23 g' ∧ ag_3 wr_S gM g' ∧ g'.2.2.2 = gM.2.2.2) : sx_ok X (lo_t (fm_245 gR L) K) i gM Q := by
  refine si_bd (Q := fun _ _ _ _ => False) ?_ fun _ _ _ _ z => z.elim
  rw [cm_245, hL]
  show si_ok _ _ (lo_t (fm_244 gR c) fun _ g' => rw_1 cs g') i gM _
  refine si_bd (Q := fun _ _ _ _ => False) ?_ fun _ _ _ _ z => z.elim
  unfold fm_244
  rw [sy_is h, lo_ps, decide_eq_false hne]
  exact si_bd (sy_nd (Q := fun _ _ _ _ => False) h hst hw) fun _ _ _ _ z => z.elim
/-- a quote -/
theorem sy_qu (h : sy_ok X gR gM i s) (hbl : ch_bl i = false) (hst : st_in s)
    (hs : ∀ (g : am_G) (c : Int32), am_i g 943 26 = s → ch_bl c = false → fm_133 g c = if c = 34 then some (0, am_si (am_si g 943 38 c) 943 26 t) else if c = 39 then some (0, am_si (am_si g 943 38 c) 943 26 t) else fm_23 (am_si g 943 38 c)) :
    sx_ok X (fm_250 gR) i gM fun q gR' i' gM' => (q = 34 ∨ q = 39) ∧ am_i gM' 943 38 = q ∧ sy_ok X gR' gM' i' t ∧ sf_ok ps_S rg_S gR gM i gR' gM' i' := by
  have h' := h
  obtain ⟨B, ⟨p, rs, S⟩, w, h26⟩ := h
  refine si_wk (qu_ok B S h26 hbl hst hs) ?_
  rintro q gR' i' gM' ⟨a1, a2, p', rs', S', f1, f2, a3⟩
  obtain ⟨c1, c2⟩ := sy_mk h' S' f1 f2 ps_z rg_z a3
  exact ⟨a1, a2, c1, c2⟩
theorem ct_r {o k : Nat} (h : ct_S o k = true) : rg_S o k = true := by
  obtain ⟨rfl, q⟩ := ct_c h
  unfold rg_S
  rw [h]
  rfl
theorem sf_cr {gR' gM' : am_G} {i' : Int32} (a : sf_ok ps_S ct_S gR gM i gR' gM' i') : sf_ok ps_S rg_S gR gM i gR' gM' i' := sf_wk a (fun _ _ z => z) (fun _ _ => ct_r)
theorem qt_n {q : Int32} (h : q = 34 ∨ q = 39) : q ≠ -1 := by rcases h with e | e <;> (rw [e]; decide)
/-- a system identifier -/
theorem sy_328 (h : sy_ok X gR gM i 135) (hbl : ch_bl i = false) : sx_ok X (fm_328 gR) i gM fun _ gR' i' gM' => sy_ok X gR' gM' i' 142 ∧ sf_ok ps_S rg_S gR gM i gR' gM' i' := by
  unfold fm_328
  refine si_bd (sy_qu (t := 136) h hbl (by unfold st_in; decide) (fun g c hg hc => by rw [ms_135 hg, hc]; rfl)) ?_
  rintro q gR1 i1 g1 ⟨hq, h38, h1, f1⟩
  unfold fh_328_5
  refine sx_F (I := fun (x : am_G × Int32) j gN => sy_ok X x.1 gN j 136 ∧ x.2 = q ∧ am_i gN 943 38 = q ∧ sf_ok ps_S rg_S gR gM i x.1 gN j) (fun x j gN z => ⟨x.1, 136, z.1⟩) ?_ (x := (gR1, q)) ⟨h1, rfl, h38, f1⟩
  rintro K ⟨gA, q'⟩ j gN ⟨hA, rfl, h38, fA⟩ ih
  show sx_ok X (fb_328_5 K gA q') j gN _
  unfold fb_328_5
  rw [sy_is hA, lo_ps]
  by_cases e : j = q'
  · rw [decide_eq_true e, if_neg (by decide)]
    subst e
    obtain ⟨gR2, i2, g2, a1, a2, a3, a4, a5, a6⟩ := sy_p1 (t := 142) hA (qt_n hq) (by rw [ms_136 (sy_26 hA), show am_i (am_si gN 943 29 0) 943 38 = am_i gN 943 38 from rfl, h38, if_pos rfl])
    rw [a1, lo_ps]
    exact ⟨_, rfl, i2, g2, a2, a3, sf_tr fA (sf_cr a4)⟩
  · rw [decide_eq_false e, if_pos (by decide)]
    unfold fm_246 fj_246_17
    rw [sy_h hA, lo_ps]
    by_cases z : j = -1
    · rw [if_pos z]
      refine si_bd (Q := fun _ _ _ _ => False) ?_ fun _ _ _ _ z => z.elim
      exact si_bd (sy_nd (Q := fun _ _ _ _ => False) hA (fun _ => by unfold st_in; decide) fun w => absurd z w) fun _ _ _ _ z => z.elim
    · obtain ⟨gR2, i2, g2, a1, a2, a3, a4, a5, a6⟩ := sy_p0 hA z (by rw [ms_136 (sy_26 hA), show am_i (am_si gN 943 29 0) 943 38 = am_i gN 943 38 from rfl, h38, if_neg e])
      rw [if_neg z, nd_t, lo_tl, a1, lo_ps, lo_tl]
      exact si_m a2 (ih (gR2, q') i2 g2 ⟨a3, rfl, ((a4.2.1.1 943 38 rfl).1).trans h38, sf_tr fA (sf_cr a4)⟩ a5)
/-- public characters -/
def pu_P (c : Int32) : Prop := c = 32 ∨ c = 10 ∨ c = 13 ∨ lt_P c ∨ dg_P c ∨ c = 45 ∨ c = 39 ∨ c = 40 ∨ c = 41 ∨ c = 43 ∨ c = 44 ∨ c = 46 ∨ c = 47 ∨ c = 58 ∨ c = 61 ∨ c = 63 ∨ c = 59 ∨ c = 33 ∨ c = 42 ∨ c = 35 ∨ c = 64 ∨ c = 36 ∨ c = 95 ∨ c = 37
def g0_0 : am_G := (fun _ _ => 0, fun _ _ => 0, fun _ _ => none, 0, 0)
theorem pu_ck : (List.range 128).all (fun k => decide (fm_329 g0_0 (nI k) = fm_110 g0_0 (nI k) ∧ (fm_110 g0_0 (nI k) = some 0 ∨ fm_110 g0_0 (nI k) = some 1))) = true := by decide +kernel
theorem pu_hi {k : Nat} (h1 : 128 ≤ k) (h2 : k < 2 ^ 31) (g : am_G) : fm_329 g (nI k) = some 0 ∧ fm_110 g (nI k) = some 0 := by
  have t : (nI k).toInt = k := nI_toInt h2
  have ne : ∀ d : Nat, d < 128 → nI k ≠ nI d := fun d hd e => by have := (nI_eq h2 (by omega)).mp e; omega
  have nl : ∀ d : Nat, d < 128 → ¬ nI k < nI d := fun d hd => nI_nlt (by omega) h2
  have gl : ∀ d : Nat, d < 128 → nI d < nI k := fun d hd => nI_lt (by omega) h2
  have nle : ∀ d : Nat, d < 128 → ¬ nI k ≤ nI d := fun d hd => nI_ge (by omega) h2
  have hl : ¬ lt_P (nI k) := by
    rintro (z | z)
    · exact nle 90 (by decide) z.2
    · exact z.2 (gl 122 (by decide))
  have hd : ¬ dg_P (nI k) := fun z => z.2 (gl 57 (by decide))
  constructor
  · unfold fm_329
    rw [(cm_260 g (nI k)).2 hl, lo_ps, if_pos rfl, (cm_259 g (nI k)).2 hd, lo_ps, if_pos rfl, if_neg (show ¬ nI k = 32 from ne 32 (by decide)), if_neg (show ¬ nI k = 10 from ne 10 (by decide)), if_neg (show ¬ nI k = 13 from ne 13 (by decide)), if_neg (show ¬ nI k = 45 from ne 45 (by decide)), if_neg (show ¬ nI k = 39 from ne 39 (by decide)), if_neg (show ¬ nI k = 40 from ne 40 (by decide)), if_neg (show ¬ nI k = 41 from ne 41 (by decide)), if_neg (show ¬ nI k = 43 from ne 43 (by decide)), if_neg (show ¬ nI k = 44 from ne 44 (by decide)), if_neg (show ¬ nI k = 46 from ne 46 (by decide)), if_neg (show ¬ nI k = 47 from ne 47 (by decide)), if_neg (show ¬ nI k = 58 from ne 58 (by decide)), if_neg (show ¬ nI k = 61 from ne 61 (by decide)), if_neg (show ¬ nI k = 63 from ne 63 (by decide)), if_neg (show ¬ nI k = 59 from ne 59 (by decide)), if_neg (show ¬ nI k = 33 from ne 33 (by decide)), if_neg (show ¬ nI k = 42 from ne 42 (by decide)), if_neg (show ¬ nI k = 35 from ne 35 (by decide)), if_neg (show ¬ nI k = 64 from ne 64 (by decide)), if_neg (show ¬ nI k = 36 from ne 36 (by decide)), if_neg (show ¬ nI k = 95 from ne 95 (by decide)), if_neg (show ¬ nI k = 37 from ne 37 (by decide))]
  · unfold fm_110 fj_110_30 fj_110_42 fj_110_56 fj_110_86
    rw [if_neg (show ¬ nI k = 32 from ne 32 (by decide)), if_neg (show ¬ nI k = 10 from ne 10 (by decide)), if_neg (show ¬ nI k = 13 from ne 13 (by decide)), if_neg (show ¬ nI k < 48 from nl 48 (by decide)), if_neg (show ¬ nI k ≤ 57 from nle 57 (by decide)), if_neg (show ¬ nI k < 65 from nl 65 (by decide)), if_neg (show ¬ nI k ≤ 90 from nle 90 (by decide)), if_neg (show ¬ nI k < 97 from nl 97 (by decide)), if_pos (show (122 : Int32) < nI k from gl 122 (by decide)), if_neg (show ¬ nI k = 45 from ne 45 (by decide)), if_neg (show ¬ nI k = 39 from ne 39 (by decide)), if_neg (show ¬ nI k < 40 from nl 40 (by decide)), if_pos (show (47 : Int32) < nI k from gl 47 (by decide)), if_neg (show ¬ nI k = 58 from ne 58 (by decide)), if_neg (show ¬ nI k = 61 from ne 61 (by decide)), if_neg (show ¬ nI k = 63 from ne 63 (by decide)), if_neg (show ¬ nI k = 59 from ne 59 (by decide)), if_neg (show ¬ nI k = 33 from ne 33 (by decide)), if_neg (show ¬ nI k = 42 from ne 42 (by decide)), if_neg (show ¬ nI k = 35 from ne 35 (by decide)), if_neg (show ¬ nI k = 64 from ne 64 (by decide)), if_neg (show ¬ nI k = 36 from ne 36 (by decide)), if_neg (show ¬ nI k = 95 from ne 95 (by decide)), if_neg (show ¬ nI k = 37 from ne 37 (by decide))]
theorem fm_m1 (g : am_G) : fm_329 g (-1) = some 0 := by
  unfold fm_329
  rw [(cm_260 g (-1)).2 (by unfold lt_P; decide), (cm_259 g (-1)).2 dg_m1]
  rfl
theorem cm_329 (g : am_G) (c : Int32) (h : c = -1 ∨ ch_ok c) : ∃ b, fm_329 g c = some b ∧ fm_110 g c = some b ∧ (b = 0 ∨ b = 1) := by
  rcases h with rfl | ⟨k, hk, rfl⟩
  · exact ⟨0, fm_m1 g, rfl, Or.inl rfl⟩
  · by_cases q : k < 128
    · have a := of_decide_eq_true (List.all_eq_true.mp pu_ck k (List.mem_range.mpr q))
      have e1 : fm_329 g (nI k) = fm_329 g0_0 (nI k) := rfl
      have e2 : fm_110 g (nI k) = fm_110 g0_0 (nI k) := rfl
      rcases a.2 with z | z
      · exact ⟨0, by rw [e1, a.1, z], by rw [e2, z], Or.inl rfl⟩
      · exact ⟨1, by rw [e1, a.1, z], by rw [e2, z], Or.inr rfl⟩
    · have := pu_hi (k := k) (by omega) (by omega) g
      exact ⟨0, this.1, this.2, Or.inl rfl⟩
/-- a public identifier -/
theorem sy_330 (h : sy_ok X gR gM i 138) (hbl : ch_bl i = false) : sx_ok X (fm_330 gR) i gM fun _ gR' i' gM' => sy_ok X gR' gM' i' 141 ∧ sf_ok ps_S rg_S gR gM i gR' gM' i' := by
  unfold fm_330
  refine si_bd (sy_qu (t := 139) h hbl (by unfold st_in; decide) (fun g c hg hc => by rw [ms_138 hg, hc]; rfl)) ?_
  rintro q gR1 i1 g1 ⟨hq, h38, h1, f1⟩
  unfold fh_330_5
  refine sx_F (I := fun (x : am_G × Int32) j gN => sy_ok X x.1 gN j 139 ∧ x.2 = q ∧ am_i gN 943 38 = q ∧ sf_ok ps_S rg_S gR gM i x.1 gN j) (fun x j gN z => ⟨x.1, 139, z.1⟩) ?_ (x := (gR1, q)) ⟨h1, rfl, h38, f1⟩
  rintro K ⟨gA, q'⟩ j gN ⟨hA, rfl, h38, fA⟩ ih
  show sx_ok X (fb_330_5 K gA q') j gN _
  unfold fb_330_5
  rw [sy_is hA, lo_ps]
  by_cases e : j = q'
  · rw [decide_eq_true e, if_neg (by decide)]
    subst e
    obtain ⟨gR2, i2, g2, a1, a2, a3, a4, a5, a6⟩ := sy_p1 (t := 141) hA (qt_n hq) (by rw [ms_139 (sy_26 hA), show am_i (am_si gN 943 29 0) 943 38 = am_i gN 943 38 from rfl, h38, if_pos rfl])
    rw [a1, lo_ps]
    exact ⟨_, rfl, i2, g2, a2, a3, sf_tr fA (sf_cr a4)⟩
  · rw [decide_eq_false e, if_pos (by decide), sy_h hA, lo_ps]
    obtain ⟨b, b1, b2', b3⟩ := cm_329 gA j (sy_c hA)
    obtain ⟨b', c1, c2, c3⟩ := cm_329 (am_si gN 943 29 0) j (sy_c hA)
    have hbb : b' = b := by
      have e1 : fm_110 (am_si gN 943 29 0) j = fm_110 gA j := rfl
      rw [e1, b2'] at c2
      exact (Option.some.inj c2).symm
    subst hbb
    rw [b1, lo_ps]
    have hM : fm_133 (am_si gN 943 29 0) j = if b' = 0 then fm_23 (am_si gN 943 29 0) else some (0, am_si gN 943 29 0) := by
      rw [ms_139 (sy_26 hA), show am_i (am_si gN 943 29 0) 943 38 = am_i gN 943 38 from rfl, h38, if_neg e, c2, lo_ps]
    rcases b3 with z | z
    · subst z
      exact si_bd (sy_nd (Q := fun _ _ _ _ => False) hA (fun _ => by unfold st_in; decide) fun _ => ⟨am_si gN 943 29 0, by rw [hM, if_pos rfl], ag_si rfl ag_re, rfl⟩) fun _ _ _ _ z => z.elim
    · subst z
      have hj : j ≠ -1 := fun w => by rw [w, fm_m1] at b1; cases b1
      obtain ⟨gR2, i2, g2, a1, a2, a3, a4, a5, a6⟩ := sy_p0 hA hj (by rw [hM, if_neg (by decide)])
      rw [nd_t, lo_tl, a1, lo_ps]
      exact si_m a2 (ih (gR2, q') i2 g2 ⟨a3, rfl, ((a4.2.1.1 943 38 rfl).1).trans h38, sf_tr fA (sf_cr a4)⟩ a5)
end
theorem wl_SYSTEM : wb_l 91643115226445 8 = [83, 89, 83, 84, 69, 77] := by decide +kernel
theorem wm_SYSTEM : mw_l 664391853 6 1 6 = [83, 89, 83, 84, 69, 77] := by decide +kernel
theorem wl_PUBLIC : wb_l 88327114737987 8 = [80, 85, 66, 76, 73, 67] := by decide +kernel
theorem wm_PUBLIC : mw_l 558969123 6 1 6 = [80, 85, 66, 76, 73, 67] := by decide +kernel
section
variable {X : cx_T} {gR gM gR0 gM0 : am_G} {i i0 s t : Int32}
/-- what R makes of a word that isn't there for M: the fault comes with the last letter -/
theorem rw_7 {α : Type} {W : Int64} {sz : Nat} {u wh : Int32} {c : Int32} {K : Unit → am_G → Option ((α ⊕ Nat) × am_G)} {Q : α → am_G → Int32 → am_G → Prop} (h : sy_ok X gR gM i s) (k : mw_ok gM W sz u 0 7) (hc : mw_d W sz u (sz - 1 - 0) = c) (hcn : c ≠ -1) (hwm : am_i gM 943 36 = wh) (hwh : wh_ok gR wh)
    (hK : ∀ g, fx_i ps_S gR g → K () g = lo_i (fm_236 g 10 wh) fun y5 g6 => lo_g (Nat.ble 1008 y5 && Nat.blt y5 (am_sz g6)) (some (.inr y5, g6))) : sx_ok X (lo_t (fm_244 gR c) K) i gM Q := by
  have h' := h
  obtain ⟨B, ⟨p, rs, S⟩, w, h26⟩ := h
  have K0 : mw_ok (am_si gM 943 29 0) W sz u 0 7 := k
  unfold fm_244
  rw [sy_is h', lo_ps]
  by_cases q : i = c
  · have hi : i ≠ -1 := q ▸ hcn
    rw [decide_eq_true q, show b2 true = 1 from rfl, nd_t, lo_tl]
    obtain ⟨a1, a2, a3, a4, a5, a6, a7⟩ := fs_in S hi
    obtain ⟨gR', e1, e2, e3⟩ := cm_177 S.2.2.1 a3 (by have := S.1.1; have := S.2.2.2.1; omega)
    rw [e1, lo_ps, lo_tl, hK gR' e2]
    have hm : fm_133 (am_si gM 943 29 0) i = fm_21 (am_si (am_si gM 943 29 0) 943 33 (nI sz)) 10 wh := by
      rw [mw_s K0, hc, if_pos q, if_pos rfl, if_pos rfl]
      show fm_21 _ 10 (am_i gM 943 36) = _
      rw [hwm]
    rw [cm_21] at hm
    have hwx := sy_wh h' hwh (g' := am_si (am_si gM 943 29 0) 943 33 (nI sz)) rfl rfl
    rw [hwx] at hm
    have B' : bi_ok X.1 X.2.1 X.2.2.1 X.2.2.2.1 gR' gM := bi_ct B e2 fx_re
    exact th_fa B' (mi_f hi a1 (by decide) hm) rfl rfl B.2.2.2.2.2.2.1 (ag_si rfl (ag_si rfl (ag_si rfl (ag_si rfl (ag_si rfl ag_re))))) rfl
  · rw [decide_eq_false q, show b2 false = 0 from rfl]
    refine si_bd (Q := fun _ _ _ _ => False) (si_bd (sy_nd (Q := fun _ _ _ _ => False) h' (fun _ => by rw [← h26, k.1]; unfold st_in; decide) fun _ => ⟨am_si gM 943 29 0, by rw [mw_s K0, hc, if_neg q], ag_si rfl ag_re, rfl⟩) fun _ _ _ _ z => z.elim) fun _ _ _ _ z => z.elim
theorem lo_ta {α β γ : Type} (A : Option ((α ⊕ Nat) × am_G)) (F : α → am_G → Option ((β ⊕ Nat) × am_G)) (K : β → am_G → Option ((γ ⊕ Nat) × am_G)) : lo_t (lo_t A F) K = lo_t A fun a g => lo_t (F a g) K := by
  cases A with
  | none => rfl
  | some r =>
    obtain ⟨a | x, g⟩ := r
    · rfl
    · rfl
theorem rw_ap (c : Int32) : ∀ (cs : List Int32) (g : am_G), rw_1 (cs ++ [c]) g = lo_t (rw_1 cs g) fun _ g' => rw_1 [c] g'
  | [], g => rfl
  | d :: cs, g => by
    show lo_t (fm_244 g d) (fun _ g' => rw_1 (cs ++ [c]) g') = lo_t (lo_t (fm_244 g d) fun _ g' => rw_1 cs g') _
    rw [lo_ta]
    congr 1
    funext _ g'
    exact rw_ap c cs g'
/-- SYSTEM or PUBLIC where there may be none -/
theorem sy_302 {α : Type} {Q : α → am_G → Int32 → am_G → Prop} {K : Unit → am_G → Option ((α ⊕ Nat) × am_G)} (h : sy_ok X gR gM i s) (hst : st_in s) (hr : 2 < rk_n s) (hi : (i = 83 ∧ fm_133 (am_si gM 943 29 0) 83 = fm_34 (am_si gM 943 29 0) 664391853 6 1 7) ∨ (i = 80 ∧ fm_133 (am_si gM 943 29 0) 80 = fm_34 (am_si gM 943 29 0) 558969123 6 1 7)) : sx_ok X (lo_t (fm_302 gR) K) i gM Q := by
  refine si_bd (Q := fun _ _ _ _ => False) ?_ fun _ _ _ _ z => z.elim
  have h' := h
  obtain ⟨B, ⟨p, rs, S⟩, w, h26⟩ := h
  unfold fm_302
  rw [sy_w h', lo_ps]
  have main : ∀ (L W : Int64) (y c : Int32) (cs : List Int32), wb_l L 8 = cs ++ [c] → mw_l W 6 1 6 = cs ++ [c] → cs ≠ [] → (∀ x ∈ cs ++ [c], x ≠ -1) → fm_133 (am_si gM 943 29 0) i = fm_34 (am_si gM 943 29 0) W 6 1 7 →
      sx_ok X (lo_t (fj_303_21 gR y L) fun y3 g4 => lo_i (fm_236 g4 10 (pw_R gR)) fun y5 g6 => lo_g (Nat.ble 1008 y5 && Nat.blt y5 (am_sz g6)) (some (.inr y5, g6))) i gM (fun (_ : Unit) _ _ _ => False) := by
    intro L W y c cs e1 e2 e3 e4 e5
    have hi0 : i ≠ -1 := by rcases hi with q | q <;> (rw [q.1]; decide)
    unfold fj_303_21
    rw [cm_245, e1, rw_ap, lo_ta, lo_ta]
    refine si_bd (ww_x (sz := 6) (to := 7) (ds := [c]) (g0 := am_si gM 943 29 0) B S h26 hst hr (fun z => (nomatch z)) (Or.inr rfl) (by decide) (by decide) e2 e3 (fun x hx => e4 x (List.mem_append_left _ hx)) (fun _ => e5) (ag_si rfl ag_re) rfl (bi_ct B fx_re (fx_si rfl))) ?_
    rintro _ gR' i' gM' ⟨p', rs', S', f1, f2, m1, m2⟩
    rw [if_neg (List.cons_ne_nil _ _)] at m1
    obtain ⟨m', k1, k2⟩ := m1
    have k3 : mw_d W 6 1 (6 - 1 - m') = c ∧ mw_l W 6 1 m' = [] := List.cons.inj k2
    have hm0 : m' = 0 := by
      cases m' with
      | zero => rfl
      | succ m' => exact absurd k3.2 (List.cons_ne_nil _ _)
    subst hm0
    obtain ⟨c1, c2⟩ := sy_mk (SM := ct_S) h' S' f1 (fx_tr (fx_si rfl) f2) ps_z ct_z k1.1
    rw [show rw_1 [c] gR' = lo_t (fm_244 gR' c) (fun _ g' => rw_1 [] g') from rfl, lo_ta]
    refine rw_7 (wh := pw_R gR) c1 k1 k3.1 (e4 c (List.mem_append_right _ (List.mem_singleton.mpr rfl))) (m2.trans ?_) ?_ ?_
    · rw [(fs_in S hi0).2.2.2.2.1, pw_fs S]
    · have := wh_pw gR
      unfold wh_ok at this ⊢
      rw [(f1.1 39 4 rfl).1, (f1.1 39 5 rfl).1]
      exact this
    · intro g _
      rfl
  unfold fm_303
  rw [sy_is h', lo_ps]
  rcases hi with ⟨q1, q2⟩ | ⟨q1, q2⟩
  · rw [decide_eq_false (by rw [q1]; decide), if_pos (by decide)]
    exact main _ _ _ 77 [83, 89, 83, 84, 69] wl_SYSTEM wm_SYSTEM (by decide) (by decide) (q1 ▸ q2)
  · rw [decide_eq_true q1, if_neg (by decide)]
    exact main _ _ _ 67 [80, 85, 66, 76, 73] wl_PUBLIC wm_PUBLIC (by decide) (by decide) (q1 ▸ q2)
end
