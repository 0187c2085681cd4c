/-! Literals of entities: what changes behind the texts that there are; names that stay as they are. -/
def t9_S (o _k : Nat) : Bool := Nat.beq o 989
section
variable {X : cx_T} {gR gM gM' g1 : am_G} {i s : Int32}
/-- M lays characters behind its texts -/
theorem sy_9 (h : sy_ok X gR gM i s) (f : fx_i t9_S gM gM') (h9 : ∀ tS k, am_i gM 943 101 = nI tS → tS ≤ 8000 → k < tS → am_i gM' 989 k = am_i gM 989 k) : sy_ok X gR gM' i s ∧ (∀ a b, nq_ok gR gM a b → nq_ok gR gM' a b) ∧ mu_n gM' i = mu_n gM i := by
  obtain ⟨B, ⟨p, rs, S⟩, ⟨w1, w2, w3, w4⟩, h26⟩ := h
  have c : ∀ o k, o ≠ 989 → am_i gM' o k = am_i gM o k := fun o k q => (f.1 o k (beq_f q)).1
  have fd : ag_3 fd_S gM gM' := fun o k q => f.1 o k (beq_f fun e => by rw [e] at q; cases q)
  have S' := fs_mc S fd (c 943 29 (by decide)) (c 943 30 (by decide))
  obtain ⟨n1, n2, n3⟩ := nm_cg (gR' := gR) (gM' := gM') w1 (fun _ _ => rfl) (fun _ _ _ _ _ => rfl) (fun _ _ _ _ => rfl) (fun k _ => c 943 k (by decide)) (fun u k _ _ _ => c 951 k (by decide)) (fun o k o1 o2 => c o k (by omega))
  have hx : ∀ En, am_i gM 943 95 = nI En → En ≤ 40 → ∀ j, j < En → en_x gM' j = en_x gM j := fun En e1 e2 j hj => by
    obtain ⟨En', tS, uG, uP, c1, c2, c3, c4, c5, c6, c7, c8, c9, c10⟩ := w3
    have : En' = En := sz_u c2 e1 (by omega) (by omega)
    subst this
    obtain ⟨pc, sR, sM, z, d1, d2, d3, d4, d5, d6, d7, d8, d9⟩ := c10 j hj
    obtain ⟨u, u1, u2, u3⟩ := d8.2
    unfold en_x
    rw [c 987 j (by decide), c 988 j (by decide), d5, d6, nI_clamp (by omega), nI_clamp (by omega)]
    exact sl_cg fun k hk => h9 u _ u1 u3 (by omega)
  refine ⟨⟨?_, ⟨p, rs, S'⟩, ⟨n1, ?_, ?_, ?_⟩, (c 943 26 (by decide)).trans h26⟩, n2, ?_⟩
  · exact bi_fx B (fx_re : fx_i ps_S gR gR) f (fun _ _ => ps_h) (fun o k q => by
      have := Nat.eq_of_beq_eq_true q
      exact ⟨sb_f fun w => by have := mx_c.mp w; omega, by omega⟩)
  · exact po_cg w2 S.1.2.2.2.2 (fun _ => rfl) (fun _ => rfl) S.2.2.1.2.2.1 S.2.2.1.2.2.1 (Nat.le_refl _) S.2.2.2.1 S.1.1 (c 943 21 (by decide)) (c 943 95 (by decide)) (c 943 101 (by decide)) n3 hx
  · obtain ⟨En, tS, uG, uP, c1, c2, c3, c4, c5, c6, c7, c8, c9, c10⟩ := w3
    have en : ∀ pc j, en_n gM' pc j = en_n gM pc j := fun pc j => by
      induction j with
      | zero => rfl
      | succ j ih => show en_n gM' pc j + _ = en_n gM pc j + _; rw [ih, c 986 j (by decide)]
    refine ⟨En, tS, uG, uP, c1, (c 943 95 (by decide)).trans c2, by rw [en]; exact c3, by rw [en]; exact c4, (c 943 101 (by decide)).trans c5, c6, c7, c8, c9, fun j hj => ?_⟩
    obtain ⟨pc, sR, sM, z, d1, d2, d3, d4, d5, d6, d7, d8, d9⟩ := c10 j hj
    obtain ⟨u, u1, u2, u3⟩ := d8.2
    refine ⟨pc, sR, sM, z, (c 986 j (by decide)).trans d1, by rw [en, c 985 j (by decide)]; exact n2 _ _ d2, by rw [en]; exact d3, by rw [en]; exact d4, (c 987 j (by decide)).trans d5, (c 988 j (by decide)).trans d6, d7, ⟨d8.1, u, (c 943 101 (by decide)).trans u1, u2, u3⟩, fun k hk => ?_⟩
    rw [h9 u _ u1 u3 (by omega)]; exact d9 k hk
  · exact fr_cg w4 (fun _ _ => rfl) rfl (fun _ => rfl) (fun _ => rfl) (fun _ _ _ _ => rfl) (fun k _ => c 943 k (by decide)) (fun d => c 950 d (by decide)) (fun j => c 986 j (by decide))
  · unfold mu_n
    rw [mm_cg fd]
/-- a memory with the texts of another one -/
def am_9 (g h : am_G) : am_G := (fun o k => if o = 989 then am_i h o k else am_i g o k, fun o k => if o = 989 then am_j h o k else am_j g o k, fun o k => if o = 989 then am_r h o k else am_r g o k, g.2.2.2)
theorem am_9i (g h : am_G) (o k : Nat) : am_i (am_9 g h) o k = if o = 989 then am_i h o k else am_i g o k := rfl
theorem am_9j (g h : am_G) (o k : Nat) : am_j (am_9 g h) o k = if o = 989 then am_j h o k else am_j g o k := rfl
theorem am_9r (g h : am_G) (o k : Nat) : am_r (am_9 g h) o k = if o = 989 then am_r h o k else am_r g o k := rfl
/-- M's registers of a literal, and its texts -/
def l9_S (o k : Nat) : Bool := r4_S o k || (Nat.beq o 989 || (Nat.beq o 943 && (Nat.beq k 38 || (Nat.beq k 39 || (Nat.beq k 40 || (Nat.beq k 42 || Nat.beq k 102))))))
theorem l9_c {o k : Nat} (h : l9_S o k = true) : o = 989 ∨ (o = 943 ∧ (ct_S o k = true ∨ k = 38 ∨ k = 39 ∨ k = 40 ∨ k = 41 ∨ k = 42 ∨ k = 73 ∨ k = 102)) := by
  unfold l9_S at h
  simp only [Bool.or_eq_true, Bool.and_eq_true, Nat.beq_eq] at h
  rcases h with h | h | ⟨h1, h2⟩
  · obtain ⟨e, z | z⟩ := r4_c h
    · exact Or.inr ⟨e, Or.inl z⟩
    · exact Or.inr ⟨e, by omega⟩
  · exact Or.inl h
  · exact Or.inr ⟨h1, by omega⟩
def l8_S (o k : Nat) : Bool := l9_S o k && !Nat.beq o 989
theorem l8_z : sm_ok l8_S := fun o k h => zM_c.mpr (by
  unfold l8_S at h
  simp only [Bool.and_eq_true, Bool.not_eq_true', nb_f] at h
  rcases l9_c h.1 with z | ⟨e, z⟩
  · exact absurd z h.2
  · rcases z with z | z
    · have := ct_c z; omega
    · omega)
theorem ct_9 {o k : Nat} (h : ct_S o k = true) : l9_S o k = true := by unfold l9_S; rw [ct_r4 h]; rfl
theorem r4_9 {o k : Nat} (h : r4_S o k = true) : l9_S o k = true := by unfold l9_S; rw [h]; rfl
/-- both pass a character, M lays something behind its texts -/
theorem sy_p9 (h : sy_ok X gR gM i s) (hi : i ≠ -1) (hs : fm_133 (am_si gM 943 29 0) i = some (0, g1)) (ha : am_i g1 943 29 = 0) (hf : fx_i l9_S gM g1) (hfd : ag_3 fd_S gM g1) (h9 : ∀ tS k, am_i gM 943 101 = nI tS → tS ≤ 8000 → k < tS → am_i g1 989 k = am_i gM 989 k) :
    ∃ gR' i' gM', fm_177 gR = some gR' ∧ mv_ok X i gM i' gM' ∧ sy_ok X gR' gM' i' (am_i g1 943 26) ∧ fx_i ps_S gR gR' ∧ fx_i l9_S gM gM' ∧ fx_i tk_S g1 gM' ∧ (∀ a b, nq_ok gR gM a b → nq_ok gR' gM' a b) ∧ mu_n gM' i' < mu_n gM i ∧ (ch_pt i = false → bn_ok gR') := by
  have h' := h
  obtain ⟨B, ⟨p, rs, S⟩, W, h26⟩ := h
  obtain ⟨gR1, i1, g2, e1, e2, e3, e4, e5⟩ := fs_ps S hi hs ha hfd
  have f2 : fx_i l9_S gM g2 := fx_tr hf (fx_w2 e5 fun _ _ z => ct_9 (tk_in z))
  -- first without what is new in the texts
  have f3 : fx_i l8_S gM (am_9 g2 gM) := by
    refine ⟨fun o k q => ?_, f2.2.1, fun d hd => ?_⟩
    · rw [am_9i, am_9j, am_9r]
      by_cases z : o = 989
      · rw [if_pos z, if_pos z, if_pos z]; exact ⟨rfl, rfl, rfl⟩
      · rw [if_neg z, if_neg z, if_neg z]
        refine f2.1 o k ?_
        unfold l8_S at q
        rw [beq_f z] at q
        simpa using q
    · rw [am_9i, if_neg (by decide)]
      refine f2.2.2 d ?_
      by_cases z : d = 0
      · rw [if_pos z]; rfl
      · rw [if_neg z]; rfl
  have fd : ag_3 fd_S g2 (am_9 g2 gM) := fun o k q => by
    have z : o ≠ 989 := fun e => by rw [e] at q; cases q
    rw [am_9i, am_9j, am_9r, if_neg z, if_neg z, if_neg z]; exact ⟨rfl, rfl, rfl⟩
  have S9 := fs_mc e4 fd (by rw [am_9i, if_neg (by decide)]) (by rw [am_9i, if_neg (by decide)])
  obtain ⟨c1, c2⟩ := sy_mk (X := X) (t := am_i g1 943 26) h' S9 e2 f3 ps_z l8_z (by rw [am_9i, if_neg (by decide)]; exact (e5.1 943 26 rfl).1)
  have f4 : fx_i t9_S (am_9 g2 gM) g2 := by
    refine ⟨fun o k q => ?_, rfl, fun d hd => by rw [am_9i, if_neg (by decide)]; exact Int32.le_refl _⟩
    have z : o ≠ 989 := fun e => by rw [e] at q; cases q
    rw [am_9i, am_9j, am_9r, if_neg z, if_neg z, if_neg z]; exact ⟨rfl, rfl, rfl⟩
  obtain ⟨d1, d2, d3⟩ := sy_9 c1 f4 (fun tS k y1 y2 y3 => by
    rw [am_9i, if_neg (by decide), (e5.1 943 101 rfl).1] at y1
    have e101 : am_i g1 943 101 = am_i gM 943 101 := (hf.1 943 101 rfl).1
    rw [e101] at y1
    rw [am_9i, if_pos rfl, (e5.1 989 k rfl).1]
    exact h9 tS k y1 y2 y3)
  refine ⟨gR1, i1, g2, e1, e3, d1, e2, f2, e5, fun a b z => d2 a b (c2.2.2.1 a b z), ?_, fun hc => bn_177 S hi hc e1⟩
  have m14 : mc_n g2 14 = mc_n gM 14 := by unfold mc_n; rw [(e5.1 943 14 rfl).1, (hfd 943 14 rfl).1]
  have m15 : mc_n g2 15 = mc_n gM 15 := by unfold mc_n; rw [(e5.1 943 15 rfl).1, (hfd 943 15 rfl).1]
  obtain ⟨x1, x2⟩ := rl_nx S hi
  rw [mu_fs S, mu_fs e4, m14, m15, x2]
  omega
-- how much is left; bytes
theorem fl_mo {gR' : am_G} {N p p' : Nat} {n i' : Int32} {rs rs' : List (List Int32)} {SR : Nat → Nat → Bool} (S : fs_ok gR gM N n p rs i) (S' : fs_ok gR' gM' N n p' rs' i') (f : fx_i SR gR gR') (h1 : tr_ok SR) : fl_R gR' ≤ fl_R gR := by
  rw [fl_fs S, fl_fs S']
  have hm : ∀ d, am_i gR 42 d ≤ am_i gR' 42 d := fun d => f.2.2 d (by
    by_cases q : d = 0
    · rw [if_pos q]; exact tr_f h1 (by omega)
    · rw [if_neg q]; exact tr_f h1 (by omega))
  have hl : rs.length = rs'.length := by
    have e := S'.2.2.1.1
    rw [(f.1 39 4 (tr_f h1 (by omega))).1, S.2.2.1.1] at e
    exact (nI_eq (by have := S.2.2.1.2.1; omega) (by have := S'.2.2.1.2.1; omega)).mp e
  have hN := S.1.1
  cases rs with
  | nil =>
    cases rs' with
    | cons _ _ => cases hl
    | nil =>
      have := hm 0
      rw [S.2.2.1.2.2.1, S'.2.2.1.2.2.1, nI_leI (by have := S.2.2.2.1; omega) (by have := S'.2.2.2.1; omega)] at this
      show N - p' ≤ N - p
      omega
  | cons r rest =>
    cases rs' with
    | nil => cases hl
    | cons r' rest' =>
      have hl : rest.length = rest'.length := Nat.succ.inj hl
      obtain ⟨⟨t, e1, a, s, z, k1, k2, k3, k4, k5, k6, k7, k8, k9, k10, k11⟩, _⟩ := S.2.2.1.2.2.2
      obtain ⟨⟨t', e1', a', s', z', k1', k2', k3', k4', k5', k6', k7', k8', k9', k10', k11'⟩, _⟩ := S'.2.2.1.2.2.2
      rw [← hl, (f.1 40 _ (tr_f h1 (by omega))).2.2, k1] at k1'
      have ett : t = t' := Option.some.inj k1'
      subst ett
      rw [← hl, (f.1 41 _ (tr_f h1 (by omega))).1, k3] at k3'
      have eee : e1 = e1' := (nI_eq (by omega) (by omega)).mp k3'
      subst eee
      rw [(f.1 (t + 3) _ (tr_f h1 (by omega))).1, k7] at k7'
      have ezz : z = z' := (nI_eq (by omega) (by omega)).mp k7'
      subst ezz
      have hm1 := hm (rest.length + 1)
      rw [← hl] at k5'
      rw [k5, k5', nI_leI (by omega) (by omega)] at hm1
      show r'.length ≤ r.length
      rw [k10, k10', sl_len, sl_len]
      omega
theorem sy_fm {gR' : am_G} {i' s' : Int32} {SR : Nat → Nat → Bool} (h : sy_ok X gR gM i s) (h2 : sy_ok X gR' gM' i' s') (f : fx_i SR gR gR') (h1 : tr_ok SR) : fl_R gR' ≤ fl_R gR := by
  obtain ⟨_, ⟨p, rs, S⟩, _⟩ := h
  obtain ⟨_, ⟨p', rs', S'⟩, _⟩ := h2
  exact fl_mo S S' f h1
theorem sy_f1 {gR' : am_G} (h : sy_ok X gR gM i s) (hi : i ≠ -1) (e : fm_177 gR = some gR') : fl_R gR' + 1 = fl_R gR := by
  obtain ⟨B, ⟨p, rs, S⟩, W, h26⟩ := h
  obtain ⟨a1, a2, a3, a4, a5, a6, a7⟩ := fs_in S hi
  have hN := S.1.1
  obtain ⟨gx, x1, x2, x3⟩ := cm_177 S.2.2.1 a3 (by have := S.2.2.2.1; omega)
  rw [e] at x1
  have x1 := Option.some.inj x1
  subst x1
  -- the feed without M
  have key : fl_R gR' = fl_n X.2.2.2.2.1 (nx_p p rs) (nx_r rs) := by
    obtain ⟨f1, f2, f3, f4⟩ := x3
    have e35 : am_i gR' 35 3 = nI X.2.2.2.2.1 := ((x2.1 35 3 rfl).1).trans S.1.2.1
    unfold fl_R
    rw [f1]
    cases rs with
    | nil =>
      have hp := a6 rfl
      rw [if_pos (show nI (nx_r ([] : List (List Int32))).length = 0 from rfl), e35, f3, nI_clamp (by omega), show nx_p p [] = p + 1 from rfl, nI_clamp (by omega)]; rfl
    | cons r rest =>
      have hl : rest.length + 1 ≤ 16 := f2
      obtain ⟨⟨t, e, a, st, z, h1, h2, h3, h4, h5, h6, h7, h8, h9, h10, h11⟩, _⟩ := f4
      rw [if_neg (nI_ne0 (by show 0 < rest.length + 1; omega) (by omega)), show nI (nx_r (r :: rest)).length = nI (rest.length + 1) from rfl, nI_clamp (by omega), h1, h3, nI_clamp (n := e) (by omega)]
      show (am_i gR' (t + 3) e).toNatClampNeg - _ = r.tail.length
      rw [h7, h5, nI_clamp (by omega), nI_clamp (by omega), h10, sl_len]
  rw [key, fl_fs S]
  cases rs with
  | nil => have := a6 rfl; show X.2.2.2.2.1 - (p + 1) + 1 = X.2.2.2.2.1 - p; omega
  | cons r rest =>
    cases r with
    | nil => exact absurd rfl (a3 rest)
    | cons c r => rfl
/-- the place in the text -/
def bp_R (g : am_G) : Nat := (am_i g 38 (am_i g 42 0).toNatClampNeg).toNatClampNeg
theorem bp_fs {gR' : am_G} {N p p' : Nat} {n i' : Int32} {rs rs' : List (List Int32)} {l : List Int32} (W : po_w gR gM) (S : fs_ok gR gM N n p rs i) (S' : fs_ok gR' gM' N n p' rs' i') (e38 : ∀ k, am_i gR' 38 k = am_i gR 38 k) (hp : p' = p + l.length) (hl : sl_l (am_i gR 37) p l.length = l) : bp_R gR + by_s l ≤ bp_R gR' ∧ bp_R gR' ≤ 6000 := by
  obtain ⟨q, b, sM, En, tS, T, a1, a2, a3, a4, a5, a6, a7, a8, a9, a10⟩ := W
  have hN := S.1.1
  have h1 := S.2.2.2.1
  have h2 := S'.2.2.2.1
  have : q = p := sz_u a1 S.2.2.1.2.2.1 (by omega) (by omega)
  subst this
  obtain ⟨b', c1, c2, c3⟩ := pl_by S.1.2.2.2.2 l.length q b (by omega) a3 a10.2.2.2.1
  rw [hl] at c2
  unfold bp_R
  rw [a1, S'.2.2.1.2.2.1, nI_clamp (by omega), nI_clamp (by omega), a3, e38, hp, c1, nI_clamp (by have := a10.2.2.2.1; omega), nI_clamp (by omega)]
  exact ⟨c2, c3⟩
theorem bp_mo {gR' : am_G} {i' s' : Int32} {SR : Nat → Nat → Bool} (h : sy_ok X gR gM i s) (h2 : sy_ok X gR' gM' i' s') (f : fx_i SR gR gR') (h1 : tr_ok SR) : bp_R gR ≤ bp_R gR' := by
  obtain ⟨_, ⟨p, rs, S⟩, W, _⟩ := h
  obtain ⟨_, ⟨p', rs', S'⟩, _⟩ := h2
  have hp : p ≤ p' := by
    have := f.2.2 0 (by rw [if_pos rfl]; exact tr_f h1 (by omega))
    rw [S.2.2.1.2.2.1, S'.2.2.1.2.2.1] at this
    exact (nI_leI (by have := S.1.1; have := S.2.2.2.1; omega) (by have := S.1.1; have := S'.2.2.2.1; omega)).mp this
  have := (bp_fs (l := sl_l (am_i gR 37) p (p' - p)) W.2.1 S S' (fun k => (f.1 38 k (tr_f h1 (by omega))).1) (by rw [sl_len]; omega) (by rw [sl_len])).1
  omega
theorem bp_1 {gR' : am_G} {i' s' : Int32} (h : sy_ok X gR gM i s) (hi : i ≠ -1) (e : fm_177 gR = some gR') (h2 : sy_ok X gR' gM' i' s') (h0 : am_i gR 39 4 = 0) : bp_R gR + u8_c i ≤ bp_R gR' := by
  obtain ⟨_, ⟨p, rs, S⟩, W, _⟩ := h
  obtain ⟨_, ⟨p', rs', S'⟩, _⟩ := h2
  obtain ⟨a1, a2, a3, a4, a5, a6, a7⟩ := fs_in S hi
  have hN := S.1.1
  obtain ⟨gx, x1, x2, x3⟩ := cm_177 S.2.2.1 a3 (by have := S.2.2.2.1; omega)
  rw [e] at x1
  have x1 := Option.some.inj x1
  subst x1
  have hrs : rs = [] := by
    cases rs with
    | nil => rfl
    | cons r rest =>
      have := S.2.2.1.1
      rw [h0] at this
      exact absurd this.symm (nI_ne0 (by rw [List.length_cons]; omega) (by have := S.2.2.1.2.1; omega))
  subst hrs
  have hp := a6 rfl
  have hp' : p' = p + 1 := sz_u S'.2.2.1.2.2.1 x3.2.2.1 (by have := S'.2.2.2.1; omega) (by show p + 1 < _; omega)
  have hi2 : i = am_i gR 37 p := by
    have := S.2.2.2.2.2.1
    have : i = if p < X.2.2.2.2.1 then am_i gR 37 p else -1 := this
    rw [if_pos hp] at this; exact this
  have := (bp_fs (l := [i]) W.2.1 S S' (fun k => (x2.1 38 k rfl).1) hp' (by rw [hi2]; rfl)).1
  have e2 : by_s [i] = u8_c i + 0 := rfl
  omega
end
-- names in a literal
theorem li_f {f : List Int32 → Nat} {L L' : List (List Int32)} (h : ∀ r ∈ L, r ∈ L') (C : List (List Int32)) : su_w f (C.filter fun r => decide (r ∈ L)) ≤ su_w f (C.filter fun r => decide (r ∈ L')) := su_fl (fun r hr => decide_eq_true (h r (of_decide_eq_true hr))) C
theorem li_c {L0 L : List (List Int32)} {lit : List Int32} (h : li_B L0 L lit) (c : Int32) : li_B L0 L (lit ++ [c]) := by
  obtain ⟨h1, h2, h3⟩ := h
  cases q : ch_pt c with
  | true =>
    refine ⟨h1, ?_, ?_⟩
    · rw [(ru_cs lit [] c q).1]; exact h2
    · rw [(ru_cs lit [] c q).1]; exact h3
  | false =>
    refine ⟨h1, ?_, ?_⟩
    · rw [(ru_cn lit [] c q).1, List.filter_append, su_ap]; omega
    · rw [(ru_cn lit [] c q).1, List.filter_append, su_ap]; omega
theorem ru_wd : ∀ (w t a : List Int32), (∀ x ∈ w, ch_pt x = true) → ru_c a (t ++ w) = ru_c a t ∧ ru_t a (t ++ w) = ru_t a t ++ w
  | [], t, a, _ => by rw [List.append_nil, List.append_nil]; exact ⟨rfl, rfl⟩
  | c :: w, t, a, h => by
    have e : t ++ c :: w = (t ++ [c]) ++ w := by rw [List.append_assoc]; rfl
    have hc := h c (List.mem_cons_self ..)
    obtain ⟨i1, i2⟩ := ru_wd w (t ++ [c]) a (fun x hx => h x (List.mem_cons_of_mem _ hx))
    obtain ⟨j1, j2⟩ := ru_cs t a c hc
    rw [e, i1, i2, j1, j2, List.append_assoc]
    exact ⟨rfl, rfl⟩
/-- a name that stays as it is -/
theorem li_n {L0 L L' : List (List Int32)} {lit w : List Int32} (h : li_B L0 L lit) (hw : ∀ x ∈ w, ch_pt x = true) (hne : w ≠ []) (hL : L' = L ∨ (L' = L ++ [w] ∧ w ∉ L)) : li_B L0 L' (lit ++ (38 :: (w ++ [59]))) := by
  have n38 : ch_pt 38 = false := by
    unfold ch_pt
    rw [show ch_bg 38 = false from ch_f (by rw [show (38 : Int32).toInt = 38 from rfl]; unfold bg_P; omega), show ch_px 38 = false from ch_f (by rw [show (38 : Int32).toInt = 38 from rfl]; unfold px_P; omega)]
    rfl
  have n59 : ch_pt 59 = false := by
    unfold ch_pt
    rw [show ch_bg 59 = false from ch_f (by rw [show (59 : Int32).toInt = 59 from rfl]; unfold bg_P; omega), show ch_px 59 = false from ch_f (by rw [show (59 : Int32).toInt = 59 from rfl]; unfold px_P; omega)]
    rfl
  have h2 := li_c h 38
  have e : lit ++ (38 :: (w ++ [59])) = ((lit ++ [38]) ++ w) ++ [59] := by rw [List.append_assoc, List.append_assoc]; rfl
  have er : ru_c [] (lit ++ (38 :: (w ++ [59]))) = ru_c [] (lit ++ [38]) ++ [w] := by
    rw [e, (ru_cn _ [] 59 n59).1, (ru_wd w (lit ++ [38]) [] hw).1, (ru_wd w (lit ++ [38]) [] hw).2, (ru_cn lit [] 38 n38).2, List.nil_append]
    congr 1
    exact if_neg hne
  obtain ⟨a1, a2, a3⟩ := h2
  have mono : ∀ r ∈ L, r ∈ L' := by
    rcases hL with z | ⟨z, _⟩
    · rw [z]; exact fun _ h => h
    · rw [z]; exact fun r hr => List.mem_append_left _ hr
  unfold li_B
  rw [er]
  refine ⟨fun r hr => mono r (a1 r hr), ?_, ?_⟩
  · have m := li_f (f := List.length) mono (ru_c [] (lit ++ [38]))
    rw [List.filter_append, su_ap]
    rcases hL with z | ⟨z, _⟩
    · rw [z] at m ⊢; omega
    · have hw2 : ([w] : List (List Int32)).filter (fun r => decide (r ∈ L')) = [w] := by
        rw [List.filter_cons, if_pos (decide_eq_true (by rw [z]; exact List.mem_append_right _ (List.mem_singleton.mpr rfl)))]
        rfl
      rw [hw2]
      have hs : su_w List.length L' = su_w List.length L + su_w List.length [w] := by rw [z, su_ap]
      omega
  · have m := li_f (f := om_2) mono (ru_c [] (lit ++ [38]))
    rw [List.filter_append, su_ap]
    rcases hL with z | ⟨z, _⟩
    · rw [z] at m ⊢; omega
    · have hw2 : ([w] : List (List Int32)).filter (fun r => decide (r ∈ L')) = [w] := by
        rw [List.filter_cons, if_pos (decide_eq_true (by rw [z]; exact List.mem_append_right _ (List.mem_singleton.mpr rfl)))]
        rfl
      rw [hw2]
      have hs : su_w om_2 L' = su_w om_2 L + su_w om_2 [w] := by rw [z, su_ap]
      omega
