/-! Blanks that lead M to another state; digits. -/
section
variable {Z U : Nat} {G H : am_G} {N : Nat} {n : Int32}
/-- R's blanks, where M's first blank leads to t and the others stay there -/
theorem bs_ok {gR gM : am_G} {p : Nat} {rs : List (List Int32)} {i s t : Int32} (S : fs_ok gR gM N n p rs i) (h26 : am_i gM 943 26 = s) (hs : ∀ (g : am_G) (c : Int32), am_i g 943 26 = s → ch_bl c = true → fm_133 g c = some (0, am_si g 943 26 t))
    (hb : ∀ (g : am_G) (c : Int32), am_i g 943 26 = t → ch_bl c = true → fm_133 g c = some (0, g)) :
    ∃ gR' i' gM' p' rs', fm_242 gR = some (b2 (ch_bl i), gR') ∧ (∀ res, mi_ok n i' gM' res → mi_ok n i gM res) ∧ fs_ok gR' gM' N n p' rs' i' ∧ fx_i ps_S gR gR' ∧ fx_i ct_S gM gM' ∧ ch_bl i' = false ∧ (ch_bl i = true → am_i gM' 943 26 = t) ∧ (ch_bl i = false → am_i gM' 943 26 = s ∧ i' = i) := by
  obtain ⟨m, hm⟩ : ∃ m, nf_F = m + 1 := ⟨nf_F - 1, by have := nf_le; omega⟩
  cases q : ch_bl i with
  | false =>
    refine ⟨gR, i, gM, p, rs, ?_, fun _ z => z, S, fx_re, fx_re, q, fun z => (nomatch z), fun _ => ⟨h26, rfl⟩⟩
    unfold fm_242 fh_242_2
    rw [hm]
    show fb_242_2 _ _ _ = _
    unfold fb_242_2
    dsimp only
    rw [cm_241 S, lo_ps, q, if_pos (show b2 false = 0 from rfl)]
    exact congrArg (fun x => some (x, gR)) (b2_n false)
  | true =>
    have hi := bl_n q
    obtain ⟨gR1, i1, g2, e1, e2, e3, e4, e5⟩ := fs_ps (g1 := am_si (am_si gM 943 29 0) 943 26 t) S hi (hs _ _ (h26 ▸ rfl) q) rfl (ag_si rfl (ag_si rfl ag_re))
    have h262 : am_i g2 943 26 = t := ((e5.1 943 26 rfl).1).trans rfl
    obtain ⟨gR', i', gM', p', rs', f1, f2, f3, f4, f5, f6, f7⟩ := bk_lp hb (fl_n N (nx_p p rs) (nx_r rs)) m true (Nat.le_refl _) (by have := fl_b e4.1 e4.2.2.1; have := nf_le; omega) e4 h262
    refine ⟨gR', i', gM', p', rs', ?_, fun res z => e3 res (f2 res z), f3, fx_tr e2 f5, fx_tr (fx_tr (fx_si rfl) (fx_si rfl)) (tk_ct (fx_tr e5 f6)), f7, fun _ => f4, fun z => (nomatch z)⟩
    unfold fm_242 fh_242_2
    rw [hm]
    show fb_242_2 _ _ _ = _
    unfold fb_242_2
    dsimp only
    rw [cm_241 S, lo_ps, q, if_neg (show ¬ b2 true = 0 by decide), e1, lo_ps]
    exact f1
/-- a digit -/
def dg_P (c : Int32) : Prop := ¬ c < 48 ∧ ¬ (57 : Int32) < c
theorem cm_259 (g : am_G) (c : Int32) : (dg_P c → fm_259 g c = some 1) ∧ (¬ dg_P c → fm_259 g c = some 0) := by
  unfold fm_259 dg_P
  constructor
  · intro h; rw [if_neg h.1, if_neg h.2]
  · intro h
    by_cases q : c < 48
    · rw [if_pos q]
    · rw [if_neg q, if_pos (Classical.not_not.mp fun w => h ⟨q, w⟩)]
theorem dg_m1 : ¬ dg_P (-1) := fun h => h.1 (by decide)
/-- the digits of the version, and what is behind them -/
theorem dg_lp {α : Type} {K : am_G → Int32 → Option ((α ⊕ Nat) × am_G)} {LB : ((am_G × Int32) → Option ((α ⊕ Nat) × am_G)) → (am_G × Int32) → Option ((α ⊕ Nat) × am_G)} {q : Int32} {gR0 gM0 : am_G} {Q : α → am_G → Int32 → am_G → Prop}
    (h1 : ∀ k g, ∀ c, fm_176 g = some c → dg_P c → LB k (g, q) = lo_p (fm_177 g) fun g1 => k (g1, q)) (h2 : ∀ k g, ∀ c, fm_176 g = some c → ¬ dg_P c → LB k (g, q) = K g q)
    (hK : ∀ gR gM p rs i, bi_ok Z U G H gR gM → fs_ok gR gM N n p rs i → am_i gM 943 26 = 17 → am_i gM 943 38 = q → ¬ dg_P i → fx_i ps_S gR0 gR → fx_i rg_S gM0 gM → si_ok n (ft_ok Z U G H) (K gR q) i gM Q) (hq : ¬ dg_P q) :
    ∀ (m fuel : Nat) {gR gM : am_G} {p : Nat} {rs : List (List Int32)} {i : Int32}, fl_n N p rs ≤ m → m < fuel → bi_ok Z U G H gR gM → fs_ok gR gM N n p rs i → am_i gM 943 26 = 17 → am_i gM 943 38 = q → fx_i ps_S gR0 gR → fx_i rg_S gM0 gM → si_ok n (ft_ok Z U G H) (lo_it LB fuel (gR, q)) i gM Q := by
  intro m
  induction m with
  | zero =>
    intro fuel gR gM p rs i hm hf B S h26 h38 f1 f2
    obtain ⟨fu, rfl⟩ : ∃ m, fuel = m + 1 := ⟨fuel - 1, by omega⟩
    have hi : i = -1 := by
      by_cases w : i = -1
      · exact w
      · have := fl_d S w; omega
    show si_ok n (ft_ok Z U G H) (LB (lo_it LB fu) (gR, q)) i gM Q
    rw [h2 _ _ i (rs_h S) (by rw [hi]; exact dg_m1)]
    exact hK gR gM p rs i B S h26 h38 (by rw [hi]; exact dg_m1) f1 f2
  | succ m ih =>
    intro fuel gR gM p rs i hm hf B S h26 h38 f1 f2
    obtain ⟨fu, rfl⟩ : ∃ m, fuel = m + 1 := ⟨fuel - 1, by omega⟩
    show si_ok n (ft_ok Z U G H) (LB (lo_it LB fu) (gR, q)) i gM Q
    by_cases w : dg_P i
    · rw [h1 _ _ i (rs_h S) w]
      have hi : i ≠ -1 := fun e => dg_m1 (e ▸ w)
      have hne : ¬ i = q := fun e => hq (e ▸ w)
      obtain ⟨gR1, i1, g2, e1, e2, e3, e4, e5⟩ := fs_ps (g1 := am_si (am_si gM 943 29 0) 943 37 1) S hi (by
        rw [ms_17 (show am_i (am_si gM 943 29 0) 943 26 = 17 from h26), show am_i (am_si gM 943 29 0) 943 38 = am_i gM 943 38 from rfl, h38, if_neg hne, if_neg w.1, if_neg w.2]) rfl (ag_si rfl (ag_si rfl ag_re))
      rw [e1, lo_ps]
      have g1f : fx_i rg_S gM g2 := fx_tr (fx_tr (fx_si rfl) (fx_si rfl)) (ct_rg (tk_ct e5))
      have hd := fl_d S hi
      exact si_m e3 (ih fu (by omega) (by omega) (bi_rg B e2 g1f) e4 (((e5.1 943 26 rfl).1).trans h26) (((e5.1 943 38 rfl).1).trans h38) (fx_tr f1 e2) (fx_tr f2 g1f))
    · rw [h2 _ _ i (rs_h S) w]
      exact hK gR gM p rs i B S h26 h38 w f1 f2
end
