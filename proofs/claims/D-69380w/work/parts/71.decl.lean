/-! = and a quote. -/
/-- M's registers that readers may change -/
def rg_S (o k : Nat) : Bool := Nat.beq o 956 || (Nat.beq o 943 && (ct_S o k || (Nat.beq k 37 || (Nat.beq k 38 || (Nat.beq k 43 || (Nat.beq k 47 || Nat.beq k 48))))))
theorem rg_c {o k : Nat} (h : rg_S o k = true) : o = 956 ∨ (o = 943 ∧ (k = 5 ∨ k = 8 ∨ k = 29 ∨ k = 30 ∨ k = 26 ∨ k = 31 ∨ k = 32 ∨ k = 33 ∨ k = 34 ∨ k = 35 ∨ k = 36 ∨ k = 37 ∨ k = 38 ∨ k = 43 ∨ k = 47 ∨ k = 48)) := by
  unfold rg_S at h
  simp only [Bool.and_eq_true, Bool.or_eq_true, Nat.beq_eq] at h
  rcases h with h | ⟨e, h | h⟩
  · exact Or.inl h
  · right
    have := (ct_c h).2
    omega
  · right
    omega
theorem rg_h {o k : Nat} (h : rg_S o k = true) : mx_S o k = false ∧ ¬ (o = 943 ∧ k = 144) := by
  rcases rg_c h with e | ⟨e, w⟩
  · clear h; subst e; exact ⟨rfl, by omega⟩
  · clear h
    subst e
    rcases w with rfl | rfl | rfl | rfl | rfl | rfl | rfl | rfl | rfl | rfl | rfl | rfl | rfl | rfl | rfl | rfl <;> exact ⟨rfl, by omega⟩
theorem ct_rg {g h : am_G} (f : fx_i ct_S g h) : fx_i rg_S g h := fx_wk f fun o k q => by
  cases z : ct_S o k with
  | false => rfl
  | true =>
    have := (ct_c z).1
    subst this
    unfold rg_S at q
    rw [z] at q
    cases q
theorem bi_rg {Z U : Nat} {G H gR gM gR' gM' : am_G} (B : bi_ok Z U G H gR gM) (f1 : fx_i ps_S gR gR') (f2 : fx_i rg_S gM gM') : bi_ok Z U G H gR' gM' := bi_fx B f1 f2 (fun _ _ => ps_h) (fun _ _ => rg_h)
section
variable {Z U : Nat} {G H : am_G} {N : Nat} {n : Int32}
/-- what comes of a reader that leaves M in state t -/
def rd_Q (gR gM : am_G) (N : Nat) (n t : Int32) (gR' : am_G) (i' : Int32) (gM' : am_G) : Prop := ∃ p' rs', fs_ok gR' gM' N n p' rs' i' ∧ fx_i ps_S gR gR' ∧ fx_i rg_S gM gM' ∧ am_i gM' 943 26 = t
/-- a quote -/
theorem qu_ok {gR gM : am_G} {p : Nat} {rs : List (List Int32)} {i s t : Int32} (B : bi_ok Z U G H gR gM) (S : fs_ok gR gM N n p rs i) (h26 : am_i gM 943 26 = s) (hbl : ch_bl i = false) (hst : st_in s)
    (hs : ∀ (g : am_G) (c : Int32), am_i g 943 26 = s → ch_bl c = false → fm_133 g c = if c = 34 then some (0, am_si (am_si g 943 38 c) 943 26 t) else if c = 39 then some (0, am_si (am_si g 943 38 c) 943 26 t) else fm_23 (am_si g 943 38 c)) :
    si_ok n (ft_ok Z U G H) (fm_250 gR) i gM fun q gR' i' gM' => (q = 34 ∨ q = 39) ∧ am_i gM' 943 38 = q ∧ rd_Q gR gM N n t gR' i' gM' := by
  unfold fm_250 fj_250_21
  rw [rs_h S, lo_ps]
  by_cases q : i = 34 ∨ i = 39
  · have e : (if i = 34 then fj_250_26 gR i 1 else if i = 39 then fj_250_26 gR i 1 else fj_250_26 gR i 0) = fj_250_26 gR i 1 := by
      rcases q with q | q
      · rw [if_pos q]
      · rw [if_neg (by rw [q]; decide), if_pos q]
    rw [e]
    unfold fj_250_26
    rw [nd_t, lo_tl]
    have hi : i ≠ -1 := by rcases q with q | q <;> (rw [q]; decide)
    obtain ⟨gR1, i1, g2, e1, e2, e3, e4, e5⟩ := fs_ps (g1 := am_si (am_si (am_si gM 943 29 0) 943 38 i) 943 26 t) S hi (by
      rw [hs _ _ (show am_i (am_si gM 943 29 0) 943 26 = s from h26) hbl]
      rcases q with q | q
      · rw [if_pos q]
      · rw [if_neg (by rw [q]; decide), if_pos q]) rfl (ag_si rfl (ag_si rfl (ag_si rfl ag_re)))
    rw [e1, lo_ps]
    exact ⟨_, rfl, i1, g2, e3, q, ((e5.1 943 38 rfl).1).trans rfl, _, _, e4, e2, fx_tr (fx_tr (fx_tr (fx_si rfl) (fx_si rfl)) (fx_si rfl)) (ct_rg (tk_ct e5)), ((e5.1 943 26 rfl).1).trans rfl⟩
  · have n1 : ¬ i = 34 := fun e => q (Or.inl e)
    have n2 : ¬ i = 39 := fun e => q (Or.inr e)
    rw [if_neg n1, if_neg n2]
    unfold fj_250_26
    exact si_bd (nd_f (Q := fun _ _ _ _ => False) B S (fun _ => h26 ▸ hst) fun _ => ⟨am_si (am_si gM 943 29 0) 943 38 i, by rw [hs _ _ (show am_i (am_si gM 943 29 0) 943 26 = s from h26) hbl, if_neg n1, if_neg n2], ag_si rfl (ag_si rfl ag_re), rfl⟩) fun _ _ _ _ z => z.elim
/-- blanks, =, blanks, a quote -/
theorem eq_ok {gR gM : am_G} {p : Nat} {rs : List (List Int32)} {i s1 s2 t : Int32} (B : bi_ok Z U G H gR gM) (S : fs_ok gR gM N n p rs i) (h26 : am_i gM 943 26 = s1) (st1 : st_in s1) (st2 : st_in s2)
    (h1 : ∀ (g : am_G) (c : Int32), am_i g 943 26 = s1 → fm_133 g c = bif ch_bl c then some (0, g) else if c = 61 then some (0, am_si g 943 26 s2) else fm_23 g)
    (h2 : ∀ (g : am_G) (c : Int32), am_i g 943 26 = s2 → fm_133 g c = bif ch_bl c then some (0, g) else if c = 34 then some (0, am_si (am_si g 943 38 c) 943 26 t) else if c = 39 then some (0, am_si (am_si g 943 38 c) 943 26 t) else fm_23 (am_si g 943 38 c)) :
    si_ok n (ft_ok Z U G H) (fm_257 gR) i gM fun q gR' i' gM' => (q = 34 ∨ q = 39) ∧ am_i gM' 943 38 = q ∧ rd_Q gR gM N n t gR' i' gM' := by
  unfold fm_257
  obtain ⟨gR1, i1, g1, p1, rs1, a1, a2, a3, a4, a5, a6, a7⟩ := bk_ok (fun g c h q => by rw [h1 g c h, q]; rfl) S h26
  rw [a1, lo_is]
  have c1 : fx_i ct_S gM g1 := tk_ct a6
  have B1 := bi_ct B a5 c1
  refine si_m a2 ?_
  refine si_bd (on_go (s := s1) (t := s2) B1 a3 a4 (fun g h => by
    rw [h1 g 61 h, show ch_bl 61 = false from ch_f (by rw [show (61 : Int32).toInt = 61 from rfl]; unfold bl_P; omega), cond_false, if_pos rfl]) (fun _ => st1) (by decide) (fun g d h q e => by rw [h1 g d h, e, a7, cond_false, if_neg (by rw [← e]; exact q)])) ?_
  rintro _ gR2 i2 g2 ⟨_, p2, rs2, S2, f3, f4, h26b⟩
  obtain ⟨gR3, i3, g3, p3, rs3, b1, b2', b3, b4, b5, b6, b7⟩ := bk_ok (s := s2) (fun g c h q => by rw [h2 g c h, q]; rfl) S2 h26b
  rw [b1, lo_is]
  have B3 := bi_ct (bi_ct B1 f3 f4) b5 (tk_ct b6)
  refine si_m b2' ?_
  refine si_bd (qu_ok B3 b3 b4 b7 st2 (fun g c h q => by rw [h2 g c h, q]; rfl)) ?_
  rintro q gR4 i4 g4 ⟨hq, hq2, p4, rs4, S4, f5, f6, f7⟩
  exact si_rt ⟨hq, hq2, p4, rs4, S4, fx_tr (fx_tr (fx_tr a5 f3) b5) f5, fx_tr (fx_tr (fx_tr (ct_rg c1) (ct_rg f4)) (ct_rg (tk_ct b6))) f6, f7⟩
end
