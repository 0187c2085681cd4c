/-! A name is read: R's draft and M's state 5; then M numbers it. -/
/-- R's draft holds w, behind u characters of the pool (what is longer than 60 is not kept) -/
def rq_ok (g : am_G) (u : Nat) (w : List Int32) : Prop := am_i g 43 6 = nI u ∧ u ≤ 14540 ∧ am_i g 43 7 = nI w.length ∧ ∀ k x, k < 60 → w[k]? = some x → am_i g 44 (u + k) = x
/-- M has read w in state 5 -/
def mw_q (g : am_G) (ps : Nat) (w : List Int32) : Prop := am_i g 943 26 = 5 ∧ am_i g 943 17 = nI ps ∧ am_i g 943 18 = nI w.length ∧ ∀ k x, w[k]? = some x → am_i g 951 (ps + k) = x
/-- what R changes when it spells -/
def rs_S (o k : Nat) : Bool := Nat.beq o 42 || (Nat.beq o 44 || (Nat.beq o 43 && Nat.beq k 7))
/-- what M changes when it reads a name -/
def mq_S (o k : Nat) : Bool := Nat.beq o 951 || (Nat.beq o 943 && (Nat.beq k 5 || (Nat.beq k 8 || (Nat.beq k 29 || (Nat.beq k 30 || (Nat.beq k 26 || (Nat.beq k 18 || (Nat.beq k 24 || Nat.beq k 25))))))))
theorem gs_lo {g g' : am_G} (h : gs_ok g) (lo : ∀ o k, o < 32 → am_i g' o k = am_i g o k) : gs_ok g' := by
  obtain ⟨s1, s2, s3, s4, a, b, c, d, e⟩ := h
  exact ⟨fun k hk => (lo 17 k (by decide)).trans (s1 k hk), fun k hk => (lo 18 k (by decide)).trans (s2 k hk), fun k hk => (lo 19 k (by decide)).trans (s3 k hk), fun o o1 o2 => (lo o 0 (by omega)).trans (s4 o o1 o2), (lo 11 0 (by decide)).trans a, (lo 12 0 (by decide)).trans b, (lo 13 0 (by decide)).trans c, (lo 14 0 (by decide)).trans d, (lo 15 0 (by decide)).trans e⟩
theorem gs_rs {g g' : am_G} (h : gs_ok g) (f : fx_i rs_S g g') : gs_ok g' := gs_lo h fun o k ho => (f.1 o k (by unfold rs_S; rw [beq_f (show o ≠ 42 by omega), beq_f (show o ≠ 44 by omega), beq_f (show o ≠ 43 by omega)]; rfl)).1
theorem ps_rs {o k : Nat} (h : rs_S o k = false) : ps_S o k = false := by
  unfold rs_S at h
  show Nat.beq o 42 = false
  cases q : Nat.beq o 42 with
  | false => rfl
  | true => rw [q] at h; cases h
theorem tk_mq {o k : Nat} (h : mq_S o k = false) : tk_S o k = false := by
  cases q : tk_S o k with
  | false => rfl
  | true =>
    unfold tk_S at q
    simp only [Bool.and_eq_true, Bool.or_eq_true, Nat.beq_eq] at q
    obtain ⟨rfl, q⟩ := q
    rcases q with rfl | rfl | rfl | rfl <;> cases h
theorem mq_h {o k : Nat} (h : mq_S o k = true) : mx_S o k = false ∧ ¬ (o = 943 ∧ k = 144) := by
  unfold mq_S at h
  simp only [Bool.and_eq_true, Bool.or_eq_true, Nat.beq_eq] at h
  rcases h with h | ⟨rfl, h⟩
  · subst h
    exact ⟨rfl, by omega⟩
  · rcases h with rfl | rfl | rfl | rfl | rfl | rfl | rfl | rfl <;> exact ⟨rfl, by omega⟩
theorem rs_h2 {o k : Nat} (h : rs_S o k = true) : 33 ≤ o ∧ o < 943 ∧ o ≠ 34 ∧ ¬ (o = 33 ∧ k = 13) := by
  unfold rs_S at h
  simp only [Bool.and_eq_true, Bool.or_eq_true, Nat.beq_eq] at h
  omega
theorem ap_at {w : List Int32} {c x : Int32} {k : Nat} (h : (w ++ [c])[k]? = some x) : (k < w.length ∧ w[k]? = some x) ∨ (k = w.length ∧ x = c) := by
  have hk := (List.getElem?_eq_some_iff.mp h).1
  rw [List.length_append] at hk
  have hk : k < w.length + 1 := hk
  by_cases q : k = w.length
  · right
    rw [q, List.getElem?_append_right (Nat.le_refl _), Nat.sub_self] at h
    cases h
    exact ⟨q, rfl⟩
  · left
    rw [List.getElem?_append_left (by omega)] at h
    exact ⟨by omega, h⟩
/-- R adds a character to its draft -/
theorem cm_229 {g : am_G} {u : Nat} {w : List Int32} (K : rq_ok g u w) (c : Int32) (hw : w.length < 100000) : ∃ g', fm_229 g c = some g' ∧ rq_ok g' u (w ++ [c]) ∧ fx_i rs_S g g' ∧ (∀ k, am_i g' 42 k = am_i g 42 k) ∧ ∀ k, k < u → am_i g' 44 k = am_i g 44 k := by
  obtain ⟨k1, k2, k3, k4⟩ := K
  unfold fm_229 fj_229_24
  rw [k3, show (60 : Int32) = nI 60 from rfl]
  by_cases q : 60 ≤ w.length
  · rw [if_pos (nI_le q (by omega))]
    refine ⟨_, rfl, ⟨?_, k2, ?_, fun k x hk hx => ?_⟩, fx_si rfl, fun k => by rw [gi_si, if_neg (by omega)], fun k _ => by rw [gi_si, if_neg (by omega)]⟩
    · rw [gi_si, if_neg (by omega)]; exact k1
    · rw [gi_si, if_pos ⟨rfl, rfl⟩, nI_1, List.length_append]; rfl
    · rw [gi_si, if_neg (by omega)]
      rcases ap_at hx with ⟨h1, h2⟩ | ⟨h1, h2⟩
      · exact k4 k x hk h2
      · omega
  · rw [if_neg (nI_ge (by omega) (by decide)), k1, nI_add, ai_nI (by omega) (by omega), lo_gt, nI_clamp (by omega)]
    refine ⟨_, rfl, ⟨?_, k2, ?_, fun k x hk hx => ?_⟩, fx_tr (fx_si rfl) (fx_si rfl), fun k => by rw [gi_si, if_neg (by omega), gi_si, if_neg (by omega)], fun k hk => by rw [gi_si, if_neg (by omega), gi_si, if_neg (by omega)]⟩
    · rw [gi_si, if_neg (by omega), gi_si, if_neg (by omega)]; exact k1
    · rw [gi_si, if_pos ⟨rfl, rfl⟩, gi_si, if_neg (by omega), k3, nI_1, List.length_append]; rfl
    · rw [gi_si, if_neg (by omega), gi_si]
      rcases ap_at hx with ⟨h1, h2⟩ | ⟨h1, h2⟩
      · rw [if_neg (by omega)]; exact k4 k x hk h2
      · rw [if_pos ⟨rfl, by rw [h1]⟩, h2]
section
variable {N : Nat} {n : Int32}
/-- the feed of R does not see the draft -/
theorem fs_rq {gR gR' gM : am_G} {p : Nat} {rs : List (List Int32)} {i : Int32} (S : fs_ok gR gM N n p rs i) (f : fx_i rs_S gR gR') (h42 : ∀ k, am_i gR' 42 k = am_i gR 42 k) : fs_ok gR' gM N n p rs i := by
  obtain ⟨s1, s2, s3, s4, s5, s6, s7⟩ := S
  have a35 : am_i gR' 35 3 = am_i gR 35 3 := (f.1 35 3 rfl).1
  have a37 : ∀ k, am_i gR' 37 k = am_i gR 37 k := fun k => (f.1 37 k rfl).1
  have a38 : ∀ k, am_i gR' 38 k = am_i gR 38 k := fun k => (f.1 38 k rfl).1
  have hh : rf_h gR' N p rs = rf_h gR N p rs := by
    cases rs with
    | nil => show (if p < N then am_i gR' 37 p else -1) = (if p < N then am_i gR 37 p else -1); rw [a37]
    | cons r rest => rfl
  refine ⟨⟨s1.1, a35.trans s1.2.1, (a38 N).trans s1.2.2.1, fun j hj => by rw [a37]; exact s1.2.2.2.1 j hj, pl_cg s1.2.2.2.2 a37 a38⟩, ⟨s2.1, fun j hj => by rw [a37, a38]; exact s2.2 j hj⟩, ⟨((f.1 39 4 rfl).1).trans s3.1, s3.2.1, (h42 0).trans s3.2.2.1, ?_⟩, s4, fun z => (s5 z).trans ((f.1 39 5 rfl).1).symm, s6.trans hh.symm, ?_⟩
  · refine rf_lc (fun d => (f.1 40 d rfl).2.2) (fun d => (f.1 41 d rfl).1) (fun o k h1 h2 => (f.1 o k ?_).1) rs (fun d _ _ => h42 d) s3.2.2.2
    unfold rs_S
    rw [beq_f (show o ≠ 42 by omega), beq_f (show o ≠ 44 by omega), beq_f (show o ≠ 43 by omega)]
    rfl
  · cases rs with
    | nil =>
      have s7 : if p < N then mf_ok gM (p + 1) [] ∧ am_i gM 943 30 = am_i gR 38 p ∧ am_i gM 943 29 = 1 else mf_ok gM p [] ∧ am_i gM 943 30 = n := s7
      show if p < N then mf_ok gM (p + 1) [] ∧ am_i gM 943 30 = am_i gR' 38 p ∧ am_i gM 943 29 = 1 else mf_ok gM p [] ∧ am_i gM 943 30 = n
      rw [a38]
      exact s7
    | cons r rest =>
      cases r with
      | nil => exact s7
      | cons c r => exact s7
theorem fx_42 {g h : am_G} (f : fx_i ps_S g h) : fx_i rs_S g h := fx_wk f fun _ _ => ps_rs
/-- what is left of the text at hand; some steps further on -/
def cu_l (g : am_G) (N p : Nat) (rs : List (List Int32)) : List Int32 := match rs with
  | [] => sl_l (am_i g 37) p (N - p)
  | r :: _ => r
def ad_p (p : Nat) (rs : List (List Int32)) (k : Nat) : Nat := match rs with
  | [] => p + k
  | _ :: _ => p
def ad_r (rs : List (List Int32)) (k : Nat) : List (List Int32) := match rs with
  | [] => []
  | r :: rest => r.drop k :: rest
theorem ad_p0 (p : Nat) (rs : List (List Int32)) : ad_p p rs 0 = p := by cases rs <;> rfl
theorem ad_r0 (rs : List (List Int32)) : ad_r rs 0 = rs := by cases rs <;> rfl
theorem ad_ps (p : Nat) (rs : List (List Int32)) (k : Nat) : ad_p (nx_p p rs) (nx_r rs) k = ad_p p rs (k + 1) := by
  cases rs with
  | nil => show p + 1 + k = p + (k + 1); omega
  | cons r rest => rfl
theorem ad_rs (rs : List (List Int32)) (k : Nat) : ad_r (nx_r rs) k = ad_r rs (k + 1) := by
  cases rs with
  | nil => rfl
  | cons r rest =>
    show (r.tail).drop k :: rest = r.drop (k + 1) :: rest
    cases r with
    | nil => simp
    | cons c r => rfl
theorem cu_cg {g g' : am_G} {N p : Nat} {rs : List (List Int32)} (h : ∀ k, am_i g' 37 k = am_i g 37 k) : cu_l g' N p rs = cu_l g N p rs := by
  cases rs with
  | nil => exact sl_cg fun i _ => h _
  | cons r rest => rfl
theorem cu_s {gR gM : am_G} {p : Nat} {rs : List (List Int32)} {i : Int32} (S : fs_ok gR gM N n p rs i) (hi : i ≠ -1) : cu_l gR N p rs = i :: cu_l gR N (nx_p p rs) (nx_r rs) := by
  obtain ⟨a1, a2, a3, a4, a5, a6, a7⟩ := fs_in S hi
  have e := S.2.2.2.2.2.1
  cases rs with
  | nil =>
    have hp := a6 rfl
    have e : i = if p < N then am_i gR 37 p else -1 := e
    rw [if_pos hp] at e
    show sl_l (am_i gR 37) p (N - p) = i :: sl_l (am_i gR 37) (p + 1) (N - (p + 1))
    rw [show N - p = (N - (p + 1)) + 1 by omega, sl_s, e]
  | cons r rest =>
    cases r with
    | nil => exact absurd rfl (a3 rest)
    | cons c r =>
      have e : i = c := e
      show c :: r = i :: r
      rw [e]
/-- the rest of a name -/
theorem sl_lp {u ps : Nat} (hps : ps ≤ 18999) : ∀ (m fuel : Nat) {gR gM : am_G} {p : Nat} {rs : List (List Int32)} {i : Int32} (w : List Int32), fl_n N p rs ≤ m → m < fuel → ps + w.length + m < 19000 → gs_ok gR → fs_ok gR gM N n p rs i → rq_ok gR u w → mw_q gM ps w →
    ∃ gR' i' gM' p' rs' v, lo_it (fun k x => fb_248_21 k x) fuel gR = some (.inl (), gR') ∧ (∀ res, mi_ok n i' gM' res → mi_ok n i gM res) ∧ fs_ok gR' gM' N n p' rs' i' ∧ rq_ok gR' u (w ++ v) ∧ mw_q gM' ps (w ++ v) ∧ ch_pt i' = false ∧ fx_i rs_S gR gR' ∧ fx_i mq_S gM gM' ∧
      (∀ x ∈ v, ch_pt x = true ∧ ch_ok x) ∧ am_i gM' 943 24 = am_i gM 943 24 ∧ am_i gM' 943 25 = am_i gM 943 25 ∧ v.length + fl_n N p' rs' ≤ fl_n N p rs ∧ p' = ad_p p rs v.length ∧ rs' = ad_r rs v.length ∧ cu_l gR N p rs = v ++ cu_l gR' N p' rs' ∧ (∀ k, k < u → am_i gR' 44 k = am_i gR 44 k) ∧ ∀ k, k < ps → am_i gM' 951 k = am_i gM 951 k := by
  intro m
  induction m with
  | zero =>
    intro fuel gR gM p rs i w hm hf hb hg S K L
    obtain ⟨fu, rfl⟩ : ∃ m, fuel = m + 1 := ⟨fuel - 1, by omega⟩
    have hp0 : ch_pt i = false := by
      cases q : ch_pt i with
      | false => rfl
      | true => have := fl_d S (pt_n q); omega
    refine ⟨gR, i, gM, p, rs, [], ?_, fun _ q => q, S, by rw [List.append_nil]; exact K, by rw [List.append_nil]; exact L, hp0, fx_re, fx_re, fun _ z => (nomatch z), rfl, rfl, by show 0 + _ ≤ _; omega, (ad_p0 p rs).symm, (ad_r0 rs).symm, rfl, fun _ _ => rfl, fun _ _ => rfl⟩
    show fb_248_21 _ _ = _
    unfold fb_248_21
    rw [rs_h S, lo_ps, cm_187 hg, lo_ps, hp0, if_pos (show b2 false = 0 from rfl)]
  | succ m ih =>
    intro fuel gR gM p rs i w hm hf hb hg S K L
    obtain ⟨fu, rfl⟩ : ∃ m, fuel = m + 1 := ⟨fuel - 1, by omega⟩
    cases q : ch_pt i with
    | false =>
      refine ⟨gR, i, gM, p, rs, [], ?_, fun _ q => q, S, by rw [List.append_nil]; exact K, by rw [List.append_nil]; exact L, q, fx_re, fx_re, fun _ z => (nomatch z), rfl, rfl, by show 0 + _ ≤ _; omega, (ad_p0 p rs).symm, (ad_r0 rs).symm, rfl, fun _ _ => rfl, fun _ _ => rfl⟩
      show fb_248_21 _ _ = _
      unfold fb_248_21
      rw [rs_h S, lo_ps, cm_187 hg, lo_ps, q, if_pos (show b2 false = 0 from rfl)]
    | true =>
      have hi := pt_n q
      obtain ⟨gA, a1, a2, a3, a4, a5⟩ := cm_229 K i (by omega)
      have S2 := fs_rq S a3 a4
      obtain ⟨l1, l2, l3, l4⟩ := L
      have hs : fm_133 (am_si gM 943 29 0) i = some (0, am_si (am_si (am_si gM 943 29 0) 951 (ps + w.length) i) 943 18 (nI (w.length + 1))) := by
        unfold fm_133
        rw [show am_i (am_si gM 943 29 0) 943 26 = am_i gM 943 26 from rfl, l1, if_pos rfl, cm_18, lo_ps, q, if_neg (show ¬ b2 true = 0 by decide), show am_i (am_si gM 943 29 0) 943 17 = am_i gM 943 17 from rfl, show am_i (am_si gM 943 29 0) 943 18 = am_i gM 943 18 from rfl, l2, l3, nI_add, ai_nI (by omega) (by omega), lo_gt, nI_clamp (by omega), nI_1]
      obtain ⟨gR1, i1, g2, e1, e2, e3, e4, e5⟩ := fs_ps S2 hi hs rfl (ag_si rfl (ag_si rfl (ag_si rfl ag_re)))
      have hd := fl_d S2 hi
      have K2 : rq_ok gR1 u (w ++ [i]) := ⟨((e2.1 43 6 rfl).1).trans a2.1, a2.2.1, ((e2.1 43 7 rfl).1).trans a2.2.2.1, fun k x hk hx => ((e2.1 44 (u + k) rfl).1).trans (a2.2.2.2 k x hk hx)⟩
      have L2 : mw_q g2 ps (w ++ [i]) := by
        refine ⟨((e5.1 943 26 rfl).1).trans l1, ((e5.1 943 17 rfl).1).trans l2, ((e5.1 943 18 rfl).1).trans (by rw [gi_si, if_pos ⟨rfl, rfl⟩, List.length_append]; rfl), fun k x hx => ((e5.1 951 (ps + k) rfl).1).trans ?_⟩
        rw [gi_si, if_neg (by omega), gi_si]
        rcases ap_at hx with ⟨h1, h2⟩ | ⟨h1, h2⟩
        · rw [if_neg (by omega)]; exact l4 k x h2
        · rw [if_pos ⟨rfl, by rw [h1]⟩, h2]
      have f1 : fx_i rs_S gR gR1 := fx_tr a3 (fx_42 e2)
      have hg1 : gs_ok gR1 := gs_rs hg f1
      have hlen : (w ++ [i]).length = w.length + 1 := by rw [List.length_append]; rfl
      obtain ⟨gR', i', gM', p', rs', v, b1, b2', b3, b4, b5, b6, b7, b8, b9, b10, b11, b12, b13, b14, b15, b16, b17⟩ := ih fu (w ++ [i]) (by omega) (by omega) (by rw [hlen]; omega) hg1 e4 K2 L2
      refine ⟨gR', i', gM', p', rs', i :: v, ?_, fun res z => e3 res (b2' res z), b3, ?_, ?_, b6, fx_tr f1 b7, ?_, ?_, ?_, ?_, ?_, b13.trans (ad_ps _ _ _), b14.trans (ad_rs _ _), ?_, fun k hk => (b16 k hk).trans (((e2.1 44 k rfl).1).trans (a5 k hk)), fun k hk => (b17 k hk).trans (((e5.1 951 k rfl).1).trans (by rw [gi_si, if_neg (by omega), gi_si, if_neg (by omega)]; rfl))⟩
      · show fb_248_21 _ _ = _
        unfold fb_248_21
        rw [rs_h S, lo_ps, cm_187 hg, lo_ps, q, if_neg (show ¬ b2 true = 0 by decide), lo_ps, a1, lo_ps, e1, lo_ps]
        exact b1
      · rw [List.append_assoc] at b4; exact b4
      · rw [List.append_assoc] at b5; exact b5
      · exact fx_tr (fx_tr (fx_tr (fx_tr (fx_si rfl) (fx_si rfl)) (fx_si rfl)) (fx_wk e5 fun _ _ => tk_mq)) b8
      · intro x hx
        rcases List.mem_cons.mp hx with z | z
        · rw [z]; exact ⟨q, (fs_in S hi).2.2.2.2.2.2⟩
        · exact b9 x z
      · exact b10.trans (((e5.1 943 24 rfl).1).trans rfl)
      · exact b11.trans (((e5.1 943 25 rfl).1).trans rfl)
      · show v.length + 1 + _ ≤ _
        omega
      · rw [cu_s S hi]
        show i :: _ = i :: (v ++ _)
        rw [← b15, cu_cg (g := gR) (g' := gR1) fun k => (f1.1 37 k rfl).1]
end
section
variable {Z U : Nat} {G H : am_G} {N : Nat} {n : Int32}
/-- M begins a name with the character in hand -/
theorem cm_27 {g : am_G} {i k : Int32} {ps : Nat} (h : ch_bg i = true) (h17 : am_i g 943 17 = nI ps) (hps : ps < 19000) : fm_27 g i k 0 = some (0, am_si (am_si (am_si (am_si (am_si (am_si g 943 24 k) 943 25 (am_i g 943 30)) 943 18 0) 951 ps i) 943 18 1) 943 26 5) := by
  unfold fm_27
  rw [if_pos rfl, cm_17, lo_ps, h, if_neg (show ¬ b2 true = 0 by decide)]
  unfold fj_27_26
  rw [h17, ai_nI hps (by omega), lo_gt, nI_clamp (by omega), cm_25, lo_is]
theorem cm_27f {g : am_G} {i k : Int32} (h : ch_bg i = false) : fm_27 g i k 0 = fm_23 g := by
  unfold fm_27
  rw [if_pos rfl, cm_17, lo_ps, h, if_pos (show b2 false = 0 from rfl)]
  unfold fj_27_21
  rw [lo_id]
theorem bg_pt {i : Int32} (h : ch_bg i = true) : ch_pt i = true := by unfold ch_pt; rw [h]; rfl
/-- R spells a name, M reads it in state 5 -/
theorem sp_l {gR gM g0 : am_G} {p u ps : Nat} {rs : List (List Int32)} {i k : Int32} (B : bi_ok Z U G H gR gM) (S : fs_ok gR gM N n p rs i) (hu : am_i gR 43 6 = nI u) (hul : u ≤ 14540) (hst : i = -1 → st_in (am_i gM 943 26))
    (h0 : i ≠ -1 → fm_133 (am_si gM 943 29 0) i = fm_27 g0 i k 0) (hf : ag_3 fd_S gM g0) (hw : ag_3 wr_S gM g0) (hz0 : g0.2.2.2 = gM.2.2.2) (h17 : am_i g0 943 17 = nI ps) (h29 : am_i g0 943 29 = 0) (hps : ps + fl_n N p rs < 19000) :
    si_ok n (ft_ok Z U G H) (fm_248 gR) i gM fun _ gR' i' gM' => ∃ p' rs' w, fs_ok gR' gM' N n p' rs' i' ∧ w ≠ [] ∧ (∀ x ∈ w, ch_pt x = true ∧ ch_ok x) ∧ rq_ok gR' u w ∧ mw_q gM' ps w ∧ ch_pt i' = false ∧ fx_i rs_S gR gR' ∧ fx_i mq_S g0 gM' ∧
      am_i gM' 943 24 = k ∧ am_i gM' 943 25 = rf_w gR p rs ∧ w.length + fl_n N p' rs' ≤ fl_n N p rs ∧ (∃ v, w = i :: v) ∧ ch_bg i = true ∧ p' = ad_p p rs w.length ∧ rs' = ad_r rs w.length ∧ cu_l gR N p rs = w ++ cu_l gR' N p' rs' ∧ (∀ k, k < u → am_i gR' 44 k = am_i gR 44 k) ∧ ∀ k, k < ps → am_i gM' 951 k = am_i g0 951 k := by
  unfold fm_248
  have hg : gs_ok gR := B.2.2.2.2.2.2.2
  rw [rs_h S, lo_ps, cm_186 hg, lo_ps]
  cases q : ch_bg i with
  | false =>
    refine si_bd (nd_f (Q := fun _ _ _ _ => False) B S hst fun hi => ⟨g0, by rw [h0 hi, cm_27f q], hw, hz0⟩) fun _ _ _ _ z => z.elim
  | true =>
    rw [show b2 true = 1 from rfl, nd_t, lo_tl]
    have hi := bg_n q
    have hfl := fl_d S hi
    unfold fm_228
    rw [lo_ps]
    have a8 : fx_i rs_S gR (am_si gR 43 7 0) := fx_si rfl
    have S8 := fs_rq S a8 (fun k => by rw [gi_si, if_neg (by omega)])
    have K8 : rq_ok (am_si gR 43 7 0) u [] := ⟨hu, hul, rfl, fun k x _ hx => (nomatch hx)⟩
    obtain ⟨gA, c1, c2, c3, c4, c5⟩ := cm_229 K8 i (by decide)
    have SA := fs_rq S8 c3 c4
    have hs : fm_133 (am_si gM 943 29 0) i = some (0, am_si (am_si (am_si (am_si (am_si (am_si g0 943 24 k) 943 25 (am_i g0 943 30)) 943 18 0) 951 ps i) 943 18 1) 943 26 5) := by
      rw [h0 hi]; exact cm_27 q h17 (by omega)
    obtain ⟨gR1, i1, g2, e1, e2, e3, e4, e5⟩ := fs_ps SA hi hs (by show am_i g0 943 29 = 0; exact h29) (ag_tr hf (ag_si rfl (ag_si rfl (ag_si rfl (ag_si rfl (ag_si rfl (ag_si rfl ag_re)))))))
    have K1 : rq_ok gR1 u [i] := ⟨((e2.1 43 6 rfl).1).trans c2.1, hul, ((e2.1 43 7 rfl).1).trans c2.2.2.1, fun k x hk hx => ((e2.1 44 (u + k) rfl).1).trans (c2.2.2.2 k x hk hx)⟩
    have L1 : mw_q g2 ps [i] := by
      refine ⟨((e5.1 943 26 rfl).1).trans rfl, ((e5.1 943 17 rfl).1).trans h17, ((e5.1 943 18 rfl).1).trans rfl, fun k x hx => ((e5.1 951 (ps + k) rfl).1).trans ?_⟩
      have hk : k = 0 := by
        have := (List.getElem?_eq_some_iff.mp hx).1
        have : k < 1 := this
        omega
      subst hk
      cases hx
      rw [gi_si, if_neg (by omega), gi_si, if_neg (by omega), gi_si, if_pos ⟨rfl, rfl⟩]
    have f1 : fx_i rs_S gR gR1 := fx_tr (fx_tr a8 c3) (fx_42 e2)
    have hg1 : gs_ok gR1 := gs_rs hg f1
    obtain ⟨m, hm⟩ : ∃ m, nf_F = m + 1 := ⟨nf_F - 1, by have := nf_le; omega⟩
    have hb8 := fl_b S.1 S.2.2.1
    obtain ⟨gR', i', gM', p', rs', v, b1, b2', b3, b4, b5, b6, b7, b8, b9, b10, b11, b12, b13, b14, b15, b16, b17⟩ := sl_lp (u := u) (ps := ps) (by omega) (fl_n N (nx_p p rs) (nx_r rs)) m [i] (Nat.le_refl _) (by have := nf_le; omega) (by show ps + 1 + _ < _; omega) hg1 e4 K1 L1
    have el : fh_248_21 (am_si gR 43 7 0) = some (.inl (), gR') := by
      unfold fh_248_21
      rw [hm]
      show fb_248_21 _ _ = _
      unfold fb_248_21
      rw [rs_h S8, lo_ps, cm_187 (gs_rs hg a8), lo_ps, bg_pt q, if_neg (show ¬ b2 true = 0 by decide), lo_ps, c1, lo_ps, e1, lo_ps]
      exact b1
    rw [el]
    refine ⟨_, rfl, i', gM', fun res z => e3 res (b2' res z), p', rs', i :: v, b3, List.cons_ne_nil _ _, ?_, b4, b5, b6, fx_tr f1 b7, ?_, ?_, ?_, ?_, ⟨v, rfl⟩, rfl, b13.trans (ad_ps _ _ _), b14.trans (ad_rs _ _), ?_, fun k hk => (b16 k hk).trans (((e2.1 44 k rfl).1).trans (c5 k hk)), fun k hk => (b17 k hk).trans (((e5.1 951 k rfl).1).trans (by rw [gi_si, if_neg (by omega), gi_si, if_neg (by omega), gi_si, if_neg (by omega)]; rfl))⟩
    · intro x hx
      rcases List.mem_cons.mp hx with z | z
      · rw [z]; exact ⟨bg_pt q, (fs_in S hi).2.2.2.2.2.2⟩
      · exact b9 x z
    · exact fx_tr (fx_tr (fx_tr (fx_tr (fx_tr (fx_tr (fx_tr (fx_si rfl) (fx_si rfl)) (fx_si rfl)) (fx_si rfl)) (fx_si rfl)) (fx_si rfl)) (fx_wk e5 fun _ _ => tk_mq)) b8
    · exact b10.trans (((e5.1 943 24 rfl).1).trans rfl)
    · refine b11.trans (((e5.1 943 25 rfl).1).trans ?_)
      show am_i g0 943 30 = _
      rw [(hw 943 30 rfl).1]
      exact (fs_in S hi).2.2.2.2.1
    · show v.length + 1 + _ ≤ _
      omega
    · rw [cu_s S hi]
      show i :: _ = i :: (v ++ _)
      rw [← b15, cu_cg (g := gR) (g' := gR1) fun k => (f1.1 37 k rfl).1]
/-- M numbers a name that has been read to its end: what is in hand is looked at behind it -/
theorem mi_n {gM gM3 : am_G} {i : Int32} {res : Int32 × am_G} (h5 : am_i gM 943 26 = 5) (hp : ch_pt i = false) (h29 : i ≠ -1 → am_i gM 943 29 = 1) (h30 : i = -1 → ¬ 0 < am_i gM 943 9 → am_i gM 943 30 = n ∧ am_i gM3 943 30 = n) (hn : fm_33 gM = some (0, gM3)) (hs : am_i gM3 943 26 ≠ 5)
    (ha : am_i gM3 943 29 = am_i gM 943 29) (hf : ag_3 fd_S gM gM3) (h : mi_ok n i gM3 res) : mi_ok n i gM res := by
  have hrk : rk_n (am_i gM3 943 26) < 12 := by
    have : ∀ s : Int32, s ≠ 5 → rk_n s < 12 := by
      intro s hs
      unfold rk_n
      rw [if_neg hs]
      have a1 : ∀ {p : Prop} [Decidable p] {a b : Nat}, a < 12 → b < 12 → (if p then a else b) < 12 := by
        intro p _ a b x y
        split
        · exact x
        · exact y
      iterate 14 refine a1 (by decide) ?_
      decide
    exact this _ hs
  by_cases q : i = -1
  · subst q
    have e9 : am_i gM3 943 9 = am_i gM 943 9 := (hf 943 9 rfl).1
    unfold mi_ok at h ⊢
    rw [if_pos rfl] at h ⊢
    rw [e9] at h
    by_cases z : 0 < am_i gM 943 9
    · rw [if_pos z] at h ⊢
      intro k hk
      have := h k (by rw [mm_cg hf]; exact hk)
      unfold fm_103 at this ⊢
      rw [if_pos h5, hn, lo_is, if_pos (by decide)]
      rw [if_neg hs] at this
      exact this
    · rw [if_neg z] at h ⊢
      obtain ⟨w1, w2⟩ := h30 rfl z
      unfold fj_137_138 at h ⊢
      rw [if_pos rfl] at h ⊢
      rw [if_neg hs, si_id gM3 943 30 w2] at h
      rw [if_pos h5, si_id gM 943 30 w1, hn, lo_is]
      exact h
  · refine mi_a q (h29 q) (g1 := gM3) ?_ (ha.trans (h29 q)) (by rw [h5]; exact hrk) (by rw [mm_cg hf]; omega) h
    unfold fm_133
    rw [show am_i (am_si gM 943 29 0) 943 26 = am_i gM 943 26 from rfl, h5, if_pos rfl, cm_18, lo_ps, hp, if_pos (show b2 false = 0 from rfl), si_si, si_id gM 943 29 (h29 q), hn, lo_is]
/-- a name that is a fault -/
theorem mi_nf {gM gM3 : am_G} {i y : Int32} (hy : y ≠ 0) (hy2 : y < 0) (h5 : am_i gM 943 26 = 5) (hp : ch_pt i = false) (h29 : i ≠ -1 → am_i gM 943 29 = 1) (h30 : i = -1 → ¬ 0 < am_i gM 943 9 → am_i gM 943 30 = n) (hd : i = -1 → 0 < am_i gM 943 9 → 1 ≤ mm_n gM) (hn : fm_33 gM = some (y, gM3)) (hy1 : y = -1) :
    ∃ g', mi_ok n i gM (-1, g') ∧ (g' = gM3 ∨ g' = am_si gM3 943 30 n) := by
  subst hy1
  by_cases q : i = -1
  · subst q
    by_cases z : 0 < am_i gM 943 9
    · refine ⟨am_si gM3 943 30 n, ?_, Or.inr rfl⟩
      unfold mi_ok
      rw [if_pos rfl, if_pos z]
      intro k hk
      unfold fm_103
      rw [if_pos h5, hn, lo_is, if_neg (by decide), lo_is]
      exact mr_f k (by have := hd rfl z; omega) (by decide)
    · refine ⟨gM3, ?_, Or.inl rfl⟩
      unfold mi_ok
      rw [if_pos rfl, if_neg z]
      unfold fj_137_138
      rw [if_pos rfl, if_pos h5, si_id gM 943 30 (h30 rfl z), hn, lo_is]
      unfold fj_137_160
      rw [if_neg (by decide)]
      unfold fj_137_184
      rw [if_neg (by decide)]
  · refine ⟨am_si gM3 943 30 n, mi_f q (h29 q) (by decide) ?_, Or.inr rfl⟩
    unfold fm_133
    rw [show am_i (am_si gM 943 29 0) 943 26 = am_i gM 943 26 from rfl, h5, if_pos rfl, cm_18, lo_ps, hp, if_pos (show b2 false = 0 from rfl), si_si, si_id gM 943 29 (h29 q), hn, lo_is]
end
