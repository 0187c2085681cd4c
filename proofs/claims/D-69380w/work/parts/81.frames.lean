/-! Frames of entities; cells of the core of the world; measures. -/
def fr_e (gR gM : am_G) (d j : Nat) (pc : Bool) : Prop := am_i gM 950 d = nI j ∧ am_i gM 986 j = b2 pc ∧ am_r gR 40 (d + 1) = some (en_t pc) ∧ am_i gR 41 (d + 1) = nI (en_n gM pc j)
def fr_w (gR gM : am_G) : Prop := ∃ F En mt lim, am_i gM 943 9 = nI F ∧ am_i gR 39 4 = nI F ∧ F ≤ 16 ∧ am_i gM 943 95 = nI En ∧ En ≤ 40 ∧ am_i gR 39 6 = nI mt ∧ am_i gM 943 14 = nI mt ∧ mt ≤ lim ∧ lim ≤ 100000 ∧ am_i gR 33 10 = nI lim ∧ am_i gM 943 15 = nI lim ∧ (∀ d, d < F → ∃ j pc, j < En ∧ fr_e gR gM d j pc) ∧
  (∀ d d', d < F → d' < F → am_i gM 950 d = am_i gM 950 d' → d = d') ∧ ∀ j pc, j < En → am_i gM 986 j = b2 pc → ((∃ d, d < F ∧ am_i gM 950 d = nI j) → am_i gR (en_t pc + 4) (en_n gM pc j) = 1) ∧ ((∀ d, d < F → am_i gM 950 d ≠ nI j) → am_i gR (en_t pc + 4) (en_n gM pc j) = 0)
theorem fx_w2 {S T : Nat → Nat → Bool} {g h : am_G} (a : fx_i S g h) (w : ∀ o k, S o k = true → T o k = true) : fx_i T g h := fx_wk a fun o k q => by
  cases z : S o k with
  | false => rfl
  | true => rw [w o k z] at q; cases q
theorem ag_f2 {S T : Nat → Nat → Bool} {g h : am_G} (f : fx_i S g h) (w : ∀ o k, T o k = true → S o k = false) : ag_3 T g h := ag_fx f w ag_re
/-- R's cells outside of the feed and of the core -/
def zR_S (o k : Nat) : Bool := Nat.beq o 42 || ((Nat.beq o 33 && (Nat.beq k 11 || (Nat.beq k 12 || Nat.ble 14 k))) || ((Nat.beq o 43 && Nat.beq k 7) || ((Nat.ble 49 o && Nat.blt o 855) || (Nat.ble 867 o && Nat.blt o 943))))
/-- M's -/
def zM_S (o k : Nat) : Bool := (Nat.beq o 943 && (Nat.beq k 5 || (Nat.beq k 8 || (Nat.beq k 18 || (Nat.ble 24 k && (!Nat.beq k 95 && (!Nat.beq k 101 && (!Nat.beq k 139 && !Nat.beq k 144)))))))) || ((Nat.ble 956 o && Nat.ble o 984) || (Nat.ble 990 o && Nat.ble o 1007))
theorem nb_f {a b : Nat} : Nat.beq a b = false ↔ a ≠ b := by
  rw [← Bool.not_eq_true, Nat.beq_eq]
theorem zR_c {o k : Nat} : zR_S o k = true ↔ (o = 42 ∨ (o = 33 ∧ (k = 11 ∨ k = 12 ∨ 14 ≤ k)) ∨ (o = 43 ∧ k = 7) ∨ (49 ≤ o ∧ o < 855) ∨ (867 ≤ o ∧ o < 943)) := by
  unfold zR_S
  simp only [Bool.or_eq_true, Bool.and_eq_true, Nat.beq_eq, Nat.ble_eq, Nat.blt_eq]
theorem zM_c {o k : Nat} : zM_S o k = true ↔ ((o = 943 ∧ (k = 5 ∨ k = 8 ∨ k = 18 ∨ (24 ≤ k ∧ k ≠ 95 ∧ k ≠ 101 ∧ k ≠ 139 ∧ k ≠ 144))) ∨ (956 ≤ o ∧ o ≤ 984) ∨ (990 ≤ o ∧ o ≤ 1007)) := by
  unfold zM_S
  simp only [Bool.or_eq_true, Bool.and_eq_true, Nat.beq_eq, Nat.ble_eq, Nat.blt_eq, Bool.not_eq_true', nb_f]
theorem mx_c {o k : Nat} : mx_S o k = true ↔ (o < 943 ∨ 1008 ≤ o ∨ (o = 943 ∧ (k = 1 ∨ k = 6 ∨ k = 15 ∨ k = 139))) := by
  unfold mx_S
  simp only [Bool.or_eq_true, Bool.and_eq_true, Nat.beq_eq, Nat.ble_eq, Nat.blt_eq]
theorem sb_f {b : Bool} (h : ¬ b = true) : b = false := by cases b with
  | false => rfl
  | true => exact absurd rfl h
theorem zR_f {o k : Nat} (h : ¬ (o = 42 ∨ (o = 33 ∧ (k = 11 ∨ k = 12 ∨ 14 ≤ k)) ∨ (o = 43 ∧ k = 7) ∨ (49 ≤ o ∧ o < 855) ∨ (867 ≤ o ∧ o < 943))) : zR_S o k = false := sb_f fun q => h (zR_c.mp q)
theorem zM_f {o k : Nat} (h : ¬ ((o = 943 ∧ (k = 5 ∨ k = 8 ∨ k = 18 ∨ (24 ≤ k ∧ k ≠ 95 ∧ k ≠ 101 ∧ k ≠ 139 ∧ k ≠ 144))) ∨ (956 ≤ o ∧ o ≤ 984) ∨ (990 ≤ o ∧ o ≤ 1007))) : zM_S o k = false := sb_f fun q => h (zM_c.mp q)
theorem zR_h {o k : Nat} (h : zR_S o k = true) : 33 ≤ o ∧ o < 943 ∧ o ≠ 34 ∧ ¬ (o = 33 ∧ k = 13) := by
  have := zR_c.mp h
  omega
theorem zM_h {o k : Nat} (h : zM_S o k = true) : mx_S o k = false ∧ ¬ (o = 943 ∧ k = 144) := by
  have := zM_c.mp h
  exact ⟨sb_f fun q => by have := mx_c.mp q; omega, by omega⟩
/-- sets of cells that acts may change -/
def sr_ok (S : Nat → Nat → Bool) : Prop := ∀ o k, S o k = true → zR_S o k = true
def sm_ok (S : Nat → Nat → Bool) : Prop := ∀ o k, S o k = true → zM_S o k = true
theorem ps_z : sr_ok ps_S := fun o k h => zR_c.mpr (Or.inl (Nat.eq_of_beq_eq_true h))
theorem zR_z : sr_ok zR_S := fun _ _ h => h
theorem zM_z : sm_ok zM_S := fun _ _ h => h
theorem ct_z : sm_ok ct_S := fun o k h => zM_c.mpr (by have := ct_c h; omega)
theorem rg_z : sm_ok rg_S := fun o k h => zM_c.mpr (by have := rg_c h; omega)
theorem bi_z {Z U : Nat} {G H gR gM gR' gM' : am_G} {SR SM : Nat → Nat → Bool} (B : bi_ok Z U G H gR gM) (f1 : fx_i SR gR gR') (f2 : fx_i SM gM gM') (h1 : sr_ok SR) (h2 : sm_ok SM) : bi_ok Z U G H gR' gM' := bi_fx B f1 f2 (fun o k q => zR_h (h1 o k q)) (fun o k q => zM_h (h2 o k q))
-- measures
def rl_n : List (List Int32) → Nat
  | [] => 0
  | r :: rs => r.length + rl_n rs
theorem rw_n : ∀ rs : List (List Int32), (rw_l rs).length = rl_n rs + rs.length
  | [] => rfl
  | r :: rs => by
    show (rw_l rs ++ (-1 :: r.reverse)).length = r.length + rl_n rs + (rs.length + 1)
    rw [List.length_append, List.length_cons, List.length_reverse, rw_n rs]
    omega
def mu_n (g : am_G) (i : Int32) : Nat := mm_n g + (if i = -1 then 0 else 3)
theorem mm_mf {g : am_G} {N q : Nat} {rs : List (List Int32)} (h4 : am_i g 943 4 = nI N) (hN : N ≤ 6000) (hq : q ≤ 6000) (K : mf_ok g q rs) : mm_n g = 3 * ((N - q) + rl_n rs + (mc_n g 15 - mc_n g 14)) + rs.length := by
  obtain ⟨k5, k9, k8, kl, kr⟩ := K
  have e := rw_n rs
  unfold mm_n
  have e4 : mc_n g 4 = N := by unfold mc_n; rw [h4, nI_clamp (by omega)]
  have e5 : mc_n g 5 = q := by unfold mc_n; rw [k5, nI_clamp (by omega)]
  have e8 : mc_n g 8 = (rw_l rs).length := by unfold mc_n; rw [k8, nI_clamp (by omega)]
  have e9 : mc_n g 9 = rs.length := by unfold mc_n; rw [k9, nI_clamp (by omega)]
  rw [e4, e5, e8, e9, e]
  omega
theorem mu_fs {gR gM : am_G} {N p : Nat} {n i : Int32} {rs : List (List Int32)} (S : fs_ok gR gM N n p rs i) : mu_n gM i = 3 * ((N - p) + rl_n rs + (mc_n gM 15 - mc_n gM 14)) + rs.length := by
  obtain ⟨s1, s2, s3, s4, s5, s6, s7⟩ := S
  have hN := s1.1
  unfold mu_n
  cases rs with
  | nil =>
    have s7 : if p < N then mf_ok gM (p + 1) [] ∧ am_i gM 943 30 = am_i gR 38 p ∧ am_i gM 943 29 = 1 else mf_ok gM p [] ∧ am_i gM 943 30 = n := s7
    have s6 : i = if p < N then am_i gR 37 p else -1 := s6
    by_cases q : p < N
    · rw [if_pos q] at s7 s6
      rw [mm_mf s2.1 hN (by omega) s7.1, if_neg (by rw [s6]; exact (ch_n (s1.2.2.2.1 p q)).1)]
      omega
    · rw [if_neg q] at s7 s6
      rw [mm_mf s2.1 hN (by omega) s7.1, if_pos s6]
      omega
  | cons r rest =>
    cases r with
    | nil =>
      have s6 : i = -1 := s6
      rw [mm_mf s2.1 hN (by omega) s7, if_pos s6]
      omega
    | cons c r =>
      have s6 : i = c := s6
      have hc : ch_ok c := by
        obtain ⟨⟨t, e, a, s, z, h1, h2, h3, h4, h5, h6, h7, h8, h9, h10, h11⟩, _⟩ := s3.2.2.2
        exact h11 c (List.mem_cons_self)
      rw [mm_mf s2.1 hN (by omega) s7.1, if_neg (by rw [s6]; exact (ch_n hc).1)]
      show 3 * (N - p + (r.length + rl_n rest) + _) + (rest.length + 1) + 3 = 3 * (N - p + (r.length + 1 + rl_n rest) + _) + (rest.length + 1)
      omega
/-- rests only shrink -/
theorem rl_mo {g h : am_G} (h40 : ∀ d, am_r h 40 d = am_r g 40 d) (h41 : ∀ d, am_i h 41 d = am_i g 41 d) (ht : ∀ o k, 857 ≤ o → o ≤ 866 → am_i h o k = am_i g o k) (hm : ∀ d, am_i g 42 d ≤ am_i h 42 d) :
    ∀ rs rs' : List (List Int32), rf_l g rs → rf_l h rs' → rs.length = rs'.length → rl_n rs' ≤ rl_n rs
  | [], [], _, _, _ => Nat.le_refl _
  | [], _ :: _, _, _, e => (nomatch e)
  | _ :: _, [], _, _, e => (nomatch e)
  | r :: rs, r' :: rs', K, K', e => by
    have el : rs.length = rs'.length := Nat.succ.inj e
    have ih := rl_mo h40 h41 ht hm rs rs' K.2 K'.2 el
    obtain ⟨t, e1, a, s, z, k1, k2, k3, k4, k5, k6, k7, k8, k9, k10, k11⟩ := K.1
    obtain ⟨t', e1', a', s', z', k1', k2', k3', k4', k5', k6', k7', k8', k9', k10', k11'⟩ := K'.1
    rw [← el, h40, k1] at k1'
    have ett : t = t' := Option.some.inj k1'
    subst ett
    rw [← el, h41, k3] at k3'
    have eee : e1 = e1' := (nI_eq (by omega) (by omega)).mp k3'
    subst eee
    rw [ht _ _ (by omega) (by omega), k7] at k7'
    have ezz : z = z' := (nI_eq (by omega) (by omega)).mp k7'
    subst ezz
    have hm1 := hm (rs.length + 1)
    rw [← el] at k5'
    rw [k5, k5', nI_leI (by omega) (by omega)] at hm1
    show r'.length + rl_n rs' ≤ r.length + rl_n rs
    rw [k10, k10', sl_len, sl_len]
    omega
theorem mu_l0 {gR gM gR' gM' : am_G} {N p p' : Nat} {n i i' : Int32} {rs rs' : List (List Int32)} (S : fs_ok gR gM N n p rs i) (S' : fs_ok gR' gM' N n p' rs' i') (h39 : am_i gR' 39 4 = am_i gR 39 4) (h40 : ∀ d, am_r gR' 40 d = am_r gR 40 d) (h41 : ∀ d, am_i gR' 41 d = am_i gR 41 d) (ht : ∀ o k, 857 ≤ o → o ≤ 866 → am_i gR' o k = am_i gR o k)
    (hm : ∀ d, am_i gR 42 d ≤ am_i gR' 42 d) (m14 : am_i gM' 943 14 = am_i gM 943 14) (m15 : am_i gM' 943 15 = am_i gM 943 15) : mu_n gM' i' ≤ mu_n gM i ∧ p ≤ p' := by
  have hl : rs.length = rs'.length := by
    have e := S'.2.2.1.1
    rw [h39, S.2.2.1.1] at e
    exact (nI_eq (by have := S.2.2.1.2.1; omega) (by have := S'.2.2.1.2.1; omega)).mp e
  have hN := S.1.1
  have hp : p ≤ p' := by
    have := hm 0
    rw [S.2.2.1.2.2.1, S'.2.2.1.2.2.1] at this
    exact (nI_leI (by have := S.2.2.2.1; omega) (by have := S'.2.2.2.1; omega)).mp this
  have hr := rl_mo h40 h41 ht hm rs rs' S.2.2.1.2.2.2 S'.2.2.1.2.2.2 hl
  refine ⟨?_, hp⟩
  have e15 : mc_n gM' 15 = mc_n gM 15 := by unfold mc_n; rw [m15]
  have e14 : mc_n gM' 14 = mc_n gM 14 := by unfold mc_n; rw [m14]
  rw [mu_fs S, mu_fs S', e15, e14, hl]
  omega
/-- with the pools -/
def yR_S (o k : Nat) : Bool := zR_S o k || (Nat.beq o 43 || (Nat.ble 44 o && Nat.ble o 48))
def yM_S (o k : Nat) : Bool := zM_S o k || ((Nat.beq o 943 && (Nat.beq k 17 || Nat.beq k 21)) || (Nat.ble 951 o && Nat.ble o 955))
theorem yR_c {o k : Nat} : yR_S o k = true ↔ (zR_S o k = true ∨ (43 ≤ o ∧ o ≤ 48)) := by
  unfold yR_S
  simp only [Bool.or_eq_true, Bool.and_eq_true, Nat.beq_eq, Nat.ble_eq]
  constructor
  · rintro (h | h | h)
    · exact Or.inl h
    · exact Or.inr (by omega)
    · exact Or.inr (by omega)
  · rintro (h | h)
    · exact Or.inl h
    · by_cases q : o = 43
      · exact Or.inr (Or.inl q)
      · exact Or.inr (Or.inr (by omega))
theorem yM_c {o k : Nat} : yM_S o k = true ↔ (zM_S o k = true ∨ ((o = 943 ∧ (k = 17 ∨ k = 21)) ∨ (951 ≤ o ∧ o ≤ 955))) := by
  unfold yM_S
  simp only [Bool.or_eq_true, Bool.and_eq_true, Nat.beq_eq, Nat.ble_eq]
def tr_ok (S : Nat → Nat → Bool) : Prop := ∀ o k, S o k = true → yR_S o k = true
def tm_ok (S : Nat → Nat → Bool) : Prop := ∀ o k, S o k = true → yM_S o k = true
theorem tr_s {S : Nat → Nat → Bool} (h : sr_ok S) : tr_ok S := fun o k q => yR_c.mpr (Or.inl (h o k q))
theorem tm_s {S : Nat → Nat → Bool} (h : sm_ok S) : tm_ok S := fun o k q => yM_c.mpr (Or.inl (h o k q))
theorem tr_f {S : Nat → Nat → Bool} (h : tr_ok S) {o k : Nat} (q : ¬ (o = 42 ∨ (o = 33 ∧ (k = 11 ∨ k = 12 ∨ 14 ≤ k)) ∨ (43 ≤ o ∧ o < 855) ∨ (867 ≤ o ∧ o < 943))) : S o k = false := sb_f fun w => by
  rcases yR_c.mp (h o k w) with z | z
  · have := zR_c.mp z; omega
  · omega
theorem tm_f {S : Nat → Nat → Bool} (h : tm_ok S) {o k : Nat} (q : ¬ ((o = 943 ∧ (k = 5 ∨ k = 8 ∨ k = 17 ∨ k = 18 ∨ k = 21 ∨ (24 ≤ k ∧ k ≠ 95 ∧ k ≠ 101 ∧ k ≠ 139 ∧ k ≠ 144))) ∨ (951 ≤ o ∧ o ≤ 984) ∨ (990 ≤ o ∧ o ≤ 1007))) : S o k = false := sb_f fun w => by
  rcases yM_c.mp (h o k w) with z | z
  · have := zM_c.mp z; omega
  · omega
theorem bi_y {Z U : Nat} {G H gR gM gR' gM' : am_G} {SR SM : Nat → Nat → Bool} (B : bi_ok Z U G H gR gM) (f1 : fx_i SR gR gR') (f2 : fx_i SM gM gM') (h1 : tr_ok SR) (h2 : tm_ok SM) : bi_ok Z U G H gR' gM' := bi_fx B f1 f2 (fun o k q => by
    rcases yR_c.mp (h1 o k q) with z | z
    · exact zR_h z
    · omega) (fun o k q => by
    rcases yM_c.mp (h2 o k q) with z | z
    · exact zM_h z
    · exact ⟨sb_f fun w => by have := mx_c.mp w; omega, by omega⟩)
theorem mu_le {gR gM gR' gM' : am_G} {N p p' : Nat} {n i i' : Int32} {rs rs' : List (List Int32)} {SR SM : Nat → Nat → Bool} (S : fs_ok gR gM N n p rs i) (S' : fs_ok gR' gM' N n p' rs' i') (f1 : fx_i SR gR gR') (f2 : fx_i SM gM gM') (h1 : tr_ok SR) (h2 : tm_ok SM) : mu_n gM' i' ≤ mu_n gM i ∧ p ≤ p' :=
  mu_l0 S S' (f1.1 39 4 (tr_f h1 (by omega))).1 (fun d => (f1.1 40 d (tr_f h1 (by omega))).2.2) (fun d => (f1.1 41 d (tr_f h1 (by omega))).1) (fun o k o1 o2 => (f1.1 o k (tr_f h1 (by omega))).1) (fun d => f1.2.2 d (by
    by_cases q : d = 0
    · rw [if_pos q]; exact tr_f h1 (by omega)
    · rw [if_neg q]; exact tr_f h1 (by omega))) (f2.1 943 14 (tm_f h2 (by omega))).1 (f2.1 943 15 (tm_f h2 (by omega))).1
/-- the feed, where R's cells of it are the same -/
theorem fs_R {gR gR' gM : am_G} {N p : Nat} {n i : Int32} {rs : List (List Int32)} {SR : Nat → Nat → Bool} (S : fs_ok gR gM N n p rs i) (f : fx_i SR gR gR') (h1 : tr_ok SR) (h42 : ∀ k, am_i gR' 42 k = am_i gR 42 k) : fs_ok gR' gM N n p rs i := by
  obtain ⟨s1, s2, s3, s4, s5, s6, s7⟩ := S
  have a37 : ∀ k, am_i gR' 37 k = am_i gR 37 k := fun k => (f.1 37 k (tr_f h1 (by omega))).1
  have a38 : ∀ k, am_i gR' 38 k = am_i gR 38 k := fun k => (f.1 38 k (tr_f h1 (by omega))).1
  have hh : rf_h gR' N p rs = rf_h gR N p rs := by
    cases rs with
    | nil => show (if p < N then am_i gR' 37 p else -1) = (if p < N then am_i gR 37 p else -1); rw [a37]
    | cons r rest => rfl
  refine ⟨⟨s1.1, ((f.1 35 3 (tr_f h1 (by omega))).1).trans s1.2.1, (a38 _).trans s1.2.2.1, fun j hj => by rw [a37]; exact s1.2.2.2.1 j hj, pl_cg s1.2.2.2.2 a37 a38⟩, ⟨s2.1, fun j hj => by rw [a37, a38]; exact s2.2 j hj⟩, ⟨((f.1 39 4 (tr_f h1 (by omega))).1).trans s3.1, s3.2.1, (h42 0).trans s3.2.2.1, ?_⟩, s4, fun z => (s5 z).trans ((f.1 39 5 (tr_f h1 (by omega))).1).symm, s6.trans hh.symm, ?_⟩
  · exact rf_lc (fun d => (f.1 40 d (tr_f h1 (by omega))).2.2) (fun d => (f.1 41 d (tr_f h1 (by omega))).1) (fun o k q1 q2 => (f.1 o k (tr_f h1 (by omega))).1) rs (fun d _ _ => h42 d) s3.2.2.2
  · cases rs with
    | nil =>
      have s7 : if p < N then mf_ok gM (p + 1) [] ∧ am_i gM 943 30 = am_i gR 38 p ∧ am_i gM 943 29 = 1 else mf_ok gM p [] ∧ am_i gM 943 30 = n := s7
      show if p < N then mf_ok gM (p + 1) [] ∧ am_i gM 943 30 = am_i gR' 38 p ∧ am_i gM 943 29 = 1 else mf_ok gM p [] ∧ am_i gM 943 30 = n
      rw [a38]
      exact s7
    | cons r rest =>
      cases r with
      | nil => exact s7
      | cons c r => exact s7
