/-! A name that both have read comes to both pools. -/
theorem sl_of {f : Nat → Int32} {a : Nat} {w : List Int32} (h : ∀ k x, w[k]? = some x → f (a + k) = x) : sl_l f a w.length = w := by
  apply List.ext_getElem?
  intro i
  rcases Nat.lt_or_ge i w.length with q | q
  · rw [sl_at f a w.length q, List.getElem?_eq_getElem q]
    exact congrArg some (h i _ (List.getElem?_eq_getElem q))
  · rw [List.getElem?_eq_none (by rw [sl_len]; exact q), List.getElem?_eq_none q]
theorem sn_cg {S T : Nat → List Int32} : ∀ {n : Nat}, (∀ i, i < n → S i = T i) → sn_s S n = sn_s T n
  | 0, _ => rfl
  | n + 1, h => by
    show sn_s S n + (S n).length = sn_s T n + (T n).length
    rw [sn_cg (fun i hi => h i (by omega)), h n (by omega)]
/-- a row without one of its parts -/
def rm_s (T : Nat → List Int32) (j : Nat) : Nat → List Int32 := fun i => if i < j then T i else T (i + 1)
theorem sn_rm (T : Nat → List Int32) (j : Nat) : ∀ m, j ≤ m → sn_s T (m + 1) = sn_s (rm_s T j) m + (T j).length
  | 0, h => by
    have : j = 0 := by omega
    subst this
    show 0 + (T 0).length = 0 + (T 0).length
    rfl
  | m + 1, h => by
    show sn_s T (m + 1) + (T (m + 1)).length = sn_s (rm_s T j) m + (rm_s T j m).length + (T j).length
    by_cases q : j = m + 1
    · subst q
      have e : sn_s T (m + 1) = sn_s (rm_s T (m + 1)) (m + 1) := sn_cg fun i hi => by unfold rm_s; rw [if_pos hi]
      have e2 : sn_s (rm_s T (m + 1)) (m + 1) = sn_s (rm_s T (m + 1)) m + (rm_s T (m + 1) m).length := rfl
      rw [e, e2]
    · rw [sn_rm T j m (by omega)]
      have e : rm_s T j m = T (m + 1) := by unfold rm_s; rw [if_neg (by omega)]
      rw [e]
      omega
/-- names that are all among others are not more, and not longer -/
theorem sn_pg : ∀ (n : Nat) (S T : Nat → List Int32) (m : Nat), (∀ i j, i < n → j < n → S i = S j → i = j) → (∀ i, i < n → ∃ j, j < m ∧ S i = T j) → n ≤ m ∧ sn_s S n ≤ sn_s T m
  | 0, S, T, m, _, _ => ⟨Nat.zero_le _, Nat.zero_le _⟩
  | n + 1, S, T, m, h1, h2 => by
    obtain ⟨j0, hj, e⟩ := h2 n (by omega)
    obtain ⟨m, rfl⟩ : ∃ k, m = k + 1 := ⟨m - 1, by omega⟩
    have ih := sn_pg n S (rm_s T j0) m (fun i j hi hj => h1 i j (by omega) (by omega)) (fun i hi => by
      obtain ⟨j, hj2, e2⟩ := h2 i (by omega)
      have hne : j ≠ j0 := fun z => by
        rw [z] at e2
        have := h1 i n (by omega) (by omega) (e2.trans e.symm)
        omega
      rcases Nat.lt_or_ge j j0 with q | q
      · exact ⟨j, by omega, by unfold rm_s; rw [if_pos q]; exact e2⟩
      · refine ⟨j - 1, by omega, ?_⟩
        unfold rm_s
        rw [if_neg (by omega), show j - 1 + 1 = j by omega]
        exact e2)
    refine ⟨by omega, ?_⟩
    rw [sn_rm T j0 m (by omega)]
    show sn_s S n + (S n).length ≤ _
    rw [e]
    omega
/-- pools that grow keep what is the same -/
theorem nq_up {gR gM gR' gM' : am_G} (hR : ∀ sR, am_i gR 43 5 = nI sR → sR ≤ 7200 → ∃ t, am_i gR' 43 5 = nI t ∧ sR ≤ t ∧ t ≤ 7200 ∧ ∀ r, r < sR → rn_s gR' r = rn_s gR r)
    (hM : ∀ sM, am_i gM 943 21 = nI sM → sM ≤ 6000 → ∃ t, am_i gM' 943 21 = nI t ∧ sM ≤ t ∧ t ≤ 6000 ∧ ∀ m, m < sM → mn_s gM' m = mn_s gM m) {a b : Int32} (h : nq_ok gR gM a b) : nq_ok gR' gM' a b := by
  obtain ⟨r, m, s1, s2, e0, e0', e1, e2, e3, e4, e5, e6, e7⟩ := h
  obtain ⟨t1, a1, a2, a3, a4⟩ := hR s1 e1 e5
  obtain ⟨t2, b1, b2, b3, b4⟩ := hM s2 e2 e6
  exact ⟨r, m, t1, t2, e0, e0', a1, b1, by omega, by omega, a3, b3, by rw [a4 r e3, b4 m e4]; exact e7⟩
def kn_S (o k : Nat) : Bool := Nat.beq o 952 || (Nat.beq o 953 || (Nat.beq o 954 || (Nat.beq o 955 || (Nat.beq o 943 && (Nat.beq k 17 || Nat.beq k 21)))))
def tn_S (o k : Nat) : Bool := Nat.beq o 45 || (Nat.beq o 46 || (Nat.beq o 47 || (Nat.beq o 48 || (Nat.beq o 43 && (Nat.beq k 5 || Nat.beq k 6)))))
theorem sz_u {x y : Nat} {v : Int32} (h1 : v = nI x) (h2 : v = nI y) (hx : x < 2 ^ 31) (hy : y < 2 ^ 31) : x = y := (nI_eq hx hy).mp (h1.symm.trans h2)
/-- M numbers the name w -/
theorem nt_M {gR gM : am_G} {ps : Nat} {w : List Int32} (W : nm_w gR gM) (hq : mw_q gM ps w) (hne : w ≠ []) (hv : ∀ x ∈ w, ch_pt x = true ∧ ch_ok x) (hb : ∀ sM, am_i gM 943 21 = nI sM → sM ≤ 6000 → sM < 6000) (hb2 : ps + w.length ≤ 19000) (hps : ps ≤ 19000) :
    ∃ m gM1, fm_29 gM = some (nI m, gM1) ∧ fx_i kn_S gM gM1 ∧ nm_w gR gM1 ∧ mn_s gM1 m = w ∧ (∃ t, am_i gM1 943 21 = nI t ∧ m < t ∧ t ≤ 6000) ∧ (∀ a b, nq_ok gR gM a b → nq_ok gR gM1 a b) ∧
      ∃ sM t, am_i gM 943 21 = nI sM ∧ sM ≤ 6000 ∧ am_i gM1 943 21 = nI t ∧ ((t = sM ∧ gM1 = gM) ∨ (t = sM + 1 ∧ (∀ m, m < sM → mn_s gM1 m = mn_s gM m) ∧ mn_s gM1 sM = w ∧ ∀ m, m < sM → mn_s gM m ≠ w)) := by
  obtain ⟨sR, uR, sM, uM, w1, w2, w3, w4, w5, w6⟩ := W
  obtain ⟨q1, q2, q3, q4⟩ := hq
  have hu : uM = ps := sz_u w2.2.1 q2 (by have := w2.2.2.2.1; omega) (by omega)
  subst hu
  have hw : sl_l (am_i gM 951) uM w.length = w := sl_of q4
  have hlen : 0 < w.length := by cases w with
    | nil => exact absurd rfl hne
    | cons a l => exact Nat.succ_pos _
  have hsM : sM < 6000 := hb sM w2.1 w2.2.2.1
  rcases cm_29 w2 q3 hlen hb2 hsM with ⟨q, hq, e1, e2⟩ | ⟨hno, e2⟩
  · rw [hw] at e1
    exact ⟨q, gM, e2, fx_re, ⟨sR, uR, sM, uM, w1, w2, w3, w4, w5, w6⟩, e1, ⟨sM, w2.1, hq, w2.2.2.1⟩, fun _ _ h => h, sM, sM, w2.1, w2.2.2.1, w2.1, Or.inl ⟨rfl, rfl⟩⟩
  · obtain ⟨n1, n2, n3⟩ := mn_new w2 hlen hsM hb2 hno
    have hno2 : ∀ m, m < sM → mn_s gM m ≠ w := fun m hm e => hno m hm (e.trans hw.symm)
    rw [hw] at e2 n1 n2 n3
    generalize hg : mn_ad gM sM uM w.length (mn_h w) = gM1 at *
    have f : fx_i kn_S gM gM1 := by
      rw [← hg]
      unfold mn_ad
      exact fx_tr (fx_tr (fx_tr (fx_tr (fx_tr (fx_si rfl) (fx_si rfl)) (fx_si rfl)) (fx_si rfl)) (fx_si rfl)) (fx_si rfl)
    refine ⟨sM, gM1, e2, f, ⟨sR, uR, sM + 1, uM + w.length, w1, n1, w3, ?_, fun r hr => ?_, fun m hm => ?_⟩, n2, ⟨sM + 1, n1.1, by omega, n1.2.2.1⟩, fun a b h => ?_, sM, sM + 1, w2.1, w2.2.2.1, n1.1, Or.inr ⟨rfl, n3, n2, hno2⟩⟩
    · show uM + w.length = sn_s (mn_s gM1) sM + (mn_s gM1 sM).length
      rw [n2, sn_cg n3, ← w4]
    · obtain ⟨m, m1, m2⟩ := w5 r hr
      exact ⟨m, by omega, by rw [n3 m m1]; exact m2⟩
    · by_cases z : m = sM
      · rw [z, n2]; exact ⟨hne, hv⟩
      · rw [n3 m (by omega)]; exact w6 m (by omega)
    · refine nq_up (fun s e h7 => ⟨s, e, Nat.le_refl _, h7, fun _ _ => rfl⟩) (fun s e h6 => ?_) h
      have : s = sM := sz_u e w2.1 (by omega) (by omega)
      subst this
      exact ⟨s + 1, n1.1, by omega, n1.2.2.1, n3⟩
/-- R takes the name w, which M has as m -/
theorem nt_R {gR gM : am_G} {u m t : Nat} {w : List Int32} (W : nm_w gR gM) (hq : rq_ok gR u w) (h60 : w.length ≤ 60) (hm : mn_s gM m = w) (ht : am_i gM 943 21 = nI t) (hmt : m < t) (ht6 : t ≤ 6000) (hub : ∀ uM, am_i gM 943 17 = nI uM → uM ≤ 19000 → uM ≤ 14540) :
    ∃ r gR1, fm_234 gR = some (nI r, gR1) ∧ fx_i tn_S gR gR1 ∧ nm_w gR1 gM ∧ nq_ok gR1 gM (nI r) (nI m) ∧ (∀ a b, nq_ok gR gM a b → nq_ok gR1 gM a b) := by
  obtain ⟨sR, uR, sM, uM, w1, w2, w3, w4, w5, w6⟩ := W
  obtain ⟨q1, q2, q3, q4⟩ := hq
  have e0 : u = uR := sz_u q1 w1.2.1 (by omega) (by have := w1.2.2.2.1; omega)
  subst e0
  have e1 : t = sM := sz_u ht w2.1 (by omega) (by have := w2.2.2.1; omega)
  subst e1
  have hw : sl_l (am_i gR 44) u w.length = w := sl_of fun k x hx => q4 k x (by have := (List.getElem?_eq_some_iff.mp hx).1; omega) hx
  have pg := sn_pg sR (rn_s gR) (mn_s gM) t w1.2.2.2.2.2.1 w5
  have hs : sR < 7200 := by omega
  rcases cm_234 w1 q3 h60 hs with ⟨q, hq, a1, a2⟩ | ⟨hno, a2⟩
  · rw [hw] at a1
    exact ⟨q, gR, a2, fx_re, ⟨sR, u, t, uM, w1, w2, w3, w4, w5, w6⟩, ⟨q, m, sR, t, rfl, rfl, w1.1, w2.1, hq, hmt, w1.2.2.1, ht6, a1.trans hm.symm⟩, fun _ _ h => h⟩
  · rw [hw] at hno
    -- with w it is still among M's
    have pg2 := sn_pg (sR + 1) (fun i => if i < sR then rn_s gR i else w) (mn_s gM) t (fun i j hi hj e => by
      by_cases y1 : i < sR
      · by_cases y2 : j < sR
        · rw [if_pos y1, if_pos y2] at e
          exact w1.2.2.2.2.2.1 i j y1 y2 e
        · rw [if_pos y1, if_neg y2] at e
          exact absurd e (hno i y1)
      · by_cases y2 : j < sR
        · rw [if_neg y1, if_pos y2] at e
          exact absurd e.symm (hno j y2)
        · omega) (fun i hi => by
      by_cases y1 : i < sR
      · rw [if_pos y1]; exact w5 i y1
      · rw [if_neg y1]; exact ⟨m, hmt, hm.symm⟩)
    have hsum : sn_s (fun i => if i < sR then rn_s gR i else w) (sR + 1) = u + w.length := by
      show sn_s (fun i => if i < sR then rn_s gR i else w) sR + (if sR < sR then rn_s gR sR else w).length = _
      rw [if_neg (Nat.lt_irrefl _), sn_cg (T := rn_s gR) (fun i hi => if_pos hi), ← w3]
    have hu2 := hub uM w2.2.1 w2.2.2.2.1
    have huw : u + w.length ≤ 14540 := by have := pg2.2; rw [hsum] at this; omega
    obtain ⟨n1, n2, n3⟩ := rn_new w1 h60 hs huw (by rw [hw]; exact hno)
    rw [hw] at a2 n1 n2 n3
    generalize hg : rn_ad gR sR u w.length (rn_h w) = gR1 at *
    have f : fx_i tn_S gR gR1 := by
      rw [← hg]
      unfold rn_ad
      exact fx_tr (fx_tr (fx_tr (fx_tr (fx_tr (fx_si rfl) (fx_si rfl)) (fx_si rfl)) (fx_si rfl)) (fx_si rfl)) (fx_si rfl)
    refine ⟨sR, gR1, a2, f, ⟨sR + 1, u + w.length, t, uM, n1, w2, ?_, w4, fun r hr => ?_, w6⟩, ⟨sR, m, sR + 1, t, rfl, rfl, n1.1, w2.1, by omega, hmt, n1.2.2.1, ht6, n2.trans hm.symm⟩, fun a b h => ?_⟩
    · show u + w.length = sn_s (rn_s gR1) sR + (rn_s gR1 sR).length
      rw [n2, sn_cg n3, ← w3]
    · by_cases z : r = sR
      · rw [z, n2]; exact ⟨m, hmt, hm.symm⟩
      · rw [n3 r (by omega)]; exact w5 r (by omega)
    · refine nq_up (fun s e h7 => ?_) (fun s e h6 => ⟨s, e, Nat.le_refl _, h6, fun _ _ => rfl⟩) h
      have : s = sR := sz_u e w1.1 (by omega) (by omega)
      subst this
      exact ⟨s + 1, n1.1, by omega, n1.2.2.1, n3⟩
/-- R looks for the name w, which M has as m -/
theorem nt_F {gR gM : am_G} {u m t : Nat} {w : List Int32} (W : nm_w gR gM) (hq : rq_ok gR u w) (h60 : w.length ≤ 60) (hm : mn_s gM m = w) (ht : am_i gM 943 21 = nI t) (hmt : m < t) (ht6 : t ≤ 6000) :
    (∃ r, fm_233 gR = some (nI r) ∧ nq_ok gR gM (nI r) (nI m)) ∨ (fm_233 gR = some (-1) ∧ ∀ a, ¬ nq_ok gR gM a (nI m)) := by
  obtain ⟨sR, uR, sM, uM, w1, w2, w3, w4, w5, w6⟩ := W
  obtain ⟨q1, q2, q3, q4⟩ := hq
  have e0 : u = uR := sz_u q1 w1.2.1 (by omega) (by have := w1.2.2.2.1; omega)
  subst e0
  have hw : sl_l (am_i gR 44) u w.length = w := sl_of fun k x hx => q4 k x (by have := (List.getElem?_eq_some_iff.mp hx).1; omega) hx
  rcases cm_233 w1 q3 h60 with ⟨q, hq, a1, a2⟩ | ⟨hno, a2⟩
  · rw [hw] at a1
    exact Or.inl ⟨q, a2, q, m, sR, t, rfl, rfl, w1.1, ht, hq, hmt, w1.2.2.1, ht6, a1.trans hm.symm⟩
  · rw [hw] at hno
    refine Or.inr ⟨a2, fun a h => ?_⟩
    obtain ⟨r, m', s1, s2, rfl, e2, e3, e4, e5, e6, e7, e8, e9⟩ := h
    have hmm : m = m' := (nI_eq (by omega) (by omega)).mp e2
    subst hmm
    have : s1 = sR := sz_u e3 w1.1 (by omega) (by have := w1.2.2.1; omega)
    subst this
    exact hno r e5 (e9.trans hm)
