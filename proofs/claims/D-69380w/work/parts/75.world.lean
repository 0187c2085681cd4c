/-! The world: what both programs know of a text, in their own ways. -/
/-- lengths of names together -/
def sn_s (S : Nat → List Int32) : Nat → Nat
  | 0 => 0
  | k + 1 => sn_s S k + (S k).length
/-- names: R's are some of M's -/
def nm_w (gR gM : am_G) : Prop := ∃ sR uR sM uM, rn_ok gR sR uR ∧ mn_ok gM sM uM ∧ uR = sn_s (rn_s gR) sR ∧ uM = sn_s (mn_s gM) sM ∧ (∀ r, r < sR → ∃ m, m < sM ∧ rn_s gR r = mn_s gM m) ∧ ∀ m, m < sM → mn_s gM m ≠ [] ∧ ∀ x ∈ mn_s gM m, ch_pt x = true ∧ ch_ok x
/-- the same name -/
def nq_ok (gR gM : am_G) (a b : Int32) : Prop := ∃ r m sR sM, a = nI r ∧ b = nI m ∧ am_i gR 43 5 = nI sR ∧ am_i gM 943 21 = nI sM ∧ r < sR ∧ m < sM ∧ sR ≤ 7200 ∧ sM ≤ 6000 ∧ rn_s gR r = mn_s gM m
theorem nq_eq {gR gM : am_G} (W : nm_w gR gM) {a b a' b' : Int32} (h : nq_ok gR gM a b) (h' : nq_ok gR gM a' b') : a = a' ↔ b = b' := by
  obtain ⟨sR, uR, sM, uM, w1, w2, _, _, _⟩ := W
  obtain ⟨r, m, s1, s2, rfl, rfl, e1, e2, e3, e4, e5, e6, e7⟩ := h
  obtain ⟨r', m', s1', s2', rfl, rfl, e1', e2', e3', e4', e5', e6', e7'⟩ := h'
  have hs1 : s1 = sR := (nI_eq (by omega) (by have := w1.2.2.1; omega)).mp (e1.symm.trans w1.1)
  have hs1' : s1' = sR := (nI_eq (by omega) (by have := w1.2.2.1; omega)).mp (e1'.symm.trans w1.1)
  have hs2 : s2 = sM := (nI_eq (by omega) (by have := w2.2.2.1; omega)).mp (e2.symm.trans w2.1)
  have hs2' : s2' = sM := (nI_eq (by omega) (by have := w2.2.2.1; omega)).mp (e2'.symm.trans w2.1)
  rw [nI_eq (by omega) (by omega), nI_eq (by omega) (by omega)]
  constructor
  · intro e
    subst e
    exact w2.2.2.2.2.2.1 m m' (by omega) (by omega) (e7.symm.trans e7')
  · intro e
    subst e
    exact w1.2.2.2.2.2.1 r r' (by omega) (by omega) (e7.trans e7'.symm)
/-- an element's declaration, number k; kinds 0 EMPTY, 1 ANY, 2 mixed, 3 children -/
def el_k (gR gM : am_G) (k : Nat) : Prop := nq_ok gR gM (am_i gR (55 + 18 * k) 0) (am_i gM 957 k) ∧ ∃ kd f c : Nat, kd < 4 ∧ c ≤ 60 ∧ am_i gR (55 + 18 * k) 1 = nI (kd + 1) ∧ am_i gM 958 k = nI kd ∧ am_i gM 959 k = nI f ∧ am_i gM 960 k = nI c ∧ (kd < 2 → c = 0) ∧
  (2 ≤ kd → am_i gR (56 + 18 * k) 3 = nI c ∧ ∀ i, i < c → nq_ok gR gM (am_i gR (57 + 18 * k) i) (am_i gM 964 (f + i))) ∧
  (kd = 3 → am_j gR (56 + 18 * k) 6 = am_j gM 961 k ∧ am_j gR (56 + 18 * k) 7 = am_j gM 962 k ∧ am_i gR (56 + 18 * k) 5 = am_i gM 963 k ∧ (am_i gM 963 k = 0 ∨ am_i gM 963 k = 1) ∧ (∀ i, i < c → am_j gR (58 + 18 * k) i = am_j gM 966 (f + i)) ∧
    (∃ w : Nat, w < 2 ^ c ∧ am_j gM 961 k = lN w) ∧ (∃ w : Nat, w < 2 ^ c ∧ am_j gM 962 k = lN w) ∧ ∀ i, i < c → ∃ w : Nat, w < 2 ^ c ∧ am_j gM 966 (f + i) = lN w) ∧ ∃ lv, am_i gM 943 57 = nI lv ∧ f + c ≤ lv ∧ lv ≤ 2460
def el_w (gR gM : am_G) : Prop := ∃ E, E ≤ 40 ∧ am_i gR 49 5 = nI E ∧ am_i gM 943 49 = nI E ∧ (∃ lv, am_i gM 943 57 = nI lv ∧ lv ≤ 60 * E + 60) ∧ ∀ k, k < E → el_k gR gM k
/-- a character of a default value in M -/
def df_c (gM : am_G) (i : Nat) : Int32 := if i < 16000 then am_i gM 983 i else am_i gM 984 (i - 16000)
/-- an attribute's declaration, number k; R's kinds 0 #IMPLIED, 1 #REQUIRED, M's the other way round -/
def at_k (gR gM : am_G) (k : Nat) : Prop := nq_ok gR gM (am_i gR (775 + k) 0) (am_i gM 974 k) ∧ nq_ok gR gM (am_i gR (775 + k) 1) (am_i gM 975 k) ∧ ∃ ty kr km tk lf ls v z : Nat, ty < 10 ∧ am_r gR (775 + k) 7 = some (ty + 1) ∧ am_i gM 976 k = nI ty ∧ am_i gR (775 + k) 2 = nI kr ∧ am_i gM 977 k = nI km ∧
  ((kr = 0 ∧ km = 1) ∨ (kr = 1 ∧ km = 0) ∨ (kr = 2 ∧ km = 2) ∨ (kr = 3 ∧ km = 3)) ∧ am_i gR (775 + k) 3 = nI tk ∧ am_i gR (775 + k) 4 = nI ls ∧ am_i gM 980 k = nI lf ∧ am_i gM 981 k = nI ls ∧ ls ≤ 30 ∧ tk + ls ≤ 300 ∧ lf + ls ≤ 300 ∧ (ty < 8 → ls = 0) ∧ (∀ i, i < ls → nq_ok gR gM (am_i gR 52 (tk + i)) (am_i gM 982 (lf + i))) ∧
  am_i gM 978 k = nI v ∧ am_i gM 979 k = nI z ∧ z ≤ 400 ∧ v + z ≤ 32000 ∧ (km < 2 → z = 0) ∧ (2 ≤ km → am_i gR (775 + k) 5 = nI v ∧ am_i gR (775 + k) 6 = nI z ∧ ∀ i, i < z → am_i gR 53 (v + i) = df_c gM (v + i) ∧ ch_ok (df_c gM (v + i)))
def at_w (gR gM : am_G) : Prop := ∃ A T V, A ≤ 80 ∧ T ≤ 300 ∧ V ≤ 400 * A ∧ am_i gR 49 6 = nI A ∧ am_i gM 943 77 = nI A ∧ am_i gR 49 7 = nI T ∧ am_i gM 943 86 = nI T ∧ am_i gR 49 8 = nI V ∧ am_i gM 943 94 = nI V ∧ ∀ k, k < A → at_k gR gM k
/-- how many of M's first j entities are of a kind -/
def en_n (gM : am_G) (pc : Bool) : Nat → Nat
  | 0 => 0
  | j + 1 => en_n gM pc j + (if am_i gM 986 j = b2 pc then 1 else 0)
/-- R's table for a kind -/
def en_t (pc : Bool) : Nat := bif pc then 861 else 855
def en_k (gR gM : am_G) (j : Nat) : Prop := ∃ (pc : Bool) (sR sM z : Nat), am_i gM 986 j = b2 pc ∧ nq_ok gR gM (am_i gR (en_t pc + 1) (en_n gM pc j)) (am_i gM 985 j) ∧ am_i gR (en_t pc + 2) (en_n gM pc j) = nI sR ∧ am_i gR (en_t pc + 3) (en_n gM pc j) = nI z ∧ am_i gM 987 j = nI sM ∧ am_i gM 988 j = nI z ∧ (sR + z ≤ 8000 ∧ ∃ u, am_i gR (en_t pc) 6 = nI u ∧ sR + z ≤ u ∧ u ≤ 8000) ∧ (sM + z ≤ 8000 ∧ ∃ u, am_i gM 943 101 = nI u ∧ sM + z ≤ u ∧ u ≤ 8000) ∧
  ∀ i, i < z → am_i gR (en_t pc + 5) (sR + i) = am_i gM 989 (sM + i) ∧ ch_ok (am_i gM 989 (sM + i))
def en_w (gR gM : am_G) : Prop := ∃ En tS uG uP, En ≤ 40 ∧ am_i gM 943 95 = nI En ∧ am_i gR 855 5 = nI (en_n gM false En) ∧ am_i gR 861 5 = nI (en_n gM true En) ∧ am_i gM 943 101 = nI tS ∧ am_i gR 855 6 = nI uG ∧ am_i gR 861 6 = nI uP ∧ tS = uG + uP ∧ tS ≤ 8000 ∧ ∀ j, j < En → en_k gR gM j
def no_w (gR gM : am_G) : Prop := ∃ K, K ≤ 20 ∧ am_i gR 49 9 = nI K ∧ am_i gM 943 104 = nI K ∧ ∀ k, k < K → nq_ok gR gM (am_i gR 54 k) (am_i gM 990 k)
/-- an open element -/
def op_k (gR gM : am_G) (k : Nat) : Prop := nq_ok gR gM (am_i gR 875 k) (am_i gM 991 k) ∧ am_i gR 876 k = am_i gM 992 k ∧ (am_i gM 992 k = -1 ∨ ∃ d E, am_i gM 943 49 = nI E ∧ d < E ∧ E ≤ 40 ∧ am_i gM 992 k = nI d ∧ (am_i gM 958 d = nI 3 → am_r gR (903 + k) 0 = some (56 + 18 * d) ∧
  ((am_i gR 878 k = 1 ∧ am_i gM 994 k = 1 ∧ am_j gM 993 k = 0) ∨ (am_i gR 878 k = 0 ∧ am_i gR (903 + k) 2 = 0 ∧ am_i gM 994 k = 0) ∨ (am_i gR 878 k = 0 ∧ (∃ c, 0 < c ∧ c < 2 ^ 30 ∧ am_i gR (903 + k) 2 = nI c) ∧ am_i gM 994 k = 1 ∧ am_j gM 993 k ≠ 0 ∧ am_j gR (903 + k) 1 = am_j gM 993 k))))
def op_w (gR gM : am_G) : Prop := ∃ D, D ≤ 40 ∧ am_i gR 33 24 = nI D ∧ am_i gM 943 106 = nI D ∧ (∀ k, k < D → op_k gR gM k) ∧ ∀ k, k < D → ∃ e, am_i gR 877 k = nI e ∧ e ≤ 16 ∧ ∀ f, 0 < f → ∀ F, am_i gM 943 9 = nI F → f ≤ F → ∃ bs, am_i gM 949 (f - 1) = nI bs ∧ (e < f ↔ k < bs)
/-- R's lines and M's events -/
def ev_w (gR gM : am_G) : Prop := ∃ A E to, rl_ok gR A ∧ me_ok gM E ∧ am_i gM 943 140 = b2 to ∧ (∀ b ∈ E, b < 256) ∧ match A with
  | some (bs, op) => E = bs ++ (if op = some 11 then [10] else []) ∧ to = decide (op = some 15) ∧ (op = none ∨ op = some 11 ∨ op = some 15)
  | none => 30000 < E.length + (if to = true then 1 else 0)
