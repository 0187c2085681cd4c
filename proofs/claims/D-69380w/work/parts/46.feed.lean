/-! The feed: what is still to be read, in R (texts with places in them) and in M (a row). -/
def ch_ok (x : Int32) : Prop := ∃ c, c < 1114112 ∧ x = nI c
/-- the entity at depth d of R's feed: what is left of its text -/
def rf_t (g : am_G) (d : Nat) (r : List Int32) : Prop := ∃ t e a s z : Nat, am_r g 40 d = some t ∧ (t = 855 ∨ t = 861) ∧ am_i g 41 d = nI e ∧ e < 40 ∧ am_i g 42 d = nI a ∧ am_i g (t + 2) e = nI s ∧ am_i g (t + 3) e = nI z ∧ a ≤ z ∧ s + z ≤ 8000 ∧
  r = sl_l (am_i g (t + 5)) (s + a) (z - a) ∧ ∀ x ∈ r, ch_ok x
def rf_l (g : am_G) : List (List Int32) → Prop
  | [] => True
  | r :: rs => rf_t g (rs.length + 1) r ∧ rf_l g rs
def rf_ok (g : am_G) (p : Nat) (rs : List (List Int32)) : Prop := am_i g 39 4 = nI rs.length ∧ rs.length ≤ 16 ∧ am_i g 42 0 = nI p ∧ rf_l g rs
/-- how many bytes a character has -/
def u8_c (c : Int32) : Nat := if c < 128 then 1 else if c < 2048 then 2 else if c < 65536 then 3 else 4
/-- places: each character takes its bytes -/
def pl_w (g : am_G) (N : Nat) : Prop := ∀ i, i < N → ∃ b e, am_i g 38 i = nI b ∧ am_i g 38 (i + 1) = nI e ∧ b + u8_c (am_i g 37 i) ≤ e ∧ e ≤ 6000
theorem pl_cg {g g' : am_G} {N : Nat} (h : pl_w g N) (h7 : ∀ k, am_i g' 37 k = am_i g 37 k) (h8 : ∀ k, am_i g' 38 k = am_i g 38 k) : pl_w g' N := fun i hi => by
  rw [h7, h8, h8]
  exact h i hi
def tx_r (g : am_G) (N : Nat) (n : Int32) : Prop := N ≤ 6000 ∧ am_i g 35 3 = nI N ∧ am_i g 38 N = n ∧ (∀ i, i < N → ch_ok (am_i g 37 i)) ∧ pl_w g N
def tx_m (gR gM : am_G) (N : Nat) : Prop := am_i gM 943 4 = nI N ∧ ∀ i, i < N → am_i gM 945 i = am_i gR 37 i ∧ am_i gM 946 i = am_i gR 38 i
/-- the item at hand -/
def rf_h (g : am_G) (N p : Nat) (rs : List (List Int32)) : Int32 := match rs with
  | [] => if p < N then am_i g 37 p else -1
  | r :: _ => r.head?.getD (-1)
/-- its place -/
def rf_w (g : am_G) (p : Nat) (rs : List (List Int32)) : Int32 := match rs with
  | [] => am_i g 38 p
  | _ :: _ => am_i g 39 5
theorem ch_n {x : Int32} (h : ch_ok x) : x ≠ -1 ∧ 0 ≤ x := by
  obtain ⟨c, hc, rfl⟩ := h
  exact ⟨fun e => absurd (nI_pos' (n := c) (by omega)) (by rw [e]; decide), nI_pos' (by omega)⟩
theorem sl_0 (f : Nat → Int32) (a : Nat) : sl_l f a 0 = [] := rfl
theorem sl_s (f : Nat → Int32) (a m : Nat) : sl_l f a (m + 1) = f a :: sl_l f (a + 1) m := by
  unfold sl_l
  rw [List.range_succ_eq_map, List.map_cons, List.map_map]
  congr 1
  exact List.map_congr_left fun i _ => congrArg f (show a + (i + 1) = a + 1 + i by omega)
section
variable {g : am_G} {N p : Nat} {n : Int32} {rs : List (List Int32)}
/-- R's here -/
theorem cm_176 (T : tx_r g N n) (F : rf_ok g p rs) (hp : p ≤ N) : fm_176 g = some (rf_h g N p rs) := by
  obtain ⟨t1, t2, t3, t4⟩ := T
  obtain ⟨f1, f2, f3, f4⟩ := F
  unfold fm_176
  cases rs with
  | nil =>
    rw [f1, if_pos (show nI ([] : List (List Int32)).length = 0 from rfl), f3, t2]
    show _ = some (if p < N then am_i g 37 p else -1)
    by_cases q : p < N
    · rw [if_neg (nI_ge q (by omega)), if_pos q, ai_nI (by omega) (by omega), lo_gt, nI_clamp (by omega)]
    · rw [if_pos (nI_le (by omega) (by omega)), if_neg q]
  | cons r rs =>
    have hl : rs.length + 1 ≤ 16 := f2
    have f1 : am_i g 39 4 = nI (rs.length + 1) := f1
    rw [f1, if_neg (nI_ne0 (by omega) (by omega)), ai_nI (by omega) (by omega), lo_gt, nI_clamp (by omega)]
    obtain ⟨⟨t, e, a, s, z, h1, h2, h3, h4, h5, h6, h7, h8, h9, h10, h11⟩, _⟩ := f4
    rw [h1, lo_ms, h3, lo_ll, h5, nI_clamp (n := e) (by omega)]
    show _ = some (r.head?.getD (-1))
    rw [h10]
    have key : ∀ t, (t = 855 ∨ t = 861) → Nat.beq (v0_kd t) 12 = true ∧ v0_fr t 2 = some (t + 3) ∧ v0_fr t 4 = some (t + 5) ∧ v0_fr t 1 = some (t + 2) ∧ vk_in (t + 3) 101 (nI e) = true ∧ vk_in (t + 2) 101 (nI e) = true ∧ ∀ j, j < 8000 → vk_in (t + 5) 101 (nI j) = true := by
      intro t ht
      have q1 : ai_in (nI e) 40 = true := ai_nI h4 (by omega)
      have q2 : ∀ j, j < 8000 → ai_in (nI j) 8000 = true := fun j hj => ai_nI hj (by omega)
      rcases ht with rfl | rfl
      · exact ⟨rfl, rfl, rfl, rfl, q1, q1, q2⟩
      · exact ⟨rfl, rfl, rfl, rfl, q1, q1, q2⟩
    obtain ⟨k1, k2, k3, k4, k5, k6, k7⟩ := key t h2
    rw [k1, lo_gt, k2, lo_ms, k5, lo_gt, h7]
    by_cases q : a < z
    · rw [if_neg (nI_ge q (by omega)), k3, lo_ms, k4, lo_ms, k6, lo_gt, h6, nI_add, k7 _ (by omega), lo_gt, nI_clamp (by omega), show z - a = (z - a - 1) + 1 by omega, sl_s]
      rfl
    · rw [if_pos (nI_le (by omega) (by omega)), show z - a = 0 by omega, sl_0]
      rfl
theorem rf_hc (T : tx_r g N n) (F : rf_ok g p rs) : rf_h g N p rs = -1 ∨ ch_ok (rf_h g N p rs) := by
  cases rs with
  | nil =>
    show (if p < N then am_i g 37 p else -1) = -1 ∨ ch_ok (if p < N then am_i g 37 p else -1)
    by_cases q : p < N
    · rw [if_pos q]; exact Or.inr (T.2.2.2.1 p q)
    · rw [if_neg q]; exact Or.inl rfl
  | cons r rs =>
    obtain ⟨⟨t, e, a, s, z, h1, h2, h3, h4, h5, h6, h7, h8, h9, h10, h11⟩, _⟩ := F.2.2.2
    cases r with
    | nil => exact Or.inl rfl
    | cons x r => exact Or.inr (h11 x (List.mem_cons_self))
/-- R's place -/
theorem cm_178 (T : tx_r g N n) (F : rf_ok g p rs) (hp : p ≤ N) : fm_178 g = some (rf_w g p rs) := by
  obtain ⟨t1, t2, t3, t4⟩ := T
  obtain ⟨f1, f2, f3, f4⟩ := F
  unfold fm_178
  cases rs with
  | nil =>
    rw [f1, if_pos (show nI ([] : List (List Int32)).length = 0 from rfl), f3, ai_nI (by omega) (by omega), lo_gt, nI_clamp (by omega)]
    rfl
  | cons r rs =>
    have hl : rs.length + 1 ≤ 16 := f2
    have f1 : am_i g 39 4 = nI (rs.length + 1) := f1
    rw [f1, if_neg (nI_ne0 (n := rs.length + 1) (by omega) (by omega))]
    rfl
end
/-- frames of the feed do not depend on other things -/
theorem rf_tc {g h : am_G} {d : Nat} {r : List Int32} (h40 : am_r h 40 d = am_r g 40 d) (h41 : am_i h 41 d = am_i g 41 d) (h42 : am_i h 42 d = am_i g 42 d) (ht : ∀ o k, 857 ≤ o → o ≤ 866 → am_i h o k = am_i g o k) (K : rf_t g d r) : rf_t h d r := by
  obtain ⟨t, e, a, s, z, h1, h2, h3, h4, h5, h6, h7, h8, h9, h10, h11⟩ := K
  refine ⟨t, e, a, s, z, h40.trans h1, h2, h41.trans h3, h4, h42.trans h5, ?_, ?_, h8, h9, ?_, h11⟩
  · rw [ht _ _ (by omega) (by omega)]; exact h6
  · rw [ht _ _ (by omega) (by omega)]; exact h7
  · rw [h10]; exact (sl_cg fun i _ => ht _ _ (by omega) (by omega)).symm
theorem rf_lc {g h : am_G} (h40 : ∀ d, am_r h 40 d = am_r g 40 d) (h41 : ∀ d, am_i h 41 d = am_i g 41 d) (ht : ∀ o k, 857 ≤ o → o ≤ 866 → am_i h o k = am_i g o k) :
    ∀ (rs : List (List Int32)), (∀ d, 0 < d → d ≤ rs.length → am_i h 42 d = am_i g 42 d) → rf_l g rs → rf_l h rs
  | [], _, _ => trivial
  | r :: rs, h42, K => ⟨rf_tc (h40 _) (h41 _) (h42 _ (by omega) (by simp)) ht K.1, rf_lc h40 h41 ht rs (fun d h1 h2 => h42 d h1 (by rw [List.length_cons]; omega)) K.2⟩
def ps_S (o _k : Nat) : Bool := Nat.beq o 42
/-- the feed behind the item at hand -/
def nx_p (p : Nat) (rs : List (List Int32)) : Nat := match rs with
  | [] => p + 1
  | _ :: _ => p
def nx_r (rs : List (List Int32)) : List (List Int32) := match rs with
  | [] => []
  | r :: rest => r.tail :: rest
/-- R passes a character -/
theorem cm_177 {g : am_G} {p : Nat} {rs : List (List Int32)} (F : rf_ok g p rs) (hr : ∀ rest, rs ≠ [] :: rest) (hp6 : p ≤ 6000) :
    ∃ g', fm_177 g = some g' ∧ fx_i ps_S g g' ∧ rf_ok g' (nx_p p rs) (nx_r rs) := by
  obtain ⟨f1, f2, f3, f4⟩ := F
  unfold fm_177
  rw [f1, ai_nI (by omega) (by omega), lo_gt, nI_clamp (by omega)]
  refine ⟨_, rfl, fx_s0 rfl (fun d _ => ?_), ?_⟩
  · rw [gi_si]
    by_cases z : (42 : Nat) = 42 ∧ d = rs.length
    · rw [if_pos z, z.2]
      have : ∃ a, a ≤ 8000 ∧ am_i g 42 rs.length = nI a := by
        cases rs with
        | nil => exact ⟨p, by omega, f3⟩
        | cons r rs =>
          obtain ⟨⟨t, e, a, s, z, h1, h2, h3, h4, h5, h6, h7, h8, h9, h10, h11⟩, _⟩ := f4
          exact ⟨a, by omega, h5⟩
      obtain ⟨a, ha, e⟩ := this
      rw [e, nI_1]
      exact nI_le (by omega) (by omega)
    · rw [if_neg z]
      exact Int32.le_refl _
  cases rs with
  | nil =>
    refine ⟨by rw [gi_si, if_neg (by omega)]; exact f1, f2, ?_, trivial⟩
    rw [gi_si, if_pos ⟨rfl, rfl⟩]
    show am_i g 42 0 + 1 = nI (p + 1)
    rw [f3, nI_1]
  | cons r rs =>
    cases r with
    | nil => exact absurd rfl (hr rs)
    | cons c r =>
      have hl : rs.length + 1 ≤ 16 := f2
      refine ⟨by rw [gi_si, if_neg (by omega)]; exact f1, f2, ?_, ?_, ?_⟩
      · rw [gi_si, if_neg (fun q => by have := q.2; simp at this)]; exact f3
      · obtain ⟨⟨t, e, a, s, z, h1, h2, h3, h4, h5, h6, h7, h8, h9, h10, h11⟩, _⟩ := f4
        have haz : a < z := by
          rcases Nat.lt_or_ge a z with q | q
          · exact q
          · rw [show z - a = 0 by omega, sl_0] at h10; cases h10
        rw [show z - a = (z - a - 1) + 1 by omega, sl_s] at h10
        have e1 := (List.cons.inj h10).2
        refine ⟨t, e, a + 1, s, z, h1, h2, by rw [gi_si, if_neg (by omega)]; exact h3, h4, ?_, by rw [gi_si, if_neg (by omega)]; exact h6, by rw [gi_si, if_neg (by omega)]; exact h7, haz, h9, ?_, fun x hx => h11 x (List.mem_cons_of_mem _ hx)⟩
        · rw [gi_si, if_pos ⟨rfl, by simp⟩]
          show am_i g 42 (rs.length + 1) + 1 = _
          rw [h5, nI_1]
        · rw [e1, show s + a + 1 = s + (a + 1) by omega, show z - a - 1 = z - (a + 1) by omega]
          exact sl_cg fun i _ => (by rw [gi_si, if_neg (by omega)])
      · refine rf_lc (g := g) (h := am_si g 42 ((c :: r) :: rs).length (am_i g 42 ((c :: r) :: rs).length + 1)) (fun _ => rfl) (fun d => by rw [gi_si, if_neg (by omega)]) (fun o k h1 h2 => by rw [gi_si, if_neg (by omega)]) rs (fun d h1 h2 => ?_) f4.2
        rw [gi_si, if_neg (fun q => by have := q.2; rw [List.length_cons] at this; omega)]
-- M's row
def rw_l : List (List Int32) → List Int32
  | [] => []
  | r :: rs => rw_l rs ++ (-1 :: r.reverse)
def mf_ok (g : am_G) (q : Nat) (rs : List (List Int32)) : Prop := am_i g 943 5 = nI q ∧ am_i g 943 9 = nI rs.length ∧ am_i g 943 8 = nI (rw_l rs).length ∧ (rw_l rs).length ≤ 9000 ∧ ∀ i x, (rw_l rs)[i]? = some x → am_i g 947 i = x
theorem rw_len : ∀ rs : List (List Int32), rs.length ≤ (rw_l rs).length
  | [] => Nat.le_refl _
  | r :: rs => by
    have := rw_len rs
    unfold rw_l
    rw [List.length_append, List.length_cons, List.length_cons]
    omega
def mf_S (o k : Nat) : Bool := Nat.beq o 947 || (Nat.beq o 943 && (Nat.beq k 5 || (Nat.beq k 8 || Nat.beq k 9)))
theorem mf_cg {g h : am_G} {q : Nat} {rs : List (List Int32)} (K : mf_ok g q rs) (f : ∀ o k, mf_S o k = true → am_i h o k = am_i g o k) : mf_ok h q rs :=
  ⟨(f 943 5 rfl).trans K.1, (f 943 9 rfl).trans K.2.1, (f 943 8 rfl).trans K.2.2.1, K.2.2.2.1, fun i x q => (f 947 i rfl).trans (K.2.2.2.2 i x q)⟩
/-- R at an item and M with it in hand -/
def fs_ok (gR gM : am_G) (N : Nat) (n : Int32) (p : Nat) (rs : List (List Int32)) (i : Int32) : Prop :=
  tx_r gR N n ∧ tx_m gR gM N ∧ rf_ok gR p rs ∧ p ≤ N ∧ (rs ≠ [] → am_i gM 943 13 = am_i gR 39 5) ∧ i = rf_h gR N p rs ∧ match rs with
    | [] => if p < N then mf_ok gM (p + 1) [] ∧ am_i gM 943 30 = am_i gR 38 p ∧ am_i gM 943 29 = 1 else mf_ok gM p [] ∧ am_i gM 943 30 = n
    | [] :: rest => mf_ok gM p ([] :: rest)
    | (_ :: r) :: rest => mf_ok gM p (r :: rest) ∧ am_i gM 943 30 = am_i gM 943 13 ∧ am_i gM 943 29 = 1
def tk_S (o k : Nat) : Bool := Nat.beq o 943 && (Nat.beq k 5 || (Nat.beq k 8 || (Nat.beq k 29 || Nat.beq k 30)))
theorem si_si (g : am_G) (a k : Nat) (x y : Int32) : am_si (am_si g a k x) a k y = am_si g a k y := by
  unfold am_si am_up
  refine Prod.ext (funext fun o => funext fun j => ?_) rfl
  dsimp only
  split <;> rfl
theorem si_id (g : am_G) (a k : Nat) {x : Int32} (h : am_i g a k = x) : am_si g a k x = g := by
  unfold am_si am_up
  refine Prod.ext (funext fun o => funext fun j => ?_) rfl
  dsimp only
  split
  · rename_i q
    rw [q.1, q.2]; exact h.symm
  · rfl
/-- M takes the next item -/
theorem fs_tk {gR g1 : am_G} {N p : Nat} {n : Int32} {rs : List (List Int32)} (T : tx_r gR N n) (M : tx_m gR g1 N) (F : rf_ok gR p rs) (hp : p ≤ N) (ho : rs ≠ [] → am_i g1 943 13 = am_i gR 39 5) (K : mf_ok g1 p rs) :
    ∃ g2, (∀ res, mi_ok n (rf_h gR N p rs) g2 res → mr_ok n g1 res) ∧ fs_ok gR g2 N n p rs (rf_h gR N p rs) ∧ fx_i tk_S g1 g2 := by
  have hN := T.1
  have hM : ∀ {g2}, fx_i tk_S g1 g2 → tx_m gR g2 N := fun f => ⟨((f.1 943 4 rfl).1).trans M.1, fun i hi => ⟨((f.1 945 i rfl).1).trans (M.2 i hi).1, ((f.1 946 i rfl).1).trans (M.2 i hi).2⟩⟩
  cases rs with
  | nil =>
    by_cases q : p < N
    · have e : rf_h gR N p [] = am_i g1 945 p := by show (if p < N then am_i gR 37 p else -1) = _; rw [if_pos q, (M.2 p q).1]
      have hf : fx_i tk_S g1 (am_si (am_si (am_si g1 943 30 (am_i g1 946 p)) 943 5 (nI (p + 1))) 943 29 1) := fx_tr (fx_tr (fx_si rfl) (fx_si rfl)) (fx_si rfl)
      refine ⟨_, fun res h => ?_, ⟨T, hM hf, F, hp, fun z => absurd rfl z, rfl, ?_⟩, hf⟩
      · rw [e] at h
        exact mr_c K.1 M.1 q hN K.2.1 h (by rw [(M.2 p q).1]; exact (ch_n (T.2.2.2.1 p q)).1)
      · show if p < N then _ else _
        rw [if_pos q]
        refine ⟨⟨?_, ?_, ?_, K.2.2.2.1, fun i x z => by cases z⟩, ?_, ?_⟩
        · rw [gi_si, if_neg (by omega), gi_si, if_pos ⟨rfl, rfl⟩]
        · rw [gi_si, if_neg (by omega), gi_si, if_neg (by omega), gi_si, if_neg (by omega)]; exact K.2.1
        · rw [gi_si, if_neg (by omega), gi_si, if_neg (by omega), gi_si, if_neg (by omega)]; exact K.2.2.1
        · rw [gi_si, if_neg (by omega), gi_si, if_neg (by omega), gi_si, if_pos ⟨rfl, rfl⟩]; exact (M.2 p q).2
        · rw [gi_si, if_pos ⟨rfl, rfl⟩]
    · have e : rf_h gR N p [] = -1 := by show (if p < N then am_i gR 37 p else -1) = _; rw [if_neg q]
      have hpN : p = N := by omega
      have hf : fx_i tk_S g1 (am_si g1 943 30 n) := fx_si rfl
      refine ⟨am_si g1 943 30 n, fun res h => ?_, ⟨T, hM hf, F, hp, fun z => absurd rfl z, rfl, ?_⟩, hf⟩
      · rw [e] at h
        refine mr_z (hpN ▸ K.1) M.1 hN K.2.1 ?_
        have k9 : am_i g1 943 9 = 0 := K.2.1
        unfold mi_ok at h ⊢
        rw [if_pos rfl] at h ⊢
        rw [k9, if_neg (by decide)]
        rw [show am_i (am_si g1 943 30 n) 943 9 = am_i g1 943 9 from rfl, k9, if_neg (by decide)] at h
        rw [← h]
        unfold fj_137_138
        rw [si_si, show am_i (am_si g1 943 30 n) 943 26 = am_i g1 943 26 from rfl]
      · show if p < N then _ else _
        rw [if_neg q]
        exact ⟨⟨K.1, K.2.1, K.2.2.1, K.2.2.2.1, K.2.2.2.2⟩, rfl⟩
  | cons r rest =>
    obtain ⟨k5, k9, k8, kl, kr⟩ := K
    have hd : rest.length + 1 ≤ 16 := F.2.1
    have k9 : am_i g1 943 9 = nI (rest.length + 1) := k9
    cases r with
    | nil =>
      have el : (rw_l ([] :: rest)).length = (rw_l rest).length + 1 := by show (rw_l rest ++ [-1]).length = _; rw [List.length_append]; rfl
      have ex : am_i g1 947 (rw_l rest).length = -1 := kr _ _ (by
        show (rw_l rest ++ [-1])[(rw_l rest).length]? = some (-1)
        rw [List.getElem?_append_right (Nat.le_refl _), Nat.sub_self]
        rfl)
      refine ⟨g1, fun res h => ?_, ⟨T, M, F, hp, ho, rfl, ⟨k5, k9, k8, kl, kr⟩⟩, fx_re⟩
      rw [el] at k8 kl
      exact mr_l k8 kl (d := rest.length + 1) k9 (by omega) (by omega) (by rw [ex]; decide) h
    | cons c r =>
      have e2 : rw_l ((c :: r) :: rest) = rw_l (r :: rest) ++ [c] := by
        show rw_l rest ++ (-1 :: (c :: r).reverse) = (rw_l rest ++ (-1 :: r.reverse)) ++ [c]
        rw [List.reverse_cons, List.append_assoc]
        rfl
      have el : (rw_l ((c :: r) :: rest)).length = (rw_l (r :: rest)).length + 1 := by rw [e2, List.length_append]; rfl
      have ex : am_i g1 947 (rw_l (r :: rest)).length = c := kr _ _ (by
        rw [e2, List.getElem?_append_right (Nat.le_refl _), Nat.sub_self]
        rfl)
      have hcv : ch_ok c := by
        obtain ⟨⟨t, e, a, s, z, h1, h2, h3, h4, h5, h6, h7, h8, h9, h10, h11⟩, _⟩ := F.2.2.2
        exact h11 c (List.mem_cons_self)
      have hf : fx_i tk_S g1 (am_si (am_si (am_si g1 943 8 (nI (rw_l (r :: rest)).length)) 943 30 (am_i g1 943 13)) 943 29 1) := fx_tr (fx_tr (fx_si rfl) (fx_si rfl)) (fx_si rfl)
      refine ⟨_, fun res h => ?_, ⟨T, hM hf, F, hp, fun z => ((hf.1 943 13 rfl).1).trans (ho z), rfl, ?_⟩, hf⟩
      · rw [el] at k8 kl
        have hr : rf_h gR N p ((c :: r) :: rest) = c := rfl
        rw [hr] at h
        refine mr_e k8 kl (d := rest.length + 1) k9 (by omega) ?_ (by rw [ex]; exact (ch_n hcv).2) (by rw [ex]; exact h)
        have := rw_len (r :: rest)
        exact this
      · refine ⟨⟨?_, ?_, ?_, by omega, fun i x z => ?_⟩, ?_, ?_⟩
        · rw [gi_si, if_neg (by omega), gi_si, if_neg (by omega), gi_si, if_neg (by omega)]; exact k5
        · rw [gi_si, if_neg (by omega), gi_si, if_neg (by omega), gi_si, if_neg (by omega)]; exact k9
        · rw [gi_si, if_neg (by omega), gi_si, if_neg (by omega), gi_si, if_pos ⟨rfl, rfl⟩]
        · rw [gi_si, if_neg (by omega), gi_si, if_neg (by omega), gi_si, if_neg (by omega)]
          refine kr i x ?_
          have hi := (List.getElem?_eq_some_iff.mp z).1
          rw [e2, List.getElem?_append_left hi]
          exact z
        · rw [gi_si, if_neg (by omega), gi_si, if_pos ⟨rfl, rfl⟩, gi_si, if_neg (by omega), gi_si, if_neg (by omega), gi_si, if_neg (by omega)]
        · rw [gi_si, if_pos ⟨rfl, rfl⟩]
