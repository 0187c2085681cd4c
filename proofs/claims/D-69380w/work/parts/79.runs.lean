/-! Runs of name characters in a text, and what they weigh. -/
def ru_e (a : List Int32) : List (List Int32) := if a = [] then [] else [a]
/-- all runs -/
noncomputable def ru_g : List Int32 → List Int32 → List (List Int32)
  | a, [] => ru_e a
  | a, c :: t => if ch_pt c = true then ru_g (a ++ [c]) t else ru_e a ++ ru_g [] t
/-- runs that have ended -/
noncomputable def ru_c : List Int32 → List Int32 → List (List Int32)
  | _, [] => []
  | a, c :: t => if ch_pt c = true then ru_c (a ++ [c]) t else ru_e a ++ ru_c [] t
/-- the run at the end -/
noncomputable def ru_t : List Int32 → List Int32 → List Int32
  | a, [] => a
  | a, c :: t => if ch_pt c = true then ru_t (a ++ [c]) t else ru_t [] t
noncomputable def ru_l (t : List Int32) : List (List Int32) := ru_g [] t
theorem ru_gc : ∀ (t a : List Int32), ru_g a t = ru_c a t ++ ru_e (ru_t a t)
  | [], a => rfl
  | c :: t, a => by
    unfold ru_g ru_c ru_t
    by_cases h : ch_pt c = true
    · rw [if_pos h, if_pos h, if_pos h]; exact ru_gc t _
    · rw [if_neg h, if_neg h, if_neg h, ru_gc t [], List.append_assoc]
theorem ru_cs : ∀ (t a : List Int32) (c : Int32), ch_pt c = true → ru_c a (t ++ [c]) = ru_c a t ∧ ru_t a (t ++ [c]) = ru_t a t ++ [c]
  | [], a, c, h => by
    show ru_c a [c] = ru_c a [] ∧ ru_t a [c] = ru_t a [] ++ [c]
    unfold ru_c ru_t
    rw [if_pos h, if_pos h]
    exact ⟨rfl, rfl⟩
  | d :: t, a, c, h => by
    show ru_c a (d :: (t ++ [c])) = ru_c a (d :: t) ∧ ru_t a (d :: (t ++ [c])) = ru_t a (d :: t) ++ [c]
    unfold ru_c ru_t
    by_cases q : ch_pt d = true
    · rw [if_pos q, if_pos q, if_pos q, if_pos q]; exact ru_cs t _ c h
    · rw [if_neg q, if_neg q, if_neg q, if_neg q, (ru_cs t [] c h).1]; exact ⟨rfl, (ru_cs t [] c h).2⟩
theorem ru_cn : ∀ (t a : List Int32) (c : Int32), ch_pt c = false → ru_c a (t ++ [c]) = ru_c a t ++ ru_e (ru_t a t) ∧ ru_t a (t ++ [c]) = []
  | [], a, c, h => by
    show ru_c a [c] = ru_c a [] ++ ru_e (ru_t a []) ∧ ru_t a [c] = []
    unfold ru_c ru_t
    rw [if_neg (by rw [h]; decide), if_neg (by rw [h]; decide)]
    exact ⟨by show ru_e a ++ [] = [] ++ ru_e a; rw [List.append_nil, List.nil_append], rfl⟩
  | d :: t, a, c, h => by
    show ru_c a (d :: (t ++ [c])) = ru_c a (d :: t) ++ ru_e (ru_t a (d :: t)) ∧ ru_t a (d :: (t ++ [c])) = []
    unfold ru_c ru_t
    by_cases q : ch_pt d = true
    · rw [if_pos q, if_pos q, if_pos q, if_pos q]; exact ru_cn t _ c h
    · rw [if_neg q, if_neg q, if_neg q, if_neg q, (ru_cn t [] c h).1, List.append_assoc]; exact ⟨rfl, (ru_cn t [] c h).2⟩
theorem ru_in : ∀ (u a rest r : List Int32), (u = [] → a = []) → (∀ c, u.getLast? = some c → ch_pt c = false) → r ∈ ru_g [] rest → r ∈ ru_g a (u ++ rest)
  | [], a, rest, r, h, _, hr => by rw [h rfl]; exact hr
  | c :: u, a, rest, r, _, hl, hr => by
    show r ∈ ru_g a (c :: (u ++ rest))
    unfold ru_g
    have hl2 : ∀ d, u.getLast? = some d → ch_pt d = false := fun d hd => hl d (by
      cases u with
      | nil => cases hd
      | cons x u => rw [List.getLast?_cons_cons]; exact hd)
    by_cases q : ch_pt c = true
    · rw [if_pos q]
      refine ru_in u _ rest r (fun e => ?_) hl2 hr
      subst e
      have := hl c rfl
      rw [q] at this
      cases this
    · rw [if_neg q]
      exact List.mem_append_right _ (ru_in u [] rest r (fun _ => rfl) hl2 hr)
theorem ru_w : ∀ (w a v : List Int32), (∀ x ∈ w, ch_pt x = true) → a ++ w ≠ [] → (∀ c, v.head? = some c → ch_pt c = false) → a ++ w ∈ ru_g a (w ++ v)
  | [], a, v, _, ha, hv => by
    rw [List.append_nil] at ha ⊢
    have e : ru_e a = [a] := if_neg ha
    cases v with
    | nil => show a ∈ ru_e a; rw [e]; exact List.mem_singleton.mpr rfl
    | cons c v =>
      show a ∈ ru_g a (c :: v)
      unfold ru_g
      rw [if_neg (by rw [hv c rfl]; decide), e]
      exact List.mem_append_left _ (List.mem_singleton.mpr rfl)
  | x :: w, a, v, hw, ha, hv => by
    show a ++ (x :: w) ∈ ru_g a (x :: (w ++ v))
    unfold ru_g
    rw [if_pos (hw x (List.mem_cons_self ..))]
    have := ru_w w (a ++ [x]) v (fun y hy => hw y (List.mem_cons_of_mem _ hy)) (by simp) hv
    rw [List.append_assoc] at this
    exact this
/-- what stands between characters that are no name characters is a run -/
theorem ru_r {u w v : List Int32} (hu : ∀ c, u.getLast? = some c → ch_pt c = false) (hw : ∀ x ∈ w, ch_pt x = true) (hn : w ≠ []) (hv : ∀ c, v.head? = some c → ch_pt c = false) : w ∈ ru_l (u ++ (w ++ v)) :=
  ru_in u [] (w ++ v) w (fun _ => rfl) hu (ru_w w [] v hw hn hv)
-- weights
def su_w (f : List Int32 → Nat) : List (List Int32) → Nat
  | [] => 0
  | r :: l => f r + su_w f l
theorem su_ap (f : List Int32 → Nat) : ∀ (l m : List (List Int32)), su_w f (l ++ m) = su_w f l + su_w f m
  | [], m => by show su_w f m = 0 + su_w f m; omega
  | r :: l, m => by show f r + su_w f (l ++ m) = f r + su_w f l + su_w f m; rw [su_ap f l m]; omega
def n1_b (w : List Int32) : Bool := match w with
  | [c] => decide (c < 128)
  | _ => false
def om_2 (w : List Int32) : Nat := bif n1_b w then 0 else 6
def by_s : List Int32 → Nat
  | [] => 0
  | c :: t => u8_c c + by_s t
theorem u8_1 (c : Int32) : 1 ≤ u8_c c := by
  unfold u8_c
  split
  · omega
  · split
    · omega
    · split <;> omega
theorem by_ap : ∀ (l m : List Int32), by_s (l ++ m) = by_s l + by_s m
  | [], m => by show by_s m = 0 + by_s m; omega
  | c :: l, m => by show u8_c c + by_s (l ++ m) = u8_c c + by_s l + by_s m; rw [by_ap l m]; omega
theorem by_l : ∀ l : List Int32, l.length ≤ by_s l
  | [] => Nat.le_refl _
  | c :: l => by
    have := by_l l
    have := u8_1 c
    show l.length + 1 ≤ u8_c c + by_s l
    omega
theorem om_l (w : List Int32) : om_2 w ≤ 6 := by
  unfold om_2
  cases n1_b w <;> decide
theorem om_by {w : List Int32} (h : w ≠ []) : om_2 w ≤ 2 * by_s w + 2 := by
  cases w with
  | nil => exact absurd rfl h
  | cons c t =>
    cases t with
    | nil =>
      show (bif decide (c < 128) then 0 else 6) ≤ 2 * (u8_c c + 0) + 2
      by_cases q : c < 128
      · rw [decide_eq_true q, cond_true]; omega
      · rw [decide_eq_false q, cond_false]
        have : 2 ≤ u8_c c := by
          unfold u8_c
          rw [if_neg q]
          split
          · omega
          · split <;> omega
        omega
    | cons d t =>
      show 6 ≤ 2 * (u8_c c + (u8_c d + by_s t)) + 2
      have := u8_1 c
      have := u8_1 d
      omega
theorem ru_1 : ∀ t a : List Int32, su_w List.length (ru_g a t) ≤ a.length + t.length
  | [], a => by
    show su_w List.length (ru_e a) ≤ a.length + 0
    unfold ru_e
    split
    · exact Nat.zero_le _
    · exact Nat.le_refl _
  | c :: t, a => by
    unfold ru_g
    show _ ≤ a.length + (t.length + 1)
    by_cases q : ch_pt c = true
    · rw [if_pos q]
      have := ru_1 t (a ++ [c])
      rw [List.length_append] at this
      have e : [c].length = 1 := rfl
      omega
    · rw [if_neg q, su_ap]
      have h1 := ru_1 t []
      have h2 : su_w List.length (ru_e a) ≤ a.length := by
        unfold ru_e
        split
        · exact Nat.zero_le _
        · exact Nat.le_refl _
      have e : ([] : List Int32).length = 0 := rfl
      omega
theorem ru_2 : ∀ t a : List Int32, su_w om_2 (ru_g a t) ≤ 3 * (t.length + 1) + (if a = [] then 0 else 3)
  | [], a => by
    show su_w om_2 (ru_e a) ≤ 3 + _
    unfold ru_e
    by_cases z : a = []
    · rw [if_pos z, if_pos z]; exact Nat.zero_le _
    · rw [if_neg z, if_neg z]
      show om_2 a + 0 ≤ _
      have := om_l a
      omega
  | c :: t, a => by
    unfold ru_g
    show _ ≤ 3 * (t.length + 1 + 1) + _
    by_cases q : ch_pt c = true
    · rw [if_pos q]
      have := ru_2 t (a ++ [c])
      rw [if_neg (by simp)] at this
      omega
    · rw [if_neg q, su_ap]
      have h1 := ru_2 t []
      rw [if_pos rfl] at h1
      unfold ru_e
      by_cases z : a = []
      · rw [if_pos z, if_pos z]
        show 0 + _ ≤ _
        omega
      · rw [if_neg z, if_neg z]
        show om_2 a + 0 + _ ≤ _
        have := om_l a
        omega
theorem ru_b : ∀ t a : List Int32, su_w om_2 (ru_g a t) ≤ 2 * (by_s a + by_s t) + 2
  | [], a => by
    show su_w om_2 (ru_e a) ≤ 2 * (by_s a + 0) + 2
    unfold ru_e
    by_cases z : a = []
    · rw [if_pos z]; exact Nat.zero_le _
    · rw [if_neg z]
      show om_2 a + 0 ≤ _
      have := om_by z
      omega
  | c :: t, a => by
    unfold ru_g
    show _ ≤ 2 * (by_s a + (u8_c c + by_s t)) + 2
    have hc := u8_1 c
    by_cases q : ch_pt c = true
    · rw [if_pos q]
      have := ru_b t (a ++ [c])
      rw [by_ap] at this
      have e : by_s [c] = u8_c c + 0 := rfl
      omega
    · rw [if_neg q, su_ap]
      have h1 := ru_b t []
      have e : by_s [] = 0 := rfl
      unfold ru_e
      by_cases z : a = []
      · rw [if_pos z]
        show 0 + _ ≤ _
        omega
      · rw [if_neg z]
        show om_2 a + 0 + _ ≤ _
        have := om_by z
        omega
-- names that are known, runs that are not
def un_f (L : List (List Int32)) (r : List Int32) : Bool := !decide (r ∈ L)
theorem un_t {L : List (List Int32)} {r : List Int32} : un_f L r = true ↔ r ∉ L := by
  unfold un_f
  by_cases h : r ∈ L
  · rw [decide_eq_true h]; exact ⟨fun z => (nomatch z), fun z => absurd h z⟩
  · rw [decide_eq_false h]; exact ⟨fun _ => h, fun _ => rfl⟩
def po_t (f : List Int32 → Nat) (L R : List (List Int32)) : Nat := su_w f L + su_w f (R.filter (un_f L))
theorem su_fl {f : List Int32 → Nat} {p q : List Int32 → Bool} (h : ∀ r, p r = true → q r = true) : ∀ R : List (List Int32), su_w f (R.filter p) ≤ su_w f (R.filter q)
  | [] => Nat.le_refl _
  | r :: R => by
    have ih := su_fl (f := f) h R
    rw [List.filter_cons, List.filter_cons]
    by_cases z : p r = true
    · rw [if_pos z, if_pos (h r z)]
      show f r + _ ≤ f r + _
      omega
    · rw [if_neg z]
      split
      · show _ ≤ f r + _; omega
      · exact ih
theorem su_f0 {f : List Int32 → Nat} {p : List Int32 → Bool} : ∀ R : List (List Int32), su_w f (R.filter p) ≤ su_w f R
  | [] => Nat.le_refl _
  | r :: R => by
    have ih := su_f0 (f := f) (p := p) R
    rw [List.filter_cons]
    show _ ≤ f r + su_w f R
    split
    · show f r + _ ≤ _; omega
    · omega
theorem su_pa {f : List Int32 → Nat} {p q : List Int32 → Bool} (h : ∀ r, p r = !q r) : ∀ R : List (List Int32), su_w f (R.filter p) + su_w f (R.filter q) = su_w f R
  | [] => rfl
  | r :: R => by
    have ih := su_pa (f := f) h R
    have hr := h r
    rw [List.filter_cons, List.filter_cons]
    show _ = f r + su_w f R
    cases z : q r with
    | true =>
      rw [z] at hr
      rw [hr, if_neg (show ¬ (!true) = true by decide), if_pos rfl]
      show _ + (f r + _) = _
      omega
    | false =>
      rw [z] at hr
      rw [hr, if_pos (show (!false) = true from rfl), if_neg (by decide)]
      show f r + _ + _ = _
      omega
theorem su_f1 {f : List Int32 → Nat} {p p' : List Int32 → Bool} {w : List Int32} (hw : p w = true) (h : ∀ r, p' r = true → p r = true ∧ r ≠ w) : ∀ R : List (List Int32), w ∈ R → su_w f (R.filter p') + f w ≤ su_w f (R.filter p)
  | [], hm => (nomatch hm)
  | r :: R, hm => by
    rw [List.filter_cons, List.filter_cons]
    by_cases z : r = w
    · subst z
      have : ¬ p' r = true := fun y => (h r y).2 rfl
      rw [if_neg this, if_pos hw]
      have := su_fl (f := f) (fun x y => (h x y).1) R
      show _ ≤ f r + _
      omega
    · have ih := su_f1 (f := f) hw h R (by
        rcases List.mem_cons.mp hm with y | y
        · exact absurd y.symm z
        · exact y)
      by_cases y : p' r = true
      · rw [if_pos y, if_pos (h r y).1]
        show f r + _ + _ ≤ f r + _
        omega
      · rw [if_neg y]
        split
        · show _ ≤ f r + _; omega
        · exact ih
theorem po_new {f : List Int32 → Nat} {L R : List (List Int32)} {w : List Int32} (h1 : w ∉ L) (h2 : w ∈ R) : po_t f (L ++ [w]) R ≤ po_t f L R := by
  unfold po_t
  rw [su_ap]
  have : su_w f (R.filter (un_f (L ++ [w]))) + f w ≤ su_w f (R.filter (un_f L)) := su_f1 (un_t.mpr h1) (fun r hr => by
    have := un_t.mp hr
    exact ⟨un_t.mpr fun z => this (List.mem_append_left _ z), fun z => this (List.mem_append_right _ (List.mem_singleton.mpr z))⟩) R h2
  show _ + (f w + 0) + _ ≤ _
  omega
theorem po_any (f : List Int32 → Nat) (L R : List (List Int32)) (w : List Int32) : po_t f (L ++ [w]) R ≤ po_t f L R + f w := by
  unfold po_t
  rw [su_ap]
  have : su_w f (R.filter (un_f (L ++ [w]))) ≤ su_w f (R.filter (un_f L)) := su_fl (fun r hr => un_t.mpr fun z => un_t.mp hr (List.mem_append_left _ z)) R
  show _ + (f w + 0) + _ ≤ _
  omega
theorem po_lit {f : List Int32 → Nat} {L L0 R C E : List (List Int32)} (h : su_w f L ≤ su_w f L0 + su_w f (C.filter fun r => decide (r ∈ L))) (h0 : ∀ r ∈ L0, r ∈ L) : po_t f L (R ++ (C ++ E)) ≤ po_t f L0 R + su_w f (C ++ E) := by
  unfold po_t
  rw [List.filter_append, List.filter_append, su_ap, su_ap, su_ap]
  have h1 : su_w f (R.filter (un_f L)) ≤ su_w f (R.filter (un_f L0)) := su_fl (fun r hr => un_t.mpr fun z => un_t.mp hr (h0 r z)) R
  have h2 : su_w f (C.filter (un_f L)) + su_w f (C.filter fun r => decide (r ∈ L)) = su_w f C := su_pa (fun r => rfl) C
  have h3 : su_w f (E.filter (un_f L)) ≤ su_w f E := su_f0 E
  omega
-- how many names there are
theorem nd_le : ∀ (L P : List (List Int32)), L.Nodup → (∀ x ∈ L, x ∈ P) → L.length ≤ P.length
  | [], _, _, _ => Nat.zero_le _
  | x :: L, P, hn, hs => by
    have hx := hs x (List.mem_cons_self ..)
    rw [List.nodup_cons] at hn
    have := nd_le L (P.erase x) hn.2 (fun y hy => (List.mem_erase_of_ne (fun e : y = x => hn.1 (by rw [← e]; exact hy))).mpr (hs y (List.mem_cons_of_mem _ hy)))
    rw [List.length_erase_of_mem hx] at this
    have hp : 0 < P.length := List.length_pos_of_mem hx
    show L.length + 1 ≤ _
    omega
def n1_L : List Nat := [45, 46] ++ (List.range' 48 11 ++ (List.range' 65 26 ++ ([95] ++ List.range' 97 26)))
theorem n1_m {c : Nat} (h : c < 128) (hp : ch_pt (nI c) = true) : c ∈ n1_L := by
  have ht : (nI c).toInt = (c : Int) := nI_toInt (by omega)
  have : bg_P (c : Int) ∨ px_P (c : Int) := by
    unfold ch_pt at hp
    rw [Bool.or_eq_true] at hp
    rw [← ht]
    rcases hp with q | q
    · exact Or.inl (by unfold ch_bg at q; simpa using q)
    · exact Or.inr (by unfold ch_px at q; simpa using q)
  unfold bg_P px_P at this
  unfold n1_L
  simp only [List.mem_append, List.mem_range'_1, List.mem_cons, List.not_mem_nil, or_false]
  omega
theorem om_c : ∀ L : List (List Int32), 6 * L.length = su_w om_2 L + 6 * (L.filter n1_b).length
  | [] => rfl
  | w :: L => by
    have ih := om_c L
    rw [List.filter_cons]
    show 6 * (L.length + 1) = om_2 w + su_w om_2 L + _
    have e : om_2 w = bif n1_b w then 0 else 6 := rfl
    rw [e]
    cases q : n1_b w with
    | true => rw [if_pos rfl, cond_true]; show _ = _ + 6 * (_ + 1); omega
    | false => rw [if_neg (by decide), cond_false]; omega
/-- distinct names: not many are one character of one byte -/
theorem po_c {L : List (List Int32)} (hn : L.Nodup) (h : ∀ w ∈ L, ∀ x ∈ w, ch_pt x = true ∧ ch_ok x) : 6 * L.length ≤ su_w om_2 L + 396 := by
  have h1 : (L.filter n1_b).length ≤ (n1_L.map fun c => [nI c]).length := nd_le _ _ (hn.filter _) (fun w hw => by
    rw [List.mem_filter] at hw
    have hv := h w hw.1
    cases w with
    | nil => exact absurd hw.2 (by decide)
    | cons c t =>
      cases t with
      | cons d t => exact absurd hw.2 (by show ¬ false = true; decide)
      | nil =>
        have hc : c < 128 := of_decide_eq_true hw.2
        obtain ⟨h2, k, hk, rfl⟩ := hv c (List.mem_cons_self ..)
        have hk2 : k < 128 := by
          rcases Nat.lt_or_ge k 128 with q | q
          · exact q
          · exact absurd hc (nI_nlt (a := k) (b := 128) q (by omega))
        exact List.mem_map.mpr ⟨k, n1_m hk2 h2, rfl⟩)
  rw [List.length_map, show n1_L.length = 66 from rfl] at h1
  rw [om_c L]
  omega
