/-! The constructors' run over the data, phase by phase (printed by gen/pctor.py). -/
def cq_d0 : aj_M := (55, [(101, 20), (101, 32000), (101, 300), (121, 80), (118, 40), (7, 0), (103, 1024), (103, 7200), (102, 7200), (101, 7200), (101, 14600), (6, 0), (101, 17), (101, 17), (122, 17), (5, 0), (101, 6001), (101, 6000), (4, 0), (3, 0), (102, 6000), (2, 0), (1, 0)], [(49, 4, 54), (49, 3, 53), (49, 2, 52), (49, 1, 51), (49, 0, 50), (33, 3, 43), (43, 4, 48), (43, 3, 47), (43, 2, 46), (43, 1, 45), (43, 0, 44), (33, 2, 39), (39, 0, 35), (39, 3, 42), (39, 2, 41), (39, 1, 40), (33, 1, 35), (35, 1, 38), (35, 0, 37), (35, 2, 36), (33, 0, 34)], [], 87785)
def cq_ek : List (Nat × Nat) := [(10, 0), (10, 0), (10, 0), (10, 0), (10, 0), (10, 0), (10, 0), (10, 0), (10, 0), (10, 0), (10, 0), (10, 0), (10, 0), (120, 13), (105, 60), (101, 60), (9, 0), (8, 0)]
def cq_er (k : Nat) : List (Nat × Nat × Nat) := [(50, k, 55 + 18 * k), (55 + 18 * k + 0, 2, 55 + 18 * k + 1), (55 + 18 * k + 4, 12, 55 + 18 * k + 17), (55 + 18 * k + 4, 11, 55 + 18 * k + 16), (55 + 18 * k + 4, 10, 55 + 18 * k + 15), (55 + 18 * k + 4, 9, 55 + 18 * k + 14), (55 + 18 * k + 4, 8, 55 + 18 * k + 13), (55 + 18 * k + 4, 7, 55 + 18 * k + 12), (55 + 18 * k + 4, 6, 55 + 18 * k + 11), (55 + 18 * k + 4, 5, 55 + 18 * k + 10), (55 + 18 * k + 4, 4, 55 + 18 * k + 9), (55 + 18 * k + 4, 3, 55 + 18 * k + 8), (55 + 18 * k + 4, 2, 55 + 18 * k + 7), (55 + 18 * k + 4, 1, 55 + 18 * k + 6), (55 + 18 * k + 4, 0, 55 + 18 * k + 5), (55 + 18 * k + 1, 2, 55 + 18 * k + 4), (55 + 18 * k + 1, 1, 55 + 18 * k + 3), (55 + 18 * k + 1, 0, 55 + 18 * k + 2)]
def cq_D : Nat → aj_M
  | 0 => cq_d0
  | k + 1 => ((cq_D k).1 + 18, cq_ek ++ (cq_D k).2.1, cq_er k ++ (cq_D k).2.2.1, (cq_D k).2.2.2.1, (cq_D k).2.2.2.2 + 209)
def cq_A : Nat → aj_M
  | 0 => cq_D 40
  | k + 1 => ((cq_A k).1 + 1, (11, 0) :: (cq_A k).2.1, (51, k, 775 + k) :: (cq_A k).2.2.1, (cq_A k).2.2.2.1, (cq_A k).2.2.2.2 + 8)
def cq_p0 : aj_M := (903, [(10, 0), (10, 0), (10, 0), (10, 0), (10, 0), (10, 0), (10, 0), (10, 0), (10, 0), (10, 0), (10, 0), (10, 0), (10, 0), (120, 13), (105, 60), (101, 60), (9, 0), (101, 30), (101, 8000), (101, 5200), (101, 12), (101, 12), (101, 12), (125, 40), (104, 40), (101, 40), (101, 40), (101, 40), (127, 10), (102, 30000), (14, 0), (104, 200), (101, 200), (101, 200), (101, 8000), (13, 0), (101, 8000), (104, 40), (101, 40), (101, 40), (101, 40), (12, 0), (101, 8000), (104, 40), (101, 40), (101, 40), (101, 40), (12, 0)] ++ (cq_A 80).2.1, [(33, 35, 886), (889, 12, 902), (889, 11, 901), (889, 10, 900), (889, 9, 899), (889, 8, 898), (889, 7, 897), (889, 6, 896), (889, 5, 895), (889, 4, 894), (889, 3, 893), (889, 2, 892), (889, 1, 891), (889, 0, 890), (886, 2, 889), (886, 1, 888), (886, 0, 887), (33, 33, 885), (33, 32, 884), (33, 29, 883), (33, 27, 882), (33, 26, 881), (33, 25, 880), (33, 23, 879), (33, 22, 878), (33, 21, 877), (33, 20, 876), (33, 19, 875), (33, 9, 874), (874, 0, 1), (874, 1, 2), (874, 2, 3), (874, 3, 4), (874, 4, 5), (874, 5, 6), (874, 6, 7), (874, 7, 8), (874, 8, 9), (874, 9, 10), (33, 8, 872), (872, 0, 873), (33, 7, 867), (867, 3, 871), (867, 2, 870), (867, 1, 869), (867, 0, 868), (33, 6, 861), (861, 4, 866), (861, 3, 865), (861, 2, 864), (861, 1, 863), (861, 0, 862), (33, 5, 855), (855, 4, 860), (855, 3, 859), (855, 2, 858), (855, 1, 857), (855, 0, 856), (33, 4, 49)] ++ (cq_A 80).2.2.1, [(872, 6, 1)] ++ (cq_A 80).2.2.2.1, 165414)
def cq_P : Nat → aj_M
  | 0 => cq_p0
  | k + 1 => ((cq_P k).1 + 1, (15, 0) :: (cq_P k).2.1, (879, k, 903 + k) :: (cq_P k).2.2.1, (cq_P k).2.2.2.1, (cq_P k).2.2.2.2 + 3)
def cq_r1 : aj_M := (943, [] ++ (cq_P 40).2.1, [] ++ (cq_P 40).2.2.1, [(33, 12, (-1))] ++ (cq_P 40).2.2.2.1, 165534)
def cq_r : aj_M := aj_set cq_r1 32 0 33
def cq_m0 : aj_M := aj_new cq_r 16 0 147
def cq_m : aj_M := (1008, [(101, 15000), (101, 15000), (101, 8000), (104, 4400), (101, 4400), (101, 4400), (101, 400), (101, 9600), (101, 24), (101, 24), (101, 24), (101, 24), (104, 40), (104, 40), (105, 40), (101, 40), (101, 40), (101, 20), (101, 15000), (101, 40), (101, 40), (104, 40), (101, 40), (101, 16000), (101, 16000), (101, 330), (101, 80), (101, 80), (101, 80), (101, 80), (101, 80), (101, 80), (101, 80), (101, 80), (101, 12), (101, 12), (104, 6100), (101, 6100), (101, 6100), (101, 6100), (101, 6100), (105, 6000), (101, 6000), (101, 6000), (104, 40), (105, 40), (105, 40), (101, 40), (101, 40), (101, 40), (101, 40), (101, 6), (101, 512), (101, 6000), (101, 6000), (101, 6000), (101, 19000), (101, 16), (101, 16), (101, 16), (101, 9000), (101, 6000), (101, 6000), (101, 6020), (16, 0)] ++ cq_r.2.1, [(943, 137, 1007), (943, 136, 1006), (943, 133, 1005), (943, 132, 1004), (943, 131, 1003), (943, 130, 1002), (943, 124, 1001), (943, 122, 1000), (943, 121, 999), (943, 120, 998), (943, 119, 997), (943, 118, 996), (943, 111, 995), (943, 110, 994), (943, 109, 993), (943, 108, 992), (943, 107, 991), (943, 105, 990), (943, 100, 989), (943, 99, 988), (943, 98, 987), (943, 97, 986), (943, 96, 985), (943, 93, 984), (943, 92, 983), (943, 87, 982), (943, 85, 981), (943, 84, 980), (943, 83, 979), (943, 82, 978), (943, 81, 977), (943, 80, 976), (943, 79, 975), (943, 78, 974), (943, 69, 973), (943, 68, 972), (943, 66, 971), (943, 65, 970), (943, 64, 969), (943, 63, 968), (943, 62, 967), (943, 60, 966), (943, 59, 965), (943, 58, 964), (943, 56, 963), (943, 55, 962), (943, 54, 961), (943, 53, 960), (943, 52, 959), (943, 51, 958), (943, 50, 957), (943, 46, 956), (943, 23, 955), (943, 22, 954), (943, 20, 953), (943, 19, 952), (943, 16, 951), (943, 12, 950), (943, 11, 949), (943, 10, 948), (943, 7, 947), (943, 3, 946), (943, 2, 945), (943, 0, 944)] ++ cq_r.2.2.1, [(943, 143, (-1))] ++ cq_r.2.2.2.1, 388717)
def cq_h : aj_M := (33, [(1, 0)], [], [], 2)
def cq_k : aj_M := (34, [(2, 0), (1, 0)], [], [], 38)
def cq_c : aj_M := (50, [(7, 0), (103, 1024), (103, 7200), (102, 7200), (101, 7200), (101, 14600), (6, 0), (101, 17), (101, 17), (122, 17), (5, 0), (101, 6001), (101, 6000), (4, 0), (3, 0), (102, 6000), (2, 0), (1, 0)], [(33, 3, 43), (43, 4, 48), (43, 3, 47), (43, 2, 46), (43, 1, 45), (43, 0, 44), (33, 2, 39), (39, 0, 35), (39, 3, 42), (39, 2, 41), (39, 1, 40), (33, 1, 35), (35, 1, 38), (35, 0, 37), (35, 2, 36), (33, 0, 34)], [], 55345)
def aj_s1 (mid : Nat) (s : aj_S) : Option aj_R := match ac_code mid s.1 with
  | some i => aj_sx i (ac_rz mid) s.1 (ai_km (ai_m i) s.2.1) s.2.2.1 s.2.2.2
  | none => none
def aj_e0 (cal : Nat) (as : List Value) (m : aj_M) : aj_S := (bif Nat.ble (ai_ar as).length (ac_ml cal) then 0 else 65536, ai_fil (ai_ar as) (ac_ml cal), [], m)
/-- steps, calls run to their ends, until a pc -/
def aj_un : Nat → Nat → Nat → aj_S → Option aj_S
  | 0, _, _, _ => none
  | n + 1, mid, q, s => match aj_s1 mid s with
    | some (.inl t) => bif Nat.beq t.1 q then some t else aj_un n mid q t
    | some (.inr (.inl (cal, as, t))) => match aj_go 400 cal (aj_e0 cal as t.2.2.2) with
      | some (.inl v, m) => bif Nat.beq t.1 q then some (t.1, t.2.1, v.toList ++ t.2.2.1, m) else aj_un n mid q (t.1, t.2.1, v.toList ++ t.2.2.1, m)
      | _ => none
    | _ => none
def cq_j (mid : Nat) (s t : aj_S) : Prop := ∀ h H, aj_ok s.2.2.2 h H → ∃ H', aj_ok t.2.2.2 h H' ∧ ∀ o h', ai_ev ap_P mid (t.1, t.2.1, t.2.2.1, H') o h' → ai_ev ap_P mid (s.1, s.2.1, s.2.2.1, H) o h'
def cq_v (cal : Nat) (as : List Value) (m : aj_M) (v : Option Value) (m' : aj_M) : Prop := ∀ h H, aj_ok m h H → ∃ H', aj_ok m' h H' ∧ ai_ev ap_P cal (ai_e0 ap_P cal as H) (.inl v) H'
theorem cq_tr {mid : Nat} {s t u : aj_S} (h1 : cq_j mid s t) (h2 : cq_j mid t u) : cq_j mid s u := by
  intro h H K
  obtain ⟨H1, K1, e1⟩ := h1 h H K
  obtain ⟨H2, K2, e2⟩ := h2 h H1 K1
  exact ⟨H2, K2, fun o h' q => e1 o h' (e2 o h' q)⟩
theorem cq_s1 {mid : Nat} {s : aj_S} {R : aj_R} (hs : aj_s1 mid s = some R) {h H : am_M} (K : aj_ok s.2.2.2 h H) : ∃ H', ai_s ap_P mid (s.1, s.2.1, s.2.2.1, H) = some (aj_r R H') ∧ aj_ok (aj_rm R) h H' := by
  unfold aj_s1 at hs
  cases hi : ac_code mid s.1 with
  | none => rw [hi] at hs; cases hs
  | some i =>
    rw [hi] at hs
    obtain ⟨H1, e1, K1⟩ := aj_ss K hs
    refine ⟨H1, ?_, K1⟩
    unfold ai_s
    dsimp only
    rw [show ap_P.1 mid s.1 = ac_code mid s.1 from rfl, hi]
    exact e1
theorem cq_go {n cal : Nat} {as : List Value} {m m' : aj_M} {v : Option Value} (hg : aj_go n cal (aj_e0 cal as m) = some (.inl v, m')) : cq_v cal as m v m' := by
  intro h H K
  obtain ⟨H', e, K'⟩ := aj_sim (h := h) n cal _ _ _ hg H K
  exact ⟨H', K', n, e⟩
theorem cq_st {mid : Nat} {s t : aj_S} (hs : aj_s1 mid s = some (.inl t)) : cq_j mid s t := by
  intro h H K
  obtain ⟨H', e, K'⟩ := cq_s1 hs K
  exact ⟨H', K', fun o h' q => ev_step e q⟩
theorem cq_cl {mid cal : Nat} {as : List Value} {s t : aj_S} {v : Option Value} {m : aj_M} (hs : aj_s1 mid s = some (.inr (.inl (cal, as, t)))) (hc : cq_v cal as t.2.2.2 v m) : cq_j mid s (t.1, t.2.1, v.toList ++ t.2.2.1, m) := by
  intro h H K
  obtain ⟨H', e, K'⟩ := cq_s1 hs K
  obtain ⟨H2, K2, e2⟩ := hc h H' K'
  exact ⟨H2, K2, fun o h' q => ev_call e e2 q⟩
theorem cq_un : ∀ (n : Nat) {mid q : Nat} {s t : aj_S}, aj_un n mid q s = some t → cq_j mid s t := by
  intro n
  induction n with
  | zero => intro mid q s t h; cases h
  | succ n ih =>
    intro mid q s t h
    unfold aj_un at h
    cases hs : aj_s1 mid s with
    | none => rw [hs] at h; cases h
    | some R =>
      rw [hs] at h
      rcases R with u | ⟨cal, as, u⟩ | u
      · dsimp only at h
        cases hb : Nat.beq u.1 q with
        | true => rw [hb] at h; cases h; exact cq_st hs
        | false => rw [hb] at h; exact cq_tr (cq_st hs) (ih h)
      · dsimp only at h
        cases hg : aj_go 400 cal (aj_e0 cal as u.2.2.2) with
        | none => rw [hg] at h; cases h
        | some y =>
          obtain ⟨o, m⟩ := y
          rw [hg] at h
          cases o with
          | inr a => cases h
          | inl v =>
            dsimp only at h
            cases hb : Nat.beq u.1 q with
            | true => rw [hb] at h; cases h; exact cq_cl hs (cq_go hg)
            | false => rw [hb] at h; exact cq_tr (cq_cl hs (cq_go hg)) (ih h)
      · cases h
theorem cq_rt {mid : Nat} {as : List Value} {m m' : aj_M} {t : aj_S} {v : Option Value} (hj : cq_j mid (aj_e0 mid as m) t) (hs : aj_s1 mid t = some (.inr (.inr (.inl v, m')))) : cq_v mid as m v m' := by
  intro h H K
  obtain ⟨H1, K1, e1⟩ := hj h H K
  obtain ⟨H2, e2, K2⟩ := cq_s1 hs K1
  exact ⟨H2, K2, e1 _ _ (ev_end e2)⟩
def vq_e : Value → Value → Bool
  | .int x, .int y => decide (x = y)
  | .ref a, .ref b => Nat.beq a b
  | .null, .null => true
  | _, _ => false
theorem vq_es {a b : Value} (h : vq_e a b = true) : a = b := by
  unfold vq_e at h
  split at h
  · rw [of_decide_eq_true h]
  · rw [Nat.eq_of_beq_eq_true h]
  · rfl
  · cases h
def vq_l : List Value → List Value → Bool
  | [], [] => true
  | a :: s, b :: t => vq_e a b && vq_l s t
  | _, _ => false
theorem vq_ls : ∀ {s t : List Value}, vq_l s t = true → s = t
  | [], [], _ => rfl
  | a :: s, b :: t, h => by
    unfold vq_l at h
    rw [Bool.and_eq_true] at h
    rw [vq_es h.1, vq_ls h.2]
  | [], _ :: _, h => nomatch h
  | _ :: _, [], h => nomatch h
def vq_o : List (Option Value) → List (Option Value) → Bool
  | [], [] => true
  | some a :: s, some b :: t => vq_e a b && vq_o s t
  | none :: s, none :: t => vq_o s t
  | _, _ => false
theorem vq_os : ∀ {s t : List (Option Value)}, vq_o s t = true → s = t
  | [], [], _ => rfl
  | some a :: s, some b :: t, h => by
    unfold vq_o at h
    rw [Bool.and_eq_true] at h
    rw [vq_es h.1, vq_os h.2]
  | none :: s, none :: t, h => by
    unfold vq_o at h
    rw [vq_os h]
  | [], _ :: _, h => nomatch h
  | some _ :: _, [], h => nomatch h
  | none :: _, [], h => nomatch h
  | some _ :: _, none :: _, h => nomatch h
  | none :: _, some _ :: _, h => nomatch h
def vq_2 : List (Nat × Nat) → List (Nat × Nat) → Bool
  | [], [] => true
  | a :: s, b :: t => (Nat.beq a.1 b.1 && Nat.beq a.2 b.2) && vq_2 s t
  | _, _ => false
theorem vq_2s : ∀ {s t : List (Nat × Nat)}, vq_2 s t = true → s = t
  | [], [], _ => rfl
  | a :: s, b :: t, h => by
    unfold vq_2 at h
    rw [Bool.and_eq_true, Bool.and_eq_true] at h
    rw [vq_2s h.2, show a = b from Prod.ext (Nat.eq_of_beq_eq_true h.1.1) (Nat.eq_of_beq_eq_true h.1.2)]
  | [], _ :: _, h => nomatch h
  | _ :: _, [], h => nomatch h
def vq_3 : List (Nat × Nat × Nat) → List (Nat × Nat × Nat) → Bool
  | [], [] => true
  | a :: s, b :: t => (Nat.beq a.1 b.1 && (Nat.beq a.2.1 b.2.1 && Nat.beq a.2.2 b.2.2)) && vq_3 s t
  | _, _ => false
theorem vq_3s : ∀ {s t : List (Nat × Nat × Nat)}, vq_3 s t = true → s = t
  | [], [], _ => rfl
  | a :: s, b :: t, h => by
    unfold vq_3 at h
    rw [Bool.and_eq_true, Bool.and_eq_true, Bool.and_eq_true] at h
    rw [vq_3s h.2, show a = b from Prod.ext (Nat.eq_of_beq_eq_true h.1.1) (Prod.ext (Nat.eq_of_beq_eq_true h.1.2.1) (Nat.eq_of_beq_eq_true h.1.2.2))]
  | [], _ :: _, h => nomatch h
  | _ :: _, [], h => nomatch h
def vq_4 : List (Nat × Nat × Int32) → List (Nat × Nat × Int32) → Bool
  | [], [] => true
  | a :: s, b :: t => (Nat.beq a.1 b.1 && (Nat.beq a.2.1 b.2.1 && decide (a.2.2 = b.2.2))) && vq_4 s t
  | _, _ => false
theorem vq_4s : ∀ {s t : List (Nat × Nat × Int32)}, vq_4 s t = true → s = t
  | [], [], _ => rfl
  | a :: s, b :: t, h => by
    unfold vq_4 at h
    rw [Bool.and_eq_true, Bool.and_eq_true, Bool.and_eq_true] at h
    rw [vq_4s h.2, show a = b from Prod.ext (Nat.eq_of_beq_eq_true h.1.1) (Prod.ext (Nat.eq_of_beq_eq_true h.1.2.1) (of_decide_eq_true h.1.2.2))]
  | [], _ :: _, h => nomatch h
  | _ :: _, [], h => nomatch h
def vq_m (a b : aj_M) : Bool := (Nat.beq a.1 b.1 && Nat.beq a.2.2.2.2 b.2.2.2.2) && (vq_2 a.2.1 b.2.1 && (vq_3 a.2.2.1 b.2.2.1 && vq_4 a.2.2.2.1 b.2.2.2.1))
theorem vq_ms {a b : aj_M} (h : vq_m a b = true) : a = b := by
  unfold vq_m at h
  rw [Bool.and_eq_true, Bool.and_eq_true, Bool.and_eq_true, Bool.and_eq_true] at h
  exact Prod.ext (Nat.eq_of_beq_eq_true h.1.1) (Prod.ext (vq_2s h.2.1) (Prod.ext (vq_3s h.2.2.1) (Prod.ext (vq_4s h.2.2.2) (Nat.eq_of_beq_eq_true h.1.2))))
def vq_s (s t : aj_S) : Bool := Nat.beq s.1 t.1 && (vq_o s.2.1 t.2.1 && (vq_l s.2.2.1 t.2.2.1 && vq_m s.2.2.2 t.2.2.2))
theorem vq_ss {s t : aj_S} (h : vq_s s t = true) : s = t := by
  unfold vq_s at h
  rw [Bool.and_eq_true, Bool.and_eq_true, Bool.and_eq_true] at h
  obtain ⟨h1, h2, h3, h4⟩ := h
  exact Prod.ext (Nat.eq_of_beq_eq_true h1) (Prod.ext (vq_os h2) (Prod.ext (vq_ls h3) (vq_ms h4)))
def vq_q (x : Option aj_S) (t : aj_S) : Bool := match x with
  | some s => vq_s s t
  | none => false
theorem vq_qs {x : Option aj_S} {t : aj_S} (h : vq_q x t = true) : x = some t := by
  cases x with
  | none => cases h
  | some s => rw [vq_ss h]
def vq_d (x : Option aj_R) (m : aj_M) : Bool := match x with
  | some (.inr (.inr (.inl none, n))) => vq_m n m
  | _ => false
theorem vq_ds {x : Option aj_R} {m : aj_M} (h : vq_d x m = true) : x = some (.inr (.inr (.inl none, m))) := by
  unfold vq_d at h
  split at h
  · rw [vq_ms h]
  · cases h
def vq_c (x : Option aj_R) (cal : Nat) (as : List Value) (t : aj_S) : Bool := match x with
  | some (.inr (.inl (c, a, s))) => Nat.beq c cal && (vq_l a as && vq_s s t)
  | _ => false
theorem vq_cs {x : Option aj_R} {cal : Nat} {as : List Value} {t : aj_S} (h : vq_c x cal as t = true) : x = some (.inr (.inl (cal, as, t))) := by
  unfold vq_c at h
  split at h
  · rw [Bool.and_eq_true, Bool.and_eq_true] at h
    rw [Nat.eq_of_beq_eq_true h.1, vq_ls h.2.1, vq_ss h.2.2]
  · cases h
def vq_g (x : Option (ai_O × aj_M)) (m : aj_M) : Bool := match x with
  | some (.inl none, n) => vq_m n m
  | _ => false
theorem vq_gs {x : Option (ai_O × aj_M)} {m : aj_M} (h : vq_g x m = true) : x = some (.inl none, m) := by
  unfold vq_g at h
  split at h
  · rw [vq_ms h]
  · cases h
def cq_sD (k : Nat) : aj_S := (50, [some (.ref 49), some (.int (Int32.ofNat k))], [], cq_D k)
def cq_sA (k : Nat) : aj_S := (77, [some (.ref 49), some (.int (Int32.ofNat k))], [], cq_A k)
def cq_sP (k : Nat) : aj_S := (232, [some (.ref 33), some (.int (Int32.ofNat k))], [], cq_P k)
theorem cq_D_a : ((List.range 10).all fun k => vq_q (aj_un 400 161 50 (cq_sD k)) (cq_sD (k + 1))) = true := by decide +kernel
theorem cq_D_b : ((List.range 10).all fun k => vq_q (aj_un 400 161 50 (cq_sD (k + 10))) (cq_sD (k + 11))) = true := by decide +kernel
theorem cq_D_c : ((List.range 10).all fun k => vq_q (aj_un 400 161 50 (cq_sD (k + 20))) (cq_sD (k + 21))) = true := by decide +kernel
theorem cq_D_d : ((List.range 10).all fun k => vq_q (aj_un 400 161 50 (cq_sD (k + 30))) (cq_sD (k + 31))) = true := by decide +kernel
theorem cq_A_a : ((List.range 80).all fun k => vq_q (aj_un 400 161 77 (cq_sA k)) (cq_sA (k + 1))) = true := by decide +kernel
theorem cq_P_a : ((List.range 40).all fun k => vq_q (aj_un 400 235 232 (cq_sP k)) (cq_sP (k + 1))) = true := by decide +kernel
theorem cq_D_k {k : Nat} (h : k < 40) : cq_j 161 (cq_sD k) (cq_sD (k + 1)) := by
  have q : ∀ n, n < 10 → n ∈ List.range 10 := fun n hn => List.mem_range.mpr hn
  rcases Nat.lt_or_ge k 10 with h1 | h1
  · exact cq_un _ (vq_qs (List.all_eq_true.mp cq_D_a k (q k h1)))
  · rcases Nat.lt_or_ge k 20 with h2 | h2
    · have := vq_qs (List.all_eq_true.mp cq_D_b (k - 10) (q _ (by omega)))
      rw [show k - 10 + 10 = k by omega, show k - 10 + 11 = k + 1 by omega] at this
      exact cq_un _ this
    · rcases Nat.lt_or_ge k 30 with h3 | h3
      · have := vq_qs (List.all_eq_true.mp cq_D_c (k - 20) (q _ (by omega)))
        rw [show k - 20 + 20 = k by omega, show k - 20 + 21 = k + 1 by omega] at this
        exact cq_un _ this
      · have := vq_qs (List.all_eq_true.mp cq_D_d (k - 30) (q _ (by omega)))
        rw [show k - 30 + 30 = k by omega, show k - 30 + 31 = k + 1 by omega] at this
        exact cq_un _ this
theorem cq_re {mid : Nat} {s : aj_S} : cq_j mid s s := fun _ H K => ⟨H, K, fun _ _ q => q⟩
theorem cq_Dn : ∀ n, n ≤ 40 → cq_j 161 (cq_sD 0) (cq_sD n)
  | 0, _ => cq_re
  | n + 1, h => cq_tr (cq_Dn n (by omega)) (cq_D_k (by omega))
theorem cq_An : ∀ n, n ≤ 80 → cq_j 161 (cq_sA 0) (cq_sA n)
  | 0, _ => cq_re
  | n + 1, h => cq_tr (cq_An n (by omega)) (cq_un _ (vq_qs (List.all_eq_true.mp cq_A_a n (List.mem_range.mpr (by omega)))))
theorem cq_Pn : ∀ n, n ≤ 40 → cq_j 235 (cq_sP 0) (cq_sP n)
  | 0, _ => cq_re
  | n + 1, h => cq_tr (cq_Pn n (by omega)) (cq_un _ (vq_qs (List.all_eq_true.mp cq_P_a n (List.mem_range.mpr (by omega)))))
/-- Declared's constructor -/
theorem cq_161 : cq_v 161 [.ref 49] cq_c none (cq_A 80) := by
  refine cq_rt (t := (102, [some (.ref 49), some (.int 80)], [], cq_A 80)) ?_ (vq_ds (by decide +kernel))
  refine cq_tr (cq_un 100 (q := 50) (t := cq_sD 0) (vq_qs (by decide +kernel))) ?_
  refine cq_tr (cq_Dn 40 (Nat.le_refl _)) ?_
  refine cq_tr (cq_un 100 (q := 77) (t := cq_sA 0) (vq_qs (by decide +kernel))) ?_
  refine cq_tr (cq_An 80 (Nat.le_refl _)) ?_
  exact cq_un 100 (q := 102) (vq_qs (by decide +kernel))
/-- Processor's constructor -/
theorem cq_235 : cq_v 235 [.ref 33] cq_k none cq_r1 := by
  refine cq_rt (t := (262, [some (.ref 33), some (.int 40)], [], cq_r1)) ?_ (vq_ds (by decide +kernel))
  refine cq_tr (cq_un 100 (q := 58) (t := (58, [some (.ref 33), none], [.ref 49, .ref 49, .ref 33], cq_c)) (vq_qs (by decide +kernel))) ?_
  refine cq_tr (cq_cl (cal := 161) (as := [.ref 49]) (t := (61, [some (.ref 33), none], [.ref 49, .ref 33], cq_c)) (v := none) (m := cq_A 80) (vq_cs (by decide +kernel)) cq_161) ?_
  refine cq_tr (cq_un 200 (q := 232) (t := cq_sP 0) (vq_qs (by decide +kernel))) ?_
  refine cq_tr (cq_Pn 40 (Nat.le_refl _)) ?_
  exact cq_un 100 (q := 262) (vq_qs (by decide +kernel))
/-- DeclaredMarkup's constructor -/
theorem cq_2 : cq_v 2 [.ref 32] cq_h none cq_r := by
  refine cq_rt (t := (15, [some (.ref 32)], [], cq_r)) ?_ (vq_ds (by decide +kernel))
  refine cq_tr (cq_un 100 (q := 9) (t := (9, [some (.ref 32)], [.ref 33, .ref 33, .ref 32], cq_k)) (vq_qs (by decide +kernel))) ?_
  refine cq_tr (cq_cl (cal := 235) (as := [.ref 33]) (t := (12, [some (.ref 32)], [.ref 33, .ref 32], cq_k)) (v := none) (m := cq_r1) (vq_cs (by decide +kernel)) cq_235) ?_
  exact cq_un 100 (q := 15) (vq_qs (by decide +kernel))
/-- DeclaredMarkupModel's constructor -/
theorem cq_12 : cq_v 12 [.ref 943] cq_m0 none cq_m := cq_go (n := 400) (vq_gs (by decide +kernel))
