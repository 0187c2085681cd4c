/-! What runs over the list of operations runs in AI. -/
section
variable {rz pc : Nat} {L : List (Option Value)} {st : List Value} {m : aj_M} {h h1 H : am_M}
theorem pi_sx {i : ai_J} {r : ai_R} (hp : aj_pi i.1 = true) (hr : ai_sx i rz pc L st h1 = some r) : ∃ s : ai_S, r = .inl s ∧ ∀ h2, ai_sx i rz pc L st h2 = some (.inl (s.1, s.2.1, s.2.2.1, h2)) := by
  obtain ⟨ins, len, km, a, b, cz, v, ww, ps⟩ := i
  dsimp only at hp
  unfold ai_sx at hr ⊢
  dsimp only [ai_len, ai_a, ai_b, ai_c, ai_v, ai_w, ai_ps] at hr ⊢
  unfold aj_pi at hp
  split at hp
  · cases hr; exact ⟨_, rfl, fun _ => rfl⟩
  · cases hr; exact ⟨_, rfl, fun _ => rfl⟩
  · cases hr; exact ⟨_, rfl, fun _ => rfl⟩
  · obtain ⟨x, hv, hr⟩ := x_lda hr
    cases hr
    refine ⟨_, rfl, fun h2 => ?_⟩
    show ai_lda L a _ = _
    unfold ai_lda
    rw [hv]
    cases x <;> rfl
  · obtain ⟨x, hv, hr⟩ := x_ldi hr
    cases hr
    refine ⟨_, rfl, fun h2 => ?_⟩
    show ai_ldi L a _ = _
    unfold ai_ldi
    rw [hv]
    rfl
  · cases st with
    | nil => cases hr
    | cons v0 st0 => cases v0 with
      | int x =>
        dsimp only at hr ⊢
        obtain ⟨L', hv, hr⟩ := x_sto hr
        cases hr
        refine ⟨_, rfl, fun h2 => ?_⟩
        rw [hv]
        rfl
      | _ => cases hr
  · obtain ⟨x, hv, hr⟩ := x_ldi hr
    obtain ⟨L', hv2, hr⟩ := x_sto hr
    cases hr
    refine ⟨_, rfl, fun h2 => ?_⟩
    show ai_ldi L a _ = _
    unfold ai_ldi
    rw [hv]
    dsimp only
    rw [hv2]
    rfl
  · cases st with
    | nil => cases hr
    | cons v0 st0 => cases v0 with
      | int y => cases st0 with
        | nil => cases hr
        | cons v1 st1 => cases v1 with
          | int x => cases hr; exact ⟨_, rfl, fun _ => rfl⟩
          | _ => cases hr
      | _ => cases hr
  · cases st with
    | nil => cases hr
    | cons v0 st0 =>
      dsimp only at hr ⊢
      obtain ⟨hc, hr⟩ := x_bif hr
      cases hr
      exact ⟨_, rfl, fun _ => by rw [hc]; rfl⟩
  · cases hr; exact ⟨_, rfl, fun _ => rfl⟩
  · cases st with
    | nil => cases hr
    | cons v0 st0 => cases v0 with
      | int y => cases st0 with
        | nil => cases hr
        | cons v1 st1 => cases v1 with
          | int x => cases hr; exact ⟨_, rfl, fun _ => rfl⟩
          | _ => cases hr
      | _ => cases hr
  · cases hr; exact ⟨_, rfl, fun _ => rfl⟩
  · cases hp
theorem y_bif {A : Option aj_R} {c : Bool} {r : aj_R} (hr : (bif c then A else none) = some r) : c = true ∧ A = some r := by
  cases c
  · cases hr
  · exact ⟨rfl, hr⟩
set_option maxHeartbeats 4000000 in
theorem aj_ss {i : ai_J} {R : aj_R} (K : aj_ok m h H) (hs : aj_sx i rz pc L st m = some R) : ∃ H', ai_sx i rz pc L st H = some (aj_r R H') ∧ aj_ok (aj_rm R) h H' := by
  obtain ⟨ins, len, km, a, b, cz, v, ww, ps⟩ := i
  obtain ⟨k1, k2, k3, k4, k5, k6, k7, k8⟩ := id K.1
  have hsz : H.2.2.2.2.1 = m.1 := k1
  unfold aj_sx at hs
  dsimp only [ai_len, ai_a, ai_b, ai_c, ai_v, ai_w, ai_ps] at hs
  split at hs
  · rename_i index o st0
    obtain ⟨hc, hs2⟩ := y_bif hs
    clear hs
    simp only [Bool.and_eq_true] at hc
    obtain ⟨⟨c1, c2⟩, c3, c4⟩ := hc
    have c1 := Nat.eq_of_beq_eq_true c1
    have c3 := Nat.eq_of_beq_eq_true c3
    have e1 := (k4 o (Nat.le_of_ble_eq_true c4) (Nat.blt_eq.mp c2)).1
    cases hf : aj_fr m o b with
    | none => rw [hf] at hs2; cases hs2
    | some v =>
      rw [hf] at hs2
      cases hs2
      refine ⟨_, ?_, K⟩
      show (bif Nat.beq (am_kd H.1 o) a then ai_nx (pc + 3) L (ai_get H o b cz :: st0) H else none) = _
      rw [e1, c1, c3, show Nat.beq a a = true from Nat.beq_refl a]
      show some (Sum.inl (pc + 3, L, am_v (am_fr H.1 o b) :: st0, H)) = _
      rw [k6 o b (Nat.le_of_ble_eq_true c4), hf]
      rfl
  · rename_i index q o st0
    obtain ⟨hc, hs⟩ := y_bif hs
    cases hs
    simp only [Bool.and_eq_true] at hc
    obtain ⟨⟨c1, c2⟩, c3, c4⟩ := hc
    obtain rfl := Nat.eq_of_beq_eq_true c3
    have c1 := Nat.eq_of_beq_eq_true c1
    have e1 := (k4 o (Nat.le_of_ble_eq_true c4) (Nat.blt_eq.mp c2)).1
    refine ⟨_, ?_, K.st b q (Nat.blt_eq.mp c2) (Nat.le_of_ble_eq_true c4)⟩
    show (bif Nat.beq (am_kd H.1 o) a && Nat.ble 32 o then (match ai_put H o b 3 (.ref q) with
      | some h' => ai_nx (pc + 3) L st0 h'
      | none => none) else none) = _
    rw [e1, c1, c4, show Nat.beq a a = true from Nat.beq_refl a]
    rfl
  · rename_i index x o st0
    obtain ⟨hc, hs⟩ := y_bif hs
    cases hs
    simp only [Bool.and_eq_true] at hc
    obtain ⟨⟨⟨c1, c2⟩, c4⟩, c3⟩ := hc
    have c1 := Nat.eq_of_beq_eq_true c1
    have e1 := (k4 o (Nat.le_of_ble_eq_true c4) (Nat.blt_eq.mp c2)).1
    refine ⟨_, ?_, K.si b x (Nat.blt_eq.mp c2) (Nat.le_of_ble_eq_true c4)⟩
    show (bif Nat.beq (am_kd H.1 o) a && Nat.ble 32 o then (match ai_put H o b cz (.int x) with
      | some h' => ai_nx (pc + 3) L st0 h'
      | none => none) else none) = _
    rw [e1, c1, c4, show Nat.beq a a = true from Nat.beq_refl a]
    rw [Bool.or_eq_true] at c3
    rcases c3 with c3 | c3
    · obtain rfl := Nat.eq_of_beq_eq_true c3
      rfl
    · rw [Bool.and_eq_true] at c3
      obtain rfl := Nat.eq_of_beq_eq_true c3.1
      show (match (bif decide (x = 0) || decide (x = 1) then some (H.1, am_si H.2 o b x) else none) with
        | some h' => ai_nx (pc + 3) L st0 h'
        | none => none) = _
      rw [c3.2]
      rfl
  · rename_i t n st0
    obtain ⟨hc, hs⟩ := y_bif hs
    cases hs
    refine ⟨_, ?_, K.mk _ _ n.toNatClampNeg⟩
    show (bif decide (0 ≤ n) && Nat.ble n.toNatClampNeg 100000 then ai_nx (pc + 2) L (.ref (am_sz H.2) :: st0) (am_new H a n.toNatClampNeg n.toNatClampNeg) else none) = _
    rw [hc, k1]
    rfl
  · rename_i t n st0
    obtain ⟨hc, hs⟩ := y_bif hs
    cases hs
    refine ⟨_, ?_, K.mk _ _ n.toNatClampNeg⟩
    show (bif decide (0 ≤ n) && Nat.ble n.toNatClampNeg 100000 then ai_nx (pc + 3) L (.ref (am_sz H.2) :: st0) (am_new H a n.toNatClampNeg n.toNatClampNeg) else none) = _
    rw [hc, k1]
    rfl
  · cases hc : Nat.beq a 0 with
    | true => rw [hc] at hs; cases hs
    | false =>
      rw [hc] at hs
      cases hs
      refine ⟨_, ?_, K.mk _ _ b⟩
      show (bif Nat.beq a 0 then (bif Nat.ble (ai_cat st) 8 then ai_nx (pc + 9) L (.ref (am_sz H.2) :: st) (H.1, am_ex H.2) else none) else ai_nx (pc + 3) L (.ref (am_sz H.2) :: st) (am_new H a 0 b)) = _
      rw [hc, k1]
      rfl
  · rename_i q j o st0
    obtain ⟨hc, hs⟩ := y_bif hs
    cases hs
    simp only [Bool.and_eq_true] at hc
    obtain ⟨⟨⟨⟨c1, c2⟩, c3⟩, c4, c5⟩, ⟨c6, c7⟩, c8⟩ := hc
    obtain rfl := Nat.eq_of_beq_eq_true c8
    have c1 := Nat.eq_of_beq_eq_true c1
    have c3 := Nat.eq_of_beq_eq_true c3
    have e1 := k4 o (Nat.le_of_ble_eq_true c2) (Nat.blt_eq.mp c6)
    have e2 := k4 q (Nat.le_of_ble_eq_true c4) (Nat.blt_eq.mp c7)
    refine ⟨_, ?_, K.st _ q (Nat.blt_eq.mp c6) (Nat.le_of_ble_eq_true c2)⟩
    show (bif ((Nat.beq (am_kd H.1 o) a && Nat.ble 32 o) && Nat.beq (am_kd H.1 q) b) && (Nat.ble 32 q && ai_in j (am_ln H.1 o)) then (match ai_put H o j.toNatClampNeg 3 (.ref q) with
      | some h' => ai_nx (pc + 1) L st0 h'
      | none => none) else none) = _
    rw [e1.1, e1.2, e2.1, c1, c3, c2, c4, c5, show Nat.beq a a = true from Nat.beq_refl a, show Nat.beq b b = true from Nat.beq_refl b]
    rfl
  · rename_i index o st0
    obtain ⟨hc, hs⟩ := y_bif hs
    cases hs
    simp only [Bool.and_eq_true] at hc
    obtain ⟨⟨c1, c2⟩, c3⟩ := hc
    have c1 := Nat.eq_of_beq_eq_true c1
    have e1 := (k4 o (Nat.le_of_ble_eq_true c2) (Nat.blt_eq.mp c3)).1
    refine ⟨_, ?_, K⟩
    show (bif Nat.beq (am_kd H.1 o) a && Nat.ble 32 o then ai_nx (pc + 3) L (.ref o :: st0) H else none) = _
    rw [e1, c1, c2, show Nat.beq a a = true from Nat.beq_refl a]
    rfl
  · rename_i index
    cases hc : Nat.beq a 0 with
    | true =>
      rw [hc, cond_true] at hs
      split at hs
      · rename_i x st0
        obtain ⟨c1, hs⟩ := y_bif hs
        cases hs
        refine ⟨_, ?_, K⟩
        show (bif Nat.beq a 0 then (bif Nat.ble (ai_cat st0) 8 then ai_nx (pc + 3) L st0 H else none) else _) = _
        rw [hc, c1]
        rfl
      · cases hs
    | false =>
      rw [hc, cond_false] at hs
      split at hs
      · rename_i o as r hpop
        obtain ⟨c1, hs⟩ := y_bif hs
        cases hs
        refine ⟨_, ?_, K⟩
        show (bif Nat.beq a 0 then _ else (match ai_pop b [] st with
          | some (.ref o :: as, r) => bif Nat.ble (ai_cat r) 8 then ai_cl a (.ref o :: as) (pc + 3, L, r, H) else none
          | _ => none)) = _
        rw [hc, hpop, cond_false]
        show (bif Nat.ble (ai_cat r) 8 then ai_cl a (.ref o :: as) (pc + 3, L, r, H) else none) = _
        rw [c1]
        rfl
      · cases hs
  · rename_i index
    split at hs
    · rename_i as r hpop
      obtain ⟨c1, hs⟩ := y_bif hs
      cases hs
      refine ⟨_, ?_, K⟩
      show (match ai_pop b [] st with
        | some (as, r) => bif Nat.ble (ai_cat r) 8 then ai_cl a as (pc + 3, L, r, H) else none
        | none => none) = _
      rw [hpop]
      show (bif Nat.ble (ai_cat r) 8 then ai_cl a as (pc + 3, L, r, H) else none) = _
      rw [c1]
      rfl
    · cases hs
  · rename_i index o st0
    obtain ⟨hc, hs⟩ := y_bif hs
    cases hs
    simp only [Bool.and_eq_true] at hc
    obtain ⟨c1, ⟨c2, c3⟩, c4⟩ := hc
    obtain rfl := Nat.eq_of_beq_eq_true c2
    obtain rfl := Nat.eq_of_beq_eq_true c3
    refine ⟨_, ?_, K.cl⟩
    show (bif Nat.beq a 0 then (bif (Nat.beq (am_kd H.1 16) 127 && Nat.beq 16 16) && Nat.ble (ai_cat st0) 8 then ai_nx (pc + 3) L (.ref (am_sz H.2) :: st0) (am_cp H 16) else none) else _) = _
    rw [c1, k5.1, c4, k1]
    rfl
  · obtain ⟨hc, hs⟩ := y_bif hs
    cases hs
    refine ⟨_, ?_, K⟩
    show (bif Nat.beq rz 0 then ai_en (.inl none) H else none) = _
    rw [hc]
    rfl
  · obtain ⟨hc, hs⟩ := y_bif hs
    cases hs
    refine ⟨_, ?_, K⟩
    rename_i x
    show (bif Nat.beq rz 4 then ai_en (.inl (some (.ref x))) H else none) = _
    rw [hc]
    rfl
  · obtain ⟨hc, hs⟩ := y_bif hs
    split at hs
    · rename_i s hsx
      cases hs
      obtain ⟨s2, he, hall⟩ := pi_sx (i := (_, len, km, a, b, cz, v, ww, ps)) hc hsx
      cases he
      exact ⟨_, hall _, K⟩
    · cases hs
end
def aj_go : Nat → Nat → aj_S → Option (ai_O × aj_M)
  | 0, _, _ => none
  | n + 1, mid, s => match (match ac_code mid s.1 with
      | some i => aj_sx i (ac_rz mid) s.1 (ai_km (ai_m i) s.2.1) s.2.2.1 s.2.2.2
      | none => none) with
    | none => none
    | some (.inl t) => aj_go n mid t
    | some (.inr (.inr r)) => some r
    | some (.inr (.inl (cal, as, t))) => match aj_go n cal (bif Nat.ble (ai_ar as).length (ac_ml cal) then 0 else 65536, ai_fil (ai_ar as) (ac_ml cal), [], t.2.2.2) with
      | some (.inl v, m) => aj_go n mid (t.1, t.2.1, v.toList ++ t.2.2.1, m)
      | _ => none
theorem aj_sim {h : am_M} : ∀ (n mid : Nat) (s : aj_S) (o : ai_O) (m' : aj_M), aj_go n mid s = some (o, m') → ∀ H : am_M, aj_ok s.2.2.2 h H → ∃ H', ai_go ap_P n mid (s.1, s.2.1, s.2.2.1, H) = some (o, H') ∧ aj_ok m' h H' := by
  intro n
  induction n with
  | zero => intro mid s o m' hg; cases hg
  | succ n ih =>
    intro mid s o m' hg H K
    unfold aj_go at hg
    cases hi : ac_code mid s.1 with
    | none => rw [hi] at hg; cases hg
    | some i =>
      rw [hi] at hg
      dsimp only at hg
      cases hx : aj_sx i (ac_rz mid) s.1 (ai_km (ai_m i) s.2.1) s.2.2.1 s.2.2.2 with
      | none => rw [hx] at hg; cases hg
      | some R =>
        rw [hx] at hg
        obtain ⟨H1, e1, K1⟩ := aj_ss K hx
        have hs : ai_s ap_P mid (s.1, s.2.1, s.2.2.1, H) = some (aj_r R H1) := by
          unfold ai_s
          dsimp only
          rw [show ap_P.1 mid s.1 = ac_code mid s.1 from rfl, hi]
          exact e1
        unfold ai_go
        rw [hs]
        rcases R with t | ⟨cal, as, t⟩ | ⟨o1, m1⟩
        · exact ih mid t o m' hg H1 K1
        · dsimp only at hg
          cases hc : aj_go n cal (bif Nat.ble (ai_ar as).length (ac_ml cal) then 0 else 65536, ai_fil (ai_ar as) (ac_ml cal), [], t.2.2.2) with
          | none => rw [hc] at hg; cases hg
          | some y =>
            obtain ⟨o2, m2⟩ := y
            rw [hc] at hg
            obtain ⟨H2, e2, K2⟩ := ih cal _ o2 m2 hc H1 K1
            cases o2 with
            | inr a => cases hg
            | inl v =>
              dsimp only at hg
              obtain ⟨H3, e3, K3⟩ := ih mid (t.1, t.2.1, v.toList ++ t.2.2.1, m2) o m' hg H2 K2
              refine ⟨H3, ?_, K3⟩
              have e4 : ai_go ap_P n cal (ai_e0 ap_P cal as H1) = some (.inl v, H2) := e2
              show (match ai_go ap_P n cal (ai_e0 ap_P cal as H1) with
                | none => none
                | some (.inl v, h1) => ai_go ap_P n mid (t.1, t.2.1, v.toList ++ t.2.2.1, h1)
                | some (.inr a, h1) => match ap_P.2.2.2 mid s.1 with
                  | none => some (.inr a, h1)
                  | some q => ai_go ap_P n mid (q, t.2.1, [.ref a], h1)) = _
              rw [e4]
              exact e3
        · cases hg
          exact ⟨_, rfl, K1⟩
