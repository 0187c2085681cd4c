/-! Segments: so many steps of AI inside one method. -/
def ai_stp (P : ai_P) (mid : Nat) : Nat → ai_S → Option ai_S
  | 0, s => some s
  | k + 1, s => match ai_s P mid s with
    | some (.inl t) => ai_stp P mid k t
    | _ => none
theorem ev_stp {P : ai_P} {mid : Nat} {o : ai_O} {h : am_M} : ∀ (k : Nat) {s t : ai_S}, ai_stp P mid k s = some t → ai_ev P mid t o h → ai_ev P mid s o h
  | 0, s, t, hs, k => by cases hs; exact k
  | n + 1, s, t, hs, k => by
    unfold ai_stp at hs
    cases hx : ai_s P mid s with
    | none => rw [hx] at hs; cases hs
    | some r =>
      rw [hx] at hs
      rcases r with u | u | u
      · exact ev_step hx (ev_stp n hs k)
      · cases hs
      · cases hs
/-- a step with a guard -/
theorem ev_grd {P : ai_P} {mid : Nat} {o : ai_O} {h : am_M} {s t : ai_S} {c : Bool} (hs : ai_s P mid s = (bif c then some (.inl t) else none)) (hc : c = true) (k : ai_ev P mid t o h) : ai_ev P mid s o h :=
  ev_step (by rw [hs, hc]; rfl) k
/-- a branch -/
theorem ev_brt {P : ai_P} {mid a b : Nat} {o : ai_O} {h h1 : am_M} {L : List (Option Value)} {st : List Value} {s : ai_S} {c : Bool} (hs : ai_s P mid s = some (.inl (bif c then a else b, L, st, h1))) (hc : c = true) (k : ai_ev P mid (a, L, st, h1) o h) : ai_ev P mid s o h :=
  ev_step (by rw [hs, hc]; rfl) k
theorem ev_brf {P : ai_P} {mid a b : Nat} {o : ai_O} {h h1 : am_M} {L : List (Option Value)} {st : List Value} {s : ai_S} {c : Bool} (hs : ai_s P mid s = some (.inl (bif c then a else b, L, st, h1))) (hc : c = false) (k : ai_ev P mid (b, L, st, h1) o h) : ai_ev P mid s o h :=
  ev_step (by rw [hs, hc]; rfl) k
/-- Feed.pass: a trial of the shape of the printed proofs -/
theorem pass_try (L : Nat) (g : am_G) (hg : ai_in (am_i g 39 4) 17 = true) : ai_ev ap_P 177 (0, [some (.ref 39)], [], (v0 L, g)) (.inl none) (v0 L, am_si g 42 (am_i g 39 4).toNatClampNeg (am_i g 42 (am_i g 39 4).toNatClampNeg + 1)) := by
  refine ev_stp 5 (t := (9, [some (.ref 39)], [.int (am_i g 39 4), .ref 42, .int (am_i g 39 4), .ref 42], (v0 L, g))) rfl ?_
  refine ev_grd (c := ai_in (am_i g 39 4) 17) (t := (10, [some (.ref 39)], [.int (am_i g 42 (am_i g 39 4).toNatClampNeg), .int (am_i g 39 4), .ref 42], (v0 L, g))) rfl hg ?_
  refine ev_stp 2 (t := (12, [some (.ref 39)], [.int (am_i g 42 (am_i g 39 4).toNatClampNeg + 1), .int (am_i g 39 4), .ref 42], (v0 L, g))) rfl ?_
  refine ev_grd (c := ai_in (am_i g 39 4) 17) (t := (13, [some (.ref 39)], [], (v0 L, am_si g 42 (am_i g 39 4).toNatClampNeg (am_i g 42 (am_i g 39 4).toNatClampNeg + 1)))) rfl hg ?_
  exact ev_end rfl
