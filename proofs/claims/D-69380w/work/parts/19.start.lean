/-! The start: what the claim gives of the old objects, as AI's first memory. -/
def nw_l : List Jvm.Cond := flatC (Jvm.Cond.and given_1 narrow_1)
def nw_in (c : Jvm.Cond) : Bool := nw_l.any (fun x => decide (x = c))
theorem nw_ok {c : Jvm.Cond} (h : nw_in c = true) : c ∈ nw_l := by
  obtain ⟨x, hx, he⟩ := List.any_eq_true.mp h
  rw [← of_decide_eq_true he]
  exact hx
def lw_at (i : Nat) (w : Jvm.Cond) : Bool := decide (lw_tbl[i]? = some w)
theorem lw_at_in {i : Nat} {w : Jvm.Cond} (h : lw_at i w = true) : w ∈ lw_tbl := List.mem_of_getElem? (of_decide_eq_true h)
/-- a static of the start -/
def tS (i : Nat) : Term := .static (js i).1 (js i).2.1 (js i).2.2
def s0_pl (i : Nat) : Nat × Nat := [(0, 0), (1259, 232), (1279, 232), (1281, 232), (1283, 232), (1285, 232), (1287, 232), (1330, 232), (1437, 232), (1318, 232), (1320, 232), (1357, 240), (1371, 240), (1269, 240), (1100, 240), (1624, 240), (642, 232), (876, 235), (1059, 235), (1069, 235)].getD i (0, 0)
theorem s0_l : ((List.range 19).all fun i => lw_at (s0_pl (i + 1)).1 (.laysStatic (js (i + 1)).1 (js (i + 1)).2.1 (js (i + 1)).2.2) && lw_at (s0_pl (i + 1)).2 (.initialized (js (i + 1)).1)) = true := by decide +kernel
theorem s0_e : ((List.range 15).all fun i => nw_in (.exactly (tS (i + 1)) (js (i + 1)).1)) = true := by decide +kernel
def s0_lt (i : Nat) : Int32 := [(40 : Int32), 41, 65, 63, 45].getD i 0
def s0_f (i : Nat) : Jvm.Cond := bif Nat.blt i 11 then .eq (.field (tS i) "java/lang/Enum" "ordinal" "I") (.int (Int32.ofNat (i - 1))) else .eq (.field (tS i) "DeclaredMarkup$LineKind" "letter" "I") (.int (s0_lt (i - 11)))
theorem s0_fl : ((List.range 15).all fun i => nw_in (s0_f (i + 1))) = true := by decide +kernel
/-- which two constants a word says to be different -/
def s0_ix (a n d : String) : Nat := ((List.range 16).find? fun i => decide (js i = (a, n, d))).getD 0
def s0_pr (c : Jvm.Cond) : Option (Nat × Nat) := match c with
  | .not (.eq (.static a n d) (.static a' n' d')) => bif decide (c = .not (.eq (tS (s0_ix a n d)) (tS (s0_ix a' n' d')))) then some (s0_ix a n d, s0_ix a' n' d') else none
  | _ => none
theorem s0_prs {c : Jvm.Cond} {i j : Nat} (h : s0_pr c = some (i, j)) : c = .not (.eq (tS i) (tS j)) := by
  unfold s0_pr at h
  split at h
  · rename_i a n d a' n' d'
    cases hb : decide (Jvm.Cond.not (.eq (.static a n d) (.static a' n' d')) = .not (.eq (tS (s0_ix a n d)) (tS (s0_ix a' n' d')))) with
    | false => rw [hb] at h; cases h
    | true =>
      rw [hb] at h
      cases h
      exact of_decide_eq_true hb
  · cases h
def s0_dc (l : List (Nat × Nat)) : Bool := (List.range 15).all fun i => (List.range i).all fun j => l.any fun q => (Nat.beq q.1 (i + 1) && Nat.beq q.2 (j + 1)) || (Nat.beq q.1 (j + 1) && Nat.beq q.2 (i + 1))
set_option maxRecDepth 100000 in
theorem s0_dd : s0_dc (nw_l.filterMap s0_pr) = true := by decide +kernel
theorem s0_d {i j : Nat} (hi : i < 16) (hj : 0 < j) (hji : j < i) : Jvm.Cond.not (.eq (tS i) (tS j)) ∈ nw_l ∨ Jvm.Cond.not (.eq (tS j) (tS i)) ∈ nw_l := by
  have h1 := List.all_eq_true.mp (List.all_eq_true.mp s0_dd (i - 1) (List.mem_range.mpr (by omega))) (j - 1) (List.mem_range.mpr (by omega))
  obtain ⟨⟨a, b⟩, hm, h2⟩ := List.any_eq_true.mp h1
  rw [show i - 1 + 1 = i by omega, show j - 1 + 1 = j by omega] at h2
  obtain ⟨c, hc, hp⟩ := List.mem_filterMap.mp hm
  have h3 := s0_prs hp
  simp only [Bool.or_eq_true, Bool.and_eq_true] at h2
  rcases h2 with ⟨h4, h5⟩ | ⟨h4, h5⟩
  · rw [Nat.eq_of_beq_eq_true h4, Nat.eq_of_beq_eq_true h5] at h3
    rw [← h3]; exact Or.inl hc
  · rw [Nat.eq_of_beq_eq_true h4, Nat.eq_of_beq_eq_true h5] at h3
    rw [← h3]; exact Or.inr hc
def s0_a (i : Nat) : List Int32 := bif Nat.beq i 17 then [9, 11, 13, 14, 32, 55296, 57344, 65534, 65536, 1114112]
  else bif Nat.beq i 18 then [58, 59, 65, 91, 95, 96, 97, 123, 192, 215, 216, 247, 248, 768, 880, 894, 895, 8192, 8204, 8206, 8304, 8592, 11264, 12272, 12289, 55296, 63744, 64976, 65008, 65534, 65536, 983040]
  else [45, 47, 48, 58, 183, 184, 768, 880, 8255, 8257]
def s0_ac (i : Nat) : Bool := (nw_in (.arrayOf (tS i) .int) && nw_in (.eq (.length (tS i)) (.int (Int32.ofNat (s0_a i).length)))) && (List.range (s0_a i).length).all fun j => nw_in (.eq (.elem (tS i) (.int (Int32.ofNat j))) (.int ((s0_a i).getD j 0)))
theorem s0_aa : (s0_ac 17 && (s0_ac 18 && s0_ac 19)) = true := by decide +kernel
theorem s0_v : ((nw_in (.arrayOf (tS 16) (.object "DeclaredMarkup$AttType")) && nw_in (.eq (.length (tS 16)) (.int (Int32.ofNat 10)))) && (nw_in (.exactly (tS 16) "[LDeclaredMarkup$AttType;") && (nw_in (.all (tS 16) (.le (.index 0) (.int 9))) && (List.range 10).all fun j => nw_in (.eq (.elem (tS 16) (.int (Int32.ofNat j))) (tS (j + 1)))))) = true := by decide +kernel
theorem s0_t : (nw_in (.isRef (.static "java/lang/Throwable" "UNASSIGNED_STACK" "[Ljava/lang/StackTraceElement;")) && (nw_in (.isRef (.static "java/lang/Throwable" "SUPPRESSED_SENTINEL" "Ljava/util/List;")) && nw_in (.exactly (.string "DeclaredMarkup$Processor" 135) "java/lang/String"))) = true := by decide +kernel
theorem s0_tl : (lw_at 956 (.laysStatic "java/lang/Throwable" "UNASSIGNED_STACK" "[Ljava/lang/StackTraceElement;") && (lw_at 958 (.laysStatic "java/lang/Throwable" "SUPPRESSED_SENTINEL" "Ljava/util/List;") && lw_at 968 (.stringRef "DeclaredMarkup$Processor" 135 "fault"))) = true := by decide +kernel
/-- AI's memory at the start -/
def h0_kd (i : Nat) : Nat := bif Nat.beq i 0 then 101 else bif Nat.blt i 11 then 17 else bif Nat.blt i 16 then 18 else bif Nat.beq i 16 then 127 else bif Nat.blt i 20 then 101 else 99
def h0_ln (L i : Nat) : Nat := bif Nat.beq i 0 then L else bif Nat.blt i 16 then 0 else bif Nat.beq i 16 then 10 else bif Nat.blt i 20 then (s0_a i).length else 0
def h0_i (xs : Nat → Int32) (i j : Nat) : Int32 := bif Nat.beq i 0 then xs j else bif Nat.blt i 11 then Int32.ofNat (i - 1) else bif Nat.blt i 16 then s0_lt (i - 11) else bif Nat.blt i 20 then (s0_a i).getD j 0 else 0
def h0_fr (i j : Nat) : Option Nat := bif Nat.beq i 16 && Nat.blt j 10 then some (j + 1) else none
def h0 (L : Nat) (xs : Nat → Int32) : am_M := ((h0_kd, h0_ln L, h0_fr), (h0_i xs, fun _ _ => 0, fun _ _ => none, 32, 0))
section
variable {s : State} {args : Array Value}
theorem s0_static (hn : ∀ c ∈ nw_l, c.before args s = true) : ∃ ad : Nat → Nat, ∀ i, 0 < i → i < 20 → (tS i).eval args s none [] s = some (.ref (ad i)) := by
  have h : ∀ i : Nat, ∃ t : Nat, 0 < i → i < 20 → (tS i).eval args s none [] s = some (.ref t) := by
    intro i
    by_cases h0 : 0 < i
    · by_cases h1 : i < 16
      · have h2 := List.all_eq_true.mp s0_e (i - 1) (List.mem_range.mpr (by omega))
        rw [show i - 1 + 1 = i by omega] at h2
        obtain ⟨a, c, cell, k, q1, -⟩ := Cond.exactly_spec (hn _ (nw_ok h2))
        exact ⟨a, fun _ _ => q1⟩
      · by_cases h2 : i < 20
        · have hl : ∃ v, (Term.length (tS i)).eval args s none [] s = some v := by
            rcases (show i = 16 ∨ i = 17 ∨ i = 18 ∨ i = 19 by omega) with rfl | rfl | rfl | rfl
            · have := s0_v
              simp only [Bool.and_eq_true] at this
              exact ⟨_, va_eqt (hn _ (nw_ok this.1.2))⟩
            all_goals
              have := s0_aa
              simp only [s0_ac, Bool.and_eq_true] at this
            · exact ⟨_, va_eqt (hn _ (nw_ok this.1.1.2))⟩
            · exact ⟨_, va_eqt (hn _ (nw_ok this.2.1.1.2))⟩
            · exact ⟨_, va_eqt (hn _ (nw_ok this.2.2.1.2))⟩
          obtain ⟨v, hv⟩ := hl
          obtain ⟨a, cell, ha, -⟩ := Term.length_spec hv
          exact ⟨a, fun _ _ => ha⟩
        · exact ⟨0, fun _ q => absurd q h2⟩
    · exact ⟨0, fun q => absurd q h0⟩
  obtain ⟨ad, had⟩ := Classical.axiomOfChoice h
  exact ⟨ad, had⟩
theorem s0_classes (hts : ∀ w ∈ lw_tbl, w.before args s = true) : ∃ (dC : Nat → ClassId) (dI : Nat → Nat → Nat), ∀ c, 0 < c → c < 17 → u_Kn s (jo c) (jf c) (jnf c) (dC c) (dI c) := by
  have hts2 : ∀ w ∈ sm_tbl, w.before args s = true := fun w hw => hts w (List.mem_filter.mp hw).1
  have h : ∀ c : Nat, ∃ q : ClassId × (Nat → Nat), 0 < c → c < 17 → u_Kn s (jo c) (jf c) (jnf c) q.1 q.2 := by
    intro c
    by_cases h0 : 0 < c
    · by_cases h1 : c < 17
      · obtain ⟨cC, iS, hk⟩ := u_known hts2 (lay_in h0 h1) (hts2 _ (z_spec h0 h1).1)
        exact ⟨(cC, iS), fun _ _ => hk⟩
      · exact ⟨(0, fun _ => 0), fun _ q => absurd q h1⟩
    · exact ⟨(0, fun _ => 0), fun q => absurd q h0⟩
  obtain ⟨f, hf⟩ := Classical.axiomOfChoice h
  exact ⟨fun c => (f c).1, fun c => (f c).2, hf⟩
theorem s0_arr1 {a : Nat} {t : FieldType} (h : (Cond.arrayClass t).before args s = true) (ht : ∀ C, t ≠ .object C) : ∃ cA : ClassId, ArrOfT s cA t ∧ va_RA s cA t := by
  obtain ⟨c, k, comp, h1, h2, h3⟩ := Cond.arrayClass_spec h
  refine ⟨c, fun n z => ⟨fun k h => (by cases h), k, h2, comp, h3⟩, ?_⟩
  unfold va_RA
  split
  · rename_i C; exact absurd rfl (ht C)
  · exact h1
theorem s0_arr2 {C : String} (h : (Cond.arrayOver (.object C)).before args s = true) : ∃ cA : ClassId, ArrOfT s cA (.object C) ∧ va_RA s cA (.object C) := by
  obtain ⟨comp, c, k, h1, h2, h3, h4, h5⟩ := Cond.arrayOver_spec h
  exact ⟨c, fun n z => ⟨fun k h => (by cases h), k, h3, comp, h4⟩, k, comp, h3, h4, h1, h5⟩
theorem s0_arrays (hts : ∀ w ∈ lw_tbl, w.before args s = true) : ∃ dA : Nat → ClassId, (∀ k, jk_ar k → ArrOfT s (dA k) (jt k) ∧ va_RA s (dA k) (jt k)) ∧ s.vm.findClass "java/lang/IllegalStateException" = some (dA 0) := by
  have hts2 : ∀ w ∈ sm_tbl, w.before args s = true := fun w hw => hts w (List.mem_filter.mp hw).1
  obtain ⟨cI, kI, hI, -⟩ := Cond.instantiable_spec (hts2 _ ex_in)
  have h : ∀ k : Nat, ∃ q : ClassId, (jk_ar k → ArrOfT s q (jt k) ∧ va_RA s q (jt k)) ∧ (k = 0 → q = cI) := by
    intro k
    by_cases hk : jk_ar k
    · have hk0 : k ≠ 0 := fun z => by rw [z] at hk; rcases hk with q | q | q | q | q | q | q <;> omega
      have : ∃ q : ClassId, ArrOfT s q (jt k) ∧ va_RA s q (jt k) := by
        rcases hk with q | rfl | rfl | rfl | rfl | rfl | rfl
        · rcases (show k = 101 ∨ k = 102 ∨ k = 103 ∨ k = 104 ∨ k = 105 by omega) with rfl | rfl | rfl | rfl | rfl
          · exact s0_arr1 (a := 0) (hts2 _ ac_in101) (fun C q => by cases q)
          · exact s0_arr1 (a := 0) (hts2 _ ac_in102) (fun C q => by cases q)
          · exact s0_arr1 (a := 0) (hts2 _ ac_in103) (fun C q => by cases q)
          · exact s0_arr1 (a := 0) (hts2 _ ac_in104) (fun C q => by cases q)
          · exact s0_arr1 (a := 0) (hts2 _ ac_in105) (fun C q => by cases q)
        · exact s0_arr2 (hts2 _ ao_in118)
        · exact s0_arr2 (hts2 _ ao_in120)
        · exact s0_arr2 (hts2 _ ao_in121)
        · exact s0_arr2 (hts2 _ ao_in122)
        · exact s0_arr2 (hts2 _ ao_in125)
        · exact s0_arr2 (hts2 _ ao_in127)
      obtain ⟨q, hq⟩ := this
      exact ⟨q, fun _ => hq, fun z => absurd z hk0⟩
    · exact ⟨cI, fun q => absurd q hk, fun _ => rfl⟩
  obtain ⟨f, hf⟩ := Classical.axiomOfChoice h
  exact ⟨f, fun k => (hf k).1, by rw [(hf 0).2 rfl]; exact hI⟩
theorem s0_sz {w : sm_T} (hw : w.1 = s.heap.size) {n d : String} (hl : (Cond.laysStatic "java/lang/Throwable" n d).before args s = true) (hr : (Cond.isRef (.static "java/lang/Throwable" n d)).before args s = true) : sm_Z w "java/lang/Throwable" n d s s.heap := by
  obtain ⟨c, k, i, f, a, cell, hc, hi, hst, ha, hcell, hs, hcls, hlt, hty⟩ := Cond.laysStatic_spec hl
  cases hv : (Term.static "java/lang/Throwable" n d).eval args s none [] s with
  | none => simp [Cond.before, Cond.holds, Cond.value, hv] at hr
  | some v =>
    obtain ⟨hst', a', cell', ha', hcell', -, hslot⟩ := Term.static_spec hi hv
    cases ha.symm.trans ha'
    cases hcell.symm.trans hcell'
    refine ⟨c, k, i, f, a, cell, v, hc, hi, hst, ha, hcell, hs, hcls, hlt, hty, hslot, ?_, by rw [hw]; exact (Array.getElem?_eq_some_iff.mp hcell).1⟩
    simp only [Cond.before, Cond.holds, Cond.value, hv] at hr
    cases v <;> simp [Value.isRef] at hr ⊢
end
