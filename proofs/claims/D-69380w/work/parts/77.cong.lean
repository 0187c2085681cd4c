/-! The world goes over where its cells agree. -/
def eR_S (o k : Nat) : Bool := (Nat.beq o 49 && Nat.beq k 5) || (Nat.ble 55 o && Nat.blt o 775)
def eM_S (o k : Nat) : Bool := (Nat.beq o 943 && (Nat.beq k 49 || Nat.beq k 57)) || ((Nat.ble 957 o && Nat.ble o 964) || Nat.beq o 966)
theorem eR_t {o k : Nat} (h1 : 55 ≤ o) (h2 : o < 775) : eR_S o k = true := by
  unfold eR_S
  rw [show Nat.ble 55 o = true from Nat.ble_eq_true_of_le h1, blt_t h2]
  simp
section
variable {gR gM gR' gM' : am_G}
theorem el_cg (hn : ∀ a b, nq_ok gR gM a b → nq_ok gR' gM' a b) (hR : ag_3 eR_S gR gR') (hM : ag_3 eM_S gM gM') (W : el_w gR gM) : el_w gR' gM' := by
  obtain ⟨E, w1, w2, w3, ⟨lv, w4, w5⟩, w6⟩ := W
  refine ⟨E, w1, ((hR 49 5 rfl).1).trans w2, ((hM 943 49 rfl).1).trans w3, ⟨lv, ((hM 943 57 rfl).1).trans w4, w5⟩, fun k hk => ?_⟩
  obtain ⟨a1, kd, f, c, b1, b2, b3, b4, b5, b6, b7, b8, b9, lv2, b10, b11, b12⟩ := w6 k hk
  have r : ∀ d j, d < 18 → am_i gR' (55 + 18 * k + d) j = am_i gR (55 + 18 * k + d) j ∧ am_j gR' (55 + 18 * k + d) j = am_j gR (55 + 18 * k + d) j := fun d j hd => by
    have := hR (55 + 18 * k + d) j (eR_t (by omega) (by omega))
    exact ⟨this.1, this.2.1⟩
  have r0 : ∀ j, am_i gR' (55 + 18 * k) j = am_i gR (55 + 18 * k) j := fun j => (r 0 j (by decide)).1
  have r1 : ∀ j, am_i gR' (56 + 18 * k) j = am_i gR (56 + 18 * k) j ∧ am_j gR' (56 + 18 * k) j = am_j gR (56 + 18 * k) j := fun j => by
    have := r 1 j (by decide)
    rw [show 55 + 18 * k + 1 = 56 + 18 * k by omega] at this
    exact this
  have r2 : ∀ j, am_i gR' (57 + 18 * k) j = am_i gR (57 + 18 * k) j := fun j => by
    have := (r 2 j (by decide)).1
    rw [show 55 + 18 * k + 2 = 57 + 18 * k by omega] at this
    exact this
  have r3 : ∀ j, am_j gR' (58 + 18 * k) j = am_j gR (58 + 18 * k) j := fun j => by
    have := (r 3 j (by decide)).2
    rw [show 55 + 18 * k + 3 = 58 + 18 * k by omega] at this
    exact this
  have m : ∀ o j, eM_S o j = true → am_i gM' o j = am_i gM o j := fun o j q => (hM o j q).1
  have mj : ∀ o j, eM_S o j = true → am_j gM' o j = am_j gM o j := fun o j q => (hM o j q).2.1
  refine ⟨by rw [r0, m 957 k rfl]; exact hn _ _ a1, kd, f, c, b1, b2, by rw [r0]; exact b3, by rw [m 958 k rfl]; exact b4, by rw [m 959 k rfl]; exact b5, by rw [m 960 k rfl]; exact b6, b7, fun h2 => ⟨by rw [(r1 3).1]; exact (b8 h2).1, fun i hi => by rw [r2, m 964 _ rfl]; exact hn _ _ ((b8 h2).2 i hi)⟩, fun h3 => ?_, lv2, by rw [m 943 57 rfl]; exact b10, b11, b12⟩
  obtain ⟨c1, c2, c3, c4, c5, c6, c7, c8⟩ := b9 h3
  refine ⟨by rw [(r1 6).2, mj 961 k rfl]; exact c1, by rw [(r1 7).2, mj 962 k rfl]; exact c2, by rw [(r1 5).1, m 963 k rfl]; exact c3, by rw [m 963 k rfl]; exact c4, fun i hi => by rw [r3, mj 966 _ rfl]; exact c5 i hi, by rw [mj 961 k rfl]; exact c6, by rw [mj 962 k rfl]; exact c7, fun i hi => by rw [mj 966 _ rfl]; exact c8 i hi⟩
def aR_S (o k : Nat) : Bool := (Nat.beq o 49 && (Nat.beq k 6 || (Nat.beq k 7 || Nat.beq k 8))) || (Nat.beq o 52 || (Nat.beq o 53 || (Nat.ble 775 o && Nat.blt o 855)))
def aM_S (o k : Nat) : Bool := (Nat.beq o 943 && (Nat.beq k 77 || (Nat.beq k 86 || Nat.beq k 94))) || (Nat.ble 974 o && Nat.ble o 984)
theorem aR_t {o k : Nat} (h1 : 775 ≤ o) (h2 : o < 855) : aR_S o k = true := by
  unfold aR_S
  rw [show Nat.ble 775 o = true from Nat.ble_eq_true_of_le h1, blt_t h2]
  simp
theorem at_cg (hn : ∀ a b, nq_ok gR gM a b → nq_ok gR' gM' a b) (hR : ag_3 aR_S gR gR') (hM : ag_3 aM_S gM gM') (W : at_w gR gM) : at_w gR' gM' := by
  obtain ⟨A, T, V, w1, w2, w3, w4, w5, w6, w7, w8, w9, w10⟩ := W
  refine ⟨A, T, V, w1, w2, w3, ((hR 49 6 rfl).1).trans w4, ((hM 943 77 rfl).1).trans w5, ((hR 49 7 rfl).1).trans w6, ((hM 943 86 rfl).1).trans w7, ((hR 49 8 rfl).1).trans w8, ((hM 943 94 rfl).1).trans w9, fun k hk => ?_⟩
  obtain ⟨a1, a2, ty, kr, km, tk, lf, ls, v, z, b1, b2, b3, b4, b5, b6, b7, b8, b9, b10, b11, b12, b13, b14, b15, b16, b17, b18, b19, b20, b21⟩ := w10 k hk
  have r : ∀ j, am_i gR' (775 + k) j = am_i gR (775 + k) j := fun j => (hR (775 + k) j (aR_t (by omega) (by omega))).1
  have m : ∀ o j, aM_S o j = true → am_i gM' o j = am_i gM o j := fun o j q => (hM o j q).1
  have df : ∀ i, df_c gM' i = df_c gM i := fun i => by unfold df_c; rw [m 983 _ rfl, m 984 _ rfl]
  refine ⟨by rw [r, m 974 k rfl]; exact hn _ _ a1, by rw [r, m 975 k rfl]; exact hn _ _ a2, ty, kr, km, tk, lf, ls, v, z, b1, ((hR (775 + k) 7 (aR_t (by omega) (by omega))).2.2).trans b2, by rw [m 976 k rfl]; exact b3, by rw [r]; exact b4, by rw [m 977 k rfl]; exact b5, b6, by rw [r]; exact b7, by rw [r]; exact b8, by rw [m 980 k rfl]; exact b9, by rw [m 981 k rfl]; exact b10, b11, b12, b13, b14,
    fun i hi => by rw [(hR 52 _ rfl).1, m 982 _ rfl]; exact hn _ _ (b15 i hi), by rw [m 978 k rfl]; exact b16, by rw [m 979 k rfl]; exact b17, b18, b19, b20, fun h2 => ⟨by rw [r]; exact (b21 h2).1, by rw [r]; exact (b21 h2).2.1, fun i hi => by rw [(hR 53 _ rfl).1, df]; exact (b21 h2).2.2 i hi⟩⟩
def nR_S (o k : Nat) : Bool := (Nat.beq o 49 && Nat.beq k 9) || Nat.beq o 54
def nM_S (o k : Nat) : Bool := (Nat.beq o 943 && Nat.beq k 104) || Nat.beq o 990
theorem no_cg (hn : ∀ a b, nq_ok gR gM a b → nq_ok gR' gM' a b) (hR : ag_3 nR_S gR gR') (hM : ag_3 nM_S gM gM') (W : no_w gR gM) : no_w gR' gM' := by
  obtain ⟨K, w1, w2, w3, w4⟩ := W
  exact ⟨K, w1, ((hR 49 9 rfl).1).trans w2, ((hM 943 104 rfl).1).trans w3, fun k hk => by rw [(hR 54 k rfl).1, (hM 990 k rfl).1]; exact hn _ _ (w4 k hk)⟩
def tR_S (o k : Nat) : Bool := Nat.ble 855 o && (Nat.ble o 866 && (!Nat.beq o 859 && !Nat.beq o 865))
def tM_S (o k : Nat) : Bool := (Nat.beq o 943 && (Nat.beq k 95 || Nat.beq k 101)) || (Nat.ble 985 o && Nat.ble o 989)
theorem tR_t {o k : Nat} (h1 : 855 ≤ o) (h2 : o ≤ 866) (h3 : o ≠ 859) (h4 : o ≠ 865) : tR_S o k = true := by
  unfold tR_S
  rw [show Nat.ble 855 o = true from Nat.ble_eq_true_of_le h1, show Nat.ble o 866 = true from Nat.ble_eq_true_of_le h2, beq_f h3, beq_f h4]
  rfl
theorem en_nc (hM : ag_3 tM_S gM gM') (pc : Bool) : ∀ j, en_n gM' pc j = en_n gM pc j
  | 0 => rfl
  | j + 1 => by
    show en_n gM' pc j + _ = en_n gM pc j + _
    rw [en_nc hM pc j, (hM 986 j rfl).1]
theorem en_cg (hn : ∀ a b, nq_ok gR gM a b → nq_ok gR' gM' a b) (hR : ag_3 tR_S gR gR') (hM : ag_3 tM_S gM gM') (W : en_w gR gM) : en_w gR' gM' := by
  obtain ⟨En, tS, uG, uP, w1, w2, w3, w4, w5, w6, w7, w8, w9, w10⟩ := W
  refine ⟨En, tS, uG, uP, w1, ((hM 943 95 rfl).1).trans w2, ?_, ?_, ((hM 943 101 rfl).1).trans w5, ((hR 855 6 rfl).1).trans w6, ((hR 861 6 rfl).1).trans w7, w8, w9, fun j hj => ?_⟩
  · rw [en_nc hM, (hR 855 5 rfl).1]; exact w3
  · rw [en_nc hM, (hR 861 5 rfl).1]; exact w4
  · obtain ⟨pc, sR, sM, z, a1, a2, a3, a4, a5, a6, a7, a8, a9⟩ := w10 j hj
    have ht : ∀ d i, (d = 1 ∨ d = 2 ∨ d = 3 ∨ d = 5) → am_i gR' (en_t pc + d) i = am_i gR (en_t pc + d) i := fun d i hd => (hR _ i (by
      cases pc with
      | false => exact tR_t (show 855 ≤ 855 + d by omega) (show 855 + d ≤ 866 by omega) (show 855 + d ≠ 859 by omega) (show 855 + d ≠ 865 by omega)
      | true => exact tR_t (show 855 ≤ 861 + d by omega) (show 861 + d ≤ 866 by omega) (show 861 + d ≠ 859 by omega) (show 861 + d ≠ 865 by omega))).1
    refine ⟨pc, sR, sM, z, ((hM 986 j rfl).1).trans a1, ?_, ?_, ?_, ((hM 987 j rfl).1).trans a5, ((hM 988 j rfl).1).trans a6, ⟨a7.1, ?_⟩, ⟨a8.1, ?_⟩, fun i hi => ?_⟩
    · rw [en_nc hM, ht 1 _ (by decide), (hM 985 j rfl).1]; exact hn _ _ a2
    · rw [en_nc hM, ht 2 _ (by decide)]; exact a3
    · rw [en_nc hM, ht 3 _ (by decide)]; exact a4
    · obtain ⟨u, u1, u2⟩ := a7.2
      refine ⟨u, ?_, u2⟩
      rw [(hR (en_t pc) 6 (by cases pc <;> rfl)).1]
      exact u1
    · obtain ⟨u, u1, u2⟩ := a8.2
      exact ⟨u, ((hM 943 101 rfl).1).trans u1, u2⟩
    · rw [ht 5 _ (by decide), (hM 989 _ rfl).1]; exact a9 i hi
end
