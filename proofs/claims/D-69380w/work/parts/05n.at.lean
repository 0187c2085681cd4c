theorem al_sp {l : List (Nat × ai_J)} {p : Nat × ai_J → Bool} (a b : Nat) (h1 : ((l.drop a).take b).all p = true) (h2 : (l.drop (a + b)).all p = true) : (l.drop a).all p = true := by
  rw [← List.take_append_drop b (l.drop a), List.all_append, h1, List.drop_drop, h2]
  rfl
theorem ck_one_12 : ck_m1 12 = true := show ((ac_all 12).drop 0).all (ck_p 12) = true from (al_sp 0 166 ck_all_12_0 (al_sp 166 74 ck_all_12_166 ck_all_12_240))
theorem ck_one_117 : ck_m1 117 = true := show ((ac_all 117).drop 0).all (ck_p 117) = true from (al_sp 0 140 ck_all_117_0 (al_sp 140 76 ck_all_117_140 ck_all_117_216))
theorem ck_one_120 : ck_m1 120 = true := show ((ac_all 120).drop 0).all (ck_p 120) = true from (al_sp 0 119 ck_all_120_0 ck_all_120_119)
theorem ck_one_128 : ck_m1 128 = true := show ((ac_all 128).drop 0).all (ck_p 128) = true from (al_sp 0 155 ck_all_128_0 (al_sp 155 74 ck_all_128_155 ck_all_128_229))
theorem ck_ms {n : Nat} (h0 : 0 < n) (h1 : n < 336) : ck_m1 n = true := by
  rcases Nat.lt_or_ge n 12 with q | q
  · have := List.all_eq_true.mp ck_all_1 (n - 1) (List.mem_range.mpr (by omega))
    rw [show n - 1 + 1 = n by omega] at this
    exact this
  rcases Nat.lt_or_ge n 13 with q | q
  · rw [show n = 12 by omega]
    exact ck_one_12
  rcases Nat.lt_or_ge n 20 with q | q
  · have := List.all_eq_true.mp ck_all_13 (n - 13) (List.mem_range.mpr (by omega))
    rw [show n - 13 + 13 = n by omega] at this
    exact this
  rcases Nat.lt_or_ge n 30 with q | q
  · have := List.all_eq_true.mp ck_all_20 (n - 20) (List.mem_range.mpr (by omega))
    rw [show n - 20 + 20 = n by omega] at this
    exact this
  rcases Nat.lt_or_ge n 41 with q | q
  · have := List.all_eq_true.mp ck_all_30 (n - 30) (List.mem_range.mpr (by omega))
    rw [show n - 30 + 30 = n by omega] at this
    exact this
  rcases Nat.lt_or_ge n 60 with q | q
  · have := List.all_eq_true.mp ck_all_41 (n - 41) (List.mem_range.mpr (by omega))
    rw [show n - 41 + 41 = n by omega] at this
    exact this
  rcases Nat.lt_or_ge n 75 with q | q
  · have := List.all_eq_true.mp ck_all_60 (n - 60) (List.mem_range.mpr (by omega))
    rw [show n - 60 + 60 = n by omega] at this
    exact this
  rcases Nat.lt_or_ge n 81 with q | q
  · have := List.all_eq_true.mp ck_all_75 (n - 75) (List.mem_range.mpr (by omega))
    rw [show n - 75 + 75 = n by omega] at this
    exact this
  rcases Nat.lt_or_ge n 92 with q | q
  · have := List.all_eq_true.mp ck_all_81 (n - 81) (List.mem_range.mpr (by omega))
    rw [show n - 81 + 81 = n by omega] at this
    exact this
  rcases Nat.lt_or_ge n 97 with q | q
  · have := List.all_eq_true.mp ck_all_92 (n - 92) (List.mem_range.mpr (by omega))
    rw [show n - 92 + 92 = n by omega] at this
    exact this
  rcases Nat.lt_or_ge n 101 with q | q
  · have := List.all_eq_true.mp ck_all_97 (n - 97) (List.mem_range.mpr (by omega))
    rw [show n - 97 + 97 = n by omega] at this
    exact this
  rcases Nat.lt_or_ge n 104 with q | q
  · have := List.all_eq_true.mp ck_all_101 (n - 101) (List.mem_range.mpr (by omega))
    rw [show n - 101 + 101 = n by omega] at this
    exact this
  rcases Nat.lt_or_ge n 113 with q | q
  · have := List.all_eq_true.mp ck_all_104 (n - 104) (List.mem_range.mpr (by omega))
    rw [show n - 104 + 104 = n by omega] at this
    exact this
  rcases Nat.lt_or_ge n 117 with q | q
  · have := List.all_eq_true.mp ck_all_113 (n - 113) (List.mem_range.mpr (by omega))
    rw [show n - 113 + 113 = n by omega] at this
    exact this
  rcases Nat.lt_or_ge n 118 with q | q
  · rw [show n = 117 by omega]
    exact ck_one_117
  rcases Nat.lt_or_ge n 120 with q | q
  · have := List.all_eq_true.mp ck_all_118 (n - 118) (List.mem_range.mpr (by omega))
    rw [show n - 118 + 118 = n by omega] at this
    exact this
  rcases Nat.lt_or_ge n 121 with q | q
  · rw [show n = 120 by omega]
    exact ck_one_120
  rcases Nat.lt_or_ge n 122 with q | q
  · have := List.all_eq_true.mp ck_all_121 (n - 121) (List.mem_range.mpr (by omega))
    rw [show n - 121 + 121 = n by omega] at this
    exact this
  rcases Nat.lt_or_ge n 125 with q | q
  · have := List.all_eq_true.mp ck_all_122 (n - 122) (List.mem_range.mpr (by omega))
    rw [show n - 122 + 122 = n by omega] at this
    exact this
  rcases Nat.lt_or_ge n 126 with q | q
  · have := List.all_eq_true.mp ck_all_125 (n - 125) (List.mem_range.mpr (by omega))
    rw [show n - 125 + 125 = n by omega] at this
    exact this
  rcases Nat.lt_or_ge n 128 with q | q
  · have := List.all_eq_true.mp ck_all_126 (n - 126) (List.mem_range.mpr (by omega))
    rw [show n - 126 + 126 = n by omega] at this
    exact this
  rcases Nat.lt_or_ge n 129 with q | q
  · rw [show n = 128 by omega]
    exact ck_one_128
  rcases Nat.lt_or_ge n 130 with q | q
  · have := List.all_eq_true.mp ck_all_129 (n - 129) (List.mem_range.mpr (by omega))
    rw [show n - 129 + 129 = n by omega] at this
    exact this
  rcases Nat.lt_or_ge n 131 with q | q
  · have := List.all_eq_true.mp ck_all_130 (n - 130) (List.mem_range.mpr (by omega))
    rw [show n - 130 + 130 = n by omega] at this
    exact this
  rcases Nat.lt_or_ge n 133 with q | q
  · have := List.all_eq_true.mp ck_all_131 (n - 131) (List.mem_range.mpr (by omega))
    rw [show n - 131 + 131 = n by omega] at this
    exact this
  rcases Nat.lt_or_ge n 135 with q | q
  · have := List.all_eq_true.mp ck_all_133 (n - 133) (List.mem_range.mpr (by omega))
    rw [show n - 133 + 133 = n by omega] at this
    exact this
  rcases Nat.lt_or_ge n 137 with q | q
  · have := List.all_eq_true.mp ck_all_135 (n - 135) (List.mem_range.mpr (by omega))
    rw [show n - 135 + 135 = n by omega] at this
    exact this
  rcases Nat.lt_or_ge n 160 with q | q
  · have := List.all_eq_true.mp ck_all_137 (n - 137) (List.mem_range.mpr (by omega))
    rw [show n - 137 + 137 = n by omega] at this
    exact this
  rcases Nat.lt_or_ge n 184 with q | q
  · have := List.all_eq_true.mp ck_all_160 (n - 160) (List.mem_range.mpr (by omega))
    rw [show n - 160 + 160 = n by omega] at this
    exact this
  rcases Nat.lt_or_ge n 208 with q | q
  · have := List.all_eq_true.mp ck_all_184 (n - 184) (List.mem_range.mpr (by omega))
    rw [show n - 184 + 184 = n by omega] at this
    exact this
  rcases Nat.lt_or_ge n 232 with q | q
  · have := List.all_eq_true.mp ck_all_208 (n - 208) (List.mem_range.mpr (by omega))
    rw [show n - 208 + 208 = n by omega] at this
    exact this
  rcases Nat.lt_or_ge n 255 with q | q
  · have := List.all_eq_true.mp ck_all_232 (n - 232) (List.mem_range.mpr (by omega))
    rw [show n - 232 + 232 = n by omega] at this
    exact this
  rcases Nat.lt_or_ge n 265 with q | q
  · have := List.all_eq_true.mp ck_all_255 (n - 255) (List.mem_range.mpr (by omega))
    rw [show n - 255 + 255 = n by omega] at this
    exact this
  rcases Nat.lt_or_ge n 273 with q | q
  · have := List.all_eq_true.mp ck_all_265 (n - 265) (List.mem_range.mpr (by omega))
    rw [show n - 265 + 265 = n by omega] at this
    exact this
  rcases Nat.lt_or_ge n 280 with q | q
  · have := List.all_eq_true.mp ck_all_273 (n - 273) (List.mem_range.mpr (by omega))
    rw [show n - 273 + 273 = n by omega] at this
    exact this
  rcases Nat.lt_or_ge n 285 with q | q
  · have := List.all_eq_true.mp ck_all_280 (n - 280) (List.mem_range.mpr (by omega))
    rw [show n - 280 + 280 = n by omega] at this
    exact this
  rcases Nat.lt_or_ge n 294 with q | q
  · have := List.all_eq_true.mp ck_all_285 (n - 285) (List.mem_range.mpr (by omega))
    rw [show n - 285 + 285 = n by omega] at this
    exact this
  rcases Nat.lt_or_ge n 306 with q | q
  · have := List.all_eq_true.mp ck_all_294 (n - 294) (List.mem_range.mpr (by omega))
    rw [show n - 294 + 294 = n by omega] at this
    exact this
  rcases Nat.lt_or_ge n 316 with q | q
  · have := List.all_eq_true.mp ck_all_306 (n - 306) (List.mem_range.mpr (by omega))
    rw [show n - 306 + 306 = n by omega] at this
    exact this
  rcases Nat.lt_or_ge n 319 with q | q
  · have := List.all_eq_true.mp ck_all_316 (n - 316) (List.mem_range.mpr (by omega))
    rw [show n - 316 + 316 = n by omega] at this
    exact this
  rcases Nat.lt_or_ge n 324 with q | q
  · have := List.all_eq_true.mp ck_all_319 (n - 319) (List.mem_range.mpr (by omega))
    rw [show n - 319 + 319 = n by omega] at this
    exact this
  rcases Nat.lt_or_ge n 336 with q | q
  · have := List.all_eq_true.mp ck_all_324 (n - 324) (List.mem_range.mpr (by omega))
    rw [show n - 324 + 324 = n by omega] at this
    exact this
  omega
theorem ck_at1 {n pc : Nat} {i : ai_J} (h0 : 0 < n) (h1 : n < 336) (h : ac_code n pc = some i) : decode (jb n) pc = .ok (i.1, ai_len i) ∧ pc < 65536 ∧ ck_i n pc i = true ∧ ck_h n pc i = true := by
  have := List.all_eq_true.mp (ck_ms h0 h1) _ (lk_mem _ _ _ h)
  simp only [ck_p, Bool.and_eq_true] at this
  exact ⟨ck_d_spec this.1.1, Nat.blt_eq.mp this.1.2, this.2.1, this.2.2⟩
/-- the handlers of a method -/
def jh (n : Nat) : List (Nat × Nat × Nat × Nat) := bif Nat.beq n 251 then [(38, 42, 45, 133)] else []
/-- what a method returns -/
def ck_r (n : Nat) : Bool := match jr n with
  | none => Nat.beq (ac_rz n) 0
  | some .int => Nat.beq (ac_rz n) 1
  | some .boolean => Nat.beq (ac_rz n) 2
  | some .long => Nat.beq (ac_rz n) 3
  | some (.object _) => Nat.beq (ac_rz n) 4
  | some (.array _) => Nat.beq (ac_rz n) 4
  | _ => false
def ck_n (n : Nat) : Bool := match parseMethodDescriptor (jy n).desc with
  | some sig => Nat.beq sig.parameters.length ((jm n).getD 5 0)
  | none => false
/-- the words of a method -/
def ck_y (n : Nat) : Bool := (((ck_r n && ck_n n) && (decide ((jy n).cls = jo (jow n)) && (!(decide ((jy n).name = "<init>")) || ((jr n).isNone && !(Nat.beq n 251))))) && (bif Nat.beq n 251 then sm_at ((jm n).getD 2 0) (.codeWith (jy n) (jb n) (ac_ml n) (jr n) (jh n)) else sm_at ((jm n).getD 2 0) (.code (jy n) (jb n) (ac_ml n) (jr n)))) &&
  ((plainFor (jy n) && (decide ((jy n).cls ≠ "java/lang/invoke/MethodHandle") && decide ((jy n).cls ≠ "java/lang/invoke/VarHandle"))) &&
   (bif Nat.beq ((jm n).getD 0 9) 1 then sm_at ((jm n).getD 1 0) (.instanceMethod (jy n)) && (decide ((jy n).name = "<init>") || (Nat.beq n 335 || sm_at ((jm n).getD 3 0) (.selects (jo (jow n)) (jy n) (jy n))))
    else Nat.beq ((jm n).getD 0 9) 0 && (sm_at ((jm n).getD 1 0) (.static (jy n)) && sm_at ((jm n).getD 4 0) (.initialized (jy n).cls))))
