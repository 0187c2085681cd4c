/-! What M's step does in each state (printed by gen/pstates.py). -/
theorem lo_id (F : Option (Int32 × am_G)) : lo_i F (fun y g => some (y, g)) = F := by
  cases F with
  | none => rfl
  | some p => rfl
theorem cm_25 (g : am_G) (t : Int32) : fm_25 g t = some (0, am_si g 943 26 t) := rfl
theorem cm_26 (g : am_G) (t : Int32) : fm_26 g t = some (0, am_si (am_si g 943 29 1) 943 26 t) := rfl
theorem ms_0 {g : am_G} {c : Int32} (h : am_i g 943 26 = 0) : fm_133 g c = bif ch_bl c then some (0, g) else if c = 60 then some (0, am_si g 943 26 1) else fm_23 g := by
  unfold fm_133
  rw [h, if_neg (by decide), if_neg (by decide), if_pos (by decide), lo_id]
  unfold fm_115
  simp only [lo_id, cm_16, cm_17, cm_18, lo_ps, lo_is, b2_if, cm_25, cm_26]
theorem ms_1 {g : am_G} {c : Int32} (h : am_i g 943 26 = 1) : fm_133 g c = fm_111 g c := by
  unfold fm_133
  rw [h, if_neg (by decide), if_neg (by decide), if_neg (by decide), if_neg (by decide), if_pos (by decide)]
  unfold fj_133_121
  rw [lo_id]
  unfold fm_120
  rw [h, if_pos (by decide)]
  simp only [lo_id, cm_16, cm_17, cm_18, lo_ps, lo_is, b2_if, cm_25, cm_26]
theorem ms_2 {g : am_G} {c : Int32} (h : am_i g 943 26 = 2) : fm_133 g c = fm_112 g c := by
  unfold fm_133
  rw [h, if_neg (by decide), if_neg (by decide), if_neg (by decide), if_neg (by decide), if_pos (by decide)]
  unfold fj_133_121
  rw [lo_id]
  unfold fm_120
  rw [h, if_neg (by decide), if_pos (by decide)]
  simp only [lo_id, cm_16, cm_17, cm_18, lo_ps, lo_is, b2_if, cm_25, cm_26]
theorem ms_3 {g : am_G} {c : Int32} (h : am_i g 943 26 = 3) : fm_133 g c = if c = 45 then some (0, am_si g 943 26 30) else fm_23 g := by
  unfold fm_133
  rw [h, if_neg (by decide), if_neg (by decide), if_neg (by decide), if_neg (by decide), if_pos (by decide)]
  unfold fj_133_121
  rw [lo_id]
  unfold fm_120
  rw [h, if_neg (by decide), if_neg (by decide), if_pos (by decide)]
  simp only [lo_id, cm_16, cm_17, cm_18, lo_ps, lo_is, b2_if, cm_25, cm_26]
theorem ms_4 {g : am_G} {c : Int32} (h : am_i g 943 26 = 4) : fm_133 g c = if c = 76 then fm_34 g 408327636 6 1 80 else if c = 78 then fm_34 g 15345305 5 1 120 else fm_23 g := by
  unfold fm_133
  rw [h, if_neg (by decide), if_neg (by decide), if_neg (by decide), if_neg (by decide), if_pos (by decide)]
  unfold fj_133_121
  rw [lo_id]
  unfold fm_120
  rw [h, if_neg (by decide), if_neg (by decide), if_neg (by decide), if_pos (by decide)]
  simp only [lo_id, cm_16, cm_17, cm_18, lo_ps, lo_is, b2_if, cm_25, cm_26]
theorem ms_6 {g : am_G} {c : Int32} (h : am_i g 943 26 = 6) : fm_133 g c = if (am_i g 943 34) = 0 then lo_l ((96 : Int32) + (((am_j g 943 31) >>> ((5 * (((am_i g 943 32) - 1) - (am_i g 943 33))).toInt64 &&& 63)) &&& 31).toInt32) fun x1 => if c = x1 then if (am_i g 943 32) ≤ ((am_i g 943 33) + 1) then if (am_i g 943 35) = 7 then fm_21 (am_si g 943 33 ((am_i g 943 33) + 1)) 10 (am_i g 943 36) else some (0, am_si (am_si g 943 33 ((am_i g 943 33) + 1)) 943 26 (am_i g 943 35)) else some (0, (am_si g 943 33 ((am_i g 943 33) + 1))) else fm_23 g else lo_l ((64 : Int32) + (((am_j g 943 31) >>> ((5 * (((am_i g 943 32) - 1) - (am_i g 943 33))).toInt64 &&& 63)) &&& 31).toInt32) fun x1 => if c = x1 then if (am_i g 943 32) ≤ ((am_i g 943 33) + 1) then if (am_i g 943 35) = 7 then fm_21 (am_si g 943 33 ((am_i g 943 33) + 1)) 10 (am_i g 943 36) else some (0, am_si (am_si g 943 33 ((am_i g 943 33) + 1)) 943 26 (am_i g 943 35)) else some (0, (am_si g 943 33 ((am_i g 943 33) + 1))) else fm_23 g := by
  unfold fm_133
  rw [h, if_neg (by decide), if_pos (by decide), lo_id]
  unfold fm_35
  simp only [fj_35_14, lo_id, cm_16, cm_17, cm_18, lo_ps, lo_is, b2_if, cm_25, cm_26]
theorem ms_10 {g : am_G} {c : Int32} (h : am_i g 943 26 = 10) : fm_133 g c = bif ch_bl c then some (0, am_si g 943 26 (11 : Int32)) else fm_23 g := by
  unfold fm_133
  rw [h, if_neg (by decide), if_neg (by decide), if_neg (by decide), if_neg (by decide), if_neg (by decide), if_pos (by decide)]
  unfold fj_133_127
  rw [h, if_neg (by decide), lo_id]
  unfold fm_117
  rw [h, if_pos (by decide)]
  simp only [fm_116, lo_id, cm_16, cm_17, cm_18, lo_ps, lo_is, b2_if, cm_25, cm_26]
theorem ms_11 {g : am_G} {c : Int32} (h : am_i g 943 26 = 11) : fm_133 g c = bif ch_bl c then some (0, g) else fm_34 g 23809598958 7 0 12 := by
  unfold fm_133
  rw [h, if_neg (by decide), if_neg (by decide), if_neg (by decide), if_neg (by decide), if_neg (by decide), if_pos (by decide)]
  unfold fj_133_127
  rw [h, if_neg (by decide), lo_id]
  unfold fm_117
  rw [h, if_neg (by decide), if_pos (by decide)]
  simp only [lo_id, cm_16, cm_17, cm_18, lo_ps, lo_is, b2_if, cm_25, cm_26]
theorem ms_12 {g : am_G} {c : Int32} (h : am_i g 943 26 = 12) : fm_133 g c = bif ch_bl c then some (0, g) else if c = 61 then some (0, am_si g 943 26 13) else fm_23 g := by
  unfold fm_133
  rw [h, if_neg (by decide), if_neg (by decide), if_neg (by decide), if_neg (by decide), if_neg (by decide), if_pos (by decide)]
  unfold fj_133_127
  rw [h, if_neg (by decide), lo_id]
  unfold fm_117
  rw [h, if_neg (by decide), if_neg (by decide), if_pos (by decide)]
  simp only [lo_id, cm_16, cm_17, cm_18, lo_ps, lo_is, b2_if, cm_25, cm_26]
theorem ms_13 {g : am_G} {c : Int32} (h : am_i g 943 26 = 13) : fm_133 g c = bif ch_bl c then some (0, g) else if c = 34 then some (0, am_si (am_si g 943 38 c) 943 26 (14 : Int32)) else if c = 39 then some (0, am_si (am_si g 943 38 c) 943 26 (14 : Int32)) else fm_23 (am_si g 943 38 c) := by
  unfold fm_133
  rw [h, if_neg (by decide), if_neg (by decide), if_neg (by decide), if_neg (by decide), if_neg (by decide), if_pos (by decide)]
  unfold fj_133_127
  rw [h, if_neg (by decide), lo_id]
  unfold fm_117
  rw [h, if_neg (by decide), if_neg (by decide), if_neg (by decide), if_pos (by decide)]
  simp only [fj_118_26, fm_118, lo_id, cm_16, cm_17, cm_18, lo_ps, lo_is, b2_if, cm_25, cm_26]
theorem ms_14 {g : am_G} {c : Int32} (h : am_i g 943 26 = 14) : fm_133 g c = if c = 49 then some (0, am_si g 943 26 15) else fm_23 g := by
  unfold fm_133
  rw [h, if_neg (by decide), if_neg (by decide), if_neg (by decide), if_neg (by decide), if_neg (by decide), if_pos (by decide)]
  unfold fj_133_127
  rw [h, if_neg (by decide), lo_id]
  unfold fm_117
  rw [h, if_neg (by decide), if_neg (by decide), if_neg (by decide), if_neg (by decide), if_pos (by decide)]
  simp only [lo_id, cm_16, cm_17, cm_18, lo_ps, lo_is, b2_if, cm_25, cm_26]
theorem ms_15 {g : am_G} {c : Int32} (h : am_i g 943 26 = 15) : fm_133 g c = if c = 46 then some (0, am_si g 943 26 16) else fm_23 g := by
  unfold fm_133
  rw [h, if_neg (by decide), if_neg (by decide), if_neg (by decide), if_neg (by decide), if_neg (by decide), if_pos (by decide)]
  unfold fj_133_127
  rw [h, if_neg (by decide), lo_id]
  unfold fm_117
  rw [h, if_neg (by decide), if_neg (by decide), if_neg (by decide), if_neg (by decide), if_neg (by decide), if_pos (by decide)]
  simp only [lo_id, cm_16, cm_17, cm_18, lo_ps, lo_is, b2_if, cm_25, cm_26]
theorem ms_16 {g : am_G} {c : Int32} (h : am_i g 943 26 = 16) : fm_133 g c = if c < 48 then fm_23 g else if (57 : Int32) < c then fm_23 g else some (0, am_si g 943 26 17) := by
  unfold fm_133
  rw [h, if_neg (by decide), if_neg (by decide), if_neg (by decide), if_neg (by decide), if_neg (by decide), if_pos (by decide)]
  unfold fj_133_127
  rw [h, if_neg (by decide), lo_id]
  unfold fm_117
  rw [h, if_neg (by decide), if_neg (by decide), if_neg (by decide), if_neg (by decide), if_neg (by decide), if_neg (by decide), if_pos (by decide)]
  simp only [fj_117_228, lo_id, cm_16, cm_17, cm_18, lo_ps, lo_is, b2_if, cm_25, cm_26]
theorem ms_17 {g : am_G} {c : Int32} (h : am_i g 943 26 = 17) : fm_133 g c = if c = (am_i g 943 38) then some (0, am_si (am_si g 943 37 1) 943 26 18) else if c < 48 then fm_23 (am_si g 943 37 1) else if (57 : Int32) < c then fm_23 (am_si g 943 37 1) else some (0, (am_si g 943 37 1)) := by
  unfold fm_133
  rw [h, if_neg (by decide), if_neg (by decide), if_neg (by decide), if_neg (by decide), if_neg (by decide), if_pos (by decide)]
  unfold fj_133_127
  rw [h, if_neg (by decide), lo_id]
  unfold fm_117
  rw [h, if_neg (by decide), if_neg (by decide), if_neg (by decide), if_neg (by decide), if_neg (by decide), if_neg (by decide), if_neg (by decide), if_pos (by decide)]
  simp only [fj_117_271, lo_id, cm_16, cm_17, cm_18, lo_ps, lo_is, b2_if, cm_25, cm_26]
theorem ms_18 {g : am_G} {c : Int32} (h : am_i g 943 26 = 18) : fm_133 g c = bif ch_bl c then some (0, am_si g 943 26 19) else if c = 63 then some (0, am_si g 943 26 29) else fm_23 g := by
  unfold fm_133
  rw [h, if_neg (by decide), if_neg (by decide), if_neg (by decide), if_neg (by decide), if_neg (by decide), if_pos (by decide)]
  unfold fj_133_127
  rw [h, if_neg (by decide), lo_id]
  unfold fm_117
  rw [h, if_neg (by decide), if_neg (by decide), if_neg (by decide), if_neg (by decide), if_neg (by decide), if_neg (by decide), if_neg (by decide), if_neg (by decide), if_pos (by decide)]
  simp only [lo_id, cm_16, cm_17, cm_18, lo_ps, lo_is, b2_if, cm_25, cm_26]
theorem ms_19 {g : am_G} {c : Int32} (h : am_i g 943 26 = 19) : fm_133 g c = if c = 63 then some (0, am_si g 943 26 29) else if c = 101 then if (am_i g 943 37) = 1 then fm_34 g 186947610055 8 0 20 else if c = 115 then if (3 : Int32) ≤ (am_i g 943 37) then bif ch_bl c then some (0, g) else fm_23 g else fm_34 g 690542830042565 10 0 25 else bif ch_bl c then some (0, g) else fm_23 g else if c = 115 then if (3 : Int32) ≤ (am_i g 943 37) then bif ch_bl c then some (0, g) else fm_23 g else fm_34 g 690542830042565 10 0 25 else bif ch_bl c then some (0, g) else fm_23 g := by
  unfold fm_133
  rw [h, if_neg (by decide), if_neg (by decide), if_neg (by decide), if_neg (by decide), if_neg (by decide), if_pos (by decide)]
  unfold fj_133_127
  rw [h, if_neg (by decide), lo_id]
  unfold fm_117
  rw [h, if_neg (by decide), if_neg (by decide), if_neg (by decide), if_neg (by decide), if_neg (by decide), if_neg (by decide), if_neg (by decide), if_neg (by decide), if_neg (by decide), if_pos (by decide)]
  simp only [fj_117_352, fj_117_379, lo_id, cm_16, cm_17, cm_18, lo_ps, lo_is, b2_if, cm_25, cm_26]
theorem ms_20 {g : am_G} {c : Int32} (h : am_i g 943 26 = 20) : fm_133 g c = bif ch_bl c then some (0, g) else if c = 61 then some (0, am_si g 943 26 21) else fm_23 g := by
  unfold fm_133
  rw [h, if_neg (by decide), if_neg (by decide), if_neg (by decide), if_neg (by decide), if_neg (by decide), if_pos (by decide)]
  unfold fj_133_127
  rw [h, if_neg (by decide), lo_id]
  unfold fm_117
  rw [h, if_neg (by decide), if_neg (by decide), if_neg (by decide), if_neg (by decide), if_neg (by decide), if_neg (by decide), if_neg (by decide), if_neg (by decide), if_neg (by decide), if_neg (by decide), if_pos (by decide)]
  simp only [lo_id, cm_16, cm_17, cm_18, lo_ps, lo_is, b2_if, cm_25, cm_26]
theorem ms_21 {g : am_G} {c : Int32} (h : am_i g 943 26 = 21) : fm_133 g c = bif ch_bl c then some (0, g) else if c = 34 then some (0, am_si (am_si g 943 38 c) 943 26 (22 : Int32)) else if c = 39 then some (0, am_si (am_si g 943 38 c) 943 26 (22 : Int32)) else fm_23 (am_si g 943 38 c) := by
  unfold fm_133
  rw [h, if_neg (by decide), if_neg (by decide), if_neg (by decide), if_neg (by decide), if_neg (by decide), if_pos (by decide)]
  unfold fj_133_127
  rw [h, if_neg (by decide), lo_id]
  unfold fm_117
  rw [h, if_neg (by decide), if_neg (by decide), if_neg (by decide), if_neg (by decide), if_neg (by decide), if_neg (by decide), if_neg (by decide), if_neg (by decide), if_neg (by decide), if_neg (by decide), if_neg (by decide), if_pos (by decide)]
  simp only [fj_118_26, fm_118, lo_id, cm_16, cm_17, cm_18, lo_ps, lo_is, b2_if, cm_25, cm_26]
theorem ms_22 {g : am_G} {c : Int32} (h : am_i g 943 26 = 22) : fm_133 g c = if c < 65 then if c < 97 then fm_23 (am_si (am_si g 943 48 (am_i g 943 30)) 943 47 0) else if (122 : Int32) < c then fm_23 (am_si (am_si g 943 48 (am_i g 943 30)) 943 47 0) else some (0, am_si (am_si (am_si (am_si g 943 48 (am_i g 943 30)) 943 47 0) 943 29 1) 943 26 23) else if c ≤ 90 then some (0, am_si (am_si (am_si (am_si g 943 48 (am_i g 943 30)) 943 47 0) 943 29 1) 943 26 23) else if c < 97 then fm_23 (am_si (am_si g 943 48 (am_i g 943 30)) 943 47 0) else if (122 : Int32) < c then fm_23 (am_si (am_si g 943 48 (am_i g 943 30)) 943 47 0) else some (0, am_si (am_si (am_si (am_si g 943 48 (am_i g 943 30)) 943 47 0) 943 29 1) 943 26 23) := by
  unfold fm_133
  rw [h, if_neg (by decide), if_neg (by decide), if_neg (by decide), if_neg (by decide), if_neg (by decide), if_pos (by decide)]
  unfold fj_133_127
  rw [h, if_neg (by decide), lo_id]
  unfold fm_117
  rw [h, if_neg (by decide), if_neg (by decide), if_neg (by decide), if_neg (by decide), if_neg (by decide), if_neg (by decide), if_neg (by decide), if_neg (by decide), if_neg (by decide), if_neg (by decide), if_neg (by decide), if_neg (by decide), if_pos (by decide)]
  simp only [fj_117_459, fj_117_471, fj_117_480, lo_id, cm_16, cm_17, cm_18, lo_ps, lo_is, b2_if, cm_25, cm_26]
theorem ms_23 {g : am_G} {c : Int32} (h : am_i g 943 26 = 23) : fm_133 g c = fm_119 g c := by
  unfold fm_133
  rw [h, if_neg (by decide), if_neg (by decide), if_neg (by decide), if_neg (by decide), if_neg (by decide), if_pos (by decide)]
  unfold fj_133_127
  rw [h, if_neg (by decide), lo_id]
  unfold fm_117
  rw [h, if_neg (by decide), if_neg (by decide), if_neg (by decide), if_neg (by decide), if_neg (by decide), if_neg (by decide), if_neg (by decide), if_neg (by decide), if_neg (by decide), if_neg (by decide), if_neg (by decide), if_neg (by decide), if_neg (by decide), if_pos (by decide)]
  simp only [lo_id, cm_16, cm_17, cm_18, lo_ps, lo_is, b2_if, cm_25, cm_26]
theorem ms_25 {g : am_G} {c : Int32} (h : am_i g 943 26 = 25) : fm_133 g c = bif ch_bl c then some (0, g) else if c = 61 then some (0, am_si g 943 26 26) else fm_23 g := by
  unfold fm_133
  rw [h, if_neg (by decide), if_neg (by decide), if_neg (by decide), if_neg (by decide), if_neg (by decide), if_pos (by decide)]
  unfold fj_133_127
  rw [h, if_neg (by decide), lo_id]
  unfold fm_117
  rw [h, if_neg (by decide), if_neg (by decide), if_neg (by decide), if_neg (by decide), if_neg (by decide), if_neg (by decide), if_neg (by decide), if_neg (by decide), if_neg (by decide), if_neg (by decide), if_neg (by decide), if_neg (by decide), if_neg (by decide), if_neg (by decide), if_neg (by decide), if_pos (by decide)]
  simp only [lo_id, cm_16, cm_17, cm_18, lo_ps, lo_is, b2_if, cm_25, cm_26]
theorem ms_26 {g : am_G} {c : Int32} (h : am_i g 943 26 = 26) : fm_133 g c = bif ch_bl c then some (0, g) else if c = 34 then some (0, am_si (am_si g 943 38 c) 943 26 (27 : Int32)) else if c = 39 then some (0, am_si (am_si g 943 38 c) 943 26 (27 : Int32)) else fm_23 (am_si g 943 38 c) := by
  unfold fm_133
  rw [h, if_neg (by decide), if_neg (by decide), if_neg (by decide), if_neg (by decide), if_neg (by decide), if_pos (by decide)]
  unfold fj_133_127
  rw [h, if_neg (by decide), lo_id]
  unfold fm_117
  rw [h, if_neg (by decide), if_neg (by decide), if_neg (by decide), if_neg (by decide), if_neg (by decide), if_neg (by decide), if_neg (by decide), if_neg (by decide), if_neg (by decide), if_neg (by decide), if_neg (by decide), if_neg (by decide), if_neg (by decide), if_neg (by decide), if_neg (by decide), if_neg (by decide), if_pos (by decide)]
  simp only [fj_118_26, fm_118, lo_id, cm_16, cm_17, cm_18, lo_ps, lo_is, b2_if, cm_25, cm_26]
theorem ms_27 {g : am_G} {c : Int32} (h : am_i g 943 26 = 27) : fm_133 g c = if c = 121 then fm_34 g 25779 3 0 28 else if c = 110 then fm_34 g 463 2 0 28 else fm_23 g := by
  unfold fm_133
  rw [h, if_neg (by decide), if_neg (by decide), if_neg (by decide), if_neg (by decide), if_neg (by decide), if_pos (by decide)]
  unfold fj_133_127
  rw [h, if_neg (by decide), lo_id]
  unfold fm_117
  rw [h, if_neg (by decide), if_neg (by decide), if_neg (by decide), if_neg (by decide), if_neg (by decide), if_neg (by decide), if_neg (by decide), if_neg (by decide), if_neg (by decide), if_neg (by decide), if_neg (by decide), if_neg (by decide), if_neg (by decide), if_neg (by decide), if_neg (by decide), if_neg (by decide), if_neg (by decide), if_pos (by decide)]
  simp only [lo_id, cm_16, cm_17, cm_18, lo_ps, lo_is, b2_if, cm_25, cm_26]
theorem ms_28 {g : am_G} {c : Int32} (h : am_i g 943 26 = 28) : fm_133 g c = if c = (am_i g 943 38) then some (0, am_si (am_si g 943 37 3) 943 26 18) else fm_23 (am_si g 943 37 3) := by
  unfold fm_133
  rw [h, if_neg (by decide), if_neg (by decide), if_neg (by decide), if_neg (by decide), if_neg (by decide), if_pos (by decide)]
  unfold fj_133_127
  rw [h, if_neg (by decide), lo_id]
  unfold fm_117
  rw [h, if_neg (by decide), if_neg (by decide), if_neg (by decide), if_neg (by decide), if_neg (by decide), if_neg (by decide), if_neg (by decide), if_neg (by decide), if_neg (by decide), if_neg (by decide), if_neg (by decide), if_neg (by decide), if_neg (by decide), if_neg (by decide), if_neg (by decide), if_neg (by decide), if_neg (by decide), if_neg (by decide), if_pos (by decide)]
  simp only [lo_id, cm_16, cm_17, cm_18, lo_ps, lo_is, b2_if, cm_25, cm_26]
theorem ms_29 {g : am_G} {c : Int32} (h : am_i g 943 26 = 29) : fm_133 g c = if c = 62 then some (0, am_si g 943 26 0) else fm_23 g := by
  unfold fm_133
  rw [h, if_neg (by decide), if_neg (by decide), if_neg (by decide), if_neg (by decide), if_neg (by decide), if_pos (by decide)]
  unfold fj_133_127
  rw [h, if_neg (by decide), lo_id]
  unfold fm_117
  rw [h, if_neg (by decide), if_neg (by decide), if_neg (by decide), if_neg (by decide), if_neg (by decide), if_neg (by decide), if_neg (by decide), if_neg (by decide), if_neg (by decide), if_neg (by decide), if_neg (by decide), if_neg (by decide), if_neg (by decide), if_neg (by decide), if_neg (by decide), if_neg (by decide), if_neg (by decide), if_neg (by decide), if_neg (by decide)]
  simp only [lo_id, cm_16, cm_17, cm_18, lo_ps, lo_is, b2_if, cm_25, cm_26]
theorem ms_30 {g : am_G} {c : Int32} (h : am_i g 943 26 = 30) : fm_133 g c = if c = 45 then some (0, am_si g 943 26 31) else some (0, g) := by
  unfold fm_133
  rw [h, if_neg (by decide), if_neg (by decide), if_neg (by decide), if_neg (by decide), if_neg (by decide), if_neg (by decide), if_neg (by decide)]
  unfold fj_133_121
  rw [lo_id]
  unfold fm_120
  rw [h, if_neg (by decide), if_neg (by decide), if_neg (by decide), if_neg (by decide), if_neg (by decide), if_neg (by decide), if_neg (by decide), if_neg (by decide), if_neg (by decide), if_neg (by decide), if_neg (by decide), if_neg (by decide), if_neg (by decide), if_neg (by decide), if_neg (by decide), if_neg (by decide), if_neg (by decide), if_neg (by decide), if_neg (by decide), if_neg (by decide), if_neg (by decide), if_neg (by decide), if_neg (by decide), if_neg (by decide), if_neg (by decide), if_neg (by decide), if_neg (by decide), if_neg (by decide), if_neg (by decide), if_pos (by decide)]
  simp only [lo_id, cm_16, cm_17, cm_18, lo_ps, lo_is, b2_if, cm_25, cm_26]
theorem ms_31 {g : am_G} {c : Int32} (h : am_i g 943 26 = 31) : fm_133 g c = if c = 45 then some (0, am_si g 943 26 (32 : Int32)) else some (0, am_si g 943 26 (30 : Int32)) := by
  unfold fm_133
  rw [h, if_neg (by decide), if_neg (by decide), if_neg (by decide), if_neg (by decide), if_neg (by decide), if_neg (by decide), if_neg (by decide)]
  unfold fj_133_121
  rw [lo_id]
  unfold fm_120
  rw [h, if_neg (by decide), if_neg (by decide), if_neg (by decide), if_neg (by decide), if_neg (by decide), if_neg (by decide), if_neg (by decide), if_neg (by decide), if_neg (by decide), if_neg (by decide), if_neg (by decide), if_neg (by decide), if_neg (by decide), if_neg (by decide), if_neg (by decide), if_neg (by decide), if_neg (by decide), if_neg (by decide), if_neg (by decide), if_neg (by decide), if_neg (by decide), if_neg (by decide), if_neg (by decide), if_neg (by decide), if_neg (by decide), if_neg (by decide), if_neg (by decide), if_neg (by decide), if_neg (by decide), if_neg (by decide), if_pos (by decide)]
  simp only [fj_120_281, lo_id, cm_16, cm_17, cm_18, lo_ps, lo_is, b2_if, cm_25, cm_26]
theorem ms_32 {g : am_G} {c : Int32} (h : am_i g 943 26 = 32) : fm_133 g c = if c = 62 then if (am_i g 943 27) = 1 then lo_p (fm_45 g) fun g168 => fm_44 g168 else fm_44 g else fm_23 g := by
  unfold fm_133
  rw [h, if_neg (by decide), if_neg (by decide), if_neg (by decide), if_neg (by decide), if_neg (by decide), if_neg (by decide), if_neg (by decide)]
  unfold fj_133_121
  rw [lo_id]
  unfold fm_120
  rw [h, if_neg (by decide), if_neg (by decide), if_neg (by decide), if_neg (by decide), if_neg (by decide), if_neg (by decide), if_neg (by decide), if_neg (by decide), if_neg (by decide), if_neg (by decide), if_neg (by decide), if_neg (by decide), if_neg (by decide), if_neg (by decide), if_neg (by decide), if_neg (by decide), if_neg (by decide), if_neg (by decide), if_neg (by decide), if_neg (by decide), if_neg (by decide), if_neg (by decide), if_neg (by decide), if_neg (by decide), if_neg (by decide), if_neg (by decide), if_neg (by decide), if_neg (by decide), if_neg (by decide), if_neg (by decide), if_neg (by decide), if_pos (by decide)]
  simp only [fj_120_308, lo_id, cm_16, cm_17, cm_18, lo_ps, lo_is, b2_if, cm_25, cm_26]
theorem ms_33 {g : am_G} {c : Int32} (h : am_i g 943 26 = 33) : fm_133 g c = fm_27 g c 0 0 := by
  unfold fm_133
  rw [h, if_neg (by decide), if_neg (by decide), if_neg (by decide), if_neg (by decide), if_neg (by decide), if_neg (by decide), if_neg (by decide)]
  unfold fj_133_121
  rw [lo_id]
  unfold fm_120
  rw [h, if_neg (by decide), if_neg (by decide), if_neg (by decide), if_neg (by decide), if_neg (by decide), if_neg (by decide), if_neg (by decide), if_neg (by decide), if_neg (by decide), if_neg (by decide), if_neg (by decide), if_neg (by decide), if_neg (by decide), if_neg (by decide), if_neg (by decide), if_neg (by decide), if_neg (by decide), if_neg (by decide), if_neg (by decide), if_neg (by decide), if_neg (by decide), if_neg (by decide), if_neg (by decide), if_neg (by decide), if_neg (by decide), if_neg (by decide), if_neg (by decide), if_neg (by decide), if_neg (by decide), if_neg (by decide), if_neg (by decide), if_neg (by decide), if_pos (by decide)]
  simp only [lo_id, cm_16, cm_17, cm_18, lo_ps, lo_is, b2_if, cm_25, cm_26]
theorem ms_34 {g : am_G} {c : Int32} (h : am_i g 943 26 = 34) : fm_133 g c = bif ch_bl c then some (0, am_si g 943 26 35) else if c = 63 then some (0, am_si g 943 26 37) else fm_23 g := by
  unfold fm_133
  rw [h, if_neg (by decide), if_neg (by decide), if_neg (by decide), if_neg (by decide), if_neg (by decide), if_neg (by decide), if_neg (by decide)]
  unfold fj_133_121
  rw [lo_id]
  unfold fm_120
  rw [h, if_neg (by decide), if_neg (by decide), if_neg (by decide), if_neg (by decide), if_neg (by decide), if_neg (by decide), if_neg (by decide), if_neg (by decide), if_neg (by decide), if_neg (by decide), if_neg (by decide), if_neg (by decide), if_neg (by decide), if_neg (by decide), if_neg (by decide), if_neg (by decide), if_neg (by decide), if_neg (by decide), if_neg (by decide), if_neg (by decide), if_neg (by decide), if_neg (by decide), if_neg (by decide), if_neg (by decide), if_neg (by decide), if_neg (by decide), if_neg (by decide), if_neg (by decide), if_neg (by decide), if_neg (by decide), if_neg (by decide), if_neg (by decide), if_neg (by decide), if_pos (by decide)]
  simp only [lo_id, cm_16, cm_17, cm_18, lo_ps, lo_is, b2_if, cm_25, cm_26]
theorem ms_35 {g : am_G} {c : Int32} (h : am_i g 943 26 = 35) : fm_133 g c = bif ch_bl c then some (0, g) else if c = 63 then some (0, am_si g 943 26 36) else some (0, am_si (am_si g 943 29 1) 943 26 38) := by
  unfold fm_133
  rw [h, if_neg (by decide), if_neg (by decide), if_neg (by decide), if_neg (by decide), if_neg (by decide), if_neg (by decide), if_neg (by decide)]
  unfold fj_133_121
  rw [lo_id]
  unfold fm_120
  rw [h, if_neg (by decide), if_neg (by decide), if_neg (by decide), if_neg (by decide), if_neg (by decide), if_neg (by decide), if_neg (by decide), if_neg (by decide), if_neg (by decide), if_neg (by decide), if_neg (by decide), if_neg (by decide), if_neg (by decide), if_neg (by decide), if_neg (by decide), if_neg (by decide), if_neg (by decide), if_neg (by decide), if_neg (by decide), if_neg (by decide), if_neg (by decide), if_neg (by decide), if_neg (by decide), if_neg (by decide), if_neg (by decide), if_neg (by decide), if_neg (by decide), if_neg (by decide), if_neg (by decide), if_neg (by decide), if_neg (by decide), if_neg (by decide), if_neg (by decide), if_neg (by decide), if_pos (by decide)]
  simp only [lo_id, cm_16, cm_17, cm_18, lo_ps, lo_is, b2_if, cm_25, cm_26]
theorem ms_36 {g : am_G} {c : Int32} (h : am_i g 943 26 = 36) : fm_133 g c = if c = 62 then fm_43 g else lo_p (fm_42 g 63) fun g188 => if c = 63 then some (0, am_si g188 943 26 39) else some (0, am_si (am_si g188 943 29 1) 943 26 38) := by
  unfold fm_133
  rw [h, if_neg (by decide), if_neg (by decide), if_neg (by decide), if_neg (by decide), if_neg (by decide), if_neg (by decide), if_neg (by decide)]
  unfold fj_133_121
  rw [lo_id]
  unfold fm_120
  rw [h, if_neg (by decide), if_neg (by decide), if_neg (by decide), if_neg (by decide), if_neg (by decide), if_neg (by decide), if_neg (by decide), if_neg (by decide), if_neg (by decide), if_neg (by decide), if_neg (by decide), if_neg (by decide), if_neg (by decide), if_neg (by decide), if_neg (by decide), if_neg (by decide), if_neg (by decide), if_neg (by decide), if_neg (by decide), if_neg (by decide), if_neg (by decide), if_neg (by decide), if_neg (by decide), if_neg (by decide), if_neg (by decide), if_neg (by decide), if_neg (by decide), if_neg (by decide), if_neg (by decide), if_neg (by decide), if_neg (by decide), if_neg (by decide), if_neg (by decide), if_neg (by decide), if_neg (by decide), if_pos (by decide)]
  simp only [lo_id, cm_16, cm_17, cm_18, lo_ps, lo_is, b2_if, cm_25, cm_26]
theorem ms_37 {g : am_G} {c : Int32} (h : am_i g 943 26 = 37) : fm_133 g c = if c = 62 then fm_43 g else fm_23 g := by
  unfold fm_133
  rw [h, if_neg (by decide), if_neg (by decide), if_neg (by decide), if_neg (by decide), if_neg (by decide), if_neg (by decide), if_neg (by decide)]
  unfold fj_133_121
  rw [lo_id]
  unfold fm_120
  rw [h, if_neg (by decide), if_neg (by decide), if_neg (by decide), if_neg (by decide), if_neg (by decide), if_neg (by decide), if_neg (by decide), if_neg (by decide), if_neg (by decide), if_neg (by decide), if_neg (by decide), if_neg (by decide), if_neg (by decide), if_neg (by decide), if_neg (by decide), if_neg (by decide), if_neg (by decide), if_neg (by decide), if_neg (by decide), if_neg (by decide), if_neg (by decide), if_neg (by decide), if_neg (by decide), if_neg (by decide), if_neg (by decide), if_neg (by decide), if_neg (by decide), if_neg (by decide), if_neg (by decide), if_neg (by decide), if_neg (by decide), if_neg (by decide), if_neg (by decide), if_neg (by decide), if_neg (by decide), if_neg (by decide), if_pos (by decide)]
  simp only [lo_id, cm_16, cm_17, cm_18, lo_ps, lo_is, b2_if, cm_25, cm_26]
theorem ms_38 {g : am_G} {c : Int32} (h : am_i g 943 26 = 38) : fm_133 g c = if c = 63 then some (0, am_si g 943 26 39) else lo_p (fm_42 g c) fun g200 => some (0, g200) := by
  unfold fm_133
  rw [h, if_neg (by decide), if_neg (by decide), if_neg (by decide), if_neg (by decide), if_neg (by decide), if_neg (by decide), if_neg (by decide)]
  unfold fj_133_121
  rw [lo_id]
  unfold fm_120
  rw [h, if_neg (by decide), if_neg (by decide), if_neg (by decide), if_neg (by decide), if_neg (by decide), if_neg (by decide), if_neg (by decide), if_neg (by decide), if_neg (by decide), if_neg (by decide), if_neg (by decide), if_neg (by decide), if_neg (by decide), if_neg (by decide), if_neg (by decide), if_neg (by decide), if_neg (by decide), if_neg (by decide), if_neg (by decide), if_neg (by decide), if_neg (by decide), if_neg (by decide), if_neg (by decide), if_neg (by decide), if_neg (by decide), if_neg (by decide), if_neg (by decide), if_neg (by decide), if_neg (by decide), if_neg (by decide), if_neg (by decide), if_neg (by decide), if_neg (by decide), if_neg (by decide), if_neg (by decide), if_neg (by decide), if_neg (by decide), if_pos (by decide)]
  simp only [lo_id, cm_16, cm_17, cm_18, lo_ps, lo_is, b2_if, cm_25, cm_26]
theorem ms_39 {g : am_G} {c : Int32} (h : am_i g 943 26 = 39) : fm_133 g c = if c = 62 then fm_43 g else lo_p (fm_42 g 63) fun g204 => if c = 63 then some (0, g204) else some (0, am_si (am_si g204 943 29 1) 943 26 38) := by
  unfold fm_133
  rw [h, if_neg (by decide), if_neg (by decide), if_neg (by decide), if_neg (by decide), if_neg (by decide), if_neg (by decide), if_neg (by decide)]
  unfold fj_133_121
  rw [lo_id]
  unfold fm_120
  rw [h, if_neg (by decide), if_neg (by decide), if_neg (by decide), if_neg (by decide), if_neg (by decide), if_neg (by decide), if_neg (by decide), if_neg (by decide), if_neg (by decide), if_neg (by decide), if_neg (by decide), if_neg (by decide), if_neg (by decide), if_neg (by decide), if_neg (by decide), if_neg (by decide), if_neg (by decide), if_neg (by decide), if_neg (by decide), if_neg (by decide), if_neg (by decide), if_neg (by decide), if_neg (by decide), if_neg (by decide), if_neg (by decide), if_neg (by decide), if_neg (by decide), if_neg (by decide), if_neg (by decide), if_neg (by decide), if_neg (by decide), if_neg (by decide), if_neg (by decide), if_neg (by decide), if_neg (by decide), if_neg (by decide), if_neg (by decide), if_neg (by decide)]
  simp only [lo_id, cm_16, cm_17, cm_18, lo_ps, lo_is, b2_if, cm_25, cm_26]
theorem ms_40 {g : am_G} {c : Int32} (h : am_i g 943 26 = 40) : fm_133 g c = bif ch_bl c then some (0, am_si g 943 26 (41 : Int32)) else fm_23 g := by
  unfold fm_133
  rw [h, if_neg (by decide), if_neg (by decide), if_neg (by decide), if_neg (by decide), if_neg (by decide), if_neg (by decide), if_pos (by decide)]
  unfold fj_133_127
  rw [h, if_pos (by decide), if_neg (by decide), lo_id]
  unfold fm_121
  rw [h, if_pos (by decide)]
  simp only [fm_116, lo_id, cm_16, cm_17, cm_18, lo_ps, lo_is, b2_if, cm_25, cm_26]
theorem ms_41 {g : am_G} {c : Int32} (h : am_i g 943 26 = 41) : fm_133 g c = bif ch_bl c then some (0, g) else fm_27 g c 5 0 := by
  unfold fm_133
  rw [h, if_neg (by decide), if_neg (by decide), if_neg (by decide), if_neg (by decide), if_neg (by decide), if_neg (by decide), if_pos (by decide)]
  unfold fj_133_127
  rw [h, if_pos (by decide), if_neg (by decide), lo_id]
  unfold fm_121
  rw [h, if_neg (by decide), if_pos (by decide)]
  simp only [lo_id, cm_16, cm_17, cm_18, lo_ps, lo_is, b2_if, cm_25, cm_26]
theorem ms_42 {g : am_G} {c : Int32} (h : am_i g 943 26 = 42) : fm_133 g c = bif ch_bl c then some (0, am_si g 943 26 43) else some (0, am_si (am_si g 943 29 1) 943 26 48) := by
  unfold fm_133
  rw [h, if_neg (by decide), if_neg (by decide), if_neg (by decide), if_neg (by decide), if_neg (by decide), if_neg (by decide), if_pos (by decide)]
  unfold fj_133_127
  rw [h, if_pos (by decide), if_neg (by decide), lo_id]
  unfold fm_121
  rw [h, if_neg (by decide), if_neg (by decide), if_pos (by decide)]
  simp only [lo_id, cm_16, cm_17, cm_18, lo_ps, lo_is, b2_if, cm_25, cm_26]
theorem ms_43 {g : am_G} {c : Int32} (h : am_i g 943 26 = 43) : fm_133 g c = if c = 83 then fm_34 g 664391853 6 1 7 else if c = 80 then fm_34 g 558969123 6 1 7 else bif ch_bl c then some (0, g) else some (0, am_si (am_si g 943 29 1) 943 26 48) := by
  unfold fm_133
  rw [h, if_neg (by decide), if_neg (by decide), if_neg (by decide), if_neg (by decide), if_neg (by decide), if_neg (by decide), if_pos (by decide)]
  unfold fj_133_127
  rw [h, if_pos (by decide), if_neg (by decide), lo_id]
  unfold fm_121
  rw [h, if_neg (by decide), if_neg (by decide), if_neg (by decide), if_pos (by decide)]
  simp only [lo_id, cm_16, cm_17, cm_18, lo_ps, lo_is, b2_if, cm_25, cm_26]
theorem ms_44 {g : am_G} {c : Int32} (h : am_i g 943 26 = 44) : fm_133 g c = bif ch_bl c then some (0, g) else if c = 62 then some (0, am_si (am_si g 943 28 1) 943 26 0) else fm_23 (am_si g 943 28 1) := by
  unfold fm_133
  rw [h, if_neg (by decide), if_neg (by decide), if_neg (by decide), if_neg (by decide), if_neg (by decide), if_neg (by decide), if_pos (by decide)]
  unfold fj_133_127
  rw [h, if_pos (by decide), if_neg (by decide), lo_id]
  unfold fm_121
  rw [h, if_neg (by decide), if_neg (by decide), if_neg (by decide), if_neg (by decide), if_pos (by decide)]
  simp only [lo_id, cm_16, cm_17, cm_18, lo_ps, lo_is, b2_if, cm_25, cm_26]
theorem ms_45 {g : am_G} {c : Int32} (h : am_i g 943 26 = 45) : fm_133 g c = fm_114 g c := by
  unfold fm_133
  rw [h, if_neg (by decide), if_neg (by decide), if_neg (by decide), if_neg (by decide), if_neg (by decide), if_neg (by decide), if_pos (by decide)]
  unfold fj_133_127
  rw [h, if_pos (by decide), if_neg (by decide), lo_id]
  unfold fm_121
  rw [h, if_neg (by decide), if_neg (by decide), if_neg (by decide), if_neg (by decide), if_neg (by decide), if_pos (by decide)]
  simp only [lo_id, cm_16, cm_17, cm_18, lo_ps, lo_is, b2_if, cm_25, cm_26]
theorem ms_46 {g : am_G} {c : Int32} (h : am_i g 943 26 = 46) : fm_133 g c = fm_27 g c 6 0 := by
  unfold fm_133
  rw [h, if_neg (by decide), if_neg (by decide), if_neg (by decide), if_neg (by decide), if_neg (by decide), if_neg (by decide), if_pos (by decide)]
  unfold fj_133_127
  rw [h, if_pos (by decide), if_neg (by decide), lo_id]
  unfold fm_121
  rw [h, if_neg (by decide), if_neg (by decide), if_neg (by decide), if_neg (by decide), if_neg (by decide), if_neg (by decide), if_pos (by decide)]
  simp only [lo_id, cm_16, cm_17, cm_18, lo_ps, lo_is, b2_if, cm_25, cm_26]
theorem ms_47 {g : am_G} {c : Int32} (h : am_i g 943 26 = 47) : fm_133 g c = if c = 59 then lo_p (fm_99 g (am_i g 943 72) 1) fun y31 => if (0 : Int32) ≤ y31 then fm_102 g y31 2 (am_i g 943 42) else fm_21 g 5 (am_i g 943 42) else fm_23 g := by
  unfold fm_133
  rw [h, if_neg (by decide), if_neg (by decide), if_neg (by decide), if_neg (by decide), if_neg (by decide), if_neg (by decide), if_pos (by decide)]
  unfold fj_133_127
  rw [h, if_pos (by decide), if_neg (by decide), lo_id]
  unfold fm_121
  rw [h, if_neg (by decide), if_neg (by decide), if_neg (by decide), if_neg (by decide), if_neg (by decide), if_neg (by decide), if_neg (by decide), if_pos (by decide)]
  simp only [lo_id, cm_16, cm_17, cm_18, lo_ps, lo_is, b2_if, cm_25, cm_26]
theorem ms_48 {g : am_G} {c : Int32} (h : am_i g 943 26 = 48) : fm_133 g c = if c = 91 then some (0, am_si (am_si g 943 27 2) 943 26 45) else some (0, am_si (am_si g 943 29 1) 943 26 44) := by
  unfold fm_133
  rw [h, if_neg (by decide), if_neg (by decide), if_neg (by decide), if_neg (by decide), if_neg (by decide), if_neg (by decide), if_pos (by decide)]
  unfold fj_133_127
  rw [h, if_pos (by decide), if_neg (by decide), lo_id]
  unfold fm_121
  rw [h, if_neg (by decide), if_neg (by decide), if_neg (by decide), if_neg (by decide), if_neg (by decide), if_neg (by decide), if_neg (by decide), if_neg (by decide)]
  simp only [lo_id, cm_16, cm_17, cm_18, lo_ps, lo_is, b2_if, cm_25, cm_26]
theorem ms_49 {g : am_G} {c : Int32} (h : am_i g 943 26 = 49) : fm_133 g c = if c = 91 then some (0, am_si (am_si g 943 27 2) 943 26 45) else some (0, am_si (am_si g 943 29 1) 943 26 44) := by
  unfold fm_133
  rw [h, if_neg (by decide), if_neg (by decide), if_neg (by decide), if_neg (by decide), if_neg (by decide), if_neg (by decide), if_pos (by decide)]
  unfold fj_133_127
  rw [h, if_pos (by decide), if_neg (by decide), lo_id]
  unfold fm_121
  rw [h, if_neg (by decide), if_neg (by decide), if_neg (by decide), if_neg (by decide), if_neg (by decide), if_neg (by decide), if_neg (by decide), if_neg (by decide)]
  simp only [lo_id, cm_16, cm_17, cm_18, lo_ps, lo_is, b2_if, cm_25, cm_26]
theorem ms_50 {g : am_G} {c : Int32} (h : am_i g 943 26 = 50) : fm_133 g c = if c = 60 then some (0, am_si (am_si g 943 43 0) 943 26 1) else if c = 38 then some (0, am_si (am_si (am_si (am_si g 943 43 0) 943 39 (am_i g 943 30)) 943 40 50) 943 26 60) else if c = 62 then if (am_i g 943 43) ≤ 1 then if c = 93 then lo_p (fm_47 (am_si g 943 43 ((am_i g 943 43) + 1)) c) fun g2 => lo_p (fm_40 g2 c) fun g4 => some (0, g4) else lo_p (fm_47 (am_si g 943 43 (0 : Int32)) c) fun g2 => lo_p (fm_40 g2 c) fun g4 => some (0, g4) else fm_23 g else if c = 93 then lo_p (fm_47 (am_si g 943 43 ((am_i g 943 43) + 1)) c) fun g2 => lo_p (fm_40 g2 c) fun g4 => some (0, g4) else lo_p (fm_47 (am_si g 943 43 (0 : Int32)) c) fun g2 => lo_p (fm_40 g2 c) fun g4 => some (0, g4) := by
  unfold fm_133
  rw [h, if_neg (by decide), if_neg (by decide), if_neg (by decide), if_pos (by decide), lo_id]
  unfold fm_113
  simp only [fj_113_68, fj_113_85, lo_id, cm_16, cm_17, cm_18, lo_ps, lo_is, b2_if, cm_25, cm_26]
theorem ms_51 {g : am_G} {c : Int32} (h : am_i g 943 26 = 51) : fm_133 g c = fm_27 g c 2 0 := by
  unfold fm_133
  rw [h, if_neg (by decide), if_neg (by decide), if_neg (by decide), if_neg (by decide), if_neg (by decide), if_neg (by decide), if_pos (by decide)]
  unfold fj_133_127
  rw [h, if_pos (by decide), if_pos (by decide), if_neg (by decide), lo_id]
  unfold fm_122
  rw [h, if_pos (by decide)]
  simp only [lo_id, cm_16, cm_17, cm_18, lo_ps, lo_is, b2_if, cm_25, cm_26]
theorem ms_52 {g : am_G} {c : Int32} (h : am_i g 943 26 = 52) : fm_133 g c = bif ch_bl c then some (0, g) else if c = 62 then fm_98 g else fm_23 g := by
  unfold fm_133
  rw [h, if_neg (by decide), if_neg (by decide), if_neg (by decide), if_neg (by decide), if_neg (by decide), if_neg (by decide), if_pos (by decide)]
  unfold fj_133_127
  rw [h, if_pos (by decide), if_pos (by decide), if_neg (by decide), lo_id]
  unfold fm_122
  rw [h, if_neg (by decide), if_pos (by decide)]
  simp only [lo_id, cm_16, cm_17, cm_18, lo_ps, lo_is, b2_if, cm_25, cm_26]
theorem ms_53 {g : am_G} {c : Int32} (h : am_i g 943 26 = 53) : fm_133 g c = bif ch_bl c then some (0, am_si g 943 26 54) else if c = 47 then some (0, am_si g 943 26 56) else if c = 62 then fm_97 g 0 else fm_23 g := by
  unfold fm_133
  rw [h, if_neg (by decide), if_neg (by decide), if_neg (by decide), if_neg (by decide), if_neg (by decide), if_neg (by decide), if_pos (by decide)]
  unfold fj_133_127
  rw [h, if_pos (by decide), if_pos (by decide), if_neg (by decide), lo_id]
  unfold fm_122
  rw [h, if_neg (by decide), if_neg (by decide), if_pos (by decide)]
  simp only [lo_id, cm_16, cm_17, cm_18, lo_ps, lo_is, b2_if, cm_25, cm_26]
theorem ms_54 {g : am_G} {c : Int32} (h : am_i g 943 26 = 54) : fm_133 g c = bif ch_bl c then some (0, g) else if c = 47 then some (0, am_si g 943 26 56) else if c = 62 then fm_97 g 0 else fm_27 g c 3 0 := by
  unfold fm_133
  rw [h, if_neg (by decide), if_neg (by decide), if_neg (by decide), if_neg (by decide), if_neg (by decide), if_neg (by decide), if_pos (by decide)]
  unfold fj_133_127
  rw [h, if_pos (by decide), if_pos (by decide), if_neg (by decide), lo_id]
  unfold fm_122
  rw [h, if_neg (by decide), if_neg (by decide), if_neg (by decide), if_pos (by decide)]
  simp only [lo_id, cm_16, cm_17, cm_18, lo_ps, lo_is, b2_if, cm_25, cm_26]
theorem ms_55 {g : am_G} {c : Int32} (h : am_i g 943 26 = 55) : fm_133 g c = bif ch_bl c then some (0, g) else if c = 61 then some (0, am_si g 943 26 57) else fm_23 g := by
  unfold fm_133
  rw [h, if_neg (by decide), if_neg (by decide), if_neg (by decide), if_neg (by decide), if_neg (by decide), if_neg (by decide), if_pos (by decide)]
  unfold fj_133_127
  rw [h, if_pos (by decide), if_pos (by decide), if_neg (by decide), lo_id]
  unfold fm_122
  rw [h, if_neg (by decide), if_neg (by decide), if_neg (by decide), if_neg (by decide), if_pos (by decide)]
  simp only [lo_id, cm_16, cm_17, cm_18, lo_ps, lo_is, b2_if, cm_25, cm_26]
theorem ms_56 {g : am_G} {c : Int32} (h : am_i g 943 26 = 56) : fm_133 g c = if c = 62 then fm_97 g 1 else fm_23 g := by
  unfold fm_133
  rw [h, if_neg (by decide), if_neg (by decide), if_neg (by decide), if_neg (by decide), if_neg (by decide), if_neg (by decide), if_pos (by decide)]
  unfold fj_133_127
  rw [h, if_pos (by decide), if_pos (by decide), if_neg (by decide), lo_id]
  unfold fm_122
  rw [h, if_neg (by decide), if_neg (by decide), if_neg (by decide), if_neg (by decide), if_neg (by decide), if_pos (by decide)]
  simp only [lo_id, cm_16, cm_17, cm_18, lo_ps, lo_is, b2_if, cm_25, cm_26]
theorem ms_57 {g : am_G} {c : Int32} (h : am_i g 943 26 = 57) : fm_133 g c = bif ch_bl c then some (0, g) else if c = 34 then fm_84 g c 0 else if c = 39 then fm_84 g c 0 else fm_23 g := by
  unfold fm_133
  rw [h, if_neg (by decide), if_neg (by decide), if_neg (by decide), if_neg (by decide), if_neg (by decide), if_neg (by decide), if_pos (by decide)]
  unfold fj_133_127
  rw [h, if_pos (by decide), if_pos (by decide), if_neg (by decide), lo_id]
  unfold fm_122
  rw [h, if_neg (by decide), if_neg (by decide), if_neg (by decide), if_neg (by decide), if_neg (by decide), if_neg (by decide), if_pos (by decide)]
  simp only [fj_122_260, lo_id, cm_16, cm_17, cm_18, lo_ps, lo_is, b2_if, cm_25, cm_26]
theorem ms_58 {g : am_G} {c : Int32} (h : am_i g 943 26 = 58) : fm_133 g c = fm_83 g c := by
  unfold fm_133
  rw [h, if_neg (by decide), if_neg (by decide), if_neg (by decide), if_neg (by decide), if_neg (by decide), if_neg (by decide), if_pos (by decide)]
  unfold fj_133_127
  rw [h, if_pos (by decide), if_pos (by decide), if_neg (by decide), lo_id]
  unfold fm_122
  rw [h, if_neg (by decide), if_neg (by decide), if_neg (by decide), if_neg (by decide), if_neg (by decide), if_neg (by decide), if_neg (by decide), if_pos (by decide)]
  simp only [lo_id, cm_16, cm_17, cm_18, lo_ps, lo_is, b2_if, cm_25, cm_26]
theorem ms_59 {g : am_G} {c : Int32} (h : am_i g 943 26 = 59) : fm_133 g c = bif ch_bl c then some (0, am_si g 943 26 54) else if c = 47 then some (0, am_si g 943 26 56) else if c = 62 then fm_97 g 0 else fm_23 g := by
  unfold fm_133
  rw [h, if_neg (by decide), if_neg (by decide), if_neg (by decide), if_neg (by decide), if_neg (by decide), if_neg (by decide), if_pos (by decide)]
  unfold fj_133_127
  rw [h, if_pos (by decide), if_pos (by decide), if_neg (by decide), lo_id]
  unfold fm_122
  rw [h, if_neg (by decide), if_neg (by decide), if_neg (by decide), if_neg (by decide), if_neg (by decide), if_neg (by decide), if_neg (by decide), if_neg (by decide)]
  simp only [lo_id, cm_16, cm_17, cm_18, lo_ps, lo_is, b2_if, cm_25, cm_26]
theorem ms_60 {g : am_G} {c : Int32} (h : am_i g 943 26 = 60) : fm_133 g c = if c = 35 then some (0, am_si (am_si g 943 41 0) 943 26 61) else fm_27 (am_si g 943 41 0) c 4 0 := by
  unfold fm_133
  rw [h, if_neg (by decide), if_neg (by decide), if_neg (by decide), if_neg (by decide), if_neg (by decide), if_neg (by decide), if_pos (by decide)]
  unfold fj_133_127
  rw [h, if_pos (by decide), if_pos (by decide), if_pos (by decide), if_neg (by decide), lo_id]
  unfold fm_123
  rw [h, if_pos (by decide)]
  simp only [lo_id, cm_16, cm_17, cm_18, lo_ps, lo_is, b2_if, cm_25, cm_26]
theorem ms_61 {g : am_G} {c : Int32} (h : am_i g 943 26 = 61) : fm_133 g c = if c = 120 then some (0, am_si g 943 26 64) else fm_105 g c 10 := by
  unfold fm_133
  rw [h, if_neg (by decide), if_neg (by decide), if_neg (by decide), if_neg (by decide), if_neg (by decide), if_neg (by decide), if_pos (by decide)]
  unfold fj_133_127
  rw [h, if_pos (by decide), if_pos (by decide), if_pos (by decide), if_neg (by decide), lo_id]
  unfold fm_123
  rw [h, if_neg (by decide), if_pos (by decide)]
  simp only [lo_id, cm_16, cm_17, cm_18, lo_ps, lo_is, b2_if, cm_25, cm_26]
theorem ms_62 {g : am_G} {c : Int32} (h : am_i g 943 26 = 62) : fm_133 g c = if c = 59 then fm_101 g (am_i g 943 73) else fm_23 g := by
  unfold fm_133
  rw [h, if_neg (by decide), if_neg (by decide), if_neg (by decide), if_neg (by decide), if_neg (by decide), if_neg (by decide), if_pos (by decide)]
  unfold fj_133_127
  rw [h, if_pos (by decide), if_pos (by decide), if_pos (by decide), if_neg (by decide), lo_id]
  unfold fm_123
  rw [h, if_neg (by decide), if_neg (by decide), if_pos (by decide)]
  simp only [lo_id, cm_16, cm_17, cm_18, lo_ps, lo_is, b2_if, cm_25, cm_26]
theorem ms_63 {g : am_G} {c : Int32} (h : am_i g 943 26 = 63) : fm_133 g c = if c = 59 then fm_104 g else fm_105 g c 10 := by
  unfold fm_133
  rw [h, if_neg (by decide), if_neg (by decide), if_neg (by decide), if_neg (by decide), if_neg (by decide), if_neg (by decide), if_pos (by decide)]
  unfold fj_133_127
  rw [h, if_pos (by decide), if_pos (by decide), if_pos (by decide), if_neg (by decide), lo_id]
  unfold fm_123
  rw [h, if_neg (by decide), if_neg (by decide), if_neg (by decide), if_pos (by decide)]
  simp only [lo_id, cm_16, cm_17, cm_18, lo_ps, lo_is, b2_if, cm_25, cm_26]
theorem ms_64 {g : am_G} {c : Int32} (h : am_i g 943 26 = 64) : fm_133 g c = fm_105 g c 16 := by
  unfold fm_133
  rw [h, if_neg (by decide), if_neg (by decide), if_neg (by decide), if_neg (by decide), if_neg (by decide), if_neg (by decide), if_pos (by decide)]
  unfold fj_133_127
  rw [h, if_pos (by decide), if_pos (by decide), if_pos (by decide), if_neg (by decide), lo_id]
  unfold fm_123
  rw [h, if_neg (by decide), if_neg (by decide), if_neg (by decide), if_neg (by decide), if_pos (by decide)]
  simp only [lo_id, cm_16, cm_17, cm_18, lo_ps, lo_is, b2_if, cm_25, cm_26]
theorem ms_65 {g : am_G} {c : Int32} (h : am_i g 943 26 = 65) : fm_133 g c = if c = 59 then fm_104 g else fm_105 g c 16 := by
  unfold fm_133
  rw [h, if_neg (by decide), if_neg (by decide), if_neg (by decide), if_neg (by decide), if_neg (by decide), if_neg (by decide), if_pos (by decide)]
  unfold fj_133_127
  rw [h, if_pos (by decide), if_pos (by decide), if_pos (by decide), if_neg (by decide), lo_id]
  unfold fm_123
  rw [h, if_neg (by decide), if_neg (by decide), if_neg (by decide), if_neg (by decide), if_neg (by decide)]
  simp only [lo_id, cm_16, cm_17, cm_18, lo_ps, lo_is, b2_if, cm_25, cm_26]
theorem ms_70 {g : am_G} {c : Int32} (h : am_i g 943 26 = 70) : fm_133 g c = if c = (am_i g 943 38) then fm_108 g else if c = 38 then some (0, am_si (am_si (am_si g 943 39 (am_i g 943 30)) 943 40 70) 943 26 60) else if c = 37 then some (0, am_si (am_si g 943 42 (am_i g 943 30)) 943 26 71) else lo_g (ai_in (am_i g 943 102) 15000) (some (0, (am_si (am_si g 989 ((am_i g 943 102)).toNatClampNeg c) 943 102 ((am_i g 943 102) + 1)))) := by
  unfold fm_133
  rw [h, if_neg (by decide), if_neg (by decide), if_neg (by decide), if_neg (by decide), if_neg (by decide), if_neg (by decide), if_pos (by decide)]
  unfold fj_133_127
  rw [h, if_pos (by decide), if_pos (by decide), if_pos (by decide), if_pos (by decide), if_neg (by decide), lo_id]
  unfold fm_124
  rw [h, if_pos (by decide)]
  simp only [lo_id, cm_16, cm_17, cm_18, lo_ps, lo_is, b2_if, cm_25, cm_26]
theorem ms_71 {g : am_G} {c : Int32} (h : am_i g 943 26 = 71) : fm_133 g c = fm_27 g c 7 0 := by
  unfold fm_133
  rw [h, if_neg (by decide), if_neg (by decide), if_neg (by decide), if_neg (by decide), if_neg (by decide), if_neg (by decide), if_pos (by decide)]
  unfold fj_133_127
  rw [h, if_pos (by decide), if_pos (by decide), if_pos (by decide), if_pos (by decide), if_neg (by decide), lo_id]
  unfold fm_124
  rw [h, if_neg (by decide), if_pos (by decide)]
  simp only [lo_id, cm_16, cm_17, cm_18, lo_ps, lo_is, b2_if, cm_25, cm_26]
theorem ms_72 {g : am_G} {c : Int32} (h : am_i g 943 26 = 72) : fm_133 g c = if c = 59 then fm_21 g 9 (am_i g 943 42) else fm_23 g := by
  unfold fm_133
  rw [h, if_neg (by decide), if_neg (by decide), if_neg (by decide), if_neg (by decide), if_neg (by decide), if_neg (by decide), if_pos (by decide)]
  unfold fj_133_127
  rw [h, if_pos (by decide), if_pos (by decide), if_pos (by decide), if_pos (by decide), if_neg (by decide), lo_id]
  unfold fm_124
  rw [h, if_neg (by decide), if_neg (by decide)]
  simp only [lo_id, cm_16, cm_17, cm_18, lo_ps, lo_is, b2_if, cm_25, cm_26]
theorem ms_80 {g : am_G} {c : Int32} (h : am_i g 943 26 = 80) : fm_133 g c = bif ch_bl c then some (0, am_si g 943 26 (81 : Int32)) else fm_23 g := by
  unfold fm_133
  rw [h, if_neg (by decide), if_neg (by decide), if_neg (by decide), if_neg (by decide), if_neg (by decide), if_neg (by decide), if_pos (by decide)]
  unfold fj_133_127
  rw [h, if_pos (by decide), if_pos (by decide), if_pos (by decide), if_pos (by decide), if_pos (by decide), if_pos (by decide)]
  unfold fj_133_220
  rw [lo_id]
  unfold fm_125
  rw [h, if_pos (by decide)]
  simp only [fm_116, lo_id, cm_16, cm_17, cm_18, lo_ps, lo_is, b2_if, cm_25, cm_26]
theorem ms_81 {g : am_G} {c : Int32} (h : am_i g 943 26 = 81) : fm_133 g c = bif ch_bl c then some (0, g) else fm_27 g c 8 0 := by
  unfold fm_133
  rw [h, if_neg (by decide), if_neg (by decide), if_neg (by decide), if_neg (by decide), if_neg (by decide), if_neg (by decide), if_pos (by decide)]
  unfold fj_133_127
  rw [h, if_pos (by decide), if_pos (by decide), if_pos (by decide), if_pos (by decide), if_pos (by decide), if_pos (by decide)]
  unfold fj_133_220
  rw [lo_id]
  unfold fm_125
  rw [h, if_neg (by decide), if_pos (by decide)]
  simp only [lo_id, cm_16, cm_17, cm_18, lo_ps, lo_is, b2_if, cm_25, cm_26]
theorem ms_82 {g : am_G} {c : Int32} (h : am_i g 943 26 = 82) : fm_133 g c = bif ch_bl c then some (0, am_si g 943 26 (83 : Int32)) else fm_23 g := by
  unfold fm_133
  rw [h, if_neg (by decide), if_neg (by decide), if_neg (by decide), if_neg (by decide), if_neg (by decide), if_neg (by decide), if_pos (by decide)]
  unfold fj_133_127
  rw [h, if_pos (by decide), if_pos (by decide), if_pos (by decide), if_pos (by decide), if_pos (by decide), if_pos (by decide)]
  unfold fj_133_220
  rw [lo_id]
  unfold fm_125
  rw [h, if_neg (by decide), if_neg (by decide), if_pos (by decide)]
  simp only [fm_116, lo_id, cm_16, cm_17, cm_18, lo_ps, lo_is, b2_if, cm_25, cm_26]
theorem ms_83 {g : am_G} {c : Int32} (h : am_i g 943 26 = 83) : fm_133 g c = if c = 69 then fm_34 (am_si g 943 75 0) 5685913 5 1 88 else if c = 65 then fm_34 (am_si g 943 75 1) 1497 3 1 88 else if c = 40 then some (0, am_si g 943 26 84) else bif ch_bl c then some (0, g) else fm_23 g := by
  unfold fm_133
  rw [h, if_neg (by decide), if_neg (by decide), if_neg (by decide), if_neg (by decide), if_neg (by decide), if_neg (by decide), if_pos (by decide)]
  unfold fj_133_127
  rw [h, if_pos (by decide), if_pos (by decide), if_pos (by decide), if_pos (by decide), if_pos (by decide), if_pos (by decide)]
  unfold fj_133_220
  rw [lo_id]
  unfold fm_125
  rw [h, if_neg (by decide), if_neg (by decide), if_neg (by decide), if_pos (by decide)]
  simp only [lo_id, cm_16, cm_17, cm_18, lo_ps, lo_is, b2_if, cm_25, cm_26]
theorem ms_84 {g : am_G} {c : Int32} (h : am_i g 943 26 = 84) : fm_133 g c = bif ch_bl c then some (0, g) else if c = 35 then some (0, am_si (am_si g 943 75 2) 943 26 94) else some (0, am_si (am_si (am_si (am_si (am_si g 943 67 1) 972 0 (-1)) 973 0 0) 943 29 1) 943 26 90) := by
  unfold fm_133
  rw [h, if_neg (by decide), if_neg (by decide), if_neg (by decide), if_neg (by decide), if_neg (by decide), if_neg (by decide), if_pos (by decide)]
  unfold fj_133_127
  rw [h, if_pos (by decide), if_pos (by decide), if_pos (by decide), if_pos (by decide), if_pos (by decide), if_pos (by decide)]
  unfold fj_133_220
  rw [lo_id]
  unfold fm_125
  rw [h, if_neg (by decide), if_neg (by decide), if_neg (by decide), if_neg (by decide), if_pos (by decide)]
  simp only [lo_id, cm_16, cm_17, cm_18, lo_ps, lo_is, b2_if, cm_25, cm_26]
theorem ms_85 {g : am_G} {c : Int32} (h : am_i g 943 26 = 85) : fm_133 g c = bif ch_bl c then some (0, g) else if c = 124 then some (0, am_si g 943 26 87) else if c = 41 then if (am_i g 943 57) ≤ (am_i g 943 76) then some (0, am_si g 943 26 (86 : Int32)) else some (0, am_si g 943 26 (89 : Int32)) else fm_23 g := by
  unfold fm_133
  rw [h, if_neg (by decide), if_neg (by decide), if_neg (by decide), if_neg (by decide), if_neg (by decide), if_neg (by decide), if_pos (by decide)]
  unfold fj_133_127
  rw [h, if_pos (by decide), if_pos (by decide), if_pos (by decide), if_pos (by decide), if_pos (by decide), if_pos (by decide)]
  unfold fj_133_220
  rw [lo_id]
  unfold fm_125
  rw [h, if_neg (by decide), if_neg (by decide), if_neg (by decide), if_neg (by decide), if_neg (by decide), if_pos (by decide)]
  simp only [fj_125_275, lo_id, cm_16, cm_17, cm_18, lo_ps, lo_is, b2_if, cm_25, cm_26]
theorem ms_86 {g : am_G} {c : Int32} (h : am_i g 943 26 = 86) : fm_133 g c = if c = 42 then some (0, am_si g 943 26 88) else some (0, am_si (am_si g 943 29 1) 943 26 88) := by
  unfold fm_133
  rw [h, if_neg (by decide), if_neg (by decide), if_neg (by decide), if_neg (by decide), if_neg (by decide), if_neg (by decide), if_pos (by decide)]
  unfold fj_133_127
  rw [h, if_pos (by decide), if_pos (by decide), if_pos (by decide), if_pos (by decide), if_pos (by decide), if_pos (by decide)]
  unfold fj_133_220
  rw [lo_id]
  unfold fm_125
  rw [h, if_neg (by decide), if_neg (by decide), if_neg (by decide), if_neg (by decide), if_neg (by decide), if_neg (by decide), if_pos (by decide)]
  simp only [lo_id, cm_16, cm_17, cm_18, lo_ps, lo_is, b2_if, cm_25, cm_26]
theorem ms_87 {g : am_G} {c : Int32} (h : am_i g 943 26 = 87) : fm_133 g c = bif ch_bl c then some (0, g) else fm_27 g c 9 0 := by
  unfold fm_133
  rw [h, if_neg (by decide), if_neg (by decide), if_neg (by decide), if_neg (by decide), if_neg (by decide), if_neg (by decide), if_pos (by decide)]
  unfold fj_133_127
  rw [h, if_pos (by decide), if_pos (by decide), if_pos (by decide), if_pos (by decide), if_pos (by decide), if_pos (by decide)]
  unfold fj_133_220
  rw [lo_id]
  unfold fm_125
  rw [h, if_neg (by decide), if_neg (by decide), if_neg (by decide), if_neg (by decide), if_neg (by decide), if_neg (by decide), if_neg (by decide), if_pos (by decide)]
  simp only [lo_id, cm_16, cm_17, cm_18, lo_ps, lo_is, b2_if, cm_25, cm_26]
theorem ms_88 {g : am_G} {c : Int32} (h : am_i g 943 26 = 88) : fm_133 g c = bif ch_bl c then some (0, g) else if c = 62 then fm_70 g else fm_23 g := by
  unfold fm_133
  rw [h, if_neg (by decide), if_neg (by decide), if_neg (by decide), if_neg (by decide), if_neg (by decide), if_neg (by decide), if_pos (by decide)]
  unfold fj_133_127
  rw [h, if_pos (by decide), if_pos (by decide), if_pos (by decide), if_pos (by decide), if_pos (by decide), if_pos (by decide)]
  unfold fj_133_220
  rw [lo_id]
  unfold fm_125
  rw [h, if_neg (by decide), if_neg (by decide), if_neg (by decide), if_neg (by decide), if_neg (by decide), if_neg (by decide), if_neg (by decide), if_neg (by decide), if_pos (by decide)]
  simp only [lo_id, cm_16, cm_17, cm_18, lo_ps, lo_is, b2_if, cm_25, cm_26]
theorem ms_89 {g : am_G} {c : Int32} (h : am_i g 943 26 = 89) : fm_133 g c = if c = 42 then some (0, am_si g 943 26 88) else fm_23 g := by
  unfold fm_133
  rw [h, if_neg (by decide), if_neg (by decide), if_neg (by decide), if_neg (by decide), if_neg (by decide), if_neg (by decide), if_pos (by decide)]
  unfold fj_133_127
  rw [h, if_pos (by decide), if_pos (by decide), if_pos (by decide), if_pos (by decide), if_pos (by decide), if_pos (by decide)]
  unfold fj_133_220
  rw [lo_id]
  unfold fm_125
  rw [h, if_neg (by decide), if_neg (by decide), if_neg (by decide), if_neg (by decide), if_neg (by decide), if_neg (by decide), if_neg (by decide), if_neg (by decide), if_neg (by decide), if_pos (by decide)]
  simp only [lo_id, cm_16, cm_17, cm_18, lo_ps, lo_is, b2_if, cm_25, cm_26]
theorem ms_90 {g : am_G} {c : Int32} (h : am_i g 943 26 = 90) : fm_133 g c = bif ch_bl c then some (0, g) else if c = 40 then fm_62 g else fm_27 g c 10 0 := by
  unfold fm_133
  rw [h, if_neg (by decide), if_neg (by decide), if_neg (by decide), if_neg (by decide), if_neg (by decide), if_neg (by decide), if_pos (by decide)]
  unfold fj_133_127
  rw [h, if_pos (by decide), if_pos (by decide), if_pos (by decide), if_pos (by decide), if_pos (by decide), if_neg (by decide), if_neg (by decide), if_neg (by decide), lo_id]
  unfold fm_126
  rw [h, if_pos (by decide)]
  simp only [lo_id, cm_16, cm_17, cm_18, lo_ps, lo_is, b2_if, cm_25, cm_26]
theorem ms_91 {g : am_G} {c : Int32} (h : am_i g 943 26 = 91) : fm_133 g c = lo_p (fm_65 g c) fun y7 => if y7 = 0 then lo_p (fm_61 g) fun g16 => some (0, am_si (am_si g16 943 29 1) 943 26 92) else lo_p (fm_64 g c) fun g10 => lo_p (fm_61 g10) fun g12 => some (0, am_si g12 943 26 92) := by
  unfold fm_133
  rw [h, if_neg (by decide), if_neg (by decide), if_neg (by decide), if_neg (by decide), if_neg (by decide), if_neg (by decide), if_pos (by decide)]
  unfold fj_133_127
  rw [h, if_pos (by decide), if_pos (by decide), if_pos (by decide), if_pos (by decide), if_pos (by decide), if_neg (by decide), if_neg (by decide), if_neg (by decide), lo_id]
  unfold fm_126
  rw [h, if_neg (by decide), if_pos (by decide)]
  simp only [lo_id, cm_16, cm_17, cm_18, lo_ps, lo_is, b2_if, cm_25, cm_26]
theorem ms_92 {g : am_G} {c : Int32} (h : am_i g 943 26 = 92) : fm_133 g c = bif ch_bl c then some (0, g) else if c = 41 then lo_p (fm_63 g) fun g22 => if (am_i g22 943 67) ≤ 0 then some (0, am_si g22 943 26 (93 : Int32)) else some (0, am_si g22 943 26 (91 : Int32)) else if c = 124 then if (1 : Int32) = 0 then fm_23 g else lo_g (ai_in ((am_i g 943 67) - 1) 12) (if (am_i g 973 (((am_i g 943 67) - 1)).toNatClampNeg) ≤ 0 then lo_g (ai_in ((am_i g 943 67) - 1) 12) (some (0, am_si (am_si g 973 (((am_i g 943 67) - 1)).toNatClampNeg (1 : Int32)) 943 26 90)) else if (am_i g 973 (((am_i g 943 67) - 1)).toNatClampNeg) = (1 : Int32) then lo_g (ai_in ((am_i g 943 67) - 1) 12) (some (0, am_si (am_si g 973 (((am_i g 943 67) - 1)).toNatClampNeg (1 : Int32)) 943 26 90)) else fm_23 g) else if c = 44 then if (2 : Int32) = 0 then fm_23 g else lo_g (ai_in ((am_i g 943 67) - 1) 12) (if (am_i g 973 (((am_i g 943 67) - 1)).toNatClampNeg) ≤ 0 then lo_g (ai_in ((am_i g 943 67) - 1) 12) (some (0, am_si (am_si g 973 (((am_i g 943 67) - 1)).toNatClampNeg (2 : Int32)) 943 26 90)) else if (am_i g 973 (((am_i g 943 67) - 1)).toNatClampNeg) = (2 : Int32) then lo_g (ai_in ((am_i g 943 67) - 1) 12) (some (0, am_si (am_si g 973 (((am_i g 943 67) - 1)).toNatClampNeg (2 : Int32)) 943 26 90)) else fm_23 g) else if (0 : Int32) = 0 then fm_23 g else lo_g (ai_in ((am_i g 943 67) - 1) 12) (if (am_i g 973 (((am_i g 943 67) - 1)).toNatClampNeg) ≤ 0 then lo_g (ai_in ((am_i g 943 67) - 1) 12) (some (0, am_si (am_si g 973 (((am_i g 943 67) - 1)).toNatClampNeg (0 : Int32)) 943 26 90)) else if (am_i g 973 (((am_i g 943 67) - 1)).toNatClampNeg) = (0 : Int32) then lo_g (ai_in ((am_i g 943 67) - 1) 12) (some (0, am_si (am_si g 973 (((am_i g 943 67) - 1)).toNatClampNeg (0 : Int32)) 943 26 90)) else fm_23 g) := by
  unfold fm_133
  rw [h, if_neg (by decide), if_neg (by decide), if_neg (by decide), if_neg (by decide), if_neg (by decide), if_neg (by decide), if_pos (by decide)]
  unfold fj_133_127
  rw [h, if_pos (by decide), if_pos (by decide), if_pos (by decide), if_pos (by decide), if_pos (by decide), if_neg (by decide), if_neg (by decide), if_neg (by decide), lo_id]
  unfold fm_126
  rw [h, if_neg (by decide), if_neg (by decide), if_pos (by decide)]
  simp only [fj_126_133, fj_126_158, fj_126_192, fj_126_197, lo_id, cm_16, cm_17, cm_18, lo_ps, lo_is, b2_if, cm_25, cm_26]
theorem ms_93 {g : am_G} {c : Int32} (h : am_i g 943 26 = 93) : fm_133 g c = lo_p (fm_65 g c) fun y23 => if y23 = 0 then some (0, am_si (am_si g 943 29 1) 943 26 88) else lo_p (fm_64 g c) fun g26 => some (0, am_si g26 943 26 88) := by
  unfold fm_133
  rw [h, if_neg (by decide), if_neg (by decide), if_neg (by decide), if_neg (by decide), if_neg (by decide), if_neg (by decide), if_pos (by decide)]
  unfold fj_133_127
  rw [h, if_pos (by decide), if_pos (by decide), if_pos (by decide), if_pos (by decide), if_pos (by decide), if_neg (by decide), if_neg (by decide), if_neg (by decide), lo_id]
  unfold fm_126
  rw [h, if_neg (by decide), if_neg (by decide), if_neg (by decide)]
  simp only [lo_id, cm_16, cm_17, cm_18, lo_ps, lo_is, b2_if, cm_25, cm_26]
theorem ms_94 {g : am_G} {c : Int32} (h : am_i g 943 26 = 94) : fm_133 g c = if c = 80 then fm_34 g 540149377 6 1 85 else fm_23 g := by
  unfold fm_133
  rw [h, if_neg (by decide), if_neg (by decide), if_neg (by decide), if_neg (by decide), if_neg (by decide), if_neg (by decide), if_pos (by decide)]
  unfold fj_133_127
  rw [h, if_pos (by decide), if_pos (by decide), if_pos (by decide), if_pos (by decide), if_pos (by decide), if_neg (by decide), if_pos (by decide)]
  unfold fj_133_220
  rw [lo_id]
  unfold fm_125
  rw [h, if_neg (by decide), if_neg (by decide), if_neg (by decide), if_neg (by decide), if_neg (by decide), if_neg (by decide), if_neg (by decide), if_neg (by decide), if_neg (by decide), if_neg (by decide)]
  simp only [lo_id, cm_16, cm_17, cm_18, lo_ps, lo_is, b2_if, cm_25, cm_26]
theorem ms_100 {g : am_G} {c : Int32} (h : am_i g 943 26 = 100) : fm_133 g c = bif ch_bl c then some (0, am_si g 943 26 (101 : Int32)) else fm_23 g := by
  unfold fm_133
  rw [h, if_neg (by decide), if_neg (by decide), if_neg (by decide), if_neg (by decide), if_neg (by decide), if_neg (by decide), if_pos (by decide)]
  unfold fj_133_127
  rw [h, if_pos (by decide), if_pos (by decide), if_pos (by decide), if_pos (by decide), if_pos (by decide), if_neg (by decide), if_neg (by decide), if_pos (by decide), if_pos (by decide)]
  unfold fj_133_268
  rw [lo_id]
  unfold fm_128
  rw [h, if_pos (by decide)]
  simp only [fm_116, lo_id, cm_16, cm_17, cm_18, lo_ps, lo_is, b2_if, cm_25, cm_26]
theorem ms_101 {g : am_G} {c : Int32} (h : am_i g 943 26 = 101) : fm_133 g c = bif ch_bl c then some (0, g) else fm_27 g c 11 0 := by
  unfold fm_133
  rw [h, if_neg (by decide), if_neg (by decide), if_neg (by decide), if_neg (by decide), if_neg (by decide), if_neg (by decide), if_pos (by decide)]
  unfold fj_133_127
  rw [h, if_pos (by decide), if_pos (by decide), if_pos (by decide), if_pos (by decide), if_pos (by decide), if_neg (by decide), if_neg (by decide), if_pos (by decide), if_pos (by decide)]
  unfold fj_133_268
  rw [lo_id]
  unfold fm_128
  rw [h, if_neg (by decide), if_pos (by decide)]
  simp only [lo_id, cm_16, cm_17, cm_18, lo_ps, lo_is, b2_if, cm_25, cm_26]
theorem ms_102 {g : am_G} {c : Int32} (h : am_i g 943 26 = 102) : fm_133 g c = bif ch_bl c then some (0, am_si g 943 26 103) else if c = 62 then some (0, am_si g 943 26 45) else fm_23 g := by
  unfold fm_133
  rw [h, if_neg (by decide), if_neg (by decide), if_neg (by decide), if_neg (by decide), if_neg (by decide), if_neg (by decide), if_pos (by decide)]
  unfold fj_133_127
  rw [h, if_pos (by decide), if_pos (by decide), if_pos (by decide), if_pos (by decide), if_pos (by decide), if_neg (by decide), if_neg (by decide), if_pos (by decide), if_pos (by decide)]
  unfold fj_133_268
  rw [lo_id]
  unfold fm_128
  rw [h, if_neg (by decide), if_neg (by decide), if_pos (by decide)]
  simp only [lo_id, cm_16, cm_17, cm_18, lo_ps, lo_is, b2_if, cm_25, cm_26]
theorem ms_103 {g : am_G} {c : Int32} (h : am_i g 943 26 = 103) : fm_133 g c = bif ch_bl c then some (0, g) else if c = 62 then some (0, am_si g 943 26 45) else fm_27 g c 12 0 := by
  unfold fm_133
  rw [h, if_neg (by decide), if_neg (by decide), if_neg (by decide), if_neg (by decide), if_neg (by decide), if_neg (by decide), if_pos (by decide)]
  unfold fj_133_127
  rw [h, if_pos (by decide), if_pos (by decide), if_pos (by decide), if_pos (by decide), if_pos (by decide), if_neg (by decide), if_neg (by decide), if_pos (by decide), if_pos (by decide)]
  unfold fj_133_268
  rw [lo_id]
  unfold fm_128
  rw [h, if_neg (by decide), if_neg (by decide), if_neg (by decide), if_pos (by decide)]
  simp only [lo_id, cm_16, cm_17, cm_18, lo_ps, lo_is, b2_if, cm_25, cm_26]
theorem ms_104 {g : am_G} {c : Int32} (h : am_i g 943 26 = 104) : fm_133 g c = bif ch_bl c then some (0, am_si g 943 26 (105 : Int32)) else fm_23 g := by
  unfold fm_133
  rw [h, if_neg (by decide), if_neg (by decide), if_neg (by decide), if_neg (by decide), if_neg (by decide), if_neg (by decide), if_pos (by decide)]
  unfold fj_133_127
  rw [h, if_pos (by decide), if_pos (by decide), if_pos (by decide), if_pos (by decide), if_pos (by decide), if_neg (by decide), if_neg (by decide), if_pos (by decide), if_pos (by decide)]
  unfold fj_133_268
  rw [lo_id]
  unfold fm_128
  rw [h, if_neg (by decide), if_neg (by decide), if_neg (by decide), if_neg (by decide), if_pos (by decide)]
  simp only [fm_116, lo_id, cm_16, cm_17, cm_18, lo_ps, lo_is, b2_if, cm_25, cm_26]
theorem ms_105 {g : am_G} {c : Int32} (h : am_i g 943 26 = 105) : fm_133 g c = if c = 67 then fm_34 (am_si g 943 89 0) 3278465 5 1 108 else if c = 73 then fm_34 (am_si g 943 89 0) 292 2 1 106 else if c = 69 then fm_34 (am_si g 943 89 0) 5722420 5 1 109 else if c = 78 then some (0, am_si (am_si g 943 89 0) 943 26 111) else bif ch_bl c then some (0, (am_si (am_si g 943 89 0) 943 89 9)) else if c = 40 then some (0, am_si (am_si (am_si g 943 89 0) 943 89 9) 943 26 115) else fm_23 (am_si (am_si g 943 89 0) 943 89 9) := by
  unfold fm_133
  rw [h, if_neg (by decide), if_neg (by decide), if_neg (by decide), if_neg (by decide), if_neg (by decide), if_neg (by decide), if_pos (by decide)]
  unfold fj_133_127
  rw [h, if_pos (by decide), if_pos (by decide), if_pos (by decide), if_pos (by decide), if_pos (by decide), if_neg (by decide), if_neg (by decide), if_pos (by decide), if_pos (by decide)]
  unfold fj_133_268
  rw [lo_id]
  unfold fm_128
  rw [h, if_neg (by decide), if_neg (by decide), if_neg (by decide), if_neg (by decide), if_neg (by decide), if_pos (by decide)]
  simp only [lo_id, cm_16, cm_17, cm_18, lo_ps, lo_is, b2_if, cm_25, cm_26]
theorem ms_106 {g : am_G} {c : Int32} (h : am_i g 943 26 = 106) : fm_133 g c = if c = 82 then fm_34 g 18598 3 1 107 else some (0, am_si (am_si (am_si g 943 89 (1 : Int32)) 943 29 1) 943 26 (108 : Int32)) := by
  unfold fm_133
  rw [h, if_neg (by decide), if_neg (by decide), if_neg (by decide), if_neg (by decide), if_neg (by decide), if_neg (by decide), if_pos (by decide)]
  unfold fj_133_127
  rw [h, if_pos (by decide), if_pos (by decide), if_pos (by decide), if_pos (by decide), if_pos (by decide), if_neg (by decide), if_neg (by decide), if_pos (by decide), if_pos (by decide)]
  unfold fj_133_268
  rw [lo_id]
  unfold fm_128
  rw [h, if_neg (by decide), if_neg (by decide), if_neg (by decide), if_neg (by decide), if_neg (by decide), if_neg (by decide), if_pos (by decide)]
  simp only [fm_127, lo_id, cm_16, cm_17, cm_18, lo_ps, lo_is, b2_if, cm_25, cm_26]
theorem ms_107 {g : am_G} {c : Int32} (h : am_i g 943 26 = 107) : fm_133 g c = if c = 83 then some (0, am_si (am_si g 943 89 3) 943 26 108) else some (0, am_si (am_si (am_si (am_si g 943 89 3) 943 89 (2 : Int32)) 943 29 1) 943 26 (108 : Int32)) := by
  unfold fm_133
  rw [h, if_neg (by decide), if_neg (by decide), if_neg (by decide), if_neg (by decide), if_neg (by decide), if_neg (by decide), if_pos (by decide)]
  unfold fj_133_127
  rw [h, if_pos (by decide), if_pos (by decide), if_pos (by decide), if_pos (by decide), if_pos (by decide), if_neg (by decide), if_neg (by decide), if_pos (by decide), if_pos (by decide)]
  unfold fj_133_268
  rw [lo_id]
  unfold fm_128
  rw [h, if_neg (by decide), if_neg (by decide), if_neg (by decide), if_neg (by decide), if_neg (by decide), if_neg (by decide), if_neg (by decide), if_pos (by decide)]
  simp only [fm_127, lo_id, cm_16, cm_17, cm_18, lo_ps, lo_is, b2_if, cm_25, cm_26]
theorem ms_108 {g : am_G} {c : Int32} (h : am_i g 943 26 = 108) : fm_133 g c = bif ch_bl c then some (0, am_si g 943 26 (110 : Int32)) else fm_23 g := by
  unfold fm_133
  rw [h, if_neg (by decide), if_neg (by decide), if_neg (by decide), if_neg (by decide), if_neg (by decide), if_neg (by decide), if_pos (by decide)]
  unfold fj_133_127
  rw [h, if_pos (by decide), if_pos (by decide), if_pos (by decide), if_pos (by decide), if_pos (by decide), if_neg (by decide), if_neg (by decide), if_pos (by decide), if_pos (by decide)]
  unfold fj_133_268
  rw [lo_id]
  unfold fm_128
  rw [h, if_neg (by decide), if_neg (by decide), if_neg (by decide), if_neg (by decide), if_neg (by decide), if_neg (by decide), if_neg (by decide), if_neg (by decide), if_pos (by decide)]
  simp only [fm_116, lo_id, cm_16, cm_17, cm_18, lo_ps, lo_is, b2_if, cm_25, cm_26]
theorem ms_109 {g : am_G} {c : Int32} (h : am_i g 943 26 = 109) : fm_133 g c = if c = 89 then if c = 89 then some (0, am_si (am_si g 943 89 (4 : Int32)) 943 26 108) else if c = 73 then fm_34 (am_si g 943 89 (4 : Int32)) 9395 3 1 108 else fm_23 (am_si g 943 89 (4 : Int32)) else if c = 89 then some (0, am_si (am_si g 943 89 (5 : Int32)) 943 26 108) else if c = 73 then fm_34 (am_si g 943 89 (5 : Int32)) 9395 3 1 108 else fm_23 (am_si g 943 89 (5 : Int32)) := by
  unfold fm_133
  rw [h, if_neg (by decide), if_neg (by decide), if_neg (by decide), if_neg (by decide), if_neg (by decide), if_neg (by decide), if_pos (by decide)]
  unfold fj_133_127
  rw [h, if_pos (by decide), if_pos (by decide), if_pos (by decide), if_pos (by decide), if_pos (by decide), if_neg (by decide), if_neg (by decide), if_pos (by decide), if_pos (by decide)]
  unfold fj_133_268
  rw [lo_id]
  unfold fm_128
  rw [h, if_neg (by decide), if_neg (by decide), if_neg (by decide), if_neg (by decide), if_neg (by decide), if_neg (by decide), if_neg (by decide), if_neg (by decide), if_neg (by decide), if_pos (by decide)]
  simp only [fj_128_368, lo_id, cm_16, cm_17, cm_18, lo_ps, lo_is, b2_if, cm_25, cm_26]
theorem ms_110 {g : am_G} {c : Int32} (h : am_i g 943 26 = 110) : fm_133 g c = bif ch_bl c then some (0, g) else if c = 35 then some (0, am_si (am_si g 943 90 3) 943 26 117) else if c = 34 then fm_84 (am_si g 943 90 3) c 1 else if c = 39 then fm_84 (am_si g 943 90 3) c 1 else fm_23 (am_si g 943 90 3) := by
  unfold fm_133
  rw [h, if_neg (by decide), if_neg (by decide), if_neg (by decide), if_neg (by decide), if_neg (by decide), if_neg (by decide), if_pos (by decide)]
  unfold fj_133_127
  rw [h, if_pos (by decide), if_pos (by decide), if_pos (by decide), if_pos (by decide), if_pos (by decide), if_neg (by decide), if_neg (by decide), if_pos (by decide), if_neg (by decide), if_pos (by decide)]
  unfold fj_133_274
  rw [h, if_pos (by decide)]
  unfold fj_133_303
  rw [lo_id]
  unfold fm_129
  rw [h, if_pos (by decide)]
  simp only [fj_129_137, lo_id, cm_16, cm_17, cm_18, lo_ps, lo_is, b2_if, cm_25, cm_26]
theorem ms_111 {g : am_G} {c : Int32} (h : am_i g 943 26 = 111) : fm_133 g c = if c = 77 then fm_34 g 457682094 6 1 112 else if c = 79 then fm_34 g 16778929646 7 1 113 else fm_23 g := by
  unfold fm_133
  rw [h, if_neg (by decide), if_neg (by decide), if_neg (by decide), if_neg (by decide), if_neg (by decide), if_neg (by decide), if_pos (by decide)]
  unfold fj_133_127
  rw [h, if_pos (by decide), if_pos (by decide), if_pos (by decide), if_pos (by decide), if_pos (by decide), if_neg (by decide), if_neg (by decide), if_pos (by decide), if_neg (by decide), if_neg (by decide), if_neg (by decide)]
  unfold fj_133_268
  rw [lo_id]
  unfold fm_128
  rw [h, if_neg (by decide), if_neg (by decide), if_neg (by decide), if_neg (by decide), if_neg (by decide), if_neg (by decide), if_neg (by decide), if_neg (by decide), if_neg (by decide), if_neg (by decide), if_neg (by decide), if_pos (by decide)]
  simp only [lo_id, cm_16, cm_17, cm_18, lo_ps, lo_is, b2_if, cm_25, cm_26]
theorem ms_112 {g : am_G} {c : Int32} (h : am_i g 943 26 = 112) : fm_133 g c = if c = 83 then some (0, am_si (am_si g 943 89 7) 943 26 108) else some (0, am_si (am_si (am_si (am_si g 943 89 7) 943 89 (6 : Int32)) 943 29 1) 943 26 (108 : Int32)) := by
  unfold fm_133
  rw [h, if_neg (by decide), if_neg (by decide), if_neg (by decide), if_neg (by decide), if_neg (by decide), if_neg (by decide), if_pos (by decide)]
  unfold fj_133_127
  rw [h, if_pos (by decide), if_pos (by decide), if_pos (by decide), if_pos (by decide), if_pos (by decide), if_neg (by decide), if_neg (by decide), if_pos (by decide), if_neg (by decide), if_neg (by decide), if_neg (by decide)]
  unfold fj_133_268
  rw [lo_id]
  unfold fm_128
  rw [h, if_neg (by decide), if_neg (by decide), if_neg (by decide), if_neg (by decide), if_neg (by decide), if_neg (by decide), if_neg (by decide), if_neg (by decide), if_neg (by decide), if_neg (by decide), if_neg (by decide), if_neg (by decide), if_pos (by decide)]
  simp only [fm_127, lo_id, cm_16, cm_17, cm_18, lo_ps, lo_is, b2_if, cm_25, cm_26]
theorem ms_113 {g : am_G} {c : Int32} (h : am_i g 943 26 = 113) : fm_133 g c = bif ch_bl c then some (0, am_si (am_si g 943 89 8) 943 26 (114 : Int32)) else fm_23 (am_si g 943 89 8) := by
  unfold fm_133
  rw [h, if_neg (by decide), if_neg (by decide), if_neg (by decide), if_neg (by decide), if_neg (by decide), if_neg (by decide), if_pos (by decide)]
  unfold fj_133_127
  rw [h, if_pos (by decide), if_pos (by decide), if_pos (by decide), if_pos (by decide), if_pos (by decide), if_neg (by decide), if_neg (by decide), if_pos (by decide), if_neg (by decide), if_neg (by decide), if_neg (by decide)]
  unfold fj_133_268
  rw [lo_id]
  unfold fm_128
  rw [h, if_neg (by decide), if_neg (by decide), if_neg (by decide), if_neg (by decide), if_neg (by decide), if_neg (by decide), if_neg (by decide), if_neg (by decide), if_neg (by decide), if_neg (by decide), if_neg (by decide), if_neg (by decide), if_neg (by decide), if_pos (by decide)]
  simp only [fm_116, lo_id, cm_16, cm_17, cm_18, lo_ps, lo_is, b2_if, cm_25, cm_26]
theorem ms_114 {g : am_G} {c : Int32} (h : am_i g 943 26 = 114) : fm_133 g c = bif ch_bl c then some (0, g) else if c = 40 then some (0, am_si g 943 26 115) else fm_23 g := by
  unfold fm_133
  rw [h, if_neg (by decide), if_neg (by decide), if_neg (by decide), if_neg (by decide), if_neg (by decide), if_neg (by decide), if_pos (by decide)]
  unfold fj_133_127
  rw [h, if_pos (by decide), if_pos (by decide), if_pos (by decide), if_pos (by decide), if_pos (by decide), if_neg (by decide), if_neg (by decide), if_pos (by decide), if_neg (by decide), if_neg (by decide), if_neg (by decide)]
  unfold fj_133_268
  rw [lo_id]
  unfold fm_128
  rw [h, if_neg (by decide), if_neg (by decide), if_neg (by decide), if_neg (by decide), if_neg (by decide), if_neg (by decide), if_neg (by decide), if_neg (by decide), if_neg (by decide), if_neg (by decide), if_neg (by decide), if_neg (by decide), if_neg (by decide), if_neg (by decide)]
  simp only [lo_id, cm_16, cm_17, cm_18, lo_ps, lo_is, b2_if, cm_25, cm_26]
theorem ms_115 {g : am_G} {c : Int32} (h : am_i g 943 26 = 115) : fm_133 g c = bif ch_bl c then some (0, g) else if (am_i g 943 89) = 9 then fm_27 g c (13 : Int32) (1 : Int32) else fm_27 g c (13 : Int32) (0 : Int32) := by
  unfold fm_133
  rw [h, if_neg (by decide), if_neg (by decide), if_neg (by decide), if_neg (by decide), if_neg (by decide), if_neg (by decide), if_pos (by decide)]
  unfold fj_133_127
  rw [h, if_pos (by decide), if_pos (by decide), if_pos (by decide), if_pos (by decide), if_pos (by decide), if_neg (by decide), if_neg (by decide), if_pos (by decide), if_neg (by decide), if_neg (by decide), if_pos (by decide)]
  unfold fj_133_274
  rw [h, if_pos (by decide)]
  unfold fj_133_303
  rw [lo_id]
  unfold fm_129
  rw [h, if_neg (by decide), if_neg (by decide), if_neg (by decide), if_neg (by decide), if_neg (by decide), if_pos (by decide)]
  simp only [fj_129_180, lo_id, cm_16, cm_17, cm_18, lo_ps, lo_is, b2_if, cm_25, cm_26]
theorem ms_116 {g : am_G} {c : Int32} (h : am_i g 943 26 = 116) : fm_133 g c = bif ch_bl c then some (0, g) else if c = 124 then some (0, am_si g 943 26 115) else if c = 41 then some (0, am_si g 943 26 108) else fm_23 g := by
  unfold fm_133
  rw [h, if_neg (by decide), if_neg (by decide), if_neg (by decide), if_neg (by decide), if_neg (by decide), if_neg (by decide), if_pos (by decide)]
  unfold fj_133_127
  rw [h, if_pos (by decide), if_pos (by decide), if_pos (by decide), if_pos (by decide), if_pos (by decide), if_neg (by decide), if_neg (by decide), if_pos (by decide), if_neg (by decide), if_neg (by decide), if_pos (by decide)]
  unfold fj_133_274
  rw [h, if_pos (by decide)]
  unfold fj_133_303
  rw [lo_id]
  unfold fm_129
  rw [h, if_neg (by decide), if_neg (by decide), if_neg (by decide), if_neg (by decide), if_neg (by decide), if_neg (by decide), if_pos (by decide)]
  simp only [lo_id, cm_16, cm_17, cm_18, lo_ps, lo_is, b2_if, cm_25, cm_26]
theorem ms_117 {g : am_G} {c : Int32} (h : am_i g 943 26 = 117) : fm_133 g c = if c = 70 then fm_34 (am_si g 943 90 2) 6611108 5 1 118 else if c = 82 then if c = 82 then fm_34 (am_si g 943 90 (0 : Int32)) 624436758692 8 1 140 else if c = 73 then fm_34 (am_si g 943 90 (0 : Int32)) 10117063844 7 1 140 else fm_23 (am_si g 943 90 (0 : Int32)) else if c = 82 then fm_34 (am_si g 943 90 (1 : Int32)) 624436758692 8 1 140 else if c = 73 then fm_34 (am_si g 943 90 (1 : Int32)) 10117063844 7 1 140 else fm_23 (am_si g 943 90 (1 : Int32)) := by
  unfold fm_133
  rw [h, if_neg (by decide), if_neg (by decide), if_neg (by decide), if_neg (by decide), if_neg (by decide), if_neg (by decide), if_pos (by decide)]
  unfold fj_133_127
  rw [h, if_pos (by decide), if_pos (by decide), if_pos (by decide), if_pos (by decide), if_pos (by decide), if_neg (by decide), if_neg (by decide), if_pos (by decide), if_neg (by decide), if_neg (by decide), if_pos (by decide)]
  unfold fj_133_274
  rw [h, if_pos (by decide)]
  unfold fj_133_303
  rw [lo_id]
  unfold fm_129
  rw [h, if_neg (by decide), if_neg (by decide), if_neg (by decide), if_neg (by decide), if_neg (by decide), if_neg (by decide), if_neg (by decide), if_pos (by decide)]
  simp only [fj_129_265, lo_id, cm_16, cm_17, cm_18, lo_ps, lo_is, b2_if, cm_25, cm_26]
theorem ms_118 {g : am_G} {c : Int32} (h : am_i g 943 26 = 118) : fm_133 g c = bif ch_bl c then some (0, am_si g 943 26 (128 : Int32)) else fm_23 g := by
  unfold fm_133
  rw [h, if_neg (by decide), if_neg (by decide), if_neg (by decide), if_neg (by decide), if_neg (by decide), if_neg (by decide), if_pos (by decide)]
  unfold fj_133_127
  rw [h, if_pos (by decide), if_pos (by decide), if_pos (by decide), if_pos (by decide), if_pos (by decide), if_neg (by decide), if_neg (by decide), if_pos (by decide), if_neg (by decide), if_neg (by decide), if_pos (by decide)]
  unfold fj_133_274
  rw [h, if_pos (by decide)]
  unfold fj_133_303
  rw [lo_id]
  unfold fm_129
  rw [h, if_neg (by decide), if_neg (by decide), if_neg (by decide), if_neg (by decide), if_neg (by decide), if_neg (by decide), if_neg (by decide), if_neg (by decide), if_pos (by decide)]
  simp only [fm_116, lo_id, cm_16, cm_17, cm_18, lo_ps, lo_is, b2_if, cm_25, cm_26]
theorem ms_119 {g : am_G} {c : Int32} (h : am_i g 943 26 = 119) : fm_133 g c = bif ch_bl c then some (0, am_si g 943 26 103) else if c = 62 then some (0, am_si g 943 26 45) else fm_23 g := by
  unfold fm_133
  rw [h, if_neg (by decide), if_neg (by decide), if_neg (by decide), if_neg (by decide), if_neg (by decide), if_neg (by decide), if_pos (by decide)]
  unfold fj_133_127
  rw [h, if_pos (by decide), if_pos (by decide), if_pos (by decide), if_pos (by decide), if_pos (by decide), if_neg (by decide), if_neg (by decide), if_pos (by decide), if_neg (by decide), if_neg (by decide), if_pos (by decide)]
  unfold fj_133_274
  rw [h, if_pos (by decide)]
  unfold fj_133_303
  rw [lo_id]
  unfold fm_129
  rw [h, if_neg (by decide), if_neg (by decide), if_neg (by decide), if_neg (by decide), if_neg (by decide), if_neg (by decide), if_neg (by decide), if_neg (by decide), if_neg (by decide), if_pos (by decide)]
  simp only [lo_id, cm_16, cm_17, cm_18, lo_ps, lo_is, b2_if, cm_25, cm_26]
theorem ms_120 {g : am_G} {c : Int32} (h : am_i g 943 26 = 120) : fm_133 g c = bif ch_bl c then some (0, am_si g 943 26 (121 : Int32)) else fm_23 g := by
  unfold fm_133
  rw [h, if_neg (by decide), if_neg (by decide), if_neg (by decide), if_neg (by decide), if_neg (by decide), if_neg (by decide), if_pos (by decide)]
  unfold fj_133_127
  rw [h, if_pos (by decide), if_pos (by decide), if_pos (by decide), if_pos (by decide), if_pos (by decide), if_neg (by decide), if_neg (by decide), if_pos (by decide), if_neg (by decide), if_neg (by decide), if_pos (by decide)]
  unfold fj_133_274
  rw [h, if_neg (by decide), if_neg (by decide), if_neg (by decide), if_neg (by decide), lo_id]
  unfold fm_130
  rw [h, if_pos (by decide)]
  simp only [fm_116, lo_id, cm_16, cm_17, cm_18, lo_ps, lo_is, b2_if, cm_25, cm_26]
theorem ms_121 {g : am_G} {c : Int32} (h : am_i g 943 26 = 121) : fm_133 g c = if c = 37 then lo_g ((decide ((1 : Int32) = 0) || decide ((1 : Int32) = 1))) (bif ch_bl c then some (0, (am_si g 943 103 (1 : Int32))) else if c = 37 then some (0, am_si (am_si g 943 103 (1 : Int32)) 943 26 122) else fm_27 (am_si g 943 103 (1 : Int32)) c 14 0) else lo_g ((decide ((0 : Int32) = 0) || decide ((0 : Int32) = 1))) (bif ch_bl c then some (0, (am_si g 943 103 (0 : Int32))) else if c = 37 then some (0, am_si (am_si g 943 103 (0 : Int32)) 943 26 122) else fm_27 (am_si g 943 103 (0 : Int32)) c 14 0) := by
  unfold fm_133
  rw [h, if_neg (by decide), if_neg (by decide), if_neg (by decide), if_neg (by decide), if_neg (by decide), if_neg (by decide), if_pos (by decide)]
  unfold fj_133_127
  rw [h, if_pos (by decide), if_pos (by decide), if_pos (by decide), if_pos (by decide), if_pos (by decide), if_neg (by decide), if_neg (by decide), if_pos (by decide), if_neg (by decide), if_neg (by decide), if_pos (by decide)]
  unfold fj_133_274
  rw [h, if_neg (by decide), if_neg (by decide), if_neg (by decide), if_neg (by decide), lo_id]
  unfold fm_130
  rw [h, if_neg (by decide), if_pos (by decide)]
  simp only [fj_130_64, lo_id, cm_16, cm_17, cm_18, lo_ps, lo_is, b2_if, cm_25, cm_26]
theorem ms_122 {g : am_G} {c : Int32} (h : am_i g 943 26 = 122) : fm_133 g c = bif ch_bl c then some (0, am_si g 943 26 (123 : Int32)) else fm_23 g := by
  unfold fm_133
  rw [h, if_neg (by decide), if_neg (by decide), if_neg (by decide), if_neg (by decide), if_neg (by decide), if_neg (by decide), if_pos (by decide)]
  unfold fj_133_127
  rw [h, if_pos (by decide), if_pos (by decide), if_pos (by decide), if_pos (by decide), if_pos (by decide), if_neg (by decide), if_neg (by decide), if_pos (by decide), if_neg (by decide), if_neg (by decide), if_pos (by decide)]
  unfold fj_133_274
  rw [h, if_neg (by decide), if_neg (by decide), if_neg (by decide), if_neg (by decide), lo_id]
  unfold fm_130
  rw [h, if_neg (by decide), if_neg (by decide), if_pos (by decide)]
  simp only [fm_116, lo_id, cm_16, cm_17, cm_18, lo_ps, lo_is, b2_if, cm_25, cm_26]
theorem ms_123 {g : am_G} {c : Int32} (h : am_i g 943 26 = 123) : fm_133 g c = bif ch_bl c then some (0, g) else fm_27 g c 14 0 := by
  unfold fm_133
  rw [h, if_neg (by decide), if_neg (by decide), if_neg (by decide), if_neg (by decide), if_neg (by decide), if_neg (by decide), if_pos (by decide)]
  unfold fj_133_127
  rw [h, if_pos (by decide), if_pos (by decide), if_pos (by decide), if_pos (by decide), if_pos (by decide), if_neg (by decide), if_neg (by decide), if_pos (by decide), if_neg (by decide), if_neg (by decide), if_pos (by decide)]
  unfold fj_133_274
  rw [h, if_neg (by decide), if_neg (by decide), if_neg (by decide), if_neg (by decide), lo_id]
  unfold fm_130
  rw [h, if_neg (by decide), if_neg (by decide), if_neg (by decide), if_pos (by decide)]
  simp only [lo_id, cm_16, cm_17, cm_18, lo_ps, lo_is, b2_if, cm_25, cm_26]
theorem ms_124 {g : am_G} {c : Int32} (h : am_i g 943 26 = 124) : fm_133 g c = bif ch_bl c then some (0, am_si g 943 26 (125 : Int32)) else fm_23 g := by
  unfold fm_133
  rw [h, if_neg (by decide), if_neg (by decide), if_neg (by decide), if_neg (by decide), if_neg (by decide), if_neg (by decide), if_pos (by decide)]
  unfold fj_133_127
  rw [h, if_pos (by decide), if_pos (by decide), if_pos (by decide), if_pos (by decide), if_pos (by decide), if_neg (by decide), if_neg (by decide), if_pos (by decide), if_neg (by decide), if_neg (by decide), if_pos (by decide)]
  unfold fj_133_274
  rw [h, if_neg (by decide), if_neg (by decide), if_neg (by decide), if_neg (by decide), lo_id]
  unfold fm_130
  rw [h, if_neg (by decide), if_neg (by decide), if_neg (by decide), if_neg (by decide), if_pos (by decide)]
  simp only [fm_116, lo_id, cm_16, cm_17, cm_18, lo_ps, lo_is, b2_if, cm_25, cm_26]
theorem ms_125 {g : am_G} {c : Int32} (h : am_i g 943 26 = 125) : fm_133 g c = bif ch_bl c then some (0, g) else if c = 83 then fm_34 g 664391853 6 1 7 else if c = 80 then fm_34 g 558969123 6 1 7 else if c = 34 then some (0, am_si (am_si (am_si g 943 38 c) 943 102 (am_i g 943 101)) 943 26 70) else if c = 39 then some (0, am_si (am_si (am_si g 943 38 c) 943 102 (am_i g 943 101)) 943 26 70) else fm_23 (am_si (am_si g 943 38 c) 943 102 (am_i g 943 101)) := by
  unfold fm_133
  rw [h, if_neg (by decide), if_neg (by decide), if_neg (by decide), if_neg (by decide), if_neg (by decide), if_neg (by decide), if_pos (by decide)]
  unfold fj_133_127
  rw [h, if_pos (by decide), if_pos (by decide), if_pos (by decide), if_pos (by decide), if_pos (by decide), if_neg (by decide), if_neg (by decide), if_pos (by decide), if_neg (by decide), if_neg (by decide), if_pos (by decide)]
  unfold fj_133_274
  rw [h, if_neg (by decide), if_neg (by decide), if_neg (by decide), if_neg (by decide), lo_id]
  unfold fm_130
  rw [h, if_neg (by decide), if_neg (by decide), if_neg (by decide), if_neg (by decide), if_neg (by decide), if_pos (by decide)]
  simp only [fj_130_210, lo_id, cm_16, cm_17, cm_18, lo_ps, lo_is, b2_if, cm_25, cm_26]
theorem ms_126 {g : am_G} {c : Int32} (h : am_i g 943 26 = 126) : fm_133 g c = bif ch_bl c then some (0, g) else if c = 62 then some (0, am_si g 943 26 45) else fm_23 g := by
  unfold fm_133
  rw [h, if_neg (by decide), if_neg (by decide), if_neg (by decide), if_neg (by decide), if_neg (by decide), if_neg (by decide), if_pos (by decide)]
  unfold fj_133_127
  rw [h, if_pos (by decide), if_pos (by decide), if_pos (by decide), if_pos (by decide), if_pos (by decide), if_neg (by decide), if_neg (by decide), if_pos (by decide), if_neg (by decide), if_neg (by decide), if_pos (by decide)]
  unfold fj_133_274
  rw [h, if_neg (by decide), if_neg (by decide), if_neg (by decide), if_neg (by decide), lo_id]
  unfold fm_130
  rw [h, if_neg (by decide), if_neg (by decide), if_neg (by decide), if_neg (by decide), if_neg (by decide), if_neg (by decide)]
  simp only [lo_id, cm_16, cm_17, cm_18, lo_ps, lo_is, b2_if, cm_25, cm_26]
theorem ms_128 {g : am_G} {c : Int32} (h : am_i g 943 26 = 128) : fm_133 g c = bif ch_bl c then some (0, g) else if c = 34 then fm_84 g c 1 else if c = 39 then fm_84 g c 1 else fm_23 g := by
  unfold fm_133
  rw [h, if_neg (by decide), if_neg (by decide), if_neg (by decide), if_neg (by decide), if_neg (by decide), if_neg (by decide), if_pos (by decide)]
  unfold fj_133_127
  rw [h, if_pos (by decide), if_pos (by decide), if_pos (by decide), if_pos (by decide), if_pos (by decide), if_neg (by decide), if_neg (by decide), if_pos (by decide), if_neg (by decide), if_neg (by decide), if_pos (by decide)]
  unfold fj_133_274
  rw [h, if_neg (by decide), if_pos (by decide)]
  unfold fj_133_303
  rw [lo_id]
  unfold fm_129
  rw [h, if_neg (by decide), if_neg (by decide), if_neg (by decide), if_neg (by decide), if_neg (by decide), if_neg (by decide), if_neg (by decide), if_neg (by decide), if_neg (by decide), if_neg (by decide), if_neg (by decide), if_neg (by decide), if_neg (by decide), if_neg (by decide), if_neg (by decide), if_neg (by decide), if_neg (by decide), if_neg (by decide), if_pos (by decide)]
  simp only [fj_129_385, lo_id, cm_16, cm_17, cm_18, lo_ps, lo_is, b2_if, cm_25, cm_26]
theorem ms_130 {g : am_G} {c : Int32} (h : am_i g 943 26 = 130) : fm_133 g c = bif ch_bl c then some (0, am_si g 943 26 (131 : Int32)) else fm_23 g := by
  unfold fm_133
  rw [h, if_neg (by decide), if_neg (by decide), if_neg (by decide), if_neg (by decide), if_neg (by decide), if_neg (by decide), if_pos (by decide)]
  unfold fj_133_127
  rw [h, if_pos (by decide), if_pos (by decide), if_pos (by decide), if_pos (by decide), if_pos (by decide), if_neg (by decide), if_neg (by decide), if_pos (by decide), if_neg (by decide), if_neg (by decide), if_pos (by decide)]
  unfold fj_133_274
  rw [h, if_neg (by decide), if_neg (by decide), if_neg (by decide), if_pos (by decide), if_neg (by decide), lo_id]
  unfold fm_131
  rw [h, if_pos (by decide)]
  simp only [fm_116, lo_id, cm_16, cm_17, cm_18, lo_ps, lo_is, b2_if, cm_25, cm_26]
theorem ms_131 {g : am_G} {c : Int32} (h : am_i g 943 26 = 131) : fm_133 g c = bif ch_bl c then some (0, g) else fm_27 g c 15 0 := by
  unfold fm_133
  rw [h, if_neg (by decide), if_neg (by decide), if_neg (by decide), if_neg (by decide), if_neg (by decide), if_neg (by decide), if_pos (by decide)]
  unfold fj_133_127
  rw [h, if_pos (by decide), if_pos (by decide), if_pos (by decide), if_pos (by decide), if_pos (by decide), if_neg (by decide), if_neg (by decide), if_pos (by decide), if_neg (by decide), if_neg (by decide), if_pos (by decide)]
  unfold fj_133_274
  rw [h, if_neg (by decide), if_neg (by decide), if_neg (by decide), if_pos (by decide), if_neg (by decide), lo_id]
  unfold fm_131
  rw [h, if_neg (by decide), if_pos (by decide)]
  simp only [lo_id, cm_16, cm_17, cm_18, lo_ps, lo_is, b2_if, cm_25, cm_26]
theorem ms_132 {g : am_G} {c : Int32} (h : am_i g 943 26 = 132) : fm_133 g c = bif ch_bl c then some (0, am_si g 943 26 (133 : Int32)) else fm_23 g := by
  unfold fm_133
  rw [h, if_neg (by decide), if_neg (by decide), if_neg (by decide), if_neg (by decide), if_neg (by decide), if_neg (by decide), if_pos (by decide)]
  unfold fj_133_127
  rw [h, if_pos (by decide), if_pos (by decide), if_pos (by decide), if_pos (by decide), if_pos (by decide), if_neg (by decide), if_neg (by decide), if_pos (by decide), if_neg (by decide), if_neg (by decide), if_pos (by decide)]
  unfold fj_133_274
  rw [h, if_neg (by decide), if_neg (by decide), if_neg (by decide), if_pos (by decide), if_neg (by decide), lo_id]
  unfold fm_131
  rw [h, if_neg (by decide), if_neg (by decide), if_pos (by decide)]
  simp only [fm_116, lo_id, cm_16, cm_17, cm_18, lo_ps, lo_is, b2_if, cm_25, cm_26]
theorem ms_133 {g : am_G} {c : Int32} (h : am_i g 943 26 = 133) : fm_133 g c = if c = 83 then fm_34 g 664391853 6 1 134 else if c = 80 then fm_34 g 558969123 6 1 137 else bif ch_bl c then some (0, g) else fm_23 g := by
  unfold fm_133
  rw [h, if_neg (by decide), if_neg (by decide), if_neg (by decide), if_neg (by decide), if_neg (by decide), if_neg (by decide), if_pos (by decide)]
  unfold fj_133_127
  rw [h, if_pos (by decide), if_pos (by decide), if_pos (by decide), if_pos (by decide), if_pos (by decide), if_neg (by decide), if_neg (by decide), if_pos (by decide), if_neg (by decide), if_neg (by decide), if_pos (by decide)]
  unfold fj_133_274
  rw [h, if_neg (by decide), if_neg (by decide), if_neg (by decide), if_pos (by decide), if_neg (by decide), lo_id]
  unfold fm_131
  rw [h, if_neg (by decide), if_neg (by decide), if_neg (by decide), if_pos (by decide)]
  simp only [lo_id, cm_16, cm_17, cm_18, lo_ps, lo_is, b2_if, cm_25, cm_26]
theorem ms_134 {g : am_G} {c : Int32} (h : am_i g 943 26 = 134) : fm_133 g c = bif ch_bl c then some (0, am_si g 943 26 (135 : Int32)) else fm_23 g := by
  unfold fm_133
  rw [h, if_neg (by decide), if_neg (by decide), if_neg (by decide), if_neg (by decide), if_neg (by decide), if_neg (by decide), if_pos (by decide)]
  unfold fj_133_127
  rw [h, if_pos (by decide), if_pos (by decide), if_pos (by decide), if_pos (by decide), if_pos (by decide), if_neg (by decide), if_neg (by decide), if_pos (by decide), if_neg (by decide), if_neg (by decide), if_pos (by decide)]
  unfold fj_133_274
  rw [h, if_neg (by decide), if_neg (by decide), if_neg (by decide), if_pos (by decide), if_neg (by decide), lo_id]
  unfold fm_131
  rw [h, if_neg (by decide), if_neg (by decide), if_neg (by decide), if_neg (by decide), if_pos (by decide)]
  simp only [fm_116, lo_id, cm_16, cm_17, cm_18, lo_ps, lo_is, b2_if, cm_25, cm_26]
theorem ms_135 {g : am_G} {c : Int32} (h : am_i g 943 26 = 135) : fm_133 g c = bif ch_bl c then some (0, g) else if c = 34 then some (0, am_si (am_si g 943 38 c) 943 26 (136 : Int32)) else if c = 39 then some (0, am_si (am_si g 943 38 c) 943 26 (136 : Int32)) else fm_23 (am_si g 943 38 c) := by
  unfold fm_133
  rw [h, if_neg (by decide), if_neg (by decide), if_neg (by decide), if_neg (by decide), if_neg (by decide), if_neg (by decide), if_pos (by decide)]
  unfold fj_133_127
  rw [h, if_pos (by decide), if_pos (by decide), if_pos (by decide), if_pos (by decide), if_pos (by decide), if_neg (by decide), if_neg (by decide), if_pos (by decide), if_neg (by decide), if_neg (by decide), if_pos (by decide)]
  unfold fj_133_274
  rw [h, if_neg (by decide), if_neg (by decide), if_neg (by decide), if_pos (by decide), if_neg (by decide), lo_id]
  unfold fm_131
  rw [h, if_neg (by decide), if_neg (by decide), if_neg (by decide), if_neg (by decide), if_neg (by decide), if_pos (by decide)]
  simp only [fj_118_26, fm_118, lo_id, cm_16, cm_17, cm_18, lo_ps, lo_is, b2_if, cm_25, cm_26]
theorem ms_136 {g : am_G} {c : Int32} (h : am_i g 943 26 = 136) : fm_133 g c = if c = (am_i g 943 38) then some (0, am_si g 943 26 142) else some (0, g) := by
  unfold fm_133
  rw [h, if_neg (by decide), if_neg (by decide), if_neg (by decide), if_neg (by decide), if_neg (by decide), if_neg (by decide), if_pos (by decide)]
  unfold fj_133_127
  rw [h, if_pos (by decide), if_pos (by decide), if_pos (by decide), if_pos (by decide), if_pos (by decide), if_neg (by decide), if_neg (by decide), if_pos (by decide), if_neg (by decide), if_neg (by decide), if_pos (by decide)]
  unfold fj_133_274
  rw [h, if_neg (by decide), if_neg (by decide), if_neg (by decide), if_pos (by decide), if_neg (by decide), lo_id]
  unfold fm_131
  rw [h, if_neg (by decide), if_neg (by decide), if_neg (by decide), if_neg (by decide), if_neg (by decide), if_neg (by decide), if_pos (by decide)]
  simp only [lo_id, cm_16, cm_17, cm_18, lo_ps, lo_is, b2_if, cm_25, cm_26]
theorem ms_137 {g : am_G} {c : Int32} (h : am_i g 943 26 = 137) : fm_133 g c = bif ch_bl c then some (0, am_si g 943 26 (138 : Int32)) else fm_23 g := by
  unfold fm_133
  rw [h, if_neg (by decide), if_neg (by decide), if_neg (by decide), if_neg (by decide), if_neg (by decide), if_neg (by decide), if_pos (by decide)]
  unfold fj_133_127
  rw [h, if_pos (by decide), if_pos (by decide), if_pos (by decide), if_pos (by decide), if_pos (by decide), if_neg (by decide), if_neg (by decide), if_pos (by decide), if_neg (by decide), if_neg (by decide), if_pos (by decide)]
  unfold fj_133_274
  rw [h, if_neg (by decide), if_neg (by decide), if_neg (by decide), if_pos (by decide), if_neg (by decide), lo_id]
  unfold fm_131
  rw [h, if_neg (by decide), if_neg (by decide), if_neg (by decide), if_neg (by decide), if_neg (by decide), if_neg (by decide), if_neg (by decide), if_pos (by decide)]
  simp only [fm_116, lo_id, cm_16, cm_17, cm_18, lo_ps, lo_is, b2_if, cm_25, cm_26]
theorem ms_138 {g : am_G} {c : Int32} (h : am_i g 943 26 = 138) : fm_133 g c = bif ch_bl c then some (0, g) else if c = 34 then some (0, am_si (am_si g 943 38 c) 943 26 (139 : Int32)) else if c = 39 then some (0, am_si (am_si g 943 38 c) 943 26 (139 : Int32)) else fm_23 (am_si g 943 38 c) := by
  unfold fm_133
  rw [h, if_neg (by decide), if_neg (by decide), if_neg (by decide), if_neg (by decide), if_neg (by decide), if_neg (by decide), if_pos (by decide)]
  unfold fj_133_127
  rw [h, if_pos (by decide), if_pos (by decide), if_pos (by decide), if_pos (by decide), if_pos (by decide), if_neg (by decide), if_neg (by decide), if_pos (by decide), if_neg (by decide), if_neg (by decide), if_pos (by decide)]
  unfold fj_133_274
  rw [h, if_neg (by decide), if_neg (by decide), if_neg (by decide), if_pos (by decide), if_neg (by decide), lo_id]
  unfold fm_131
  rw [h, if_neg (by decide), if_neg (by decide), if_neg (by decide), if_neg (by decide), if_neg (by decide), if_neg (by decide), if_neg (by decide), if_neg (by decide), if_pos (by decide)]
  simp only [fj_118_26, fm_118, lo_id, cm_16, cm_17, cm_18, lo_ps, lo_is, b2_if, cm_25, cm_26]
theorem ms_139 {g : am_G} {c : Int32} (h : am_i g 943 26 = 139) : fm_133 g c = if c = (am_i g 943 38) then some (0, am_si g 943 26 141) else lo_p (fm_110 g c) fun y27 => if y27 = 0 then fm_23 g else some (0, g) := by
  unfold fm_133
  rw [h, if_neg (by decide), if_neg (by decide), if_neg (by decide), if_neg (by decide), if_neg (by decide), if_neg (by decide), if_pos (by decide)]
  unfold fj_133_127
  rw [h, if_pos (by decide), if_pos (by decide), if_pos (by decide), if_pos (by decide), if_pos (by decide), if_neg (by decide), if_neg (by decide), if_pos (by decide), if_neg (by decide), if_neg (by decide), if_pos (by decide)]
  unfold fj_133_274
  rw [h, if_neg (by decide), if_neg (by decide), if_neg (by decide), if_pos (by decide), if_neg (by decide), lo_id]
  unfold fm_131
  rw [h, if_neg (by decide), if_neg (by decide), if_neg (by decide), if_neg (by decide), if_neg (by decide), if_neg (by decide), if_neg (by decide), if_neg (by decide), if_neg (by decide), if_pos (by decide)]
  simp only [lo_id, cm_16, cm_17, cm_18, lo_ps, lo_is, b2_if, cm_25, cm_26]
theorem ms_140 {g : am_G} {c : Int32} (h : am_i g 943 26 = 140) : fm_133 g c = fm_76 (am_si g 943 29 1) := by
  unfold fm_133
  rw [h, if_neg (by decide), if_neg (by decide), if_neg (by decide), if_neg (by decide), if_neg (by decide), if_neg (by decide), if_pos (by decide)]
  unfold fj_133_127
  rw [h, if_pos (by decide), if_pos (by decide), if_pos (by decide), if_pos (by decide), if_pos (by decide), if_neg (by decide), if_neg (by decide), if_pos (by decide), if_neg (by decide), if_neg (by decide), if_pos (by decide)]
  unfold fj_133_274
  rw [h, if_neg (by decide), if_neg (by decide), if_pos (by decide)]
  unfold fj_133_303
  rw [lo_id]
  unfold fm_129
  rw [h, if_neg (by decide), if_neg (by decide), if_neg (by decide), if_neg (by decide), if_neg (by decide), if_neg (by decide), if_neg (by decide), if_neg (by decide), if_neg (by decide), if_neg (by decide), if_neg (by decide), if_neg (by decide), if_neg (by decide), if_neg (by decide), if_neg (by decide), if_neg (by decide), if_neg (by decide), if_neg (by decide), if_neg (by decide)]
  simp only [lo_id, cm_16, cm_17, cm_18, lo_ps, lo_is, b2_if, cm_25, cm_26]
theorem ms_141 {g : am_G} {c : Int32} (h : am_i g 943 26 = 141) : fm_133 g c = bif ch_bl c then some (0, am_si g 943 26 143) else if c = 62 then some (0, am_si g 943 26 45) else fm_23 g := by
  unfold fm_133
  rw [h, if_neg (by decide), if_neg (by decide), if_neg (by decide), if_neg (by decide), if_neg (by decide), if_neg (by decide), if_pos (by decide)]
  unfold fj_133_127
  rw [h, if_pos (by decide), if_pos (by decide), if_pos (by decide), if_pos (by decide), if_pos (by decide), if_neg (by decide), if_neg (by decide), if_pos (by decide), if_neg (by decide), if_neg (by decide), if_pos (by decide)]
  unfold fj_133_274
  rw [h, if_neg (by decide), if_neg (by decide), if_neg (by decide), if_pos (by decide), if_neg (by decide), lo_id]
  unfold fm_131
  rw [h, if_neg (by decide), if_neg (by decide), if_neg (by decide), if_neg (by decide), if_neg (by decide), if_neg (by decide), if_neg (by decide), if_neg (by decide), if_neg (by decide), if_neg (by decide), if_neg (by decide), if_pos (by decide)]
  simp only [lo_id, cm_16, cm_17, cm_18, lo_ps, lo_is, b2_if, cm_25, cm_26]
theorem ms_142 {g : am_G} {c : Int32} (h : am_i g 943 26 = 142) : fm_133 g c = bif ch_bl c then some (0, g) else if c = 62 then some (0, am_si g 943 26 45) else fm_23 g := by
  unfold fm_133
  rw [h, if_neg (by decide), if_neg (by decide), if_neg (by decide), if_neg (by decide), if_neg (by decide), if_neg (by decide), if_pos (by decide)]
  unfold fj_133_127
  rw [h, if_pos (by decide), if_pos (by decide), if_pos (by decide), if_pos (by decide), if_pos (by decide), if_neg (by decide), if_neg (by decide), if_pos (by decide), if_neg (by decide), if_neg (by decide), if_pos (by decide)]
  unfold fj_133_274
  rw [h, if_neg (by decide), if_neg (by decide), if_neg (by decide), if_pos (by decide), if_neg (by decide), lo_id]
  unfold fm_131
  rw [h, if_neg (by decide), if_neg (by decide), if_neg (by decide), if_neg (by decide), if_neg (by decide), if_neg (by decide), if_neg (by decide), if_neg (by decide), if_neg (by decide), if_neg (by decide), if_neg (by decide), if_neg (by decide), if_pos (by decide)]
  simp only [lo_id, cm_16, cm_17, cm_18, lo_ps, lo_is, b2_if, cm_25, cm_26]
theorem ms_143 {g : am_G} {c : Int32} (h : am_i g 943 26 = 143) : fm_133 g c = bif ch_bl c then some (0, g) else if c = 62 then some (0, am_si g 943 26 45) else some (0, am_si (am_si g 943 29 1) 943 26 135) := by
  unfold fm_133
  rw [h, if_neg (by decide), if_neg (by decide), if_neg (by decide), if_neg (by decide), if_neg (by decide), if_neg (by decide), if_pos (by decide)]
  unfold fj_133_127
  rw [h, if_pos (by decide), if_pos (by decide), if_pos (by decide), if_pos (by decide), if_pos (by decide), if_neg (by decide), if_neg (by decide), if_pos (by decide), if_neg (by decide), if_neg (by decide), if_pos (by decide)]
  unfold fj_133_274
  rw [h, if_neg (by decide), if_neg (by decide), if_neg (by decide), if_pos (by decide), if_neg (by decide), lo_id]
  unfold fm_131
  rw [h, if_neg (by decide), if_neg (by decide), if_neg (by decide), if_neg (by decide), if_neg (by decide), if_neg (by decide), if_neg (by decide), if_neg (by decide), if_neg (by decide), if_neg (by decide), if_neg (by decide), if_neg (by decide), if_neg (by decide)]
  simp only [lo_id, cm_16, cm_17, cm_18, lo_ps, lo_is, b2_if, cm_25, cm_26]
theorem ms_150 {g : am_G} {c : Int32} (h : am_i g 943 26 = 150) : fm_133 g c = fm_34 g 3278465 5 1 151 := by
  unfold fm_133
  rw [h, if_neg (by decide), if_neg (by decide), if_neg (by decide), if_neg (by decide), if_neg (by decide), if_neg (by decide), if_pos (by decide)]
  unfold fj_133_127
  rw [h, if_pos (by decide), if_pos (by decide), if_pos (by decide), if_pos (by decide), if_pos (by decide), if_neg (by decide), if_neg (by decide), if_pos (by decide), if_neg (by decide), if_neg (by decide), if_pos (by decide)]
  unfold fj_133_274
  rw [h, if_neg (by decide), if_neg (by decide), if_neg (by decide), if_pos (by decide), if_pos (by decide), lo_id]
  unfold fm_132
  rw [h, if_pos (by decide)]
  simp only [lo_id, cm_16, cm_17, cm_18, lo_ps, lo_is, b2_if, cm_25, cm_26]
theorem ms_151 {g : am_G} {c : Int32} (h : am_i g 943 26 = 151) : fm_133 g c = if c = 91 then lo_p (fm_46 g) fun g4 => some (0, am_si g4 943 26 152) else fm_23 g := by
  unfold fm_133
  rw [h, if_neg (by decide), if_neg (by decide), if_neg (by decide), if_neg (by decide), if_neg (by decide), if_neg (by decide), if_pos (by decide)]
  unfold fj_133_127
  rw [h, if_pos (by decide), if_pos (by decide), if_pos (by decide), if_pos (by decide), if_pos (by decide), if_neg (by decide), if_neg (by decide), if_pos (by decide), if_neg (by decide), if_neg (by decide), if_pos (by decide)]
  unfold fj_133_274
  rw [h, if_neg (by decide), if_neg (by decide), if_neg (by decide), if_pos (by decide), if_pos (by decide), lo_id]
  unfold fm_132
  rw [h, if_neg (by decide), if_pos (by decide)]
  simp only [lo_id, cm_16, cm_17, cm_18, lo_ps, lo_is, b2_if, cm_25, cm_26]
theorem ms_152 {g : am_G} {c : Int32} (h : am_i g 943 26 = 152) : fm_133 g c = if c = 93 then some (0, am_si g 943 26 153) else lo_p (fm_40 g c) fun g10 => some (0, g10) := by
  unfold fm_133
  rw [h, if_neg (by decide), if_neg (by decide), if_neg (by decide), if_neg (by decide), if_neg (by decide), if_neg (by decide), if_pos (by decide)]
  unfold fj_133_127
  rw [h, if_pos (by decide), if_pos (by decide), if_pos (by decide), if_pos (by decide), if_pos (by decide), if_neg (by decide), if_neg (by decide), if_pos (by decide), if_neg (by decide), if_neg (by decide), if_pos (by decide)]
  unfold fj_133_274
  rw [h, if_neg (by decide), if_neg (by decide), if_neg (by decide), if_pos (by decide), if_pos (by decide), lo_id]
  unfold fm_132
  rw [h, if_neg (by decide), if_neg (by decide), if_pos (by decide)]
  simp only [lo_id, cm_16, cm_17, cm_18, lo_ps, lo_is, b2_if, cm_25, cm_26]
theorem ms_153 {g : am_G} {c : Int32} (h : am_i g 943 26 = 153) : fm_133 g c = if c = 93 then some (0, am_si g 943 26 154) else lo_p (fm_40 g 93) fun g14 => some (0, am_si (am_si g14 943 29 1) 943 26 152) := by
  unfold fm_133
  rw [h, if_neg (by decide), if_neg (by decide), if_neg (by decide), if_neg (by decide), if_neg (by decide), if_neg (by decide), if_pos (by decide)]
  unfold fj_133_127
  rw [h, if_pos (by decide), if_pos (by decide), if_pos (by decide), if_pos (by decide), if_pos (by decide), if_neg (by decide), if_neg (by decide), if_pos (by decide), if_neg (by decide), if_neg (by decide), if_pos (by decide)]
  unfold fj_133_274
  rw [h, if_neg (by decide), if_neg (by decide), if_neg (by decide), if_pos (by decide), if_pos (by decide), lo_id]
  unfold fm_132
  rw [h, if_neg (by decide), if_neg (by decide), if_neg (by decide), if_pos (by decide)]
  simp only [lo_id, cm_16, cm_17, cm_18, lo_ps, lo_is, b2_if, cm_25, cm_26]
theorem ms_154 {g : am_G} {c : Int32} (h : am_i g 943 26 = 154) : fm_133 g c = if c = 62 then fm_44 g else lo_p (fm_40 g 93) fun g20 => if c = 93 then some (0, g20) else lo_p (fm_40 g20 93) fun g22 => some (0, am_si (am_si g22 943 29 1) 943 26 152) := by
  unfold fm_133
  rw [h, if_neg (by decide), if_neg (by decide), if_neg (by decide), if_neg (by decide), if_neg (by decide), if_neg (by decide), if_pos (by decide)]
  unfold fj_133_127
  rw [h, if_pos (by decide), if_pos (by decide), if_pos (by decide), if_pos (by decide), if_pos (by decide), if_neg (by decide), if_neg (by decide), if_pos (by decide), if_neg (by decide), if_neg (by decide), if_pos (by decide)]
  unfold fj_133_274
  rw [h, if_neg (by decide), if_neg (by decide), if_neg (by decide), if_pos (by decide), if_pos (by decide), lo_id]
  unfold fm_132
  rw [h, if_neg (by decide), if_neg (by decide), if_neg (by decide), if_neg (by decide)]
  simp only [lo_id, cm_16, cm_17, cm_18, lo_ps, lo_is, b2_if, cm_25, cm_26]
