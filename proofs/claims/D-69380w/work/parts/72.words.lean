/-! Words from the state ahead of them. -/
section
variable {Z U : Nat} {G H : am_G} {N : Nat} {n : Int32}
/-- M's registers may change under the item in hand -/
theorem fs_mc {gR gM g' : am_G} {p : Nat} {rs : List (List Int32)} {i : Int32} (S : fs_ok gR gM N n p rs i) (hf : ag_3 fd_S gM g') (h29 : am_i g' 943 29 = am_i gM 943 29) (h30 : am_i g' 943 30 = am_i gM 943 30) : fs_ok gR g' N n p rs i := by
  obtain ⟨s1, s2, s3, s4, s5, s6, s7⟩ := S
  have mf : ∀ {q : Nat} {r : List (List Int32)}, mf_ok gM q r → mf_ok g' q r := fun K => mf_cg K fun o k q => (hf o k (fd_mf q)).1
  have e13 : am_i g' 943 13 = am_i gM 943 13 := (hf 943 13 rfl).1
  refine ⟨s1, ⟨((hf 943 4 rfl).1).trans s2.1, fun j hj => ⟨((hf 945 j rfl).1).trans (s2.2 j hj).1, ((hf 946 j rfl).1).trans (s2.2 j hj).2⟩⟩, s3, s4, fun z => e13.trans (s5 z), s6, ?_⟩
  cases rs with
  | nil =>
    have s7 : if p < N then mf_ok gM (p + 1) [] ∧ am_i gM 943 30 = am_i gR 38 p ∧ am_i gM 943 29 = 1 else mf_ok gM p [] ∧ am_i gM 943 30 = n := s7
    show if p < N then mf_ok g' (p + 1) [] ∧ am_i g' 943 30 = am_i gR 38 p ∧ am_i g' 943 29 = 1 else mf_ok g' p [] ∧ am_i g' 943 30 = n
    by_cases q : p < N
    · rw [if_pos q] at s7 ⊢
      exact ⟨mf s7.1, h30.trans s7.2.1, h29.trans s7.2.2⟩
    · rw [if_neg q] at s7 ⊢
      exact ⟨mf s7.1, h30.trans s7.2⟩
  | cons r rest =>
    cases r with
    | nil => exact mf s7
    | cons c r => exact ⟨mf s7.1, h30.trans (s7.2.1.trans e13.symm), h29.trans s7.2.2⟩
/-- the character in hand is looked at again in another state -/
theorem fs_ag {gR gM g' : am_G} {p : Nat} {rs : List (List Int32)} {i : Int32} (S : fs_ok gR gM N n p rs i) (hi : i ≠ -1) (hs : fm_133 (am_si gM 943 29 0) i = some (0, g')) (h29 : am_i g' 943 29 = 1) (h30 : am_i g' 943 30 = am_i gM 943 30) (hf : ag_3 fd_S gM g') (hr : rk_n (am_i g' 943 26) < rk_n (am_i gM 943 26)) :
    (∀ res, mi_ok n i g' res → mi_ok n i gM res) ∧ fs_ok gR g' N n p rs i := by
  have a := fs_in S hi
  refine ⟨fun res h => mi_a hi a.1 hs h29 hr (by rw [mm_cg hf]; omega) h, fs_mc S hf (h29.trans a.1.symm) h30⟩
/-- R reads letters; M begins a word with whatever is in hand -/
theorem ww_ok {gR gM g0 : am_G} {p : Nat} {rs : List (List Int32)} {i : Int32} {W : Int64} {sz : Nat} {u to s : Int32} {cs ds : List Int32} (B : bi_ok Z U G H gR gM) (S : fs_ok gR gM N n p rs i) (h26 : am_i gM 943 26 = s) (hst : st_in s) (hr : 2 < rk_n s) (hto : to ≠ 7) (hu : u = 0 ∨ u = 1) (h1 : 0 < sz) (h2 : sz ≤ 12)
    (hl : mw_l W sz u sz = cs ++ ds) (hne : cs ≠ []) (hcs : ∀ c ∈ cs, c ≠ -1) (hs : i ≠ -1 → fm_133 (am_si gM 943 29 0) i = fm_34 g0 W (nI sz) u to) (hf : ag_3 fd_S gM g0) (h30 : am_i g0 943 30 = am_i gM 943 30) (hb0 : bi_ok Z U G H gR g0) :
    si_ok n (ft_ok Z U G H) (rw_1 cs gR) i gM fun _ gR' i' gM' => ∃ p' rs', fs_ok gR' gM' N n p' rs' i' ∧ fx_i ps_S gR gR' ∧ fx_i ct_S g0 gM' ∧ (if ds = [] then am_i gM' 943 26 = to else ∃ m', mw_ok gM' W sz u m' to ∧ mw_l W sz u (m' + 1) = ds) := by
  by_cases q : i = -1
  · cases cs with
    | nil => exact absurd rfl hne
    | cons c cs =>
      show si_ok n (ft_ok Z U G H) (lo_t (fm_244 gR c) fun _ g' => rw_1 cs g') i gM _
      refine si_bd (Q := fun _ _ _ _ => False) ?_ fun _ _ _ _ z => z.elim
      unfold fm_244
      have hc : i ≠ c := fun e => hcs c (List.mem_cons_self) (e.symm.trans q)
      rw [cm_240 S, lo_ps, decide_eq_false hc]
      exact si_bd (nd_f (Q := fun _ _ _ _ => False) B S (fun _ => h26 ▸ hst) fun w => absurd q w) fun _ _ _ _ z => z.elim
  · obtain ⟨g', e1, e2, e3, e4, e5, e6, e7⟩ := mw_b (g := g0) (W := W) (to := to) hu h1 h2
    obtain ⟨m1, S1⟩ := fs_ag S q ((hs q).trans e1) e4 (e7.trans h30) (ag_tr hf e6) (by rw [e2.1, h26]; exact hr)
    have B1 := bi_ct hb0 fx_re e3
    refine si_m m1 (si_wk (wd_ok hto cs (sz - 1) ds B1 S1 e2 (by rw [show sz - 1 + 1 = sz by omega]; exact hl) hne hcs) ?_)
    rintro _ gR2 i2 gM2 ⟨p2, rs2, g1, g2, g3, g4⟩
    exact ⟨p2, rs2, g1, g2, fx_tr e3 g3, g4⟩
end
/-- letters of words, by evaluation -/
theorem wl_version : wb_l 33325589488824174 8 = [118, 101, 114, 115, 105, 111, 110] := by decide +kernel
theorem wm_version : mw_l 23809598958 7 0 7 = [118, 101, 114, 115, 105, 111, 110] := by decide +kernel
theorem wl_enco : wb_l 1701733231 8 = [101, 110, 99, 111] := by decide +kernel
theorem wl_ding : wb_l 1684631143 8 = [100, 105, 110, 103] := by decide +kernel
theorem wm_encoding : mw_l 186947610055 8 0 8 = [101, 110, 99, 111] ++ [100, 105, 110, 103] := by decide +kernel
theorem wl_stand : wb_l 495873781348 8 = [115, 116, 97, 110, 100] := by decide +kernel
theorem wl_alone : wb_l 418431069797 8 = [97, 108, 111, 110, 101] := by decide +kernel
theorem wm_standalone : mw_l 690542830042565 10 0 10 = [115, 116, 97, 110, 100] ++ [97, 108, 111, 110, 101] := by decide +kernel
theorem wl_yes : wb_l 7955827 8 = [121, 101, 115] := by decide +kernel
theorem wm_yes : mw_l 25779 3 0 3 = [121, 101, 115] := by decide +kernel
theorem wl_no : wb_l 28271 8 = [110, 111] := by decide +kernel
theorem wm_no : mw_l 463 2 0 2 = [110, 111] := by decide +kernel
theorem wl_DOC : wb_l 4476739 8 = [68, 79, 67] := by decide +kernel
theorem wl_TYPE : wb_l 1415139397 8 = [84, 89, 80, 69] := by decide +kernel
theorem wm_DOCTYPE : mw_l 4802110981 7 1 7 = [68, 79, 67] ++ [84, 89, 80, 69] := by decide +kernel
theorem wl_LEMENT : wb_l 83860532842068 8 = [76, 69, 77, 69, 78, 84] := by decide +kernel
theorem wm_LEMENT : mw_l 408327636 6 1 6 = [76, 69, 77, 69, 78, 84] := by decide +kernel
theorem wl_EMPTY : wb_l 297649853529 8 = [69, 77, 80, 84, 89] := by decide +kernel
theorem wm_EMPTY : mw_l 5685913 5 1 5 = [69, 77, 80, 84, 89] := by decide +kernel
theorem wl_ANY : wb_l 4279897 8 = [65, 78, 89] := by decide +kernel
theorem wm_ANY : mw_l 1497 3 1 3 = [65, 78, 89] := by decide +kernel
theorem wm_PCDATA : mw_l 540149377 6 1 6 = [80, 67, 68, 65] ++ [84, 65] := by decide +kernel
theorem wl_ATTL : wb_l 1096045644 8 = [65, 84, 84, 76] := by decide +kernel
theorem wl_IST : wb_l 4805460 8 = [73, 83, 84] := by decide +kernel
theorem wm_ATTLIST : mw_l 1766205044 7 1 7 = [65, 84, 84, 76] ++ [73, 83, 84] := by decide +kernel
theorem wl_NTITY : wb_l 336421540953 8 = [78, 84, 73, 84, 89] := by decide +kernel
theorem wm_NTITY : mw_l 15345305 5 1 5 = [78, 84, 73, 84, 89] := by decide +kernel
theorem wl_NOTA : wb_l 1313821761 8 = [78, 79, 84, 65] := by decide +kernel
theorem wl_TION : wb_l 1414090574 8 = [84, 73, 79, 78] := by decide +kernel
theorem wm_NOTATION : mw_l 497815266798 8 1 8 = [78, 79, 84, 65] ++ [84, 73, 79, 78] := by decide +kernel
