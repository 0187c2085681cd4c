/-! Both programs' decoding together. -/
def dr_S (o k : Nat) : Bool := Nat.beq o 36 || (Nat.beq o 37 || (Nat.beq o 38 || (Nat.beq o 35 && (Nat.beq k 3 || Nat.beq k 4))))
def dm_S (o k : Nat) : Bool := Nat.beq o 945 || (Nat.beq o 946 || (Nat.beq o 943 && Nat.beq k 4))
/-- places so far -/
def dc_pl (g : am_G) (p s : Nat) : Prop := ∀ i, i < s → ∃ b e, am_i g 38 i = nI b ∧ b + u8_c (am_i g 37 i) ≤ e ∧ (i + 1 = s → e ≤ p) ∧ (i + 1 < s → am_i g 38 (i + 1) = nI e) ∧ e ≤ 6000
/-- both stand at byte p, with s characters -/
def dc_ok (B : Nat → Nat) (n p s : Nat) (gR gm : am_G) : Prop := p ≤ n ∧ s ≤ p ∧ am_i gR 35 4 = nI p ∧ am_i gR 35 3 = nI s ∧ am_i gm 943 4 = nI s ∧ am_i gm 943 9 = 0 ∧ (∀ i, i < s → ch_ok (am_i gR 37 i) ∧ am_i gm 945 i = am_i gR 37 i ∧ am_i gm 946 i = am_i gR 38 i) ∧
  (∀ k, k < n → am_i gR 34 k = e8_b (B k)) ∧ (∀ k, k < n → am_i gm 944 k = nI (B k)) ∧ gs_ok gR ∧ (¬ (0 < p ∧ B (p - 1) = 13 ∧ p < n ∧ B p = 10)) ∧ dc_pl gR p s
theorem gs_dr {g g' : am_G} (h : gs_ok g) (f : fx_i dr_S g g') : gs_ok g' := gs_lo h fun o k ho => (f.1 o k (by unfold dr_S; rw [beq_f (show o ≠ 36 by omega), beq_f (show o ≠ 37 by omega), beq_f (show o ≠ 38 by omega), beq_f (show o ≠ 35 by omega)]; rfl)).1
theorem al_ch {c : Nat} (h : ch_al (nI c) = true) (hc : c < 2097152) : c < 1114112 ∧ (c < 55296 ∨ 57344 ≤ c) := by
  have : al_P (nI c).toInt := by
    unfold ch_al at h
    simpa using h
  rw [nI_toInt (by omega)] at this
  unfold al_P at this
  omega
section
variable {B : Nat → Nat} {n p s : Nat} {gR gm : am_G}
/-- a character comes -/
theorem dc_ad (hn : n ≤ 6000) {c z : Nat} (hc : c < 1114112) (D : dc_ok B n p s gR gm) (hz : 0 < z) (hpz : p + z ≤ n) (hno : ¬ (B (p + z - 1) = 13 ∧ p + z < n ∧ B (p + z) = 10)) (hu : u8_c (nI c) ≤ z) {g3 : am_G} (f3 : fx_i dr_S gR g3) (h3 : am_i g3 35 3 = nI s) (h4 : am_i g3 35 4 = nI p) (h37 : ∀ i, am_i g3 37 i = am_i gR 37 i) (h38 : ∀ i, am_i g3 38 i = am_i gR 38 i) :
    fm_155 g3 (nI c) = some (am_si (am_si (am_si g3 37 s (nI c)) 38 s (nI p)) 35 3 (nI (s + 1))) ∧
    dc_ok B n (p + z) (s + 1) (am_si (am_si (am_si (am_si g3 37 s (nI c)) 38 s (nI p)) 35 3 (nI (s + 1))) 35 4 (nI (p + z))) (am_si (am_si (am_si gm 945 s (nI c)) 946 s (nI p)) 943 4 (nI (s + 1))) := by
  obtain ⟨d1, d2, d3, d4, d5, d6, d7, d8, d9, d10, d11, d12⟩ := D
  constructor
  · unfold fm_155
    rw [h3, h4, ai_nI (by omega) (by omega), lo_gt, ai_nI (by omega) (by omega), lo_gt, nI_clamp (by omega), nI_1]
  · refine ⟨hpz, by omega, rfl, ?_, rfl, d6, fun i hi => ?_, fun k hk => ?_, fun k hk => ?_, ?_, fun w => hno ⟨w.2.1, w.2.2.1, w.2.2.2⟩, fun i hi => ?_⟩
    · rw [gi_si, if_neg (by omega), gi_si, if_pos ⟨rfl, rfl⟩]
    · have r7 : am_i (am_si (am_si (am_si (am_si g3 37 s (nI c)) 38 s (nI p)) 35 3 (nI (s + 1))) 35 4 (nI (p + z))) 37 i = if i = s then nI c else am_i g3 37 i := by simp [gi_si]
      have r8 : am_i (am_si (am_si (am_si (am_si g3 37 s (nI c)) 38 s (nI p)) 35 3 (nI (s + 1))) 35 4 (nI (p + z))) 38 i = if i = s then nI p else am_i g3 38 i := by simp [gi_si]
      have m5 : am_i (am_si (am_si (am_si gm 945 s (nI c)) 946 s (nI p)) 943 4 (nI (s + 1))) 945 i = if i = s then nI c else am_i gm 945 i := by simp [gi_si]
      have m6 : am_i (am_si (am_si (am_si gm 945 s (nI c)) 946 s (nI p)) 943 4 (nI (s + 1))) 946 i = if i = s then nI p else am_i gm 946 i := by simp [gi_si]
      rw [r7, r8, m5, m6]
      by_cases q : i = s
      · rw [if_pos q, if_pos q, if_pos q, if_pos q]
        exact ⟨⟨c, hc, rfl⟩, rfl, rfl⟩
      · rw [if_neg q, if_neg q, if_neg q, if_neg q, h37, h38]
        exact d7 i (by omega)
    · rw [gi_si, if_neg (by omega), gi_si, if_neg (by omega), gi_si, if_neg (by omega), gi_si, if_neg (by omega), (f3.1 34 k rfl).1]; exact d8 k hk
    · rw [gi_si, if_neg (by omega), gi_si, if_neg (by omega), gi_si, if_neg (by omega)]; exact d9 k hk
    · exact gs_dr d10 (fx_tr f3 (fx_tr (fx_tr (fx_tr (fx_si rfl) (fx_si rfl)) (fx_si rfl)) (fx_si rfl)))
    · have r7 : ∀ j, am_i (am_si (am_si (am_si (am_si g3 37 s (nI c)) 38 s (nI p)) 35 3 (nI (s + 1))) 35 4 (nI (p + z))) 37 j = if j = s then nI c else am_i g3 37 j := fun j => by simp [gi_si]
      have r8 : ∀ j, am_i (am_si (am_si (am_si (am_si g3 37 s (nI c)) 38 s (nI p)) 35 3 (nI (s + 1))) 35 4 (nI (p + z))) 38 j = if j = s then nI p else am_i g3 38 j := fun j => by simp [gi_si]
      by_cases q : i = s
      · refine ⟨p, p + z, ?_, ?_, fun _ => Nat.le_refl _, fun x => by omega, by omega⟩
        · rw [r8, if_pos q]
        · rw [r7, if_pos q]; omega
      · obtain ⟨b, e, x1, x2, x3, x4, x5⟩ := d12 i (by omega)
        by_cases q2 : i + 1 = s
        · refine ⟨b, p, ?_, ?_, fun x => by omega, fun _ => ?_, by omega⟩
          · rw [r8, if_neg q, h38]; exact x1
          · rw [r7, if_neg q, h37]; have := x3 q2; omega
          · rw [r8, if_pos q2]
        · refine ⟨b, e, ?_, ?_, fun x => by omega, fun _ => ?_, x5⟩
          · rw [r8, if_neg q, h38]; exact x1
          · rw [r7, if_neg q, h37]; exact x2
          · rw [r8, if_neg q2, h38]; exact x4 (by omega)
end
section
variable {B : Nat → Nat} {n : Nat}
noncomputable def de_R (k : (am_G × Int32) → Option (Int32 × am_G)) (x : am_G × Int32) : Option (Int32 × am_G) := fb_153_10 k x.1 x.2
noncomputable def de_M (k : (am_G × Int32 × Int32) → Option (Int32 × am_G)) (x : am_G × Int32 × Int32) : Option (Int32 × am_G) := fb_20_7 k x.1 x.2.1 x.2.2
theorem de_r1 (k : Nat) (g : am_G) (u : Int32) : lo_it de_R (k + 1) (g, u) = fb_153_10 (lo_it de_R k) g u := rfl
theorem de_m1 (k : Nat) (g : am_G) (u v : Int32) : lo_it de_M (k + 1) (g, u, v) = fb_20_7 (lo_it de_M k) g u v := rfl
/-- what comes of it -/
def de_Q (n : Nat) (gR gm : am_G) (r m : Option (Int32 × am_G)) : Prop := (∃ N gR' gm', r = some (0, gR') ∧ m = some (0, gm') ∧ tx_r gR' N (nI n) ∧ tx_m gR' gm' N ∧ fx_i dr_S gR gR' ∧ fx_i dm_S gm gm') ∨
  ∃ q e gR' gm', r = some (e, gR') ∧ e ≠ 0 ∧ am_i gR' 35 4 = nI q ∧ m = some (-1, am_si (am_si gm' 943 142 1) 943 143 (nI q)) ∧ fx_i dr_S gR gR' ∧ fx_i dm_S gm gm'
theorem de_Qt {gR gm gR1 gm1 : am_G} {r m : Option (Int32 × am_G)} (f1 : fx_i dr_S gR gR1) (f2 : fx_i dm_S gm gm1) (h : de_Q n gR1 gm1 r m) : de_Q n gR gm r m := by
  rcases h with ⟨N, gR', gm', a, b, c, d, e, f⟩ | ⟨q, e, gR', gm', a, b, c, d, e', f⟩
  · exact Or.inl ⟨N, gR', gm', a, b, c, d, fx_tr f1 e, fx_tr f2 f⟩
  · exact Or.inr ⟨q, e, gR', gm', a, b, c, d, fx_tr f1 e', fx_tr f2 f⟩
theorem de_lp (hB : ∀ k, B k < 256) (hn : n ≤ 6000) : ∀ (d p s fr fm : Nat) (gR gm : am_G), n - p ≤ d → d < fr → d < fm → dc_ok B n p s gR gm → de_Q n gR gm (lo_it de_R fr (gR, nI n)) (lo_it de_M fm (gm, nI n, nI p)) := by
  intro d
  induction d using Nat.strongRecOn with
  | _ d ih =>
    intro p s fr fm gR gm hd hfr hfm D
    obtain ⟨fr, rfl⟩ : ∃ m, fr = m + 1 := ⟨fr - 1, by omega⟩
    obtain ⟨fm, rfl⟩ : ∃ m, fm = m + 1 := ⟨fm - 1, by omega⟩
    obtain ⟨d1, d2, d3, d4, d5, d6, d7, d8, d9, d10, d11, d12⟩ := id D
    rw [de_r1, de_m1]
    by_cases hp : p < n
    · -- a character
      obtain ⟨R1, R2⟩ := cm_160 (p := p) hB d8 hn hp
      obtain ⟨M1, M2⟩ := mc_s (p := p) (lo_it de_M fm) hB d9 hn hp
      generalize hz : ub_z (B p) = z at R1 R2 M1 M2
      generalize hc : ub_c B p z (z - 1) = c at R1 R2 M1 M2
      have f3 : fx_i dr_S gR (am_si gR 36 0 (nI z)) := fx_si rfl
      have failM : fm_21 gm 1 (nI p) = some (-1, am_si (am_si gm 943 142 1) 943 143 (nI p)) := by rw [cm_21, d6, if_pos (by decide)]
      have hz4 := ub_z4 (B p)
      unfold fb_153_10
      rw [d3, if_neg (nI_ge hp (by omega))]
      by_cases hr : rc_ok B p n
      · have hcl : c < 2097152 := by
          have := (ub_cl hB hz.symm (by rw [← hz]; exact hr.1) (z - 1) (by have := hr.1; omega) (fun i i1 i2 => hr.2.2.1 i i1 (by omega))).1
          omega
        have hzn : z ≠ 0 := by rw [← hz]; exact hr.1
        have hpz : p + z ≤ n := by rw [← hz]; exact hr.2.1
        rw [R1 hr, lo_is, if_neg (fun e => absurd (nI_pos' (n := c) (by omega)) (by rw [e]; decide)), cm_184 (gs_dr d10 f3), lo_ps]
        cases hal : ch_al (nI c) with
        | false =>
          have hnu : ¬ ub_ok B p n := fun w => by
            have := w.2.2.2.1
            rw [hz, hc, hal] at this
            cases this
          rw [M2 hnu, failM]
          unfold fm_154
          rw [if_pos (show b2 false = 0 from rfl), lo_is]
          exact Or.inr ⟨p, 2, _, gm, rfl, by decide, by rw [gi_si, if_neg (by omega), gi_si, if_neg (by omega)]; exact d3, rfl, fx_tr f3 (fx_si rfl), fx_re⟩
        | true =>
          obtain ⟨ha1, ha2⟩ := al_ch hal hcl
          have hti : (nI c).toInt = c := nI_toInt (by omega)
          have hu : ub_ok B p n := by
            refine ⟨hr.1, hr.2.1, hr.2.2.1, ?_⟩
            rw [hz, hc]
            have h3 := hr.2.2.2.2.2.1
            have h4 := hr.2.2.2.2.2.2
            rw [hz, hc] at h3 h4
            exact ⟨hal, fun y => by rw [hti]; have := h3 y; omega, fun y => by rw [hti]; have := h4 y; omega⟩
          rw [M1 hu, if_neg (show ¬ b2 true = 0 by decide), show am_i (am_si gR 36 0 (nI z)) 35 4 = am_i gR 35 4 from rfl, show am_i (am_si gR 36 0 (nI z)) 36 0 = nI z from rfl, d3, nI_add, lo_ll]
          have e13 : nI c = 13 ↔ c = 13 := nI_eq (b := 13) (by omega) (by decide)
          have e10 : nI c = 10 ↔ c = 10 := nI_eq (b := 10) (by omega) (by decide)
          have ebm : nI c = 65279 ↔ c = 65279 := nI_eq (b := 65279) (by omega) (by decide)
          have hu8 : u8_c (nI c) ≤ z := by
            have k1 : z = 1 → c < 128 := fun y => by
              have h0 : c = B p := by rw [← hc, y]; rfl
              have h1 : ub_z (B p) = 1 := hz.trans y
              rw [h0]
              rcases Nat.lt_or_ge (B p) 128 with x | x
              · exact x
              · unfold ub_z at h1
                rw [if_neg (by omega)] at h1
                revert h1
                repeat' split
                all_goals omega
            have k2 : z = 2 → c < 2048 := fun y => by
              have := (ub_cl hB hz.symm hzn (z - 1) (by omega) (fun i i1 i2 => hr.2.2.1 i i1 (by omega))).2.1 (by omega)
              omega
            have k3 : z = 3 → c < 65536 := fun y => by
              have := (ub_cl hB hz.symm hzn (z - 1) (by omega) (fun i i1 i2 => hr.2.2.1 i i1 (by omega))).2.2.2 (by omega) y
              omega
            have lt : ∀ m : Nat, m < 2 ^ 31 → (nI c < nI m ↔ c < m) := fun m hm => ⟨fun x => by
              rcases Nat.lt_or_ge c m with w | w
              · exact w
              · exact absurd x (nI_nlt w (by omega)), fun x => nI_lt x hm⟩
            unfold u8_c
            rw [show (128 : Int32) = nI 128 from rfl, show (2048 : Int32) = nI 2048 from rfl, show (65536 : Int32) = nI 65536 from rfl]
            by_cases w1 : c < 128
            · rw [if_pos ((lt 128 (by decide)).mpr w1)]; omega
            · rw [if_neg (fun x => w1 ((lt 128 (by decide)).mp x))]
              by_cases w2 : c < 2048
              · rw [if_pos ((lt 2048 (by decide)).mpr w2)]; omega
              · rw [if_neg (fun x => w2 ((lt 2048 (by decide)).mp x))]
                by_cases w3 : c < 65536
                · rw [if_pos ((lt 65536 (by decide)).mpr w3)]; omega
                · rw [if_neg (fun x => w3 ((lt 65536 (by decide)).mp x))]; omega
          -- a character below 128 is its byte
          have hsmall : c < 128 → z = 1 ∧ B p = c := by
            intro hcs
            have hz1 : z = 1 := by
              have : z = 1 ∨ z = 2 ∨ z = 3 ∨ z = 4 := by omega
              rcases this with y | y | y | y
              · exact y
              · have := (ub_cl hB hz.symm hzn (z - 1) (by omega) (fun i i1 i2 => hr.2.2.1 i i1 (by omega))).2.2.1 (by omega) y
                omega
              · have := hr.2.2.2.2.2.1 (hz.trans y); rw [hz, hc] at this; omega
              · have := hr.2.2.2.2.2.2 (hz.trans y); rw [hz, hc] at this; omega
            refine ⟨hz1, ?_⟩
            rw [← hc, hz1]
            rfl
          have hlast : c ≠ 13 → B (p + z - 1) ≠ 13 := by
            intro hc13 e
            by_cases hz1 : z = 1
            · rw [hz1, show p + 1 - 1 = p by omega] at e
              refine hc13 ?_
              rw [← hc, hz1]
              exact e
            · have := hr.2.2.1 (z - 1) (by omega) (by omega)
              rw [show p + (z - 1) = p + z - 1 by omega] at this
              unfold ub_t at this
              omega
          -- what M does when it is no second one
          have m255 : fj_20_255 (lo_it de_M fm) gm (nI n) (nI p) (nI z) (nI c) = if 0 < p ∨ c ≠ 65279 then lo_it de_M fm (am_si (am_si (am_si gm 945 s (nI (if c = 13 then 10 else c))) 946 s (nI p)) 943 4 (nI (s + 1)), nI n, nI (p + z)) else lo_it de_M fm (gm, nI n, nI (p + z)) := by
            have m274 : fj_20_274 (lo_it de_M fm) gm (nI n) (nI p) (nI z) (nI c) = lo_it de_M fm (am_si (am_si (am_si gm 945 s (nI (if c = 13 then 10 else c))) 946 s (nI p)) 943 4 (nI (s + 1)), nI n, nI (p + z)) := by
              unfold fj_20_274 fj_20_296
              rw [d5]
              by_cases y : c = 13
              · rw [if_pos (e13.mpr y), if_pos y, ai_nI (by omega) (by omega), lo_gt, lo_gt, lo_ll, nI_add, nI_clamp (by omega), nI_1]; rfl
              · rw [if_neg (fun w => y (e13.mp w)), if_neg y, ai_nI (by omega) (by omega), lo_gt, lo_gt, lo_ll, nI_add, nI_clamp (by omega), nI_1]
            unfold fj_20_255 fj_20_256
            rw [if_pos rfl, m274]
            by_cases y : 0 < p
            · rw [if_pos (show (0 : Int32) < nI p from nI_lt (a := 0) y (by omega)), if_pos (Or.inl y)]
            · rw [if_neg (show ¬ (0 : Int32) < nI p from nI_nlt (a := p) (b := 0) (by omega) (by omega) |> fun _ => by rw [show p = 0 by omega]; decide)]
              by_cases w : c = 65279
              · rw [if_pos (ebm.mpr w), if_neg (by omega), lo_ll, nI_add]
              · rw [if_neg (fun x => w (ebm.mp x)), if_pos (Or.inr w)]
          have mca : mc_a (lo_it de_M fm) gm (nI n) (nI p) (nI z) (nI c) = fj_20_255 (lo_it de_M fm) gm (nI n) (nI p) (nI z) (nI c) := by
            unfold mc_a
            by_cases y : c = 10
            · rw [if_pos (e10.mpr y)]
              by_cases w : p = 0
              · rw [if_pos (show nI p ≤ 0 by rw [w]; decide)]
              · rw [if_neg (nI_nle (by omega) (by omega)), nI_s1 (by omega), ai_nI (by omega) (by omega), lo_gt, nI_clamp (by omega), d9 _ (by omega), if_neg]
                intro x
                have hb1 : B (p - 1) = 13 := (nI_eq (b := 13) (by have := hB (p - 1); omega) (by decide)).mp x
                exact d11 ⟨by omega, hb1, hp, by rw [(hsmall (by omega)).2]; exact y⟩
            · rw [if_neg (fun w => y (e10.mp w))]
          rw [mca, m255]
          -- R's side
          have g3 : fx_i dr_S gR (am_si gR 36 0 (nI z)) := f3
          have r97 : ∀ (c1 nx : Nat), c1 < 1114112 → fj_153_97 (lo_it de_R fr) (am_si gR 36 0 (nI z)) (nI n) (nI c1) (nI nx) = if 0 < p ∨ c1 ≠ 65279 then lo_it de_R fr (am_si (am_si (am_si (am_si (am_si gR 36 0 (nI z)) 37 s (nI c1)) 38 s (nI p)) 35 3 (nI (s + 1))) 35 4 (nI nx), nI n) else lo_it de_R fr (am_si (am_si gR 36 0 (nI z)) 35 4 (nI nx), nI n) := by
            intro c1 nx hc1
            have e1 : nI c1 = 65279 ↔ c1 = 65279 := nI_eq (b := 65279) (by omega) (by decide)
            have ad : fm_155 (am_si gR 36 0 (nI z)) (nI c1) = some (am_si (am_si (am_si (am_si gR 36 0 (nI z)) 37 s (nI c1)) 38 s (nI p)) 35 3 (nI (s + 1))) := by
              unfold fm_155
              rw [show am_i (am_si gR 36 0 (nI z)) 35 3 = am_i gR 35 3 from rfl, show am_i (am_si gR 36 0 (nI z)) 35 4 = am_i gR 35 4 from rfl, d3, d4, ai_nI (by omega) (by omega), lo_gt, ai_nI (by omega) (by omega), lo_gt, nI_clamp (by omega), nI_1]
            unfold fj_153_97 fj_153_110 fj_153_115
            rw [ad, lo_ps, show am_i (am_si gR 36 0 (nI z)) 35 4 = am_i gR 35 4 from rfl, d3]
            by_cases y : 0 < p
            · rw [if_pos (show (0 : Int32) < nI p from nI_lt (a := 0) y (by omega)), if_pos (Or.inl y)]
            · rw [if_neg (show ¬ (0 : Int32) < nI p by rw [show p = 0 by omega]; decide)]
              by_cases w : c1 = 65279
              · rw [if_pos (e1.mpr w), if_neg (by omega)]
              · rw [if_neg (fun x => w (e1.mp x)), if_pos (Or.inr w)]
          have h37 : ∀ i, am_i (am_si gR 36 0 (nI z)) 37 i = am_i gR 37 i := fun i => by rw [gi_si, if_neg (by omega)]
          have h38 : ∀ i, am_i (am_si gR 36 0 (nI z)) 38 i = am_i gR 38 i := fun i => by rw [gi_si, if_neg (by omega)]
          have fA : ∀ (c1 nx : Nat), fx_i dr_S gR (am_si (am_si (am_si (am_si (am_si gR 36 0 (nI z)) 37 s (nI c1)) 38 s (nI p)) 35 3 (nI (s + 1))) 35 4 (nI nx)) := fun c1 nx => fx_tr f3 (fx_tr (fx_tr (fx_tr (fx_si rfl) (fx_si rfl)) (fx_si rfl)) (fx_si rfl))
          have fM : ∀ c1 : Nat, fx_i dm_S gm (am_si (am_si (am_si gm 945 s (nI c1)) 946 s (nI p)) 943 4 (nI (s + 1))) := fun c1 => fx_tr (fx_tr (fx_si rfl) (fx_si rfl)) (fx_si rfl)
          by_cases y : c = 13
          · obtain ⟨hz1, hbp⟩ := hsmall (by omega)
            subst hz1
            rw [if_pos (e13.mpr y), if_pos (Or.inr (show c ≠ 65279 by omega)), if_pos y, show (10 : Int32) = nI 10 from rfl]
            by_cases w : n ≤ p + 1
            · rw [if_pos (nI_le w (by omega)), r97 10 (p + 1) (by decide), if_pos (Or.inr (by decide))]
              have D2 := (dc_ad hn (c := 10) (z := 1) (by decide) D (by decide) hpz (fun x => by omega) (by decide) f3 d4 d3 h37 h38).2
              exact de_Qt (fA 10 (p + 1)) (fM 10) (ih (d - 1) (by omega) (p + 1) (s + 1) fr fm _ _ (by omega) (by omega) (by omega) D2)
            · rw [if_neg (nI_ge (by omega) (by omega)), ai_nI (by omega) (by omega), lo_gt, nI_clamp (by omega), show am_i (am_si gR 36 0 (nI 1)) 34 (p + 1) = am_i gR 34 (p + 1) by rw [gi_si, if_neg (by omega)], d8 _ (by omega)]
              have e10b : e8_b (B (p + 1)) = nI 10 ↔ B (p + 1) = 10 := by
                constructor
                · intro x
                  have := congrArg (fun q => q &&& 255) x
                  have h1 : e8_b (B (p + 1)) &&& 255 = nI (B (p + 1)) := sc_k8 _ (hB _)
                  have h2 : nI 10 &&& 255 = nI 10 := by decide
                  have this : e8_b (B (p + 1)) &&& 255 = nI 10 &&& 255 := this
                  rw [h1, h2] at this
                  exact (nI_eq (by have := hB (p + 1); omega) (by decide)).mp this
                · intro x; rw [x]; decide
              by_cases v : B (p + 1) = 10
              · rw [if_pos (e10b.mpr v), nI_1, r97 10 (p + 1 + 1) (by decide), if_pos (Or.inr (by decide))]
                have D2 := (dc_ad hn (c := 10) (z := 2) (by decide) D (by decide) (by omega) (fun x => by have := x.1; rw [show p + 2 - 1 = p + 1 by omega, v] at this; omega) (by decide) f3 d4 d3 h37 h38).2
                obtain ⟨fm, rfl⟩ : ∃ m, fm = m + 1 := ⟨fm - 1, by omega⟩
                have hg2 : ∀ k, k < n → am_i (am_si (am_si (am_si gm 945 s (nI 10)) 946 s (nI p)) 943 4 (nI (s + 1))) 944 k = nI (B k) := D2.2.2.2.2.2.2.2.2.1
                have hz1' : ub_z (B (p + 1)) = 1 := by rw [v]; rfl
                have hc1' : ub_c B (p + 1) 1 (1 - 1) = 10 := v
                have hu2 : ub_ok B (p + 1) n := by
                  refine ⟨by rw [hz1']; decide, by rw [hz1']; omega, fun k k1 k2 => by rw [hz1'] at k2; omega, ?_⟩
                  rw [hz1', hc1']
                  refine ⟨ch_t ?_, fun x => by omega, fun x => by omega⟩
                  rw [show (nI 10).toInt = 10 from rfl]
                  unfold al_P
                  omega
                have e2 := (mc_s (p := p + 1) (lo_it de_M fm) hB hg2 hn (by omega)).1 hu2
                rw [hz1', hc1'] at e2
                have e3 : mc_a (lo_it de_M fm) (am_si (am_si (am_si gm 945 s (nI 10)) 946 s (nI p)) 943 4 (nI (s + 1))) (nI n) (nI (p + 1)) (nI 1) (nI 10) = lo_it de_M fm (am_si (am_si (am_si gm 945 s (nI 10)) 946 s (nI p)) 943 4 (nI (s + 1)), nI n, nI (p + 2)) := by
                  unfold mc_a
                  rw [if_pos (show nI 10 = 10 from rfl), if_neg (nI_nle (by omega) (by omega)), nI_pred, ai_nI (by omega) (by omega), lo_gt, nI_clamp (by omega), hg2 p hp, hbp, y, if_pos (show nI 13 = 13 from rfl)]
                  unfold fj_20_256
                  rw [if_neg (by decide), lo_ll, nI_add]
                rw [de_m1, e2, e3]
                exact de_Qt (fA 10 (p + 2)) (fM 10) (ih (d - 2) (by omega) (p + 2) (s + 1) fr fm _ _ (by omega) (by omega) (by omega) D2)
              · rw [if_neg (fun x => v (e10b.mp x)), r97 10 (p + 1) (by decide), if_pos (Or.inr (by decide))]
                have D2 := (dc_ad hn (c := 10) (z := 1) (by decide) D (by decide) hpz (fun x => v x.2.2) (by decide) f3 d4 d3 h37 h38).2
                exact de_Qt (fA 10 (p + 1)) (fM 10) (ih (d - 1) (by omega) (p + 1) (s + 1) fr fm _ _ (by omega) (by omega) (by omega) D2)
          · rw [if_neg (fun w => y (e13.mp w)), r97 c (p + z) ha1, if_neg y]
            by_cases w : 0 < p ∨ c ≠ 65279
            · rw [if_pos w, if_pos w]
              have D2 := (dc_ad hn (c := c) (z := z) ha1 D (by omega) hpz (fun x => hlast y x.1) hu8 f3 d4 d3 h37 h38).2
              exact de_Qt (fA c (p + z)) (fM c) (ih (d - z) (by omega) (p + z) (s + 1) fr fm _ _ (by omega) (by omega) (by omega) D2)
            · rw [if_neg w, if_neg w]
              have fB : fx_i dr_S gR (am_si (am_si gR 36 0 (nI z)) 35 4 (nI (p + z))) := fx_tr f3 (fx_si rfl)
              refine de_Qt fB fx_re (ih (d - z) (by omega) (p + z) s fr fm _ _ (by omega) (by omega) (by omega) ⟨hpz, by omega, rfl, ?_, d5, d6, fun i hi => ?_, fun k hk => ?_, d9, gs_dr d10 fB, fun x => hlast y x.2.1, fun i hi => ?_⟩)
              · rw [gi_si, if_neg (by omega), gi_si, if_neg (by omega)]; exact d4
              · rw [gi_si, if_neg (by omega), h37, gi_si, if_neg (by omega), h38]; exact d7 i hi
              · rw [(fB.1 34 k rfl).1]; exact d8 k hk
              · obtain ⟨b, e, x1, x2, x3, x4, x5⟩ := d12 i hi
                have g38 : ∀ j, am_i (am_si (am_si gR 36 0 (nI z)) 35 4 (nI (p + z))) 38 j = am_i gR 38 j := fun j => by rw [gi_si, if_neg (by omega), h38]
                refine ⟨b, e, (g38 i).trans x1, ?_, fun x => by have := x3 x; omega, fun x => (g38 _).trans (x4 x), x5⟩
                rw [gi_si, if_neg (by omega), h37]; exact x2
      · have hnu : ¬ ub_ok B p n := fun w => hr ⟨w.1, w.2.1, w.2.2.1, by
          have hcl : c < 2097152 := by
            have := (ub_cl hB hz.symm (by rw [← hz]; exact w.1) (z - 1) (by have := w.1; omega) (fun i i1 i2 => w.2.2.1 i i1 (by omega))).1
            omega
          have v := w.2.2.2
          rw [hz, hc] at v ⊢
          obtain ⟨ha1, ha2⟩ := al_ch v.1 hcl
          have hti : (nI c).toInt = c := nI_toInt (by omega)
          have v2 := v.2.1
          have v3 := v.2.2
          rw [hti] at v2 v3
          exact ⟨by omega, ha2, fun y => by have := v2 y; omega, fun y => by have := v3 y; omega⟩⟩
        rw [R2 hr, lo_is, if_pos rfl, M2 hnu, failM]
        unfold fm_154
        rw [lo_is]
        exact Or.inr ⟨p, 1, _, gm, rfl, by decide, by rw [gi_si, if_neg (by omega), gi_si, if_neg (by omega)]; exact d3, rfl, fx_tr f3 (fx_si rfl), fx_re⟩
    · have hpn : p = n := by omega
      unfold fb_153_10 fb_20_7
      rw [d3, hpn, if_pos (nI_le (Nat.le_refl _) (by omega)), if_pos (nI_le (Nat.le_refl _) (by omega)), d4, ai_nI (by omega) (by omega), lo_gt, nI_clamp (by omega)]
      refine Or.inl ⟨s, _, gm, rfl, rfl, ⟨by omega, ?_, ?_, fun i hi => ?_, fun i hi => ?_⟩, ⟨d5, fun i hi => ?_⟩, fx_si rfl, fx_re⟩
      · rw [gi_si, if_neg (by omega)]; exact d4
      · rw [gi_si, if_pos ⟨rfl, rfl⟩]
      · rw [gi_si, if_neg (by omega)]; exact (d7 i hi).1
      · obtain ⟨b, e, x1, x2, x3, x4, x5⟩ := d12 i hi
        have y1 : am_i (am_si gR 38 s (nI n)) 38 i = nI b := by rw [gi_si, if_neg (by omega)]; exact x1
        have y2 : am_i (am_si gR 38 s (nI n)) 37 i = am_i gR 37 i := by rw [gi_si, if_neg (by omega)]
        by_cases q : i + 1 = s
        · refine ⟨b, n, y1, ?_, ?_, by omega⟩
          · rw [gi_si, if_pos ⟨rfl, q⟩]
          · rw [y2]; have := x3 q; omega
        · exact ⟨b, e, y1, by rw [gi_si, if_neg (fun x => q x.2)]; exact x4 (by omega), by rw [y2]; exact x2, x5⟩
      · rw [gi_si, if_neg (by omega), gi_si, if_neg (by omega)]; exact (d7 i hi).2
end
