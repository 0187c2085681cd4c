/-! Fields and arrays: rows of AI in the machine. -/
def ck_cls (c : Nat) : Bool := (List.range (jnf c)).all (fun k => sm_at ((jX c).getD k 0) (u_lay (jo c) (jf c) k)) && ((List.range (jnf c)).all (fun k => (parseFieldDescriptor (jf c k).2.2.1).isSome) && decide ((jT c).map (fun q => q.2.1)).Nodup)
set_option maxRecDepth 100000 in
theorem ck_all : ((List.range 16).all fun c => ck_cls (c + 1)) = true := by decide +kernel
theorem ck_at {c : Nat} (h0 : 0 < c) (h1 : c < 17) : ck_cls c = true := by
  have := List.all_eq_true.mp ck_all (c - 1) (List.mem_range.mpr (by omega))
  rwa [show c - 1 + 1 = c by omega] at this
theorem lay_in {c : Nat} (h0 : 0 < c) (h1 : c < 17) : ∀ x ∈ u_ws (jo c) (jf c) (jnf c), x ∈ sm_tbl := by
  intro x hx
  have h := ck_at h0 h1
  simp only [ck_cls, Bool.and_eq_true] at h
  obtain ⟨k, hk, rfl⟩ := List.mem_map.mp hx
  exact sm_at_in (List.all_eq_true.mp h.1 k hk)
theorem lay_ty {c : Nat} (h0 : 0 < c) (h1 : c < 17) : ∀ k, k < jnf c → parseFieldDescriptor (jf c k).2.2.1 = some (jty c k) := by
  intro k hk
  have h := ck_at h0 h1
  simp only [ck_cls, Bool.and_eq_true] at h
  have h2 := List.all_eq_true.mp h.2.1 k (List.mem_range.mpr hk)
  obtain ⟨t, ht⟩ := Option.isSome_iff_exists.mp h2
  unfold jty
  rw [ht]
  rfl
theorem lay_nm {c : Nat} (h0 : 0 < c) (h1 : c < 17) : ∀ a, a < jnf c → ∀ b, b < jnf c → a ≠ b → (jf c a).2.1 ≠ (jf c b).2.1 := by
  intro a ha b hb hne he
  have h := ck_at h0 h1
  simp only [ck_cls, Bool.and_eq_true, decide_eq_true_eq] at h
  have hn := h.2.2
  have la : a < ((jT c).map (fun q => q.2.1)).length := by rw [List.length_map]; exact ha
  have lb : b < ((jT c).map (fun q => q.2.1)).length := by rw [List.length_map]; exact hb
  apply hne
  have e1 : ((jT c).map (fun q => q.2.1))[a] = (jf c a).2.1 := by
    rw [List.getElem_map]; unfold jf; rw [List.getD_eq_getElem?_getD, List.getElem?_eq_getElem ha]; rfl
  have e2 : ((jT c).map (fun q => q.2.1))[b] = (jf c b).2.1 := by
    rw [List.getElem_map]; unfold jf; rw [List.getD_eq_getElem?_getD, List.getElem?_eq_getElem hb]; rfl
  exact (List.getElem_inj hn).mp (by rw [e1, e2]; exact he)
section
variable {p : Program} {l : Launch} {e : Env} {R : Room} {s : State} {m : MethodId} {args : Array Value} {below : List Frame} {meth : Method} {c : Code} {H : Heap} {locs : List Loc} {cells slots : Nat} {Q : State → Prop}
variable {w : sm_T} {h : am_M} {pc : Nat} {ls : Array Slot} {rest : List Value} {cc : ByteArray}
/-- the links of a field, nest or not -/
def sm_fl (s : State) (args : Array Value) (own : String) (k : Nat) (r n d : String) : Prop := (Cond.fieldLink own k r n d).before args s = true ∨ (Cond.fieldLinkNest own k r n d "DeclaredMarkup").before args s = true
theorem sm_getf (hexec : p.tables.exec = Jvm.exec) (hb : c.code = cc) {own ref name desc : String} {index : Nat} (hown : s.vm.findClass own = some m.cls) (hl : sm_fl s args own index ref name desc)
    {cf i : Nat} {k : Class} {f : Field} (hi : s.fieldFound? ref name desc = some (cf, k, i, f)) (hst : f.isStatic = false) {a : Addr} {cell : Cell} {v : Value} (hcell : H[a]? = some cell) (hknown : cell.vm ≠ .unknown) (hslot : cell.slots[f.slot]? = some v)
    (hdg : decode cc pc = .ok (.getfield index, 3)) (kk : W p l e R s m args below meth c H locs cells slots Q (F0 m (pc + 3) ls (v :: rest))) : W p l e R s m args below meth c H locs cells slots Q (F0 m pc ls (.ref a :: rest)) := by
  rcases hl with hl | hl
  · exact W.getf hexec hb hown hl hi hst hcell hknown hslot rfl rfl hdg kk
  · exact va_Wgetf hexec hb hown hl hi hst hcell hknown hslot rfl rfl hdg kk
theorem sm_get (hexec : p.tables.exec = Jvm.exec) (hb : c.code = cc) {own : String} {index i ci k : Nat} (hown : s.vm.findClass own = some m.cls) (hts : ∀ x ∈ sm_tbl, x.before args s = true) (hK : sm_K w s) (h0 : 0 < ci) (h1 : ci < 17) (hk : k < jnf ci)
    (hl : sm_fl s args own index (jf ci k).1 (jf ci k).2.1 (jf ci k).2.2.1) (hc : am_kd h.1 i = ci) (ho : sm_obj w h i H) (hdg : decode cc pc = .ok (.getfield index, 3))
    (kk : W p l e R s m args below meth c H locs cells slots Q (F0 m (pc + 3) ls (sm_v w (ai_get h i k (jp ci k)) :: rest))) : W p l e R s m args below meth c H locs cells slots Q (F0 m pc ls (.ref (sm_a w i) :: rest)) := by
  unfold sm_obj at ho
  rw [hc] at ho
  obtain ⟨cell, q1, q2, q3, q4⟩ := ho
  obtain ⟨hS, hfc, kC, hkC, hkind⟩ := hK.1 ci h0 h1
  obtain ⟨cf, kf, fi, f, hi, hsl⟩ := hS k hk
  refine sm_getf hexec hb hown hl hi (u_facts hfc hkC (u_lays hts (lay_in h0 h1) hk) hi).1 q1 (by rw [q3]; exact fun h => by cases h) (v := sm_v w (ai_get h i k (jp ci k))) ?_ hdg kk
  rw [hsl, q4 k hk]
/-- a constant's own number -/
theorem sm_getO (hexec : p.tables.exec = Jvm.exec) (hb : c.code = cc) {own : String} {index a : Nat} {o n d : String} {v : Value} (hown : s.vm.findClass own = some m.cls) (hl : sm_fl s args own index o n d) (hO : va_OF o n d v a (sm_A w) s s.heap) (hS : va_S (sm_A w) s.heap H locs)
    (hdg : decode cc pc = .ok (.getfield index, 3)) (kk : W p l e R s m args below meth c H locs cells slots Q (F0 m (pc + 3) ls (v :: rest))) : W p l e R s m args below meth c H locs cells slots Q (F0 m pc ls (.ref a :: rest)) := by
  obtain ⟨cf, k, i, f, cell, h1, h2, h3, h4, h5, h6⟩ := hO
  exact sm_getf hexec hb hown hl h1 h2 (by rw [hS.2.1 a (Array.getElem?_eq_some_iff.mp h3).1 h6]; exact h3) h4 h5 hdg kk
theorem sm_gets (hexec : p.tables.exec = Jvm.exec) (hb : c.code = cc) {own C n d : String} {v : Value} {index : Nat} (hZ : va_Z C n d v (sm_A w) s s.heap) (hS : va_S (sm_A w) s.heap H locs) (hown : s.vm.findClass own = some m.cls) (hl : sm_fl s args own index C n d)
    (hdg : decode cc pc = .ok (.getstatic index, 3)) (kk : W p l e R s m args below meth c H locs cells slots Q (F0 m (pc + 3) ls (v :: rest))) : W p l e R s m args below meth c H locs cells slots Q (F0 m pc ls rest) := by
  rcases hl with hl | hl
  · exact va_gets hexec hb hZ hS hown hl (fun x h => h) hdg kk
  · exact va_getsN hexec hb hZ hS hown hl (fun x h => h) hdg kk
/-- a put: the heap behind it -/
theorem sm_putc (hexec : p.tables.exec = Jvm.exec) (hb : c.code = cc) {own : String} {index i ci k : Nat} (hown : s.vm.findClass own = some m.cls) (hts : ∀ x ∈ sm_tbl, x.before args s = true) (hK : sm_K w s) (h0 : 0 < ci) (h1 : ci < 17) (hk : k < jnf ci)
    (hl : sm_fl s args own index (jf ci k).1 (jf ci k).2.1 (jf ci k).2.2.1) (hfin : (jf ci k).2.2.2 = false) (hc : am_kd h.1 i = ci) (ho : sm_obj w h i H) {v : Value} (hn : narrow (jty ci k) v = v) (hfit : fits (jty ci k) v = true) (hdg : decode cc pc = .ok (.putfield index, 3))
    (kk : ∀ (H' : Heap) (sl : Nat), t_OB (sm_a w i) (w.2.2.1.1 ci) (jnf ci) (w.2.2.1.2 ci) H' (updV (fun f => sm_v w (ai_get h i f (jp ci f))) k v) → H'.size = H.size → (∀ q, q ≠ sm_a w i → H'[q]? = H[q]?) → W p l e R s m args below meth c H' (locs ++ [⟨sm_a w i, sl⟩]) cells slots Q (F0 m (pc + 3) ls rest)) :
    W p l e R s m args below meth c H locs cells slots Q (F0 m pc ls (v :: .ref (sm_a w i) :: rest)) := by
  have hu := hK.1 ci h0 h1
  have hap : ∀ x y, x < jnf ci → y < jnf ci → x ≠ y → (w.2.2.1.2 ci) x ≠ (w.2.2.1.2 ci) y := by
    intro x y hx hy hne
    obtain ⟨_, _, _, fa, hia, ea⟩ := hu.1 x hx
    obtain ⟨_, _, _, fb, hib, eb⟩ := hu.1 y hy
    rw [← ea, ← eb]
    refine u_apart (u_lays hts (lay_in h0 h1) hx) (u_lays hts (lay_in h0 h1) hy) hia hib ?_
    rw [(State.fieldFound?_type hia (lay_ty h0 h1 x hx)).1, (State.fieldFound?_type hib (lay_ty h0 h1 y hy)).1]
    exact lay_nm h0 h1 x hx y hy hne
  unfold sm_obj at ho
  rw [hc] at ho
  obtain ⟨cell, q1, q2, q3, q4⟩ := ho
  obtain ⟨hS, hfc, kC, hkC, hkind⟩ := hu
  obtain ⟨cf, kf, fi, f, hi, hsl⟩ := hS k hk
  have hlay := hts _ (lay_in h0 h1 _ (u_in_lay hk))
  unfold u_lay at hlay
  rw [if_neg (by rw [hfin]; decide)] at hlay
  have hst := (u_facts hfc hkC (u_lays hts (lay_in h0 h1) hk) hi).1
  have h6 := u_store hfc hkC hkind hlay hi (lay_ty h0 h1 k hk) hn hfit
  rcases hl with hl | hl
  · refine W.putK hexec hb (f := f) ⟨hown, hl, ⟨_, _, _, hi⟩, hst⟩ (by rw [q2]; exact h6) q1 q3 (by rw [hsl]; exact k2_hasslot (q4 k hk)) rfl rfl hdg fun H' e1 e2 e3 => ?_
    rw [hsl] at e1 ⊢
    exact kk H' _ ⟨_, e1, q2, q3, t_set q4 hap hk v⟩ e2 e3
  · refine va_WputK hexec hb (f := f) hown hl hi hst (by rw [q2]; exact h6) q1 q3 (by rw [hsl]; exact k2_hasslot (q4 k hk)) rfl rfl hdg fun H' e1 e2 e3 => ?_
    rw [hsl] at e1 ⊢
    exact kk H' _ ⟨_, e1, q2, q3, t_set q4 hap hk v⟩ e2 e3
theorem sm_putF (hexec : p.tables.exec = Jvm.exec) (hb : c.code = cc) {own : String} {index i ci k : Nat} (hown : s.vm.findClass own = some m.cls) (hts : ∀ x ∈ sm_tbl, x.before args s = true) (hK : sm_K w s) (h0 : 0 < ci) (h1 : ci < 17) (hk : k < jnf ci)
    (hl : (Cond.fieldLink own index (jf ci k).1 (jf ci k).2.1 (jf ci k).2.2.1).before args s = true) (hfin : (jf ci k).2.2.2 = true) (hin : meth.name = "<init>") (hdecl : (jf ci k).1 = own) (hc : am_kd h.1 i = ci) (ho : sm_obj w h i H) {v : Value} (hn : narrow (jty ci k) v = v) (hfit : fits (jty ci k) v = true) (hdg : decode cc pc = .ok (.putfield index, 3))
    (kk : ∀ (H' : Heap) (sl : Nat), t_OB (sm_a w i) (w.2.2.1.1 ci) (jnf ci) (w.2.2.1.2 ci) H' (updV (fun f => sm_v w (ai_get h i f (jp ci f))) k v) → H'.size = H.size → (∀ q, q ≠ sm_a w i → H'[q]? = H[q]?) → W p l e R s m args below meth c H' (locs ++ [⟨sm_a w i, sl⟩]) cells slots Q (F0 m (pc + 3) ls rest)) :
    W p l e R s m args below meth c H locs cells slots Q (F0 m pc ls (v :: .ref (sm_a w i) :: rest)) := by
  have hu := hK.1 ci h0 h1
  have hap : ∀ x y, x < jnf ci → y < jnf ci → x ≠ y → (w.2.2.1.2 ci) x ≠ (w.2.2.1.2 ci) y := by
    intro x y hx hy hne
    obtain ⟨_, _, _, fa, hia, ea⟩ := hu.1 x hx
    obtain ⟨_, _, _, fb, hib, eb⟩ := hu.1 y hy
    rw [← ea, ← eb]
    refine u_apart (u_lays hts (lay_in h0 h1) hx) (u_lays hts (lay_in h0 h1) hy) hia hib ?_
    rw [(State.fieldFound?_type hia (lay_ty h0 h1 x hx)).1, (State.fieldFound?_type hib (lay_ty h0 h1 y hy)).1]
    exact lay_nm h0 h1 x hx y hy hne
  unfold sm_obj at ho
  rw [hc] at ho
  obtain ⟨cell, q1, q2, q3, q4⟩ := ho
  obtain ⟨hS, hfc, kC, hkC, hkind⟩ := hu
  obtain ⟨cf, kf, fi, f, hi, hsl⟩ := hS k hk
  have hlay := hts _ (lay_in h0 h1 _ (u_in_lay hk))
  unfold u_lay at hlay
  rw [if_pos hfin] at hlay
  have hst := (u_facts hfc hkC (u_lays hts (lay_in h0 h1) hk) hi).1
  have hcf : m.cls = cf := by
    obtain ⟨_, _, c', _, _, _, -, -, hf', -, -, -, hown2, -⟩ := Cond.laysFinal_spec hlay
    have e1 : c' = cf := by have := hi.symm.trans hf'; simp at this; exact this.1.symm
    rw [hdecl] at hown2
    rw [← e1]; exact Option.some.inj (hown.symm.trans hown2)
  have h6 := u_fits hfc hkC hkind (Or.inr hlay) hi (lay_ty h0 h1 k hk) hn hfit
  refine W.putFinK hexec hb hown hl hi hst hcf hin (by rw [q2]; exact h6) q1 q3 (by rw [hsl]; exact k2_hasslot (q4 k hk)) rfl rfl hdg fun H' e1 e2 e3 => ?_
  rw [hsl] at e1 ⊢
  exact kk H' _ ⟨_, e1, q2, q3, t_set q4 hap hk v⟩ e2 e3
end
