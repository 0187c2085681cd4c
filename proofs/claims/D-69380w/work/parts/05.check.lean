/-! The words that hold further on, and the tables' places, checked. -/
def tw_ok (w : Jvm.Cond) : Bool := (w.onTables && w.keeps) || (match w with
  | .arrayClass _ => true
  | .fieldLinkNest .. => true
  | .methodLinkNest .. => true
  | .declares _ => true
  | .castable .. => true
  | .arrayOver (.object _) => true
  | _ => false)
theorem tw_warm {w : Jvm.Cond} (hw : tw_ok w = true) {A A' : Array Value} {s U : State} (hW : s.WarmedH U.vm) (h : w.before A s = true) : w.before A' U = true := by
  unfold tw_ok at hw
  rw [Bool.or_eq_true] at hw
  rcases hw with hw | hw
  · exact word_at hW (Or.inl hw) h
  · cases w <;> first
      | (exact (Bool.false_ne_true hw).elim)
      | (exact word_at hW (Or.inr ⟨_, rfl⟩) h)
      | (exact va_Nw.use rfl (va_Nw.warmF hW (va_Nw.of rfl h)))
      | (exact va_Nw.use rfl (va_Nw.warmM hW (va_Nw.of rfl h)))
      | (exact va_Nw.use rfl (va_Nw.warmD hW (va_Nw.of rfl h)))
      | (exact va_Nw.use rfl (va_Nw.warmC hW (va_Nw.of rfl h)))
      | (rename_i ty; cases ty <;> first | (exact (Bool.false_ne_true hw).elim) | (exact va_AO.use (va_AO.moved hW.alike (va_AO.of h))))
def sm_tbl : List Jvm.Cond := lw_tbl.filter tw_ok
theorem sm_in {w : Jvm.Cond} (i : Nat) (h : lw_tbl[i]? = some w) (h2 : tw_ok w = true) : w ∈ sm_tbl := List.mem_filter.mpr ⟨List.mem_of_getElem? h, h2⟩
def sm_at (i : Nat) (w : Jvm.Cond) : Bool := decide (lw_tbl[i]? = some w) && tw_ok w
theorem sm_at_in {w : Jvm.Cond} {i : Nat} (h : sm_at i w = true) : w ∈ sm_tbl := by
  simp only [sm_at, Bool.and_eq_true, decide_eq_true_eq] at h
  exact sm_in i h.1 h.2
/-- own, index, nest, kind, field, place -/
def ck_f (e : Nat × Nat × Nat × Nat × Nat × Nat) : Bool :=
  sm_at e.2.2.2.2.2 (bif Nat.beq e.2.2.1 0 then .fieldLink (jo e.1) e.2.1 (jf e.2.2.2.1 e.2.2.2.2.1).1 (jf e.2.2.2.1 e.2.2.2.2.1).2.1 (jf e.2.2.2.1 e.2.2.2.2.1).2.2.1
    else .fieldLinkNest (jo e.1) e.2.1 (jf e.2.2.2.1 e.2.2.2.2.1).1 (jf e.2.2.2.1 e.2.2.2.2.1).2.1 (jf e.2.2.2.1 e.2.2.2.2.1).2.2.1 "DeclaredMarkup") && Nat.blt e.2.2.2.2.1 (jnf e.2.2.2.1)
set_option maxRecDepth 100000 in
theorem ck_fl : jfl.all ck_f = true := by decide +kernel
/-- a static's class, name, descriptor, by its number -/
def js (n : Nat) : String × String × String := bif Nat.beq n 16 then ("DeclaredMarkup$AttType", "$VALUES", "[LDeclaredMarkup$AttType;")
  else bif Nat.beq n 17 then ("DeclaredMarkup$Letters", "MAY", "[I") else bif Nat.beq n 18 then ("DeclaredMarkup$Letters", "BEGINS", "[I") else bif Nat.beq n 19 then ("DeclaredMarkup$Letters", "PARTS", "[I")
  else bif Nat.blt n 11 then ("DeclaredMarkup$AttType", ["", "CDATA", "ID", "IDREF", "IDREFS", "ENTITY", "ENTITIES", "NMTOKEN", "NMTOKENS", "NOTATION", "LIST"].getD n "", "LDeclaredMarkup$AttType;")
  else ("DeclaredMarkup$LineKind", ["START", "END", "ATTRIBUTE", "INSTRUCTION", "TEXT"].getD (n - 11) "", "LDeclaredMarkup$LineKind;")
/-- own, index, nest, number, place -/
def ck_s (e : Nat × Nat × Nat × Nat × Nat) : Bool :=
  sm_at e.2.2.2.2 (bif Nat.beq e.2.2.1 0 then .fieldLink (jo e.1) e.2.1 (js e.2.2.2.1).1 (js e.2.2.2.1).2.1 (js e.2.2.2.1).2.2 else .fieldLinkNest (jo e.1) e.2.1 (js e.2.2.2.1).1 (js e.2.2.2.1).2.1 (js e.2.2.2.1).2.2 "DeclaredMarkup") && (Nat.blt 0 e.2.2.2.1 && Nat.blt e.2.2.2.1 20)
theorem ck_sl : jsl.all ck_s = true := by decide +kernel
/-- own, index, nest, method, place -/
def ck_m (e : Nat × Nat × Nat × Nat × Nat) : Bool :=
  sm_at e.2.2.2.2 (bif Nat.beq e.2.2.2.1 0 then .methodLink (jo e.1) e.2.1 Lib.objectInit else bif Nat.beq e.2.2.1 0 then .methodLink (jo e.1) e.2.1 (jy e.2.2.2.1) else .methodLinkNest (jo e.1) e.2.1 (jy e.2.2.2.1) "DeclaredMarkup")
set_option maxRecDepth 100000 in
theorem ck_ml : jml.all ck_m = true := by decide +kernel
/-- own, index, kind, place -/
def ck_c (e : Nat × Nat × Nat × Nat) : Bool := sm_at e.2.2.2 (.classLink (jo e.1) e.2.1 (jo e.2.2.1))
theorem ck_cl : jcl.all ck_c = true := by decide +kernel
def ck_k (e : Nat × Nat × Int32 × Nat) : Bool := sm_at e.2.2.2 (.constant (jo e.1) e.2.1 e.2.2.1)
theorem ck_kc : jkc.all ck_k = true := by decide +kernel
def ck_l (e : Nat × Nat × Int64 × Nat) : Bool := sm_at e.2.2.2 (.constantLong (jo e.1) e.2.1 e.2.2.1)
theorem ck_kl : jkl.all ck_l = true := by decide +kernel
