/-! AI: an abstract interpreter of the bytecode over a flat typed memory. Objects are numbers. -/
/-- what is fixed once all is made: kind of an object (a class's number, 101.. arrays, 0 an exception), an array's length, references that are final -/
abbrev am_V : Type := (Nat → Nat) × (Nat → Nat) × (Nat → Nat → Option Nat)
/-- what changes: ints, longs, references, how many objects there are, how many slots they take -/
abbrev am_G : Type := (Nat → Nat → Int32) × (Nat → Nat → Int64) × (Nat → Nat → Option Nat) × Nat × Nat
abbrev am_M : Type := am_V × am_G
def am_up {α : Type} (f : Nat → Nat → α) (a k : Nat) (v : α) : Nat → Nat → α := fun x y => if x = a ∧ y = k then v else f x y
def am_u1 {α : Type} (f : Nat → α) (a : Nat) (v : α) : Nat → α := fun x => if x = a then v else f x
def am_i (g : am_G) (a k : Nat) : Int32 := g.1 a k
def am_j (g : am_G) (a k : Nat) : Int64 := g.2.1 a k
def am_r (g : am_G) (a k : Nat) : Option Nat := g.2.2.1 a k
def am_sz (g : am_G) : Nat := g.2.2.2.1
def am_us (g : am_G) : Nat := g.2.2.2.2
def am_si (g : am_G) (a k : Nat) (v : Int32) : am_G := (am_up g.1 a k v, g.2)
def am_sj (g : am_G) (a k : Nat) (v : Int64) : am_G := (g.1, am_up g.2.1 a k v, g.2.2)
def am_sr (g : am_G) (a k : Nat) (v : Option Nat) : am_G := (g.1, g.2.1, am_up g.2.2.1 a k v, g.2.2.2)
/-- one more exception, of six slots -/
def am_ex (g : am_G) : am_G := (g.1, g.2.1, g.2.2.1, g.2.2.2.1 + 1, g.2.2.2.2 + 6)
def am_kd (v : am_V) (a : Nat) : Nat := v.1 a
def am_ln (v : am_V) (a : Nat) : Nat := v.2.1 a
def am_fr (v : am_V) (a k : Nat) : Option Nat := v.2.2 a k
/-- a new object: all its places are 0 or null -/
def am_new (h : am_M) (kind len n : Nat) : am_M :=
  ((am_u1 h.1.1 h.2.2.2.2.1 kind, am_u1 h.1.2.1 h.2.2.2.2.1 len, am_u1 h.1.2.2 h.2.2.2.2.1 (fun _ => none)),
   (am_u1 h.2.1 h.2.2.2.2.1 (fun _ => 0), am_u1 h.2.2.1 h.2.2.2.2.1 (fun _ => 0), am_u1 h.2.2.2.1 h.2.2.2.2.1 (fun _ => none), h.2.2.2.2.1 + 1, h.2.2.2.2.2 + n))
def am_sf (h : am_M) (a k : Nat) (v : Option Nat) : am_M := ((h.1.1, h.1.2.1, am_up h.1.2.2 a k v), h.2)
/-- an array's clone -/
def am_cp (h : am_M) (o : Nat) : am_M :=
  ((am_u1 h.1.1 h.2.2.2.2.1 (h.1.1 o), am_u1 h.1.2.1 h.2.2.2.2.1 (h.1.2.1 o), am_u1 h.1.2.2 h.2.2.2.2.1 (h.1.2.2 o)),
   (am_u1 h.2.1 h.2.2.2.2.1 (fun _ => 0), am_u1 h.2.2.1 h.2.2.2.2.1 (fun _ => 0), am_u1 h.2.2.2.1 h.2.2.2.2.1 (fun _ => none), h.2.2.2.2.1 + 1, h.2.2.2.2.2 + h.1.2.1 o))
def am_v (o : Option Nat) : Value := match o with
  | none => .null
  | some a => .ref a
def am_o (v : Value) : Option (Option Nat) := match v with
  | .null => some none
  | .ref a => some (some a)
  | _ => none
/-- null, or one of the constants: what may be compared -/
def ai_oc (p : Option Nat) : Bool := match p with
  | none => true
  | some a => Nat.blt 0 a && Nat.blt a 16
def ai_in (j : Int32) (n : Nat) : Bool := decide (0 ≤ j) && Nat.blt j.toNatClampNeg n
abbrev ai_S : Type := Nat × List (Option Value) × List Value × am_M
abbrev ai_O : Type := Option Value ⊕ Nat
abbrev ai_R : Type := ai_S ⊕ ((Nat × List Value × ai_S) ⊕ (ai_O × am_M))
def ai_ld : List (Option Value) → Nat → Option Value
  | [], _ => none
  | x :: _, 0 => x
  | _ :: t, k + 1 => ai_ld t k
def ai_nl (x : Option Value) : Option Value := match x with
  | some (.long _) => none
  | some (.double _) => none
  | y => y
def ai_s1 : List (Option Value) → Nat → Value → Option (List (Option Value))
  | [], _, _ => none
  | _ :: t, 0, v => some (some v :: t)
  | x :: t, k + 1, v => (ai_s1 t k v).map (fun t' => (bif Nat.beq k 0 then ai_nl x else x) :: t')
def ai_s2 : List (Option Value) → Nat → Value → Option (List (Option Value))
  | _ :: _ :: t, 0, v => some (some v :: none :: t)
  | x :: t, k + 1, v => (ai_s2 t k v).map (fun t' => (bif Nat.beq k 0 then ai_nl x else x) :: t')
  | _, _, _ => none
def ai_km : List Bool → List (Option Value) → List (Option Value)
  | b :: m, x :: t => (bif b then none else x) :: ai_km m t
  | _, t => t
def ai_nx (pc : Nat) (L : List (Option Value)) (st : List Value) (h : am_M) : Option ai_R := some (.inl (pc, L, st, h))
def ai_sw : List (Int32 × Nat) → Nat → Int32 → Nat
  | [], d, _ => d
  | (k, t) :: r, d, x => bif decide (x = k) then t else ai_sw r d x
def ai_cd (c : Jvm.ClassFile.Cond) (x y : Int32) : Bool := match c with
  | .eq => decide (x = y)
  | .ne => decide (¬ x = y)
  | .lt => decide (x < y)
  | .ge => decide (y ≤ x)
  | .gt => decide (y < x)
  | .le => decide (x ≤ y)
def ai_cat (st : List Value) : Nat := match st with
  | [] => 0
  | v :: t => v.category + ai_cat t
/-- n values off the stack, the first argument first -/
def ai_pop : Nat → List Value → List Value → Option (List Value × List Value)
  | 0, acc, st => some (acc, st)
  | n + 1, acc, v :: st => ai_pop n (v :: acc) st
  | _ + 1, _, [] => none
/-- reads off an instruction -/
abbrev ai_J : Type := Instr × Nat × List Bool × Nat × Nat × Nat × Int32 × Int64 × List (Int32 × Nat)
def ai_len (i : ai_J) : Nat := i.2.1
def ai_m (i : ai_J) : List Bool := i.2.2.1
def ai_a (i : ai_J) : Nat := i.2.2.2.1
def ai_b (i : ai_J) : Nat := i.2.2.2.2.1
def ai_c (i : ai_J) : Nat := i.2.2.2.2.2.1
def ai_v (i : ai_J) : Int32 := i.2.2.2.2.2.2.1
def ai_w (i : ai_J) : Int64 := i.2.2.2.2.2.2.2.1
def ai_ps (i : ai_J) : List (Int32 × Nat) := i.2.2.2.2.2.2.2.2
def ai_ldi (L : List (Option Value)) (k : Nat) (f : Int32 → Option ai_R) : Option ai_R := match ai_ld L k with
  | some (.int x) => f x
  | _ => none
def ai_ldl (L : List (Option Value)) (k : Nat) (f : Int64 → Option ai_R) : Option ai_R := match ai_ld L k with
  | some (.long x) => f x
  | _ => none
def ai_lda (L : List (Option Value)) (k : Nat) (f : Option Nat → Option ai_R) : Option ai_R := match ai_ld L k with
  | some (.ref x) => f (some x)
  | some .null => f none
  | _ => none
def ai_sto (o : Option (List (Option Value))) (f : List (Option Value) → Option ai_R) : Option ai_R := match o with
  | some L => f L
  | none => none
/-- the plane of an object's place: 0 int, 1 long, 2 a reference, 3 a final reference -/
def ai_get (h : am_M) (o k pl : Nat) : Value := match pl with
  | 0 => .int (am_i h.2 o k)
  | 1 => .long (am_j h.2 o k)
  | 2 => am_v (am_r h.2 o k)
  | _ => am_v (am_fr h.1 o k)
def ai_put (h : am_M) (o k pl : Nat) (v : Value) : Option am_M := match pl, v with
  | 0, .int x => some (h.1, am_si h.2 o k x)
  | 4, .int x => bif decide (x = 0) || decide (x = 1) then some (h.1, am_si h.2 o k x) else none
  | 1, .long x => some (h.1, am_sj h.2 o k x)
  | 2, .null => some (h.1, am_sr h.2 o k none)
  | 2, .ref q => some (h.1, am_sr h.2 o k (some q))
  | 3, .ref q => some (am_sf h o k (some q))
  | _, _ => none
def ai_nar (kind : Nat) (x : Int32) : Int32 := match kind with
  | 102 => x.toInt8.toInt32
  | 103 => x.toInt16.toInt32
  | 104 => vp_nar .boolean x
  | _ => x
def ai_cl (mid : Nat) (as : List Value) (s : ai_S) : Option ai_R := some (.inr (.inl (mid, as, s)))
def ai_en (r : ai_O) (h : am_M) : Option ai_R := some (.inr (.inr (r, h)))
/-- one step; rz: what the method returns: 0 nothing, 1 an int, 2 a boolean, 3 a long, 4 a reference -/
def ai_sx (i : ai_J) (rz pc : Nat) (L : List (Option Value)) (st : List Value) (h : am_M) : Option ai_R :=
  match i.1, st with
  | .iconst _, st => ai_nx (pc + 1) L (.int (ai_v i) :: st) h
  | .bipush _, st => ai_nx (pc + 2) L (.int (ai_v i) :: st) h
  | .sipush _, st => ai_nx (pc + 3) L (.int (ai_v i) :: st) h
  | .ldc _, st => bif Nat.beq (ai_a i) 0 then ai_nx (pc + 2) L (.int (ai_v i) :: st) h else none
  | .ldc_w _, st => ai_nx (pc + 3) L (.int (ai_v i) :: st) h
  | .lconst _, st => ai_nx (pc + 1) L (.long (ai_w i) :: st) h
  | .ldc2_w _, st => ai_nx (pc + 3) L (.long (ai_w i) :: st) h
  | .aconst_null, st => ai_nx (pc + 1) L (.null :: st) h
  | .iload _, st => ai_ldi L (ai_a i) fun x => ai_nx (pc + 2) L (.int x :: st) h
  | .iload_n _, st => ai_ldi L (ai_a i) fun x => ai_nx (pc + 1) L (.int x :: st) h
  | .lload _, st => ai_ldl L (ai_a i) fun x => ai_nx (pc + 2) L (.long x :: st) h
  | .lload_n _, st => ai_ldl L (ai_a i) fun x => ai_nx (pc + 1) L (.long x :: st) h
  | .aload _, st => ai_lda L (ai_a i) fun x => ai_nx (pc + 2) L (am_v x :: st) h
  | .aload_n _, st => ai_lda L (ai_a i) fun x => ai_nx (pc + 1) L (am_v x :: st) h
  | .istore _, .int x :: st => ai_sto (ai_s1 L (ai_a i) (.int x)) fun L => ai_nx (pc + 2) L st h
  | .istore_n _, .int x :: st => ai_sto (ai_s1 L (ai_a i) (.int x)) fun L => ai_nx (pc + 1) L st h
  | .lstore _, .long x :: st => ai_sto (ai_s2 L (ai_a i) (.long x)) fun L => ai_nx (pc + 2) L st h
  | .lstore_n _, .long x :: st => ai_sto (ai_s2 L (ai_a i) (.long x)) fun L => ai_nx (pc + 1) L st h
  | .astore _, .ref x :: st => ai_sto (ai_s1 L (ai_a i) (.ref x)) fun L => ai_nx (pc + 2) L st h
  | .astore _, .null :: st => ai_sto (ai_s1 L (ai_a i) .null) fun L => ai_nx (pc + 2) L st h
  | .astore_n _, .ref x :: st => ai_sto (ai_s1 L (ai_a i) (.ref x)) fun L => ai_nx (pc + 1) L st h
  | .astore_n _, .null :: st => ai_sto (ai_s1 L (ai_a i) .null) fun L => ai_nx (pc + 1) L st h
  | .iinc _ _, st => ai_ldi L (ai_a i) fun x => ai_sto (ai_s1 L (ai_a i) (.int (x + ai_v i))) fun L => ai_nx (pc + 3) L st h
  | .iadd, .int y :: .int x :: st => ai_nx (pc + 1) L (.int (x + y) :: st) h
  | .isub, .int y :: .int x :: st => ai_nx (pc + 1) L (.int (x - y) :: st) h
  | .imul, .int y :: .int x :: st => ai_nx (pc + 1) L (.int (x * y) :: st) h
  | .idiv, .int y :: .int x :: st => bif decide (y = 0) then none else ai_nx (pc + 1) L (.int (x / y) :: st) h
  | .irem, .int y :: .int x :: st => bif decide (y = 0) then none else ai_nx (pc + 1) L (.int (x - x / y * y) :: st) h
  | .iand, .int y :: .int x :: st => ai_nx (pc + 1) L (.int (x &&& y) :: st) h
  | .ior, .int y :: .int x :: st => ai_nx (pc + 1) L (.int (x ||| y) :: st) h
  | .ixor, .int y :: .int x :: st => ai_nx (pc + 1) L (.int (x ^^^ y) :: st) h
  | .ishl, .int y :: .int x :: st => ai_nx (pc + 1) L (.int (x <<< (y &&& 31)) :: st) h
  | .ishr, .int y :: .int x :: st => ai_nx (pc + 1) L (.int (x >>> (y &&& 31)) :: st) h
  | .iushr, .int y :: .int x :: st => ai_nx (pc + 1) L (.int (x.toUInt32 >>> (y.toUInt32 &&& Int32.toUInt32 31)).toInt32 :: st) h
  | .ladd, .long y :: .long x :: st => ai_nx (pc + 1) L (.long (x + y) :: st) h
  | .lsub, .long y :: .long x :: st => ai_nx (pc + 1) L (.long (x - y) :: st) h
  | .land, .long y :: .long x :: st => ai_nx (pc + 1) L (.long (x &&& y) :: st) h
  | .lor, .long y :: .long x :: st => ai_nx (pc + 1) L (.long (x ||| y) :: st) h
  | .lshl, .int y :: .long x :: st => ai_nx (pc + 1) L (.long (x <<< (y.toInt64 &&& 63)) :: st) h
  | .lshr, .int y :: .long x :: st => ai_nx (pc + 1) L (.long (x >>> (y.toInt64 &&& 63)) :: st) h
  | .lushr, .int y :: .long x :: st => ai_nx (pc + 1) L (.long (x.toUInt64 >>> (y.toInt64.toUInt64 &&& Int64.toUInt64 63)).toInt64 :: st) h
  | .lcmp, .long y :: .long x :: st => ai_nx (pc + 1) L (.int (lg_cmp x y) :: st) h
  | .i2l, .int x :: st => ai_nx (pc + 1) L (.long x.toInt64 :: st) h
  | .l2i, .long x :: st => ai_nx (pc + 1) L (.int x.toInt32 :: st) h
  | .i2b, .int x :: st => ai_nx (pc + 1) L (.int x.toInt8.toInt32 :: st) h
  | .i2s, .int x :: st => ai_nx (pc + 1) L (.int x.toInt16.toInt32 :: st) h
  | .dup, x :: st => bif Nat.beq x.category 1 then ai_nx (pc + 1) L (x :: x :: st) h else none
  | .dup2, x :: y :: st => bif Nat.beq x.category 1 && Nat.beq y.category 1 then ai_nx (pc + 1) L (x :: y :: x :: y :: st) h else none
  | .pop, x :: st => bif Nat.beq x.category 1 then ai_nx (pc + 1) L st h else none
  | .goto _, st => ai_nx (ai_a i) L st h
  | .ifCond c _, .int x :: st => ai_nx (bif ai_cd c x 0 then ai_a i else pc + 3) L st h
  | .if_icmp c _, .int y :: .int x :: st => ai_nx (bif ai_cd c x y then ai_a i else pc + 3) L st h
  | .if_acmp .eq _, y :: x :: st => match am_o x, am_o y with
    | some p, some q => bif ai_oc p && ai_oc q then ai_nx (bif decide (p = q) then ai_a i else pc + 3) L st h else none
    | _, _ => none
  | .if_acmp .ne _, y :: x :: st => match am_o x, am_o y with
    | some p, some q => bif ai_oc p && ai_oc q then ai_nx (bif decide (p = q) then pc + 3 else ai_a i) L st h else none
    | _, _ => none
  | .ifnull _, .null :: st => ai_nx (ai_a i) L st h
  | .ifnull _, .ref _ :: st => ai_nx (pc + 3) L st h
  | .ifnonnull _, .null :: st => ai_nx (pc + 3) L st h
  | .ifnonnull _, .ref _ :: st => ai_nx (ai_a i) L st h
  | .tableswitch _ _ _ _, .int x :: st => ai_nx (ai_sw (ai_ps i) (ai_a i) x) L st h
  | .lookupswitch _ _, .int x :: st => ai_nx (ai_sw (ai_ps i) (ai_a i) x) L st h
  | .getfield _, .ref o :: st => bif Nat.beq (am_kd h.1 o) (ai_a i) then ai_nx (pc + 3) L (ai_get h o (ai_b i) (ai_c i) :: st) h else none
  | .putfield _, v :: .ref o :: st => bif Nat.beq (am_kd h.1 o) (ai_a i) && Nat.ble 32 o then (match ai_put h o (ai_b i) (ai_c i) v with
    | some h' => ai_nx (pc + 3) L st h'
    | none => none) else none
  | .getstatic _, st => ai_nx (pc + 3) L (.ref (ai_b i) :: st) h
  | .iaload, .int j :: .ref o :: st => bif Nat.beq (am_kd h.1 o) 101 && ai_in j (am_ln h.1 o) then ai_nx (pc + 1) L (.int (am_i h.2 o j.toNatClampNeg) :: st) h else none
  | .baload, .int j :: .ref o :: st => bif Nat.beq (am_kd h.1 o) (ai_a i) && ai_in j (am_ln h.1 o) then ai_nx (pc + 1) L (.int (am_i h.2 o j.toNatClampNeg) :: st) h else none
  | .saload, .int j :: .ref o :: st => bif Nat.beq (am_kd h.1 o) 103 && ai_in j (am_ln h.1 o) then ai_nx (pc + 1) L (.int (am_i h.2 o j.toNatClampNeg) :: st) h else none
  | .laload, .int j :: .ref o :: st => bif Nat.beq (am_kd h.1 o) 105 && ai_in j (am_ln h.1 o) then ai_nx (pc + 1) L (.long (am_j h.2 o j.toNatClampNeg) :: st) h else none
  | .aaload, .int j :: .ref o :: st => bif Nat.beq (am_kd h.1 o) (ai_a i) && ai_in j (am_ln h.1 o) then ai_nx (pc + 1) L (ai_get h o j.toNatClampNeg (ai_c i) :: st) h else none
  | .iastore, .int x :: .int j :: .ref o :: st => bif (Nat.beq (am_kd h.1 o) 101 && Nat.ble 32 o) && ai_in j (am_ln h.1 o) then ai_nx (pc + 1) L st (h.1, am_si h.2 o j.toNatClampNeg x) else none
  | .bastore, .int x :: .int j :: .ref o :: st => bif (Nat.beq (am_kd h.1 o) (ai_a i) && Nat.ble 32 o) && ai_in j (am_ln h.1 o) then ai_nx (pc + 1) L st (h.1, am_si h.2 o j.toNatClampNeg (ai_nar (ai_a i) x)) else none
  | .sastore, .int x :: .int j :: .ref o :: st => bif (Nat.beq (am_kd h.1 o) 103 && Nat.ble 32 o) && ai_in j (am_ln h.1 o) then ai_nx (pc + 1) L st (h.1, am_si h.2 o j.toNatClampNeg x.toInt16.toInt32) else none
  | .lastore, .long x :: .int j :: .ref o :: st => bif (Nat.beq (am_kd h.1 o) 105 && Nat.ble 32 o) && ai_in j (am_ln h.1 o) then ai_nx (pc + 1) L st (h.1, am_sj h.2 o j.toNatClampNeg x) else none
  | .aastore, .ref q :: .int j :: .ref o :: st => bif ((Nat.beq (am_kd h.1 o) (ai_a i) && Nat.ble 32 o) && Nat.beq (am_kd h.1 q) (ai_b i)) && (Nat.ble 32 q && ai_in j (am_ln h.1 o)) then (match ai_put h o j.toNatClampNeg (ai_c i) (.ref q) with
    | some h' => ai_nx (pc + 1) L st h'
    | none => none) else none
  | .arraylength, .ref o :: st => bif Nat.beq (am_kd h.1 o) (ai_a i) then ai_nx (pc + 1) L (.int (nI (am_ln h.1 o)) :: st) h else none
  | .newarray _, .int n :: st => bif decide (0 ≤ n) && Nat.ble n.toNatClampNeg 100000 then ai_nx (pc + 2) L (.ref (am_sz h.2) :: st) (am_new h (ai_a i) n.toNatClampNeg n.toNatClampNeg) else none
  | .anewarray _, .int n :: st => bif decide (0 ≤ n) && Nat.ble n.toNatClampNeg 100000 then ai_nx (pc + 3) L (.ref (am_sz h.2) :: st) (am_new h (ai_a i) n.toNatClampNeg n.toNatClampNeg) else none
  | .new _, st => bif Nat.beq (ai_a i) 0 then (bif Nat.ble (ai_cat st) 8 then ai_nx (pc + 9) L (.ref (am_sz h.2) :: st) (h.1, am_ex h.2) else none) else ai_nx (pc + 3) L (.ref (am_sz h.2) :: st) (am_new h (ai_a i) 0 (ai_b i))
  | .checkcast _, .ref o :: st => bif Nat.beq (am_kd h.1 o) (ai_a i) && Nat.ble 32 o then ai_nx (pc + 3) L (.ref o :: st) h else none
  | .invokespecial _, st => bif Nat.beq (ai_a i) 0 then (match st with
    | .ref _ :: st => bif Nat.ble (ai_cat st) 8 then ai_nx (pc + 3) L st h else none
    | _ => none) else match ai_pop (ai_b i) [] st with
      | some (.ref o :: as, r) => bif Nat.ble (ai_cat r) 8 then ai_cl (ai_a i) (.ref o :: as) (pc + 3, L, r, h) else none
      | _ => none
  | .invokestatic _, st => match ai_pop (ai_b i) [] st with
    | some (as, r) => bif Nat.ble (ai_cat r) 8 then ai_cl (ai_a i) as (pc + 3, L, r, h) else none
    | none => none
  | .invokevirtual _, st => bif Nat.beq (ai_a i) 0 then (match st with
    | .ref o :: st => bif (Nat.beq (am_kd h.1 o) (ai_c i) && Nat.beq o 16) && Nat.ble (ai_cat st) 8 then ai_nx (pc + 3) L (.ref (am_sz h.2) :: st) (am_cp h o) else none
    | _ => none) else match ai_pop (ai_b i) [] st with
      | some (.ref o :: as, r) => bif Nat.beq (am_kd h.1 o) (ai_c i) && Nat.ble (ai_cat r) 8 then ai_cl (ai_a i) (.ref o :: as) (pc + 3, L, r, h) else none
      | _ => none
  | .return_, [] => bif Nat.beq rz 0 then ai_en (.inl none) h else none
  | .ireturn, [.int x] => bif Nat.beq rz 1 then ai_en (.inl (some (.int x))) h else bif Nat.beq rz 2 then ai_en (.inl (some (.int (vp_nar .boolean x)))) h else none
  | .lreturn, [.long x] => bif Nat.beq rz 3 then ai_en (.inl (some (.long x))) h else none
  | .areturn, [.ref x] => bif Nat.beq rz 4 then ai_en (.inl (some (.ref x))) h else none
  | .areturn, [.null] => bif Nat.beq rz 4 then ai_en (.inl (some .null)) h else none
  | .athrow, .ref a :: _ => bif (Nat.beq (am_kd h.1 a) 99 && Nat.ble 32 a) && Nat.blt a (am_sz h.2) then ai_en (.inr a) h else none
  | _, _ => none
/-- the program: an instruction of a method, what it returns, how many variables it has, a handler -/
abbrev ai_P : Type := (Nat → Nat → Option ai_J) × (Nat → Nat) × (Nat → Nat) × (Nat → Nat → Option Nat)
def ai_ar : List Value → List (Option Value)
  | [] => []
  | v :: t => bif Nat.beq v.category 2 then some v :: none :: ai_ar t else some v :: ai_ar t
def ai_fil : List (Option Value) → Nat → List (Option Value)
  | [], n => List.replicate n none
  | x :: t, n + 1 => x :: ai_fil t n
  | _ :: _, 0 => []
def ai_e0 (P : ai_P) (mid : Nat) (as : List Value) (h : am_M) : ai_S := (bif Nat.ble (ai_ar as).length (P.2.2.1 mid) then 0 else 65536, ai_fil (ai_ar as) (P.2.2.1 mid), [], h)
def ai_s (P : ai_P) (mid : Nat) (s : ai_S) : Option ai_R := match P.1 mid s.1 with
  | some i => ai_sx i (P.2.1 mid) s.1 (ai_km (ai_m i) s.2.1) s.2.2.1 s.2.2.2
  | none => none
def ai_go (P : ai_P) : Nat → Nat → ai_S → Option (ai_O × am_M)
  | 0, _, _ => none
  | n + 1, mid, s => match ai_s P mid s with
    | none => none
    | some (.inl t) => ai_go P n mid t
    | some (.inr (.inr r)) => some r
    | some (.inr (.inl (cal, as, t))) => match ai_go P n cal (ai_e0 P cal as t.2.2.2) with
      | none => none
      | some (.inl v, h) => ai_go P n mid (t.1, t.2.1, v.toList ++ t.2.2.1, h)
      | some (.inr a, h) => match P.2.2.2 mid s.1 with
        | none => some (.inr a, h)
        | some q => ai_go P n mid (q, t.2.1, [.ref a], h)
/-- it comes to an end -/
def ai_ev (P : ai_P) (mid : Nat) (s : ai_S) (o : ai_O) (h : am_M) : Prop := ∃ n, ai_go P n mid s = some (o, h)

section
variable {P : ai_P}
theorem ai_mono1 : ∀ (n mid : Nat) (s : ai_S) (r : ai_O × am_M), ai_go P n mid s = some r → ai_go P (n + 1) mid s = some r := by
  intro n
  induction n with
  | zero => intro mid s r h; simp [ai_go] at h
  | succ n ih =>
    intro mid s r h
    unfold ai_go at h ⊢
    cases hs : ai_s P mid s with
    | none => rw [hs] at h; cases h
    | some x =>
      rw [hs] at h
      rcases x with t | ⟨cal, as, t⟩ | q
      · exact ih _ _ _ h
      · simp only at h ⊢
        cases hc : ai_go P n cal (ai_e0 P cal as t.2.2.2) with
        | none => rw [hc] at h; cases h
        | some y =>
          rw [hc] at h
          rw [ih _ _ _ hc]
          obtain ⟨o, h1⟩ := y
          rcases o with v | a
          · exact ih _ _ _ h
          · simp only at h ⊢
            cases hq : P.2.2.2 mid s.1 with
            | none => rw [hq] at h; exact h
            | some q => rw [hq] at h; exact ih _ _ _ h
      · exact h
theorem ai_mono {n m mid : Nat} {s : ai_S} {r : ai_O × am_M} (hn : n ≤ m) (h : ai_go P n mid s = some r) : ai_go P m mid s = some r := by
  induction m with
  | zero => have : n = 0 := by omega
            subst this; exact h
  | succ m ih =>
    rcases Nat.lt_or_ge m n with q | q
    · have : n = m + 1 := by omega
      subst this; exact h
    · exact ai_mono1 _ _ _ _ (ih q)
theorem ev_step {mid : Nat} {s t : ai_S} {o : ai_O} {h : am_M} (hs : ai_s P mid s = some (.inl t)) (k : ai_ev P mid t o h) : ai_ev P mid s o h := by
  obtain ⟨n, hn⟩ := k
  exact ⟨n + 1, by unfold ai_go; rw [hs]; exact hn⟩
theorem ev_end {mid : Nat} {s : ai_S} {o : ai_O} {h : am_M} (hs : ai_s P mid s = some (.inr (.inr (o, h)))) : ai_ev P mid s o h :=
  ⟨1, by unfold ai_go; rw [hs]⟩
theorem ev_call {mid cal : Nat} {as : List Value} {s t : ai_S} {v : Option Value} {o : ai_O} {h h1 : am_M} (hs : ai_s P mid s = some (.inr (.inl (cal, as, t)))) (kc : ai_ev P cal (ai_e0 P cal as t.2.2.2) (.inl v) h1)
    (k : ai_ev P mid (t.1, t.2.1, v.toList ++ t.2.2.1, h1) o h) : ai_ev P mid s o h := by
  obtain ⟨n, hn⟩ := kc
  obtain ⟨m, hm⟩ := k
  refine ⟨max n m + 1, ?_⟩
  unfold ai_go
  rw [hs]
  simp only
  rw [ai_mono (Nat.le_max_left n m) hn]
  exact ai_mono (Nat.le_max_right n m) hm
theorem ev_thr {mid cal : Nat} {as : List Value} {s t : ai_S} {a : Nat} {h1 : am_M} (hs : ai_s P mid s = some (.inr (.inl (cal, as, t)))) (kc : ai_ev P cal (ai_e0 P cal as t.2.2.2) (.inr a) h1) (hq : P.2.2.2 mid s.1 = none) :
    ai_ev P mid s (.inr a) h1 := by
  obtain ⟨n, hn⟩ := kc
  refine ⟨n + 1, ?_⟩
  unfold ai_go
  rw [hs]
  simp only
  rw [hn]
  simp only
  rw [hq]
theorem ev_cat {mid cal q : Nat} {as : List Value} {s t : ai_S} {a : Nat} {o : ai_O} {h h1 : am_M} (hs : ai_s P mid s = some (.inr (.inl (cal, as, t)))) (kc : ai_ev P cal (ai_e0 P cal as t.2.2.2) (.inr a) h1) (hq : P.2.2.2 mid s.1 = some q)
    (k : ai_ev P mid (q, t.2.1, [.ref a], h1) o h) : ai_ev P mid s o h := by
  obtain ⟨n, hn⟩ := kc
  obtain ⟨m, hm⟩ := k
  refine ⟨max n m + 1, ?_⟩
  unfold ai_go
  rw [hs]
  simp only
  rw [ai_mono (Nat.le_max_left n m) hn]
  simp only
  rw [hq]
  exact ai_mono (Nat.le_max_right n m) hm
end
