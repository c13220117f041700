/-! THE ABSTRACT HEAP: (next address, elements used), the kind of each cell, its length, its fields or elements -/
abbrev Hp : Type := (Nat × Nat) × (Nat → Nat) × (Nat → Nat) × (Nat → Nat → Value)
abbrev Lo : Type := List (Nat × Value)
abbrev Rs : Type := Except Nat (Option Value)
abbrev Ent : Type := Instr × Nat × List Nat
abbrev Act : Type := (Nat × Lo × List Value × Hp) ⊕ ((Nat × List Value × List Value) ⊕ (Rs × Hp))
abbrev Env0 : Type := Nat × (Nat → Value)
def hp_top (h : Hp) : Nat := h.1.1
def hp_use (h : Hp) : Nat := h.1.2
def hp_kd (h : Hp) : Nat → Nat := h.2.1
def hp_ln (h : Hp) : Nat → Nat := h.2.2.1
def hp_at (h : Hp) : Nat → Nat → Value := h.2.2.2
def hp_put (h : Hp) (a k : Nat) (v : Value) : Hp := (h.1, h.2.1, h.2.2.1, fun b j => if b = a ∧ j = k then v else h.2.2.2 b j)
def hp_new (h : Hp) (kd ln : Nat) (f : Nat → Value) : Hp :=
  ((h.1.1 + 1, h.1.2 + ln), (fun b => if b = h.1.1 then kd else h.2.1 b), (fun b => if b = h.1.1 then ln else h.2.2.1 b), fun b j => if b = h.1.1 then f j else h.2.2.2 b j)
/-- an array of n1 rows of n2 places each: the outer one first, then the rows in their order -/
def hp_mul (h : Hp) (k1 k2 n1 n2 : Nat) (v : Value) : Hp :=
  ((h.1.1 + 1 + n1, h.1.2 + n1 + n1 * n2), (fun b => if b = h.1.1 then k1 else if h.1.1 < b ∧ b ≤ h.1.1 + n1 then k2 else h.2.1 b),
    (fun b => if b = h.1.1 then n1 else if h.1.1 < b ∧ b ≤ h.1.1 + n1 then n2 else h.2.2.1 b),
    fun b j => if b = h.1.1 then .ref (h.1.1 + 1 + j) else if h.1.1 < b ∧ b ≤ h.1.1 + n1 then v else h.2.2.2 b j)
/-- cells that are made but not looked at -/
def hp_skip (h : Hp) (c s : Nat) : Hp := ((h.1.1 + c, h.1.2 + s), (fun b => if h.1.1 ≤ b then 0 else h.2.1 b), h.2.2.1, h.2.2.2)
/-- n places from (a, i) to (b, j), as if through a copy -/
def hp_cpy (h : Hp) (a i b j n : Nat) : Hp := (h.1, h.2.1, h.2.2.1, fun c k => if c = b ∧ j ≤ k ∧ k < j + n then h.2.2.2 a (i + (k - j)) else h.2.2.2 c k)
def lo_get : Lo → Nat → Option Value
  | [], _ => none
  | q :: l, i => bif Nat.beq q.1 i then some q.2 else lo_get l i
def lo_set1 (l : Lo) (i : Nat) (v : Value) : Lo := (i, v) :: l.filter (fun q => !(q.1 == i) && !(q.1 + 1 == i && q.2.category == 2))
def lo_set2 (l : Lo) (i : Nat) (v : Value) : Lo := (i, v) :: l.filter (fun q => !(q.1 == i) && (!(q.1 == i + 1) && !(q.1 + 1 == i && q.2.category == 2)))
def lo_del (l : Lo) (i : Nat) : Lo := l.filter (fun q => !(q.1 == i) && !(q.1 + 1 == i && q.2.category == 2))
/-! what an instruction does: by its sort -/
def rn_con : Instr → List Nat → Option Value
  | .iconst n, _ => some (.int (Int32.ofInt n))
  | .bipush n, _ => some (.int (Int8.ofInt n).toInt32)
  | .sipush n, _ => some (.int (Int16.ofInt n).toInt32)
  | .lconst n, _ => some (.long (Int64.ofNat (n : Nat)))
  | .dconst n, _ => if n = 0 then some (.double FP.dconst0) else none
  | .aconst_null, _ => some .null
  | .ldc _, [0, n] => some (.int (Int32.ofNat n))
  | .ldc2_w _, [n] => some (.long (Int64.ofNat n))
  | _, _ => none
def rn_un : Instr → Value → Option Value
  | .ineg, .int x => some (.int (-x))
  | .i2l, .int x => some (.long x.toInt64)
  | .l2i, .long x => some (.int x.toInt32)
  | .i2d, .int x => some (.double (FP.i2d x))
  | _, _ => none
def rn_bin : Instr → Value → Value → Option Value
  | .iadd, .int y, .int x => some (.int (x + y))
  | .isub, .int y, .int x => some (.int (x - y))
  | .imul, .int y, .int x => some (.int (x * y))
  | .idiv, .int y, .int x => if y = 0 then none else some (.int (x / y))
  | .irem, .int y, .int x => if y = 0 then none else some (.int (x - x / y * y))
  | .iand, .int y, .int x => some (.int (x &&& y))
  | .ior, .int y, .int x => some (.int (x ||| y))
  | .ixor, .int y, .int x => some (.int (x ^^^ y))
  | .ishl, .int y, .int x => some (.int (x <<< (y &&& 31)))
  | .ishr, .int y, .int x => some (.int (x >>> (y &&& 31)))
  | .ladd, .long y, .long x => some (.long (x + y))
  | .lsub, .long y, .long x => some (.long (x - y))
  | .lmul, .long y, .long x => some (.long (x * y))
  | .land, .long y, .long x => some (.long (x &&& y))
  | .lor, .long y, .long x => some (.long (x ||| y))
  | .lxor, .long y, .long x => some (.long (x ^^^ y))
  | .lshl, .int y, .long x => some (.long (x <<< (y.toInt64 &&& 63)))
  | .lushr, .int y, .long x => some (.long (x.toUInt64 >>> (y.toInt64.toUInt64 &&& Int64.toUInt64 63)).toInt64)
  | .lcmp, .long y, .long x => some (.int (lg_cmp x y))
  | .dcmp o, .double y, .double x => some (.int (Op.cmpValue (FP.dcmp x y) o))
  | .ddiv, .double y, .double x => if FP.ddiv x y &&& 0x7fffffffffffffff ≤ 0x7ff0000000000000 then some (.double (FP.ddiv x y)) else none
  | _, _, _ => none
def rn_stk : Instr → List Value → Option (List Value)
  | .dup, v :: st => if v.category = 1 then some (v :: v :: st) else none
  | .dup_x1, v :: w :: st => if v.category = 1 ∧ w.category = 1 then some (v :: w :: v :: st) else none
  | .dup2, v :: w :: st => if v.category = 1 ∧ w.category = 1 then some (v :: w :: v :: w :: st) else none
  | .pop, v :: st => if v.category = 1 then some st else none
  | .invokespecial _, .ref _ :: st => if (st.map fun v => v.category).sum ≤ 8 then some st else none
  | _, _ => none
def rn_tag : Value → Nat
  | .int _ => 0
  | .ref _ => 1
  | .null => 1
  | .long _ => 2
  | .double _ => 3
  | _ => 9
def rn_ld : Instr → Option (Nat × Nat)
  | .iload i => some (i, 0)
  | .iload_n i => some (i, 0)
  | .aload i => some (i, 1)
  | .aload_n i => some (i, 1)
  | .lload i => some (i, 2)
  | .lload_n i => some (i, 2)
  | .dload i => some (i, 3)
  | _ => none
def rn_st : Instr → Option (Nat × Nat)
  | .istore i => some (i, 0)
  | .istore_n i => some (i, 0)
  | .astore i => some (i, 1)
  | .astore_n i => some (i, 1)
  | .lstore i => some (i, 2)
  | .lstore_n i => some (i, 2)
  | .dstore i => some (i, 3)
  | _ => none
def rn_ci : ClassFile.Cond → Int32 → Int32 → Bool
  | .eq, x, y => decide (x = y)
  | .ne, x, y => decide (¬ x = y)
  | .lt, x, y => decide (x < y)
  | .ge, x, y => decide (y ≤ x)
  | .gt, x, y => decide (y < x)
  | .le, x, y => decide (x ≤ y)
def rn_isr : Value → Bool
  | .ref _ => true
  | .null => true
  | _ => false
/-- a jump: where to, and the stack left -/
def rn_br : Instr → List Nat → Nat → List Value → Option (Nat × List Value)
  | .goto _, [t], _, st => some (t, st)
  | .ifCond c _, [t], n, .int x :: st => some (if rn_ci c x 0 then t else n, st)
  | .if_icmp c _, [t], n, .int y :: .int x :: st => some (if rn_ci c x y then t else n, st)
  | .ifnull _, [t], _, .null :: st => some (t, st)
  | .ifnull _, [_], n, .ref _ :: st => some (n, st)
  | .ifnonnull _, [_], n, .null :: st => some (n, st)
  | .ifnonnull _, [t], _, .ref _ :: st => some (t, st)
  | .if_acmp .eq _, [t], n, y :: x :: st => if rn_isr x && rn_isr y then some (if x = y then t else n, st) else none
  | .if_acmp .ne _, [t], n, y :: x :: st => if rn_isr x && rn_isr y then some (if x = y then n else t, st) else none
  | .tableswitch _ _ _ _, dt :: lo :: ts, _, .int x :: st => some (if x.toInt < lo then dt else ts.getD (x.toInt - lo).toNat dt, st)
  | _, _, _, _ => none
abbrev kI : Nat := 101
abbrev kZ : Nat := 102
abbrev kJ : Nat := 103
abbrev kO : Nat := 104
abbrev kS : Nat := 105
abbrev kC : Nat := 106
abbrev kII : Nat := 107
abbrev kZZ : Nat := 108
def rn_in (i : Int32) (n : Nat) : Bool := decide (¬ i < 0) && decide (i.toNatClampNeg < n)
/-- what is read of the heap: the stack behind it -/
def rn_rd (E : Env0) (h : Hp) : Instr → List Nat → List Value → Option (List Value)
  | .getfield _, k :: ks, .ref a :: st => bif ks.contains (hp_kd h a) then some (hp_at h a k :: st) else none
  | .iaload, _, .int i :: .ref a :: st => bif Nat.beq (hp_kd h a) kI && rn_in i (hp_ln h a) then some (hp_at h a i.toNatClampNeg :: st) else none
  | .baload, _, .int i :: .ref a :: st => bif Nat.beq (hp_kd h a) kZ && rn_in i (hp_ln h a) then some (hp_at h a i.toNatClampNeg :: st) else none
  | .laload, _, .int i :: .ref a :: st => bif Nat.beq (hp_kd h a) kJ && rn_in i (hp_ln h a) then some (hp_at h a i.toNatClampNeg :: st) else none
  | .aaload, _, .int i :: .ref a :: st => bif Nat.ble kO (hp_kd h a) && rn_in i (hp_ln h a) then some (hp_at h a i.toNatClampNeg :: st) else none
  | .arraylength, _, .ref a :: st => bif Nat.ble kI (hp_kd h a) then some (.int (Int32.ofNat (hp_ln h a)) :: st) else none
  | .getstatic _, [i], st => some (E.2 i :: st)
  | .ldc _, [1, i], st => some (E.2 i :: st)
  | .checkcast _, _, .null :: st => some (.null :: st)
  | .checkcast _, ks, .ref a :: st => bif ks.contains (hp_kd h a) then some (.ref a :: st) else none
  | .instanceof _, n :: ks, .ref a :: st => bif (ks.take n).contains (hp_kd h a) then some (.int 1 :: st) else bif (ks.drop n).contains (hp_kd h a) then some (.int 0 :: st) else none
  | .invokevirtual _, [i], .ref a :: st => bif Nat.beq (hp_kd h a) kO && decide ((st.map fun v => v.category).sum ≤ 8) then some (E.2 i :: st) else none
  | _, _, _ => none
/-- does the value fit a field of that type (0 int, 1 reference, 2 long, 3 boolean) -/
def rn_fit : Nat → Value → Bool
  | 0, .int _ => true
  | 1, .ref _ => true
  | 1, .null => true
  | 2, .long _ => true
  | 3, .int x => x == 0 || x == 1
  | _, _ => false
def rn_pair : List Nat → Nat → Nat → Bool
  | a :: b :: l, x, y => (Nat.beq a x && Nat.beq b y) || rn_pair l x y
  | _, _, _ => false
/-- what is written: the stack and the heap behind it -/
def rn_wr (E : Env0) (h : Hp) : Instr → List Nat → List Value → Option (List Value × Hp)
  | .putfield _, k :: t :: ks, v :: .ref a :: st => bif Nat.ble E.1 a && ks.contains (hp_kd h a) && rn_fit t v then some (st, hp_put h a k v) else none
  | .iastore, _, .int x :: .int i :: .ref a :: st => bif Nat.ble E.1 a && Nat.beq (hp_kd h a) kI && rn_in i (hp_ln h a) then some (st, hp_put h a i.toNatClampNeg (.int x)) else none
  | .bastore, _, .int x :: .int i :: .ref a :: st => bif Nat.ble E.1 a && Nat.beq (hp_kd h a) kZ && rn_in i (hp_ln h a) && (x == 0 || x == 1) then some (st, hp_put h a i.toNatClampNeg (.int x)) else none
  | .lastore, _, .long x :: .int i :: .ref a :: st => bif Nat.ble E.1 a && Nat.beq (hp_kd h a) kJ && rn_in i (hp_ln h a) then some (st, hp_put h a i.toNatClampNeg (.long x)) else none
  | .aastore, _, .null :: .int i :: .ref a :: st => bif Nat.ble E.1 a && Nat.beq (hp_kd h a) kO && rn_in i (hp_ln h a) then some (st, hp_put h a i.toNatClampNeg .null) else none
  | .aastore, ks, .ref b :: .int i :: .ref a :: st => bif Nat.ble E.1 a && Nat.ble E.1 b && rn_pair ks (hp_kd h a) (hp_kd h b) && rn_in i (hp_ln h a) then some (st, hp_put h a i.toNatClampNeg (.ref b)) else none
  | .invokestatic _, [5], .int n :: .int j :: .ref b :: .int i :: .ref a :: st =>
    bif Nat.ble E.1 b && Nat.beq (hp_kd h a) (hp_kd h b) && Nat.ble kI (hp_kd h b) && Nat.ble (hp_kd h b) kO && decide (¬ n < 0) && decide (¬ i < 0) && decide (¬ j < 0) && decide (i.toNatClampNeg + n.toNatClampNeg ≤ hp_ln h a) && decide (j.toNatClampNeg + n.toNatClampNeg ≤ hp_ln h b) && decide ((st.map fun v => v.category).sum ≤ 8)
    then some (st, hp_cpy h a i.toNatClampNeg b j.toNatClampNeg n.toNatClampNeg) else none
  | _, _, _ => none
def rn_cap (st : List Value) (n : Nat) : List Value := (st.take n).reverse
/-- what is made: the stack and the heap behind it; fd: the fields' first values -/
def rn_al (fd : Nat → Nat × (Nat → Value)) (h : Hp) : Instr → List Nat → List Value → Option (List Value × Hp)
  | .new _, [ci], st => some (.ref (hp_top h) :: st, hp_new h (ci + 1) (fd ci).1 (fd ci).2)
  | .newarray _, [k], .int n :: st => bif decide (¬ n < 0) && decide (n.toNatClampNeg ≤ 1000000) then some (.ref (hp_top h) :: st, hp_new h k n.toNatClampNeg (fun _ => if k = kJ then .long 0 else .int 0)) else none
  | .anewarray _, [k], .int n :: st => bif decide (¬ n < 0) && decide (n.toNatClampNeg ≤ 1000000) then some (.ref (hp_top h) :: st, hp_new h k n.toNatClampNeg (fun _ => .null)) else none
  | .multianewarray _ _, [k1, k2], .int m :: .int n :: st => bif decide (¬ n < 0) && decide (¬ m < 0) && decide (n.toNatClampNeg ≤ 1000) && decide (m.toNatClampNeg ≤ 1000) then some (.ref (hp_top h) :: st, hp_mul h k1 k2 n.toNatClampNeg m.toNatClampNeg (.int 0)) else none
  | .invokedynamic _, [k, n], st => bif decide ((st.map fun v => v.category).sum ≤ 8) && Nat.ble n st.length && (st.take n).all (fun v => Nat.beq (rn_tag v) 0) then some (.ref (hp_top h) :: st.drop n, hp_new h k n (fun j => (rn_cap st n).getD j .null)) else none
  | _, _, _ => none
def rn_sel : List Nat → Nat → Option Nat
  | a :: b :: l, x => bif Nat.beq a x then some b else rn_sel l x
  | _, _ => none
/-- a call: whom, with what, what stays; ops: how many arguments behind the receiver, then receiver's kind and callee in pairs (static: callee alone) -/
def rn_cl (h : Hp) : Instr → List Nat → List Value → Option (Nat × List Value × List Value)
  | .invokestatic _, [n, m], st => bif Nat.ble n st.length && decide (((st.drop n).map fun v => v.category).sum ≤ 8) then some (m, rn_cap st n, st.drop n) else none
  | .invokespecial _, [n, m], st => match st.drop n with
    | .ref a :: r => bif decide ((r.map fun v => v.category).sum ≤ 8) then some (m, .ref a :: rn_cap st n, r) else none
    | _ => none
  | .invokevirtual _, n :: p :: ps, st => match st.drop n with
    | .ref a :: r => match rn_sel (p :: ps) (hp_kd h a) with
      | some m => bif decide ((r.map fun v => v.category).sum ≤ 8) then some (m, .ref a :: rn_cap st n, r) else none
      | none => none
    | _ => none
  | .invokeinterface _ _, n :: ps, st => match st.drop n with
    | .ref a :: r => match rn_sel ps (hp_kd h a) with
      | some m => bif decide ((r.map fun v => v.category).sum ≤ 8) then
          some (m, (bif Nat.ble 60 (hp_kd h a) && Nat.ble (hp_kd h a) 69 then (List.range (hp_ln h a)).map (hp_at h a) ++ rn_cap st n else .ref a :: rn_cap st n), r) else none
      | none => none
    | _ => none
  | _, _, _ => none
/-- the end of a method -/
def rn_rt : Instr → List Nat → List Value → Option (Option Value)
  | .return_, _, [] => some none
  | .ireturn, [0], [.int x] => some (some (.int x))
  | .ireturn, [1], [.int x] => if x = 0 ∨ x = 1 then some (some (.int x)) else none
  | .lreturn, _, [.long x] => some (some (.long x))
  | .dreturn, _, [.double x] => some (some (.double x))
  | .areturn, _, [.ref a] => some (some (.ref a))
  | .areturn, _, [.null] => some (some .null)
  | _, _, _ => none
/-- the sort of an instruction: 0 constant, 1, 2 arithmetic, 3 stack, 4 load, 5 store, 6 count up, 7 jump, 8 read, 9 write, 10 make, 11 call, 12 end, 13 throw -/
def rn_opc : Instr → List Nat → Nat
  | .iconst _, _ => 0 | .bipush _, _ => 0 | .sipush _, _ => 0 | .lconst _, _ => 0 | .dconst _, _ => 0 | .aconst_null, _ => 0 | .ldc2_w _, _ => 0
  | .ldc _, 0 :: _ => 0 | .ldc _, _ => 8
  | .ineg, _ => 1 | .i2l, _ => 1 | .l2i, _ => 1 | .i2d, _ => 1
  | .iadd, _ => 2 | .isub, _ => 2 | .imul, _ => 2 | .idiv, _ => 2 | .irem, _ => 2 | .iand, _ => 2 | .ior, _ => 2 | .ixor, _ => 2 | .ishl, _ => 2 | .ishr, _ => 2
  | .ladd, _ => 2 | .lsub, _ => 2 | .lmul, _ => 2 | .land, _ => 2 | .lor, _ => 2 | .lxor, _ => 2 | .lshl, _ => 2 | .lushr, _ => 2 | .lcmp, _ => 2 | .dcmp _, _ => 2 | .ddiv, _ => 2
  | .dup, _ => 3 | .dup_x1, _ => 3 | .dup2, _ => 3 | .pop, _ => 3 | .invokespecial _, [] => 3
  | .iload _, _ => 4 | .iload_n _, _ => 4 | .aload _, _ => 4 | .aload_n _, _ => 4 | .lload _, _ => 4 | .lload_n _, _ => 4 | .dload _, _ => 4
  | .istore _, _ => 5 | .istore_n _, _ => 5 | .astore _, _ => 5 | .astore_n _, _ => 5 | .lstore _, _ => 5 | .lstore_n _, _ => 5 | .dstore _, _ => 5
  | .iinc _ _, _ => 6
  | .goto _, _ => 7 | .ifCond _ _, _ => 7 | .if_icmp _ _, _ => 7 | .ifnull _, _ => 7 | .ifnonnull _, _ => 7 | .if_acmp _ _, _ => 7 | .tableswitch _ _ _ _, _ => 7
  | .getfield _, _ => 8 | .iaload, _ => 8 | .baload, _ => 8 | .laload, _ => 8 | .aaload, _ => 8 | .arraylength, _ => 8 | .getstatic _, _ => 8 | .checkcast _, _ => 8 | .instanceof _, _ => 8 | .invokevirtual _, [_] => 8
  | .putfield _, _ => 9 | .iastore, _ => 9 | .bastore, _ => 9 | .lastore, _ => 9 | .aastore, _ => 9 | .invokestatic _, [_] => 9
  | .new _, [_] => 10 | .newarray _, _ => 10 | .anewarray _, _ => 10 | .multianewarray _ _, _ => 10 | .invokedynamic _, _ => 10
  | .invokestatic _, _ => 11 | .invokespecial _, _ => 11 | .invokevirtual _, _ => 11 | .invokeinterface _ _, _ => 11
  | .return_, _ => 12 | .ireturn, _ => 12 | .lreturn, _ => 12 | .dreturn, _ => 12 | .areturn, _ => 12
  | .new _, _ => 13
  | _, _ => 99
/-- one instruction -/
def rn_step (E : Env0) (fd : Nat → Nat × (Nat → Value)) (e : Ent) (pc : Nat) (lo : Lo) (st : List Value) (h : Hp) : Option Act :=
  match rn_opc e.1 e.2.2 with
  | 0 => (rn_con e.1 e.2.2).map fun v => .inl (pc + e.2.1, lo, v :: st, h)
  | 1 => match st with
    | v :: r => (rn_un e.1 v).map fun w => .inl (pc + e.2.1, lo, w :: r, h)
    | _ => none
  | 2 => match st with
    | y :: x :: r => (rn_bin e.1 y x).map fun w => .inl (pc + e.2.1, lo, w :: r, h)
    | _ => none
  | 3 => (rn_stk e.1 st).map fun r => .inl (pc + e.2.1, lo, r, h)
  | 4 => match rn_ld e.1 with
    | some (i, t) => match lo_get lo i with
      | some v => bif Nat.beq (rn_tag v) t then some (.inl (pc + e.2.1, lo, v :: st, h)) else none
      | none => none
    | none => none
  | 5 => match rn_st e.1, st with
    | some (i, t), v :: r => bif Nat.beq (rn_tag v) t then some (.inl (pc + e.2.1, (bif Nat.blt t 2 then lo_set1 lo i v else lo_set2 lo i v), r, h)) else none
    | _, _ => none
  | 6 => match e.1 with
    | .iinc i n => match lo_get lo i with
      | some (.int x) => some (.inl (pc + e.2.1, lo_set1 lo i (.int (x + Int32.ofInt n)), st, h))
      | _ => none
    | _ => none
  | 7 => (rn_br e.1 e.2.2 (pc + e.2.1) st).map fun q => .inl (q.1, lo, q.2, h)
  | 8 => (rn_rd E h e.1 e.2.2 st).map fun r => .inl (pc + e.2.1, lo, r, h)
  | 9 => (rn_wr E h e.1 e.2.2 st).map fun q => .inl (pc + e.2.1, lo, q.1, q.2)
  | 10 => (rn_al fd h e.1 e.2.2 st).map fun q => .inl (pc + e.2.1, lo, q.1, q.2)
  | 11 => (rn_cl h e.1 e.2.2 st).map fun q => .inr (.inl q)
  | 12 => (rn_rt e.1 e.2.2 st).map fun v => .inr (.inr (.ok v, h))
  | 13 => match e.2.2 with
    | [_, x] => bif decide ((st.map fun v => v.category).sum ≤ 8) then some (.inr (.inr (.error x, hp_skip h 1 6))) else none
    | _ => none
  | _ => none
/-- the whole program: I its instructions, mx how many places its methods have, fd the fields' first values, hd its handlers (method, pc, what is thrown: where to go on behind the store of the thrown, and that place) -/
def rn_run (I : Nat → Nat → Option Ent) (mx : Nat → Nat) (fd : Nat → Nat × (Nat → Value)) (hd : Nat → Nat → Nat → Option (Option (Nat × Nat))) (E : Env0) : Nat → Nat → Nat → Nat → Lo → List Value → Hp → Option (Rs × Hp)
  | 0, _, _, _, _, _, _ => none
  | n + 1, d, mi, pc, lo, st, h =>
    match I mi pc with
    | none => none
    | some e => match rn_step E fd e pc lo st h with
      | none => none
      | some (.inl q) => rn_run I mx fd hd E n d mi q.1 q.2.1 q.2.2.1 q.2.2.2
      | some (.inr (.inr r)) => some r
      | some (.inr (.inl q)) => match d with
        | 0 => none
        | d' + 1 => bif Nat.ble (q.2.1.map fun v => v.category).sum (mx q.1) then
          match rn_run I mx fd hd E n d' q.1 0 (lv_args 0 q.2.1) [] h with
          | none => none
          | some (.ok v, h') => rn_run I mx fd hd E n (d' + 1) mi (pc + e.2.1) lo (v.toList ++ q.2.2) h'
          | some (.error x, h') => match hd mi pc x with
            | some (some k) => rn_run I mx fd hd E n (d' + 1) mi k.1 (lo_del lo k.2) [] h'
            | some none => some (.error x, h')
            | none => none
          else none
