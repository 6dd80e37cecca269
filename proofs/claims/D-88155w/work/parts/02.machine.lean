/-! THE ABSTRACT MACHINE: values, heaps, the steps that need no tables -/
/-- a value: int, long, reference (0: null), unset -/
abbrev Vl : Type := Int32 ⊕ Int64 ⊕ Nat ⊕ Unit
abbrev vI (x : Int32) : Vl := Sum.inl x
abbrev vL (x : Int64) : Vl := Sum.inr (Sum.inl x)
abbrev vR (a : Nat) : Vl := Sum.inr (Sum.inr (Sum.inl a))
abbrev vU : Vl := Sum.inr (Sum.inr (Sum.inr ()))
/-- shapes (kind, class or length), ints, longs, references, size, slots made -/
abbrev Hp : Type := (Nat → Nat × Nat) × (Nat → Nat → Int32) × (Nat → Nat → Int64) × (Nat → Nat → Nat) × Nat × Nat
def u1 {α : Type} (f : Nat → α) (a : Nat) (v : α) : Nat → α := fun b => if b = a then v else f b
def u2 {α : Type} (f : Nat → Nat → α) (a k : Nat) (v : α) : Nat → Nat → α := fun b j => if b = a ∧ j = k then v else f b j
/-- a new cell's slots are zero -/
def zr {α : Type} (z : α) (f : Nat → Nat → α) (n : Nat) : Nat → Nat → α := fun b j => if b = n then z else f b j
def vcat (v : Vl) : Nat := match v with
  | .inr (.inl _) => 2
  | _ => 1
def isL (v : Vl) : Bool := match v with
  | .inr (.inl _) => true
  | _ => false
def isUn (v : Vl) : Bool := match v with
  | .inr (.inr (.inr _)) => true
  | _ => false
def stW : List Vl → Nat
  | [] => 0
  | v :: r => vcat v + stW r
def grd {α : Type} (b : Bool) (x : Option α) : Option α := match b with
  | true => x
  | false => none
def a1 (f : Int32 → Vl) (st : List Vl) : Option (List Vl) := match st with
  | .inl x :: r => some (f x :: r)
  | _ => none
def a2 (f : Int32 → Int32 → Vl) (st : List Vl) : Option (List Vl) := match st with
  | .inl y :: .inl x :: r => some (f x y :: r)
  | _ => none
def a2n (f : Int32 → Int32 → Vl) (st : List Vl) : Option (List Vl) := match st with
  | .inl y :: .inl x :: r => grd (!(y == 0)) (some (f x y :: r))
  | _ => none
def b1 (f : Int64 → Vl) (st : List Vl) : Option (List Vl) := match st with
  | .inr (.inl x) :: r => some (f x :: r)
  | _ => none
def b2 (f : Int64 → Int64 → Vl) (st : List Vl) : Option (List Vl) := match st with
  | .inr (.inl y) :: .inr (.inl x) :: r => some (f x y :: r)
  | _ => none
def bs (f : Int64 → Int32 → Vl) (st : List Vl) : Option (List Vl) := match st with
  | .inl y :: .inr (.inl x) :: r => some (f x y :: r)
  | _ => none
def aDup (st : List Vl) : Option (List Vl) := match st with
  | v :: r => grd (!isL v) (some (v :: v :: r))
  | _ => none
def aPop (st : List Vl) : Option (List Vl) := match st with
  | v :: r => grd (!isL v) (some r)
  | _ => none
def aDupx (st : List Vl) : Option (List Vl) := match st with
  | v :: w :: r => grd (!isL v && !isL w) (some (v :: w :: v :: r))
  | _ => none
def aDup2 (st : List Vl) : Option (List Vl) := match st with
  | v :: w :: r => grd (!isL v && !isL w) (some (v :: w :: v :: w :: r))
  | _ => none
/-- what works on the operand stack alone -/
def ar (i : Instr) (st : List Vl) : Option (List Vl) := match i with
  | .iconst n => some (vI (Int32.ofInt n) :: st)
  | .bipush n => some (vI (Int8.ofInt n).toInt32 :: st)
  | .sipush n => some (vI (Int16.ofInt n).toInt32 :: st)
  | .lconst n => some (vL (Int64.ofNat (n : Nat)) :: st)
  | .aconst_null => some (vR 0 :: st)
  | .iadd => a2 (fun x y => vI (x + y)) st
  | .isub => a2 (fun x y => vI (x - y)) st
  | .imul => a2 (fun x y => vI (x * y)) st
  | .iand => a2 (fun x y => vI (x &&& y)) st
  | .ior => a2 (fun x y => vI (x ||| y)) st
  | .idiv => a2n (fun x y => vI (x / y)) st
  | .irem => a2n (fun x y => vI (x - x / y * y)) st
  | .ineg => a1 (fun x => vI (-x)) st
  | .ishl => a2 (fun x y => vI (x <<< (y &&& 31))) st
  | .ishr => a2 (fun x y => vI (x >>> (y &&& 31))) st
  | .iushr => a2 (fun x y => vI ((x.toUInt32 >>> (y.toUInt32 &&& Int32.toUInt32 31)).toInt32)) st
  | .i2l => a1 (fun x => vL x.toInt64) st
  | .i2b => a1 (fun x => vI x.toInt8.toInt32) st
  | .i2c => a1 (fun x => vI (x.toUInt32 % 65536).toInt32) st
  | .l2i => b1 (fun x => vI x.toInt32) st
  | .ladd => b2 (fun x y => vL (x + y)) st
  | .lsub => b2 (fun x y => vL (x - y)) st
  | .lmul => b2 (fun x y => vL (x * y)) st
  | .land => b2 (fun x y => vL (x &&& y)) st
  | .lor => b2 (fun x y => vL (x ||| y)) st
  | .lcmp => b2 (fun x y => vI (lg_cmp x y)) st
  | .lshl => bs (fun x y => vL (x <<< (y.toInt64 &&& 63))) st
  | .lshr => bs (fun x y => vL (x >>> (y.toInt64 &&& 63))) st
  | .dup => aDup st
  | .pop => aPop st
  | .dup_x1 => aDupx st
  | .dup2 => aDup2 st
  | _ => none
/-- how long an instruction is, as the rows have it -/
def lenOf (i : Instr) : Nat := match i with
  | .bipush _ => 2
  | .iload _ => 2
  | .aload _ => 2
  | .istore _ => 2
  | .astore _ => 2
  | .ldc _ => 2
  | .newarray _ => 2
  | .sipush _ => 3
  | .iinc _ _ => 3
  | .goto _ => 3
  | .ifCond _ _ => 3
  | .if_icmp _ _ => 3
  | .if_acmp _ _ => 3
  | .ifnull _ => 3
  | .ifnonnull _ => 3
  | .getfield _ => 3
  | .putfield _ => 3
  | .getstatic _ => 3
  | .new _ => 3
  | .anewarray _ => 3
  | .checkcast _ => 3
  | .invokevirtual _ => 3
  | .invokespecial _ => 3
  | .invokestatic _ => 3
  | .ldc_w _ => 3
  | .ldc2_w _ => 3
  | .multianewarray _ _ => 4
  | .invokeinterface _ _ => 5
  | _ => 1
def ldI (ls : List Vl) (k : Nat) (st : List Vl) : Option (List Vl × List Vl) := match ls[k]? with
  | some (.inl x) => some (ls, vI x :: st)
  | _ => none
def ldL (ls : List Vl) (k : Nat) (st : List Vl) : Option (List Vl × List Vl) := match ls[k]? with
  | some (.inr (.inl x)) => some (ls, vL x :: st)
  | _ => none
def ldR (ls : List Vl) (k : Nat) (st : List Vl) : Option (List Vl × List Vl) := match ls[k]? with
  | some (.inr (.inr (.inl x))) => some (ls, vR x :: st)
  | _ => none
/-- the local ahead of k is no long -/
def noL (ls : List Vl) (k : Nat) : Bool := match k with
  | 0 => true
  | j + 1 => match ls[j]? with
    | some v => !isL v
    | none => true
def stI (ls : List Vl) (k : Nat) (st : List Vl) : Option (List Vl × List Vl) := match st with
  | .inl x :: r => grd (decide (k < ls.length) && noL ls k) (some (ls.set k (vI x), r))
  | _ => none
def stR (ls : List Vl) (k : Nat) (st : List Vl) : Option (List Vl × List Vl) := match st with
  | .inr (.inr (.inl x)) :: r => grd (decide (k < ls.length) && noL ls k) (some (ls.set k (vR x), r))
  | _ => none
def stL (ls : List Vl) (k : Nat) (st : List Vl) : Option (List Vl × List Vl) := match st with
  | .inr (.inl x) :: r => grd (decide (k + 1 < ls.length) && noL ls k) (some ((ls.set k (vL x)).set (k + 1) vU, r))
  | _ => none
def inc (ls : List Vl) (k : Nat) (n : Int) (st : List Vl) : Option (List Vl × List Vl) := match ls[k]? with
  | some (.inl x) => grd (noL ls k) (some (ls.set k (vI (x + Int32.ofInt n)), st))
  | _ => none
/-- locals -/
def lc (i : Instr) (ls st : List Vl) : Option (List Vl × List Vl) := match i with
  | .iload_n k => ldI ls k st
  | .iload k => ldI ls k st
  | .lload_n k => ldL ls k st
  | .aload_n k => ldR ls k st
  | .aload k => ldR ls k st
  | .istore_n k => stI ls k st
  | .istore k => stI ls k st
  | .astore_n k => stR ls k st
  | .astore k => stR ls k st
  | .lstore_n k => stL ls k st
  | .iinc k n => inc ls k n st
  | _ => none
def tgt (pc : Nat) (off : Int) : Nat := ((pc : Int) + off).toNat
def tok (pc : Nat) (off : Int) : Bool := decide (0 ≤ (pc : Int) + off)
def cI (c : ClassFile.Cond) (x y : Int32) : Bool := match c with
  | .eq => decide (x = y)
  | .ne => decide (¬ x = y)
  | .lt => decide (x < y)
  | .ge => decide (y ≤ x)
  | .gt => decide (y < x)
  | .le => decide (x ≤ y)
/-- two references that may be compared: the same one, or one of them made here, or null -/
def cmpOk (a b : Nat) : Bool := !(a == 4) && !(b == 4) && (a == b || !(a == 3) && !(b == 3) && (decide (47 ≤ a) || decide (47 ≤ b) || a == 0 || b == 0))
/-- a jump: where to, and the stack -/
def br (pc : Nat) (i : Instr) (st : List Vl) : Option (Nat × List Vl) := match i with
  | .goto off => grd (tok pc off) (some (tgt pc off, st))
  | .ifCond c off => match st with
    | .inl x :: r => grd (tok pc off) (some (if cI c x 0 = true then tgt pc off else pc + 3, r))
    | _ => none
  | .if_icmp c off => match st with
    | .inl y :: .inl x :: r => grd (tok pc off) (some (if cI c x y = true then tgt pc off else pc + 3, r))
    | _ => none
  | .ifnull off => match st with
    | .inr (.inr (.inl a)) :: r => grd (tok pc off && !(a == 4)) (some (if a = 0 then tgt pc off else pc + 3, r))
    | _ => none
  | .ifnonnull off => match st with
    | .inr (.inr (.inl a)) :: r => grd (tok pc off && !(a == 4)) (some (if a = 0 then pc + 3 else tgt pc off, r))
    | _ => none
  | .if_acmp c off => match st with
    | .inr (.inr (.inl b)) :: .inr (.inr (.inl a)) :: r => grd (tok pc off && cmpOk a b) (some (match c with
      | .eq => if a = b then tgt pc off else pc + 3
      | .ne => if a = b then pc + 3 else tgt pc off, r))
    | _ => none
  | .tableswitch dflt lo hi offs => match st with
    | .inl x :: r => if x.toInt < lo ∨ hi < x.toInt then grd (tok pc dflt) (some (tgt pc dflt, r)) else match offs[(x.toInt - lo).toNat]? with
      | some off => grd (tok pc off) (some (tgt pc off, r))
      | none => none
    | _ => none
  | _ => none
