/-! THE ABSTRACT MACHINE: steps over the tables, runs, and their fixpoint E -/
/-- below: what was there ahead of the law (1 the script, 2 ArrayList's empty array, 3 a class object, 4 a formatter, 5.. the keywords, 26.. their bytes) -/
def K0 : Nat := 47
def BN : Nat := 601024 + 47
def BS : Nat := 7293034
def isO (d : Nat) (s : Nat × Nat) : Bool := s.1 == 1 && sub s.2 d
def inb (i : Int32) (n : Nat) : Bool := decide (¬ (i < 0 ∨ n ≤ i.toNatClampNeg))
/-- a number that a field or an answer of this kind can hold: 1 boolean, 2 byte, 5 char -/
def nk (t : Nat) (x : Int32) : Bool := match t with
  | 1 => x == 0 || x == 1
  | 2 => x.toInt8.toInt32 == x
  | 5 => (x.toUInt32 % 65536).toInt32 == x
  | _ => true
def gf (t : Nat) (a k : Nat) (h : Hp) : Vl := match t with
  | 3 => vL (h.2.2.1 a k)
  | 4 => vR (h.2.2.2.1 a k)
  | _ => vI (h.2.1 a k)
def pf (t : Nat) (a k : Nat) (v : Vl) (h : Hp) : Option Hp := match h with
  | (sh, I, L, R, n, sl) => match v with
    | .inl x => grd (decide (t ≤ 2) && nk t x) (some (sh, u2 I a k x, L, R, n, sl))
    | .inr (.inl x) => grd (t == 3) (some (sh, I, u2 L a k x, R, n, sl))
    | .inr (.inr (.inl b)) => grd (t == 4) (some (sh, I, L, u2 R a k b, n, sl))
    | _ => none
/-- may be kept in an array of such elements -/
def elOk (ec : Nat) (s : Nat × Nat) : Bool := match ec with
  | 40 => s.1 == 1
  | 41 => s.1 == 3
  | 42 => s.1 == 2
  | _ => s.1 == 1 && sub s.2 ec
/-- .. and what it is is known: an object, or an array made here -/
def elOk2 (ec b : Nat) (s : Nat × Nat) : Bool := elOk ec s && (s.1 == 1 || decide (47 ≤ b))
/-- a new cell of shape s, with ns slots -/
def al (s : Nat × Nat) (ns : Nat) (h : Hp) : Option Hp := match h with
  | (sh, I, L, R, n, sl) => grd (decide (n + 1 ≤ BN) && decide (sl + ns ≤ BS)) (some (u1 sh n s, zr 0 I n, zr 0 L n, zr 0 R n, n + 1, sl + ns))
/-- many cells: an array of n arrays of k ints -/
def al2 (m k : Nat) (h : Hp) : Option Hp := match h with
  | (sh, I, L, R, n, sl) => grd (decide (n + (m + 1) ≤ BN) && decide (sl + (m + m * k) ≤ BS)) (some (fun b => if b = n then (52, m) else if n < b ∧ b ≤ n + m then (2, k) else sh b,
      fun b j => if n ≤ b ∧ b ≤ n + m then 0 else I b j, fun b j => if n ≤ b ∧ b ≤ n + m then 0 else L b j,
      fun b j => if b = n then (if j < m then n + 1 + j else 0) else if n < b ∧ b ≤ n + m then 0 else R b j, n + (m + 1), sl + (m + m * k)))
def isInit (y : Nat) : Bool := (mN y).name == "<init>"
def atK (t : ArrayType) : Nat := match newarray.typeOf t with
  | .int => 2
  | .byte => 3
  | .boolean => 4
  | .long => 5
  | _ => 0
/-- fields, constants, arrays, new cells -/
def hf (y : Nat) (i : Instr) (st : List Vl) (h : Hp) : Option (List Vl × Hp) := match i with
  | .getfield x => match st with
    | .inr (.inr (.inl a)) :: r => match lk flT (x * 64 + mC y) with
      | some (d, k) => grd (isO d (h.1 a)) (some (gf (fC d k) a k h :: r, h))
      | none => none
    | _ => none
  | .putfield x => match st with
    | v :: .inr (.inr (.inl a)) :: r => match lk flT (x * 64 + mC y) with
      | some (d, k) => grd (isO d (h.1 a) && decide (K0 ≤ a) && (!(tF d k).2.2.2 || (isInit y && mC y == d))) (match pf (fC d k) a k v h with
        | some h' => some (r, h')
        | none => none)
      | none => none
    | _ => none
  | .getstatic x => match lk sgT (x * 64 + mC y) with
    | some v => some (v :: st, h)
    | none => none
  | .ldc x => match lk csT (x * 64 + mC y) with
    | some v => grd (!isL v) (some (v :: st, h))
    | none => none
  | .ldc_w x => match lk csT (x * 64 + mC y) with
    | some (.inl v) => some (vI v :: st, h)
    | _ => none
  | .ldc2_w x => match lk csT (x * 64 + mC y) with
    | some (.inr (.inl v)) => some (vL v :: st, h)
    | _ => none
  | .arraylength => match st with
    | .inr (.inr (.inl a)) :: r => grd (decide (2 ≤ (h.1 a).1)) (some (vI (Int32.ofNat (h.1 a).2) :: r, h))
    | _ => none
  | .iaload => match st with
    | .inl j :: .inr (.inr (.inl a)) :: r => grd ((h.1 a).1 == 2 && inb j (h.1 a).2) (some (vI (h.2.1 a j.toNatClampNeg) :: r, h))
    | _ => none
  | .baload => match st with
    | .inl j :: .inr (.inr (.inl a)) :: r => grd (((h.1 a).1 == 3 || (h.1 a).1 == 4) && inb j (h.1 a).2) (some (vI (h.2.1 a j.toNatClampNeg) :: r, h))
    | _ => none
  | .laload => match st with
    | .inl j :: .inr (.inr (.inl a)) :: r => grd ((h.1 a).1 == 5 && inb j (h.1 a).2) (some (vL (h.2.2.1 a j.toNatClampNeg) :: r, h))
    | _ => none
  | .aaload => match st with
    | .inl j :: .inr (.inr (.inl a)) :: r => grd (decide (10 ≤ (h.1 a).1) && inb j (h.1 a).2) (some (vR (h.2.2.2.1 a j.toNatClampNeg) :: r, h))
    | _ => none
  | .iastore => match st, h with
    | .inl x :: .inl j :: .inr (.inr (.inl a)) :: r, (sh, I, L, R, n, sl) => grd ((sh a).1 == 2 && inb j (sh a).2 && decide (K0 ≤ a)) (some (r, sh, u2 I a j.toNatClampNeg x, L, R, n, sl))
    | _, _ => none
  | .bastore => match st, h with
    | .inl x :: .inl j :: .inr (.inr (.inl a)) :: r, (sh, I, L, R, n, sl) => grd (((sh a).1 == 3 || ((sh a).1 == 4 && nk 1 x)) && inb j (sh a).2 && decide (K0 ≤ a)) (some (r, sh, u2 I a j.toNatClampNeg (match (sh a).1 with
      | 3 => x.toInt8.toInt32
      | _ => x), L, R, n, sl))
    | _, _ => none
  | .lastore => match st, h with
    | .inr (.inl x) :: .inl j :: .inr (.inr (.inl a)) :: r, (sh, I, L, R, n, sl) => grd ((sh a).1 == 5 && inb j (sh a).2 && decide (K0 ≤ a)) (some (r, sh, I, u2 L a j.toNatClampNeg x, R, n, sl))
    | _, _ => none
  | .aastore => match st, h with
    | .inr (.inr (.inl b)) :: .inl j :: .inr (.inr (.inl a)) :: r, (sh, I, L, R, n, sl) => grd (decide (10 ≤ (sh a).1) && inb j (sh a).2 && decide (K0 ≤ a) && (b == 0 && decide ((sh a).1 ≤ 50) || elOk2 ((sh a).1 - 10) b (sh b))) (some (r, sh, I, L, u2 R a j.toNatClampNeg b, n, sl))
    | _, _ => none
  | .new x => match lk clT (x * 64 + mC y) with
    | some c => grd (decide (c < 26)) (match al (1, c) (tSl c) h with
      | some h' => some (vR h.2.2.2.2.1 :: st, h')
      | none => none)
    | none => none
  | .newarray t => match st with
    | .inl j :: r => grd (decide (2 ≤ atK t) && !decide (j < 0) && decide (j.toNatClampNeg ≤ 10000)) (match al (atK t, j.toNatClampNeg) j.toNatClampNeg h with
      | some h' => some (vR h.2.2.2.2.1 :: r, h')
      | none => none)
    | _ => none
  | .anewarray x => match st with
    | .inl j :: r => match lk clT (x * 64 + mC y) with
      | some c => grd (aoC.contains c && !decide (j < 0) && decide (j.toNatClampNeg ≤ 10000)) (match al (10 + c, j.toNatClampNeg) j.toNatClampNeg h with
        | some h' => some (vR h.2.2.2.2.1 :: r, h')
        | none => none)
      | none => none
    | _ => none
  | .multianewarray x dm => match st with
    | .inl k :: .inl m :: r => grd (dm == 2 && lk clT (x * 64 + mC y) == some 43 && !decide (k < 0) && !decide (m < 0) && decide (k.toNatClampNeg ≤ 100) && decide (m.toNatClampNeg ≤ 100)) (match al2 m.toNatClampNeg k.toNatClampNeg h with
      | some h' => some (vR h.2.2.2.2.1 :: r, h')
      | none => none)
    | _ => none
  | .checkcast x => match st with
    | .inr (.inr (.inl a)) :: r => match lk clT (x * 64 + mC y) with
      | some c => grd (h.1 a == (1, c)) (some (vR a :: r, h))
      | none => none
    | _ => none
  | _ => none
/-- some elements of one array lie in another one now -/
def cpA {α : Type} (f : Nat → Nat → α) (a sp b dp n : Nat) : Nat → Nat → α := fun q j => if q = b ∧ dp ≤ j ∧ j < dp + n then f a (sp + (j - dp)) else f q j
def acp (a : Nat) (sp : Int32) (b : Nat) (dp m : Int32) (h : Hp) : Option Hp := match h with
  | (sh, I, L, R, n, sl) => grd ((sh a).1 == (sh b).1 && (((sh a).1 == 2 || (sh a).1 == 3 || (sh a).1 == 4) || decide (10 ≤ (sh a).1)) && decide (K0 ≤ b) && !decide (sp < 0) && !decide (dp < 0) && !decide (m < 0)
      && decide (sp.toNatClampNeg + m.toNatClampNeg ≤ (sh a).2) && decide (dp.toNatClampNeg + m.toNatClampNeg ≤ (sh b).2))
    (some (match decide (10 ≤ (sh a).1) with
      | true => (sh, I, L, cpA R a sp.toNatClampNeg b dp.toNatClampNeg m.toNatClampNeg, n, sl)
      | false => (sh, cpA I a sp.toNatClampNeg b dp.toNatClampNeg m.toNatClampNeg, L, R, n, sl)))
/-- the link of an invocation -/
def mlk (y x : Nat) : Option (Nat × Nat × Nat) := lk mlT (x * 64 + mC y)
/-- calls that are one step: Object(), RuntimeException(), arraycopy, getClass, max, min, abs -/
def pv (y : Nat) (i : Instr) (st : List Vl) (h : Hp) : Option (List Vl × Hp) := match i with
  | .invokespecial x => match mlk y x, st with
    | some (5, _, _), .inr (.inr (.inl a)) :: r => grd (decide (5 ≤ a) && decide (1 ≤ mFr y) && decide (stW r + 20 ≤ mWd y + 8) && decide (20 ≤ mWd y)) (some (r, h))
    | some (6, _, _), .inr (.inr (.inl a)) :: r => grd ((h.1 a).1 == 1 && (decide (2 ≤ (h.1 a).2) && decide ((h.1 a).2 ≤ 4)) && decide (K0 ≤ a) && h.2.2.2.1 a 0 == 0 && decide (7 ≤ mFr y) && decide (stW r ≤ 8) && decide (101 ≤ mWd y)) (some (r, h))
    | _, _ => none
  | .invokestatic x => match mlk y x, st with
    | some (7, _, _), .inl m :: .inl dp :: .inr (.inr (.inl b)) :: .inl sp :: .inr (.inr (.inl a)) :: r => grd (decide (1 ≤ mFr y) && decide (stW r ≤ 8) && decide (68 ≤ mWd y)) (match acp a sp b dp m h with
      | some h' => some (r, h')
      | none => none)
    | some (9, _, _), .inl v :: .inl u :: r => grd (decide (1 ≤ mFr y) && decide (stW r ≤ 8) && decide (21 ≤ mWd y)) (some (vI (if u < v then v else u) :: r, h))
    | some (10, _, _), .inl v :: .inl u :: r => grd (decide (1 ≤ mFr y) && decide (stW r ≤ 8) && decide (21 ≤ mWd y)) (some (vI (if v < u then v else u) :: r, h))
    | some (11, _, _), .inl u :: r => grd (decide (1 ≤ mFr y) && decide (stW r ≤ 8) && decide (21 ≤ mWd y)) (some (vI (if u < 0 then -u else u) :: r, h))
    | _, _ => none
  | .invokevirtual x => match mlk y x, st with
    | some (8, _, _), .inr (.inr (.inl a)) :: r => grd ((h.1 a).1 == 50 && decide (1 ≤ mFr y) && decide (stW r ≤ 8) && decide (68 ≤ mWd y)) (some (vR 3 :: r, h))
    | _, _ => none
  | _ => none
/-- so many arguments off the stack -/
def popA : Nat → List Vl → List Vl → Option (List Vl × List Vl)
  | 0, acc, st => some (acc, st)
  | n + 1, acc, v :: st => popA n (v :: acc) st
  | _ + 1, _, [] => none
/-- locals at the start: a long takes two -/
def spr : List Vl → List Vl
  | [] => []
  | .inr (.inl x) :: r => vL x :: vU :: spr r
  | .inl x :: r => vI x :: spr r
  | .inr (.inr v) :: r => .inr (.inr v) :: spr r
def pad : Nat → List Vl → List Vl
  | 0, _ => []
  | n + 1, [] => vU :: pad n []
  | n + 1, v :: r => v :: pad n r
def ent (z : Nat) (as : List Vl) : List Vl := pad (mL z) (spr as)
/-- there is room for a call of z out of y -/
def rok (y z : Nat) (as rest : List Vl) : Bool := decide (mFr z + 1 ≤ mFr y) && decide (8 + (mL z + 11) + mWd z ≤ mWd y) && decide ((spr as).length ≤ mL z) && decide (stW rest ≤ 8)
/-- calls: which method, its arguments, what is left on the stack -/
def cv (y : Nat) (i : Instr) (st : List Vl) (h : Hp) : Option (Nat × List Vl × List Vl) := match i with
  | .invokestatic x => match mlk y x with
    | some (0, z, na) => match popA na [] st with
      | some (as, r) => grd (rok y z as r) (some (z, as, r))
      | none => none
    | _ => none
  | .invokespecial x => match mlk y x with
    | some (1, z, na) => match popA na [] st with
      | some (as, .inr (.inr (.inl a)) :: r) => grd (decide (5 ≤ a) && rok y z (vR a :: as) r) (some (z, vR a :: as, r))
      | _ => none
    | some (2, z, na) => match popA na [] st with
      | some (as, .inr (.inr (.inl a)) :: r) => grd ((h.1 a).1 == 1 && rok y z (vR a :: as) r) (some (z, vR a :: as, r))
      | _ => none
    | _ => none
  | .invokevirtual x => match mlk y x with
    | some (3, v, na) => match popA na [] st with
      | some (as, .inr (.inr (.inl a)) :: r) => grd ((h.1 a).1 == 1) (match lk (vsT.getD v []) (h.1 a).2 with
        | some z => grd (rok y z (vR a :: as) r) (some (z, vR a :: as, r))
        | none => none)
      | _ => none
    | _ => none
  | .invokeinterface x _ => match mlk y x with
    | some (4, z, na) => match popA na [] st with
      | some (as, .inr (.inr (.inl a)) :: r) => grd (h.1 a == (1, 7) && rok y z (vR a :: as) r) (some (z, vR a :: as, r))
      | _ => none
    | _ => none
  | _ => none
def rtc (t : Option FieldType) : Nat := match t with
  | some .int => 0
  | some .boolean => 1
  | some .byte => 2
  | some .char => 5
  | some (.object _) => 4
  | some (.array _) => 4
  | none => 8
  | _ => 9
def rvS (y : Nat) (i : Instr) (st : List Vl) : Option (Option Vl) := match i with
  | .ireturn => match st with
    | [.inl x] => grd ((rtc (mRt y) == 0 || rtc (mRt y) == 1 || rtc (mRt y) == 2 || rtc (mRt y) == 5) && nk (rtc (mRt y)) x) (some (some (vI x)))
    | _ => none
  | .areturn => match st with
    | [.inr (.inr (.inl a))] => grd (rtc (mRt y) == 4 && !(a == 4)) (some (some (vR a)))
    | _ => none
  | .return_ => match st with
    | [] => grd (rtc (mRt y) == 8) (some none)
    | _ => none
  | _ => none
def tvS (i : Instr) (st : List Vl) (h : Hp) : Option Nat := match i with
  | .athrow => match st with
    | .inr (.inr (.inl a)) :: _ => grd ((h.1 a).1 == 1 && (decide (2 ≤ (h.1 a).2) && decide ((h.1 a).2 ≤ 4))) (some a)
    | _ => none
  | _ => none
def lenOk (i : Instr) (len : Nat) : Bool := match i with
  | .tableswitch _ _ _ _ => true
  | _ => len == lenOf i
/-- one step: on to a place; an answer; a throw; a call -/
abbrev Ac : Type := (Nat × List Vl × List Vl × Hp) ⊕ (Option Vl) ⊕ Nat ⊕ (Nat × List Vl × List Vl)
def act2 (y pc : Nat) (i : Instr) (len : Nat) (ls st : List Vl) (h : Hp) : Option Ac := match hf y i st h with
  | some (st', h') => some (.inl (pc + len, ls, st', h'))
  | none => match pv y i st h with
    | some (st', h') => some (.inl (pc + len, ls, st', h'))
    | none => match cv y i st h with
      | some q => some (.inr (.inr (.inr q)))
      | none => match rvS y i st with
        | some v => some (.inr (.inl v))
        | none => match tvS i st h with
          | some a => some (.inr (.inr (.inl a)))
          | none => none
def act (y pc : Nat) (i : Instr) (len : Nat) (ls st : List Vl) (h : Hp) : Option Ac := match lenOk i len with
  | false => none
  | true => match ar i st with
    | some st' => some (.inl (pc + len, ls, st', h))
    | none => match lc i ls st with
      | some (ls', st') => some (.inl (pc + len, ls', st', h))
      | none => match br pc i st with
        | some (pc', st') => some (.inl (pc', ls, st', h))
        | none => act2 y pc i len ls st h
/-- what becomes of a throw in a method, at a place: out of it, or to a handler; none: not covered here -/
def hnd (y pc c : Nat) : Option (Option Nat) := match (mH y).find? (fun q => decide (q.1 ≤ pc) && decide (pc < q.2.1)) with
  | none => some none
  | some q => match lk clT (q.2.2.2 * 64 + mC y) with
    | some d => match d == c with
      | true => some (some q.2.2.1)
      | false => none
    | none => none
abbrev Cfg : Type := Nat × Nat × List Vl × List Vl
abbrev Out : Type := Option ((Option Vl ⊕ Nat) × Hp)
/-- a throw at a place: 'k' goes on -/
def thr (k : Cfg → Hp → Out) (y pc : Nat) (ls : List Vl) (a : Nat) (h : Hp) : Out := match hnd y pc (h.1 a).2 with
  | none => none
  | some none => some (.inr a, h)
  | some (some q) => k (y, q, ls, [vR a]) h
/-- behind a call -/
def bhd (k : Cfg → Hp → Out) (y pc len : Nat) (ls r : List Vl) (o : Out) : Out := match o with
  | none => none
  | some (.inl none, h) => k (y, pc + len, ls, r) h
  | some (.inl (some v), h) => k (y, pc + len, ls, v :: r) h
  | some (.inr a, h) => thr k y pc ls a h
def stp (k : Cfg → Hp → Out) (y pc : Nat) (ls st : List Vl) (h : Hp) : Out := match decode (mB y) pc with
  | .error _ => none
  | .ok (i, len) => match act y pc i len ls st h with
    | none => none
    | some (.inl (pc', ls', st', h')) => k (y, pc', ls', st') h'
    | some (.inr (.inl v)) => some (.inl v, h)
    | some (.inr (.inr (.inl a))) => thr k y pc ls a h
    | some (.inr (.inr (.inr (z, as, r)))) => bhd k y pc len ls r (k (z, 0, ent z as, []) h)
def exec : Nat → Cfg → Hp → Out
  | 0, _, _ => none
  | n + 1, (y, pc, ls, st), h => stp (exec n) y pc ls st h
/-- k knows no more than k' -/
def leK (k k' : Cfg → Hp → Out) : Prop := ∀ c h r, k c h = some r → k' c h = some r
theorem thr_mono {k k' : Cfg → Hp → Out} (hk : leK k k') {y pc : Nat} {ls : List Vl} {a : Nat} {h : Hp} {r : (Option Vl ⊕ Nat) × Hp} (e : thr k y pc ls a h = some r) : thr k' y pc ls a h = some r := by
  unfold thr at e ⊢
  split at e
  · cases e
  · exact e
  · exact hk _ _ _ e
theorem bhd_mono {k k' : Cfg → Hp → Out} (hk : leK k k') {y pc len : Nat} {ls st : List Vl} {o o' : Out} (ho : ∀ r, o = some r → o' = some r) {r : (Option Vl ⊕ Nat) × Hp} (e : bhd k y pc len ls st o = some r) : bhd k' y pc len ls st o' = some r := by
  unfold bhd at e
  split at e
  · cases e
  · rw [ho _ rfl]; exact hk _ _ _ e
  · rw [ho _ rfl]; exact hk _ _ _ e
  · rw [ho _ rfl]; exact thr_mono hk e
theorem stp_mono {k k' : Cfg → Hp → Out} (hk : leK k k') {y pc : Nat} {ls st : List Vl} {h : Hp} {r : (Option Vl ⊕ Nat) × Hp} (e : stp k y pc ls st h = some r) : stp k' y pc ls st h = some r := by
  unfold stp at e ⊢
  split at e
  · cases e
  · split at e
    · cases e
    · exact hk _ _ _ e
    · exact e
    · exact thr_mono hk e
    · exact bhd_mono hk (fun r q => hk _ _ _ q) e
theorem exec_succ (n : Nat) : leK (exec n) (exec (n + 1)) := by
  induction n with
  | zero => intro c h r e; cases e
  | succ n ih =>
    intro c h r e
    obtain ⟨y, pc, ls, st⟩ := c
    exact stp_mono ih e
theorem exec_le {n m : Nat} (h : n ≤ m) : leK (exec n) (exec m) := by
  induction h with
  | refl => intro c h r e; exact e
  | step _ ih => intro c h r e; exact exec_succ _ _ _ _ (ih _ _ _ e)
/-- what a run from here comes to, however long it is -/
noncomputable def E (c : Cfg) (h : Hp) : Out := by
  classical exact if q : ∃ (n : Nat) (r : (Option Vl ⊕ Nat) × Hp), exec n c h = some r then some (Classical.choose (Classical.choose_spec q)) else none
theorem E_iff {c : Cfg} {h : Hp} {r : (Option Vl ⊕ Nat) × Hp} : E c h = some r ↔ ∃ n, exec n c h = some r := by
  classical
  unfold E
  constructor
  · intro e
    split at e
    · rename_i q
      have h1 := Classical.choose_spec (Classical.choose_spec q)
      rw [Option.some.inj e] at h1
      exact ⟨_, h1⟩
    · cases e
  · rintro ⟨n, hn⟩
    have q : ∃ (n : Nat) (r : (Option Vl ⊕ Nat) × Hp), exec n c h = some r := ⟨n, r, hn⟩
    rw [dif_pos q]
    have h1 := Classical.choose_spec (Classical.choose_spec q)
    have h2 := exec_le (Nat.le_max_left n (Classical.choose q)) _ _ _ hn
    have h3 := exec_le (Nat.le_max_right n (Classical.choose q)) _ _ _ h1
    exact h3.symm.trans h2
theorem leE (n : Nat) : leK (exec n) E := fun c h r e => E_iff.mpr ⟨n, e⟩
theorem thr_E {y pc : Nat} {ls : List Vl} {a : Nat} {h : Hp} {r : (Option Vl ⊕ Nat) × Hp} (e : thr E y pc ls a h = some r) : ∃ n, thr (exec n) y pc ls a h = some r := by
  unfold thr at e ⊢
  split at e
  · cases e
  · exact ⟨0, e⟩
  · exact E_iff.mp e
theorem bhd_E {y pc len : Nat} {ls st : List Vl} {o : Out} {r : (Option Vl ⊕ Nat) × Hp} (e : bhd E y pc len ls st o = some r) : ∃ n, bhd (exec n) y pc len ls st o = some r := by
  unfold bhd at e ⊢
  split at e
  · cases e
  · exact E_iff.mp e
  · exact E_iff.mp e
  · exact thr_E e
/-- THE FIXPOINT -/
theorem E_eq (y pc : Nat) (ls st : List Vl) (h : Hp) : E (y, pc, ls, st) h = stp E y pc ls st h := by
  apply Option.ext
  intro r
  constructor
  · intro e
    obtain ⟨n, hn⟩ := E_iff.mp e
    cases n with
    | zero => cases hn
    | succ n => exact stp_mono (leE n) hn
  · intro e
    suffices q : ∃ n, stp (exec n) y pc ls st h = some r by
      obtain ⟨n, hn⟩ := q
      exact E_iff.mpr ⟨n + 1, hn⟩
    unfold stp at e ⊢
    split at e
    · cases e
    · split at e
      · cases e
      · exact E_iff.mp e
      · exact ⟨0, e⟩
      · exact thr_E e
      · rename_i z as rr _
        cases ho : E (z, 0, ent z as, []) h with
        | none => rw [ho] at e; cases e
        | some o =>
          obtain ⟨n, hn⟩ := E_iff.mp ho
          rw [ho] at e
          obtain ⟨m, hm⟩ := bhd_E e
          refine ⟨max n m, ?_⟩
          refine bhd_mono (exec_le (Nat.le_max_right n m)) ?_ hm
          intro r' q
          rw [← Option.some.inj q]
          exact exec_le (Nat.le_max_left n m) _ _ _ hn
