/-! RULES: what E does at an instruction, for every method -/
section
variable {y pc : Nat} {ls ls' st st' : List Vl} {h h' : Hp} {i : Instr} {len : Nat}
theorem E_go {pc' : Nat} (hd : decode (mB y) pc = .ok (i, len)) (ha : act y pc i len ls st h = some (.inl (pc', ls', st', h'))) : E (y, pc, ls, st) h = E (y, pc', ls', st') h' := by
  rw [E_eq]; unfold stp; rw [hd]; simp only [ha]
theorem E_no (hd : decode (mB y) pc = .ok (i, len)) (ha : act y pc i len ls st h = none) : E (y, pc, ls, st) h = none := by
  rw [E_eq]; unfold stp; rw [hd]; simp only [ha]
theorem E_re {v : Option Vl} (hd : decode (mB y) pc = .ok (i, len)) (ha : act y pc i len ls st h = some (.inr (.inl v))) : E (y, pc, ls, st) h = some (.inl v, h) := by
  rw [E_eq]; unfold stp; rw [hd]; simp only [ha]
theorem E_th {a : Nat} (hd : decode (mB y) pc = .ok (i, len)) (ha : act y pc i len ls st h = some (.inr (.inr (.inl a)))) : E (y, pc, ls, st) h = thr E y pc ls a h := by
  rw [E_eq]; unfold stp; rw [hd]; simp only [ha]
theorem E_ca {z : Nat} {as r : List Vl} (hd : decode (mB y) pc = .ok (i, len)) (ha : act y pc i len ls st h = some (.inr (.inr (.inr (z, as, r))))) : E (y, pc, ls, st) h = bhd E y pc len ls r (E (z, 0, ent z as, []) h) := by
  rw [E_eq]; unfold stp; rw [hd]; simp only [ha]
theorem grd_t {α : Type} (x : Option α) : grd true x = x := rfl
theorem grd_f {α : Type} (x : Option α) : grd false x = none := rfl
/-- on the stack alone -/
theorem E_ar (hd : decode (mB y) pc = .ok (i, len)) (h0 : lenOk i len = true) (h1 : ar i st = some st') : E (y, pc, ls, st) h = E (y, pc + len, ls, st') h :=
  E_go hd (by unfold act; rw [h0, h1])
/-- locals -/
theorem E_lc (hd : decode (mB y) pc = .ok (i, len)) (h0 : lenOk i len = true) (h1 : ar i st = none) (h2 : lc i ls st = some (ls', st')) : E (y, pc, ls, st) h = E (y, pc + len, ls', st') h :=
  E_go hd (by unfold act; rw [h0, h1, h2])
theorem E_lcg {b : Bool} (hd : decode (mB y) pc = .ok (i, len)) (h0 : lenOk i len = true) (h1 : ar i st = none) (h2 : lc i ls st = grd b (some (ls', st'))) (h3 : br pc i st = none) (h4 : act2 y pc i len ls st h = none) : E (y, pc, ls, st) h = grd b (E (y, pc + len, ls', st') h) := by
  cases b with
  | true => exact E_go hd (by unfold act; rw [h0, h1, h2]; rfl)
  | false => exact E_no hd (by unfold act; rw [h0, h1, h2, h3, h4]; rfl)
/-- jumps -/
theorem E_br {pc' : Nat} (hd : decode (mB y) pc = .ok (i, len)) (h0 : lenOk i len = true) (h1 : ar i st = none) (h2 : lc i ls st = none) (h3 : br pc i st = some (pc', st')) : E (y, pc, ls, st) h = E (y, pc', ls, st') h :=
  E_go hd (by unfold act; rw [h0, h1, h2, h3])
theorem E_jmp {off : Int} {t : Nat} (hd : decode (mB y) pc = .ok (.goto off, 3)) (ht : tgt pc off = t) (hk : tok pc off = true) : E (y, pc, ls, st) h = E (y, t, ls, st) h :=
  E_br hd rfl rfl rfl (by simp only [br, hk, ht, grd_t])
theorem E_if {c : ClassFile.Cond} {off : Int} {t : Nat} {x : Int32} (hd : decode (mB y) pc = .ok (.ifCond c off, 3)) (ht : tgt pc off = t) (hk : tok pc off = true) : E (y, pc, ls, vI x :: st) h = if cI c x 0 = true then E (y, t, ls, st) h else E (y, pc + 3, ls, st) h := by
  rw [E_br (pc' := if cI c x 0 = true then t else pc + 3) (st' := st) hd rfl rfl rfl (by simp only [br, hk, ht, grd_t])]
  split <;> rfl
theorem E_ic {c : ClassFile.Cond} {off : Int} {t : Nat} {x z : Int32} (hd : decode (mB y) pc = .ok (.if_icmp c off, 3)) (ht : tgt pc off = t) (hk : tok pc off = true) : E (y, pc, ls, vI z :: vI x :: st) h = if cI c x z = true then E (y, t, ls, st) h else E (y, pc + 3, ls, st) h := by
  rw [E_br (pc' := if cI c x z = true then t else pc + 3) (st' := st) hd rfl rfl rfl (by simp only [br, hk, ht, grd_t])]
  split <;> rfl
theorem cI_eq {α : Type} (x z : Int32) (p q : α) : (if cI .eq x z = true then p else q) = if x = z then p else q := by simp only [cI, decide_eq_true_eq]
theorem cI_ne {α : Type} (x z : Int32) (p q : α) : (if cI .ne x z = true then p else q) = if x = z then q else p := by simp only [cI, decide_eq_true_eq, ite_not]
theorem cI_lt {α : Type} (x z : Int32) (p q : α) : (if cI .lt x z = true then p else q) = if x < z then p else q := by simp only [cI, decide_eq_true_eq]
theorem cI_ge {α : Type} (x z : Int32) (p q : α) : (if cI .ge x z = true then p else q) = if x < z then q else p := by
  simp only [cI, decide_eq_true_eq]
  by_cases e : x < z
  · rw [if_pos e, if_neg (k2_nle e)]
  · rw [if_neg e, if_pos (k2_le e)]
theorem cI_gt {α : Type} (x z : Int32) (p q : α) : (if cI .gt x z = true then p else q) = if z < x then p else q := by simp only [cI, decide_eq_true_eq]
theorem cI_le {α : Type} (x z : Int32) (p q : α) : (if cI .le x z = true then p else q) = if z < x then q else p := by
  simp only [cI, decide_eq_true_eq]
  by_cases e : z < x
  · rw [if_pos e, if_neg (k2_nle e)]
  · rw [if_neg e, if_pos (k2_le e)]
theorem E_ifn {off : Int} {t a : Nat} (hd : decode (mB y) pc = .ok (.ifnull off, 3)) (ht : tgt pc off = t) (hk : tok pc off = true) : E (y, pc, ls, vR a :: st) h = grd (!(a == 4)) (if a = 0 then E (y, t, ls, st) h else E (y, pc + 3, ls, st) h) := by
  cases e : (!(a == 4)) with
  | true =>
    rw [grd_t, E_br (pc' := if a = 0 then t else pc + 3) (st' := st) hd rfl rfl rfl (by unfold br; simp only [hk, ht, e, Bool.and_true, grd_t])]
    split <;> rfl
  | false => exact E_no hd (by unfold act; simp only [show lenOk (.ifnull off) 3 = true from rfl, show ar (.ifnull off) (vR a :: st) = none from rfl, show lc (.ifnull off) ls (vR a :: st) = none from rfl, br, hk, e, Bool.and_false, grd_f]; rfl)
theorem E_ifnn {off : Int} {t a : Nat} (hd : decode (mB y) pc = .ok (.ifnonnull off, 3)) (ht : tgt pc off = t) (hk : tok pc off = true) : E (y, pc, ls, vR a :: st) h = grd (!(a == 4)) (if a = 0 then E (y, pc + 3, ls, st) h else E (y, t, ls, st) h) := by
  cases e : (!(a == 4)) with
  | true =>
    rw [grd_t, E_br (pc' := if a = 0 then pc + 3 else t) (st' := st) hd rfl rfl rfl (by unfold br; simp only [hk, ht, e, Bool.and_true, grd_t])]
    split <;> rfl
  | false => exact E_no hd (by unfold act; simp only [show lenOk (.ifnonnull off) 3 = true from rfl, show ar (.ifnonnull off) (vR a :: st) = none from rfl, show lc (.ifnonnull off) ls (vR a :: st) = none from rfl, br, hk, e, Bool.and_false, grd_f]; rfl)
/-- heap: a step that asks something -/
theorem E_hf {b : Bool} (hd : decode (mB y) pc = .ok (i, len)) (h0 : lenOk i len = true) (h1 : ar i st = none) (h2 : lc i ls st = none) (h3 : br pc i st = none)
    (h4 : hf y i st h = grd b (some (st', h'))) (h5 : pv y i st h = none) (h6 : cv y i st h = none) (h7 : rvS y i st = none) (h8 : tvS i st h = none) : E (y, pc, ls, st) h = grd b (E (y, pc + len, ls, st') h') := by
  cases b with
  | true => exact E_go hd (by unfold act act2; rw [h0, h1, h2, h3, h4]; rfl)
  | false => exact E_no hd (by unfold act act2; rw [h0, h1, h2, h3, h4, h5, h6, h7, h8]; rfl)
theorem E_pv {b : Bool} (hd : decode (mB y) pc = .ok (i, len)) (h0 : lenOk i len = true) (h1 : ar i st = none) (h2 : lc i ls st = none) (h3 : br pc i st = none)
    (h4 : hf y i st h = none) (h5 : pv y i st h = grd b (some (st', h'))) (h6 : cv y i st h = none) (h7 : rvS y i st = none) (h8 : tvS i st h = none) : E (y, pc, ls, st) h = grd b (E (y, pc + len, ls, st') h') := by
  cases b with
  | true => exact E_go hd (by unfold act act2; rw [h0, h1, h2, h3, h4, h5]; rfl)
  | false => exact E_no hd (by unfold act act2; rw [h0, h1, h2, h3, h4, h5, h6, h7, h8]; rfl)
theorem E_rv {b : Bool} {v : Option Vl} (hd : decode (mB y) pc = .ok (i, len)) (h0 : lenOk i len = true) (h1 : ar i st = none) (h2 : lc i ls st = none) (h3 : br pc i st = none)
    (h4 : hf y i st h = none) (h5 : pv y i st h = none) (h6 : cv y i st h = none) (h7 : rvS y i st = grd b (some v)) (h8 : tvS i st h = none) : E (y, pc, ls, st) h = grd b (some (.inl v, h)) := by
  cases b with
  | true => exact E_re hd (by unfold act act2; rw [h0, h1, h2, h3, h4, h5, h6, h7]; rfl)
  | false => exact E_no hd (by unfold act act2; rw [h0, h1, h2, h3, h4, h5, h6, h7, h8]; rfl)
theorem E_tv {b : Bool} {a : Nat} (hd : decode (mB y) pc = .ok (i, len)) (h0 : lenOk i len = true) (h1 : ar i st = none) (h2 : lc i ls st = none) (h3 : br pc i st = none)
    (h4 : hf y i st h = none) (h5 : pv y i st h = none) (h6 : cv y i st h = none) (h7 : rvS y i st = none) (h8 : tvS i st h = grd b (some a)) : E (y, pc, ls, st) h = grd b (thr E y pc ls a h) := by
  cases b with
  | true => exact E_th hd (by unfold act act2; rw [h0, h1, h2, h3, h4, h5, h6, h7, h8]; rfl)
  | false => exact E_no hd (by unfold act act2; rw [h0, h1, h2, h3, h4, h5, h6, h7, h8]; rfl)
theorem E_cv {b : Bool} {z : Nat} {as r : List Vl} (hd : decode (mB y) pc = .ok (i, len)) (h0 : lenOk i len = true) (h1 : ar i st = none) (h2 : lc i ls st = none) (h3 : br pc i st = none)
    (h4 : hf y i st h = none) (h5 : pv y i st h = none) (h6 : cv y i st h = grd b (some (z, as, r))) (h7 : rvS y i st = none) (h8 : tvS i st h = none) : E (y, pc, ls, st) h = grd b (bhd E y pc len ls r (E (z, 0, ent z as, []) h)) := by
  cases b with
  | true => exact E_ca hd (by unfold act act2; rw [h0, h1, h2, h3, h4, h5, h6]; rfl)
  | false => exact E_no hd (by unfold act act2; rw [h0, h1, h2, h3, h4, h5, h6, h7, h8]; rfl)
end
section
variable {y pc : Nat} {ls st : List Vl} {sh : Nat → Nat × Nat} {I : Nat → Nat → Int32} {L : Nat → Nat → Int64} {R : Nat → Nat → Nat} {n sl : Nat}
theorem E_gfI {x d k a : Nat} (hd : decode (mB y) pc = .ok (.getfield x, 3)) (hl : lk flT (x * 64 + mC y) = some (d, k)) (ht : fC d k ≤ 2) : E (y, pc, ls, vR a :: st) (sh, I, L, R, n, sl) = grd (isO d (sh a)) (E (y, pc + 3, ls, vI (I a k) :: st) (sh, I, L, R, n, sl)) := by
  refine E_hf hd rfl rfl rfl rfl ?_ rfl rfl rfl rfl
  have e : gf (fC d k) a k (sh, I, L, R, n, sl) = vI (I a k) := by
    generalize fC d k = t at ht
    match t, ht with
    | 0, _ => rfl
    | 1, _ => rfl
    | 2, _ => rfl
  simp only [hf, hl, e]
theorem E_gfL {x d k a : Nat} (hd : decode (mB y) pc = .ok (.getfield x, 3)) (hl : lk flT (x * 64 + mC y) = some (d, k)) (ht : fC d k = 3) : E (y, pc, ls, vR a :: st) (sh, I, L, R, n, sl) = grd (isO d (sh a)) (E (y, pc + 3, ls, vL (L a k) :: st) (sh, I, L, R, n, sl)) := by
  refine E_hf hd rfl rfl rfl rfl ?_ rfl rfl rfl rfl
  simp only [hf, hl, ht, gf]
theorem E_gfR {x d k a : Nat} (hd : decode (mB y) pc = .ok (.getfield x, 3)) (hl : lk flT (x * 64 + mC y) = some (d, k)) (ht : fC d k = 4) : E (y, pc, ls, vR a :: st) (sh, I, L, R, n, sl) = grd (isO d (sh a)) (E (y, pc + 3, ls, vR (R a k) :: st) (sh, I, L, R, n, sl)) := by
  refine E_hf hd rfl rfl rfl rfl ?_ rfl rfl rfl rfl
  simp only [hf, hl, ht, gf]
theorem grd_grd {α : Type} (b c : Bool) (x : Option α) : grd b (grd c x) = grd (b && c) x := by cases b <;> rfl
theorem E_pfI {x d k a : Nat} {v : Int32} (hd : decode (mB y) pc = .ok (.putfield x, 3)) (hl : lk flT (x * 64 + mC y) = some (d, k)) (ht : fC d k = 0) (hw : (!(tF d k).2.2.2 || (isInit y && mC y == d)) = true) :
    E (y, pc, ls, vI v :: vR a :: st) (sh, I, L, R, n, sl) = grd (isO d (sh a) && decide (K0 ≤ a)) (E (y, pc + 3, ls, st) (sh, u2 I a k v, L, R, n, sl)) := by
  refine E_hf hd rfl rfl rfl rfl ?_ rfl rfl rfl rfl
  simp only [hf, hl, ht, hw, pf, Bool.and_true]
  rfl
theorem E_pfN {x d k a : Nat} {v : Int32} (hd : decode (mB y) pc = .ok (.putfield x, 3)) (hl : lk flT (x * 64 + mC y) = some (d, k)) (ht : fC d k ≤ 2) (hw : (!(tF d k).2.2.2 || (isInit y && mC y == d)) = true) :
    E (y, pc, ls, vI v :: vR a :: st) (sh, I, L, R, n, sl) = grd (isO d (sh a) && decide (K0 ≤ a) && nk (fC d k) v) (E (y, pc + 3, ls, st) (sh, u2 I a k v, L, R, n, sl)) := by
  refine E_hf hd rfl rfl rfl rfl ?_ rfl rfl rfl rfl
  simp only [hf, hl, hw, pf, Bool.and_true, ht, decide_true, Bool.true_and]
  cases nk (fC d k) v with
  | true => simp only [grd_t, Bool.and_true]
  | false =>
    simp only [grd_f, Bool.and_false]
    cases isO d (sh a) && decide (K0 ≤ a) <;> rfl
theorem E_pfL {x d k a : Nat} {v : Int64} (hd : decode (mB y) pc = .ok (.putfield x, 3)) (hl : lk flT (x * 64 + mC y) = some (d, k)) (ht : fC d k = 3) (hw : (!(tF d k).2.2.2 || (isInit y && mC y == d)) = true) :
    E (y, pc, ls, vL v :: vR a :: st) (sh, I, L, R, n, sl) = grd (isO d (sh a) && decide (K0 ≤ a)) (E (y, pc + 3, ls, st) (sh, I, u2 L a k v, R, n, sl)) := by
  refine E_hf hd rfl rfl rfl rfl ?_ rfl rfl rfl rfl
  simp only [hf, hl, ht, hw, pf, Bool.and_true]
  rfl
theorem E_pfR {x d k a b : Nat} (hd : decode (mB y) pc = .ok (.putfield x, 3)) (hl : lk flT (x * 64 + mC y) = some (d, k)) (ht : fC d k = 4) (hw : (!(tF d k).2.2.2 || (isInit y && mC y == d)) = true) :
    E (y, pc, ls, vR b :: vR a :: st) (sh, I, L, R, n, sl) = grd (isO d (sh a) && decide (K0 ≤ a)) (E (y, pc + 3, ls, st) (sh, I, L, u2 R a k b, n, sl)) := by
  refine E_hf hd rfl rfl rfl rfl ?_ rfl rfl rfl rfl
  simp only [hf, hl, ht, hw, pf, Bool.and_true]
  rfl
theorem E_len {a : Nat} (hd : decode (mB y) pc = .ok (.arraylength, 1)) : E (y, pc, ls, vR a :: st) (sh, I, L, R, n, sl) = grd (decide (2 ≤ (sh a).1)) (E (y, pc + 1, ls, vI (Int32.ofNat (sh a).2) :: st) (sh, I, L, R, n, sl)) :=
  E_hf hd rfl rfl rfl rfl rfl rfl rfl rfl rfl
theorem E_ial {a : Nat} {j : Int32} (hd : decode (mB y) pc = .ok (.iaload, 1)) : E (y, pc, ls, vI j :: vR a :: st) (sh, I, L, R, n, sl) = grd ((sh a).1 == 2 && inb j (sh a).2) (E (y, pc + 1, ls, vI (I a j.toNatClampNeg) :: st) (sh, I, L, R, n, sl)) :=
  E_hf hd rfl rfl rfl rfl rfl rfl rfl rfl rfl
theorem E_bal {a : Nat} {j : Int32} (hd : decode (mB y) pc = .ok (.baload, 1)) : E (y, pc, ls, vI j :: vR a :: st) (sh, I, L, R, n, sl) = grd (((sh a).1 == 3 || (sh a).1 == 4) && inb j (sh a).2) (E (y, pc + 1, ls, vI (I a j.toNatClampNeg) :: st) (sh, I, L, R, n, sl)) :=
  E_hf hd rfl rfl rfl rfl rfl rfl rfl rfl rfl
theorem E_lal {a : Nat} {j : Int32} (hd : decode (mB y) pc = .ok (.laload, 1)) : E (y, pc, ls, vI j :: vR a :: st) (sh, I, L, R, n, sl) = grd ((sh a).1 == 5 && inb j (sh a).2) (E (y, pc + 1, ls, vL (L a j.toNatClampNeg) :: st) (sh, I, L, R, n, sl)) :=
  E_hf hd rfl rfl rfl rfl rfl rfl rfl rfl rfl
theorem E_aal {a : Nat} {j : Int32} (hd : decode (mB y) pc = .ok (.aaload, 1)) : E (y, pc, ls, vI j :: vR a :: st) (sh, I, L, R, n, sl) = grd (decide (10 ≤ (sh a).1) && inb j (sh a).2) (E (y, pc + 1, ls, vR (R a j.toNatClampNeg) :: st) (sh, I, L, R, n, sl)) :=
  E_hf hd rfl rfl rfl rfl rfl rfl rfl rfl rfl
theorem E_ias {a : Nat} {j v : Int32} (hd : decode (mB y) pc = .ok (.iastore, 1)) : E (y, pc, ls, vI v :: vI j :: vR a :: st) (sh, I, L, R, n, sl) = grd ((sh a).1 == 2 && inb j (sh a).2 && decide (K0 ≤ a)) (E (y, pc + 1, ls, st) (sh, u2 I a j.toNatClampNeg v, L, R, n, sl)) :=
  E_hf hd rfl rfl rfl rfl rfl rfl rfl rfl rfl
theorem E_bas {a : Nat} {j v : Int32} (hd : decode (mB y) pc = .ok (.bastore, 1)) : E (y, pc, ls, vI v :: vI j :: vR a :: st) (sh, I, L, R, n, sl) = grd (((sh a).1 == 3 || ((sh a).1 == 4 && nk 1 v)) && inb j (sh a).2 && decide (K0 ≤ a)) (E (y, pc + 1, ls, st) (sh, u2 I a j.toNatClampNeg (match (sh a).1 with
      | 3 => v.toInt8.toInt32
      | _ => v), L, R, n, sl)) :=
  E_hf hd rfl rfl rfl rfl rfl rfl rfl rfl rfl
theorem E_las {a : Nat} {j : Int32} {v : Int64} (hd : decode (mB y) pc = .ok (.lastore, 1)) : E (y, pc, ls, vL v :: vI j :: vR a :: st) (sh, I, L, R, n, sl) = grd ((sh a).1 == 5 && inb j (sh a).2 && decide (K0 ≤ a)) (E (y, pc + 1, ls, st) (sh, I, u2 L a j.toNatClampNeg v, R, n, sl)) :=
  E_hf hd rfl rfl rfl rfl rfl rfl rfl rfl rfl
theorem E_aas {a b : Nat} {j : Int32} (hd : decode (mB y) pc = .ok (.aastore, 1)) : E (y, pc, ls, vR b :: vI j :: vR a :: st) (sh, I, L, R, n, sl) = grd (decide (10 ≤ (sh a).1) && inb j (sh a).2 && decide (K0 ≤ a) && (b == 0 && decide ((sh a).1 ≤ 50) || elOk2 ((sh a).1 - 10) b (sh b))) (E (y, pc + 1, ls, st) (sh, I, L, u2 R a j.toNatClampNeg b, n, sl)) :=
  E_hf hd rfl rfl rfl rfl rfl rfl rfl rfl rfl
theorem E_new {x c : Nat} (hd : decode (mB y) pc = .ok (.new x, 3)) (hl : lk clT (x * 64 + mC y) = some c) (hc : decide (c < 26) = true) : E (y, pc, ls, st) (sh, I, L, R, n, sl) = grd (decide (n + 1 ≤ BN) && decide (sl + tSl c ≤ BS)) (E (y, pc + 3, ls, vR n :: st) (u1 sh n (1, c), zr 0 I n, zr 0 L n, zr 0 R n, n + 1, sl + tSl c)) := by
  refine E_hf hd rfl rfl rfl rfl ?_ rfl rfl rfl rfl
  simp only [hf, hl, hc, al, grd_t]
  cases decide (n + 1 ≤ BN) && decide (sl + tSl c ≤ BS) <;> rfl
theorem E_nwa {t : ArrayType} {k : Nat} {j : Int32} (hd : decode (mB y) pc = .ok (.newarray t, 2)) (hk : atK t = k) (h2 : decide (2 ≤ k) = true) : E (y, pc, ls, vI j :: st) (sh, I, L, R, n, sl) = grd (!decide (j < 0) && decide (j.toNatClampNeg ≤ 10000) && (decide (n + 1 ≤ BN) && decide (sl + j.toNatClampNeg ≤ BS))) (E (y, pc + 2, ls, vR n :: st) (u1 sh n (k, j.toNatClampNeg), zr 0 I n, zr 0 L n, zr 0 R n, n + 1, sl + j.toNatClampNeg)) := by
  refine E_hf hd rfl rfl rfl rfl ?_ rfl rfl rfl rfl
  simp only [hf, hk, h2, al, Bool.true_and]
  cases (!decide (j < 0) && decide (j.toNatClampNeg ≤ 10000)) <;> cases decide (n + 1 ≤ BN) && decide (sl + j.toNatClampNeg ≤ BS) <;> rfl
theorem E_anw {x c : Nat} {j : Int32} (hd : decode (mB y) pc = .ok (.anewarray x, 3)) (hl : lk clT (x * 64 + mC y) = some c) (hc : aoC.contains c = true) : E (y, pc, ls, vI j :: st) (sh, I, L, R, n, sl) = grd (!decide (j < 0) && decide (j.toNatClampNeg ≤ 10000) && (decide (n + 1 ≤ BN) && decide (sl + j.toNatClampNeg ≤ BS))) (E (y, pc + 3, ls, vR n :: st) (u1 sh n (10 + c, j.toNatClampNeg), zr 0 I n, zr 0 L n, zr 0 R n, n + 1, sl + j.toNatClampNeg)) := by
  refine E_hf hd rfl rfl rfl rfl ?_ rfl rfl rfl rfl
  simp only [hf, hl, hc, al, Bool.true_and]
  cases (!decide (j < 0) && decide (j.toNatClampNeg ≤ 10000)) <;> cases decide (n + 1 ≤ BN) && decide (sl + j.toNatClampNeg ≤ BS) <;> rfl
theorem E_cst {x : Nat} {v : Vl} (hd : decode (mB y) pc = .ok (.ldc x, 2)) (hl : lk csT (x * 64 + mC y) = some v) (hv : isL v = false) {h : Hp} : E (y, pc, ls, st) h = E (y, pc + 2, ls, v :: st) h := by
  rw [← grd_t (E (y, pc + 2, ls, v :: st) h)]
  refine E_hf hd rfl rfl rfl rfl ?_ rfl rfl rfl rfl
  simp only [hf, hl, hv, Bool.not_false]
theorem E_cw {x : Nat} {v : Int32} (hd : decode (mB y) pc = .ok (.ldc_w x, 3)) (hl : lk csT (x * 64 + mC y) = some (vI v)) {h : Hp} : E (y, pc, ls, st) h = E (y, pc + 3, ls, vI v :: st) h := by
  rw [← grd_t (E (y, pc + 3, ls, vI v :: st) h)]
  refine E_hf hd rfl rfl rfl rfl ?_ rfl rfl rfl rfl
  simp only [hf, hl, grd_t]
theorem E_c2 {x : Nat} {v : Int64} (hd : decode (mB y) pc = .ok (.ldc2_w x, 3)) (hl : lk csT (x * 64 + mC y) = some (vL v)) {h : Hp} : E (y, pc, ls, st) h = E (y, pc + 3, ls, vL v :: st) h := by
  rw [← grd_t (E (y, pc + 3, ls, vL v :: st) h)]
  refine E_hf hd rfl rfl rfl rfl ?_ rfl rfl rfl rfl
  simp only [hf, hl, grd_t]
theorem E_gs {x : Nat} {v : Vl} (hd : decode (mB y) pc = .ok (.getstatic x, 3)) (hl : lk sgT (x * 64 + mC y) = some v) {h : Hp} : E (y, pc, ls, st) h = E (y, pc + 3, ls, v :: st) h := by
  rw [← grd_t (E (y, pc + 3, ls, v :: st) h)]
  refine E_hf hd rfl rfl rfl rfl ?_ rfl rfl rfl rfl
  simp only [hf, hl, grd_t]
/-- answers -/
theorem E_reI {v : Int32} {h : Hp} (hd : decode (mB y) pc = .ok (.ireturn, 1)) (ht : rtc (mRt y) = 0) : E (y, pc, ls, [vI v]) h = some (.inl (some (vI v)), h) := by
  rw [← grd_t (some (Sum.inl (some (vI v)), h))]
  refine E_rv hd rfl rfl rfl rfl rfl rfl rfl ?_ rfl
  simp only [rvS, ht, nk]; rfl
theorem E_reN {v : Int32} {h : Hp} {t : Nat} (hd : decode (mB y) pc = .ok (.ireturn, 1)) (ht : rtc (mRt y) = t) (h2 : (t == 0 || t == 1 || t == 2 || t == 5) = true) : E (y, pc, ls, [vI v]) h = grd (nk t v) (some (.inl (some (vI v)), h)) := by
  refine E_rv hd rfl rfl rfl rfl rfl rfl rfl ?_ rfl
  simp only [rvS, ht, h2, Bool.true_and]
theorem E_reR {a : Nat} {h : Hp} (hd : decode (mB y) pc = .ok (.areturn, 1)) (ht : rtc (mRt y) = 4) : E (y, pc, ls, [vR a]) h = grd (!(a == 4)) (some (.inl (some (vR a)), h)) := by
  refine E_rv hd rfl rfl rfl rfl rfl rfl rfl ?_ rfl
  simp only [rvS, ht]; rfl
theorem E_reV {h : Hp} (hd : decode (mB y) pc = .ok (.return_, 1)) (ht : rtc (mRt y) = 8) : E (y, pc, ls, []) h = some (.inl none, h) := by
  rw [← grd_t (some (Sum.inl none, h))]
  refine E_rv hd rfl rfl rfl rfl rfl rfl rfl ?_ rfl
  simp only [rvS, ht]; rfl
theorem E_thr {a : Nat} (hd : decode (mB y) pc = .ok (.athrow, 1)) : E (y, pc, ls, vR a :: st) (sh, I, L, R, n, sl) = grd ((sh a).1 == 1 && (decide (2 ≤ (sh a).2) && decide ((sh a).2 ≤ 4))) (thr E y pc ls a (sh, I, L, R, n, sl)) :=
  E_tv hd rfl rfl rfl rfl rfl rfl rfl rfl rfl
end
/-! calls -/
section
variable {y pc : Nat} {ls st : List Vl} {h : Hp}
theorem rok_of {z : Nat} {as r : List Vl} (h1 : (decide (mFr z + 1 ≤ mFr y) && decide (8 + (mL z + 11) + mWd z ≤ mWd y)) = true) (h2 : decide ((spr as).length ≤ mL z) = true) : rok y z as r = decide (stW r ≤ 8) := by
  unfold rok; rw [h1, h2]; rfl
theorem E_cS {x z na : Nat} {as r en : List Vl} (hd : decode (mB y) pc = .ok (.invokestatic x, 3)) (hm : mlk y x = some (0, z, na)) (h1 : (decide (mFr z + 1 ≤ mFr y) && decide (8 + (mL z + 11) + mWd z ≤ mWd y)) = true)
    (hp : popA na [] st = some (as, r)) (h2 : decide ((spr as).length ≤ mL z) = true) (he : ent z as = en) : E (y, pc, ls, st) h = grd (decide (stW r ≤ 8)) (bhd E y pc 3 ls r (E (z, 0, en, []) h)) := by
  rw [← he]
  refine E_cv hd rfl rfl rfl rfl rfl ?_ ?_ rfl rfl
  · simp only [pv, hm]
  · simp only [cv, hm, hp, rok_of h1 h2]
theorem E_cI {x z na a : Nat} {as r en : List Vl} (hd : decode (mB y) pc = .ok (.invokespecial x, 3)) (hm : mlk y x = some (1, z, na)) (h1 : (decide (mFr z + 1 ≤ mFr y) && decide (8 + (mL z + 11) + mWd z ≤ mWd y)) = true)
    (hp : popA na [] st = some (as, vR a :: r)) (h2 : decide ((spr (vR a :: as)).length ≤ mL z) = true) (he : ent z (vR a :: as) = en) : E (y, pc, ls, st) h = grd (decide (5 ≤ a) && decide (stW r ≤ 8)) (bhd E y pc 3 ls r (E (z, 0, en, []) h)) := by
  rw [← he]
  refine E_cv hd rfl rfl rfl rfl rfl ?_ ?_ rfl rfl
  · simp only [pv, hm]
  · simp only [cv, hm, hp, rok_of h1 h2]
theorem E_cSu {x z na a : Nat} {as r en : List Vl} (hd : decode (mB y) pc = .ok (.invokespecial x, 3)) (hm : mlk y x = some (2, z, na)) (h1 : (decide (mFr z + 1 ≤ mFr y) && decide (8 + (mL z + 11) + mWd z ≤ mWd y)) = true)
    (hp : popA na [] st = some (as, vR a :: r)) (h2 : decide ((spr (vR a :: as)).length ≤ mL z) = true) (he : ent z (vR a :: as) = en) : E (y, pc, ls, st) h = grd ((h.1 a).1 == 1 && decide (stW r ≤ 8)) (bhd E y pc 3 ls r (E (z, 0, en, []) h)) := by
  rw [← he]
  refine E_cv hd rfl rfl rfl rfl rfl ?_ ?_ rfl rfl
  · simp only [pv, hm]
  · simp only [cv, hm, hp, rok_of h1 h2]
theorem E_cV {x z v na a ci : Nat} {as r en : List Vl} (hd : decode (mB y) pc = .ok (.invokevirtual x, 3)) (hm : mlk y x = some (3, v, na)) (hv : lk (vsT.getD v []) ci = some z) (h1 : (decide (mFr z + 1 ≤ mFr y) && decide (8 + (mL z + 11) + mWd z ≤ mWd y)) = true)
    (hp : popA na [] st = some (as, vR a :: r)) (h2 : decide ((spr (vR a :: as)).length ≤ mL z) = true) (he : ent z (vR a :: as) = en) (hs : h.1 a = (1, ci)) : E (y, pc, ls, st) h = grd (decide (stW r ≤ 8)) (bhd E y pc 3 ls r (E (z, 0, en, []) h)) := by
  rw [← he]
  refine E_cv hd rfl rfl rfl rfl rfl ?_ ?_ rfl rfl
  · simp only [pv, hm]
  · simp only [cv, hm, hp, hs, hv, rok_of h1 h2]; rfl
theorem E_cF {x z na a ct : Nat} {as r en : List Vl} (hd : decode (mB y) pc = .ok (.invokeinterface x ct, 5)) (hm : mlk y x = some (4, z, na)) (h1 : (decide (mFr z + 1 ≤ mFr y) && decide (8 + (mL z + 11) + mWd z ≤ mWd y)) = true)
    (hp : popA na [] st = some (as, vR a :: r)) (h2 : decide ((spr (vR a :: as)).length ≤ mL z) = true) (he : ent z (vR a :: as) = en) (hs : h.1 a = (1, 7)) : E (y, pc, ls, st) h = grd (decide (stW r ≤ 8)) (bhd E y pc 5 ls r (E (z, 0, en, []) h)) := by
  rw [← he]
  refine E_cv hd rfl rfl rfl rfl rfl rfl ?_ rfl rfl
  simp only [cv, hm, hp, hs, rok_of h1 h2]; rfl
theorem E_oI {x a u w : Nat} (hd : decode (mB y) pc = .ok (.invokespecial x, 3)) (hm : mlk y x = some (5, u, w)) (h1 : (decide (1 ≤ mFr y) && decide (20 ≤ mWd y)) = true) : E (y, pc, ls, [vR a]) h = grd (decide (5 ≤ a)) (E (y, pc + 3, ls, []) h) := by
  simp only [Bool.and_eq_true, decide_eq_true_eq] at h1
  refine E_pv hd rfl rfl rfl rfl rfl ?_ ?_ rfl rfl
  · simp only [pv, hm, stW, h1.1, h1.2, decide_true, Bool.and_true, show (0 + 20 ≤ mWd y + 8) = True from eq_true (by omega)]
  · simp only [cv, hm]
theorem E_rI {x a u w : Nat} {sh : Nat → Nat × Nat} {I : Nat → Nat → Int32} {L : Nat → Nat → Int64} {R : Nat → Nat → Nat} {n sl : Nat} (hd : decode (mB y) pc = .ok (.invokespecial x, 3)) (hm : mlk y x = some (6, u, w)) (h1 : (decide (7 ≤ mFr y) && decide (101 ≤ mWd y)) = true) :
    E (y, pc, ls, [vR a]) (sh, I, L, R, n, sl) = grd ((sh a).1 == 1 && (decide (2 ≤ (sh a).2) && decide ((sh a).2 ≤ 4)) && decide (K0 ≤ a) && R a 0 == 0) (E (y, pc + 3, ls, []) (sh, I, L, R, n, sl)) := by
  simp only [Bool.and_eq_true, decide_eq_true_eq] at h1
  refine E_pv hd rfl rfl rfl rfl rfl ?_ ?_ rfl rfl
  · simp only [pv, hm, stW, h1.1, h1.2, decide_true, Bool.and_true, Nat.zero_le]
  · simp only [cv, hm]
theorem E_mx {x u w : Nat} {p q : Int32} (hd : decode (mB y) pc = .ok (.invokestatic x, 3)) (hm : mlk y x = some (9, u, w)) (h1 : (decide (1 ≤ mFr y) && decide (21 ≤ mWd y)) = true) : E (y, pc, ls, vI q :: vI p :: st) h = grd (decide (stW st ≤ 8)) (E (y, pc + 3, ls, vI (if p < q then q else p) :: st) h) := by
  simp only [Bool.and_eq_true, decide_eq_true_eq] at h1
  refine E_pv hd rfl rfl rfl rfl rfl ?_ ?_ rfl rfl
  · simp only [pv, hm, h1.1, h1.2, decide_true, Bool.and_true, Bool.true_and]
  · simp only [cv, hm]
theorem E_mn {x u w : Nat} {p q : Int32} (hd : decode (mB y) pc = .ok (.invokestatic x, 3)) (hm : mlk y x = some (10, u, w)) (h1 : (decide (1 ≤ mFr y) && decide (21 ≤ mWd y)) = true) : E (y, pc, ls, vI q :: vI p :: st) h = grd (decide (stW st ≤ 8)) (E (y, pc + 3, ls, vI (if q < p then q else p) :: st) h) := by
  simp only [Bool.and_eq_true, decide_eq_true_eq] at h1
  refine E_pv hd rfl rfl rfl rfl rfl ?_ ?_ rfl rfl
  · simp only [pv, hm, h1.1, h1.2, decide_true, Bool.and_true, Bool.true_and]
  · simp only [cv, hm]
theorem E_ab {x u w : Nat} {p : Int32} (hd : decode (mB y) pc = .ok (.invokestatic x, 3)) (hm : mlk y x = some (11, u, w)) (h1 : (decide (1 ≤ mFr y) && decide (21 ≤ mWd y)) = true) : E (y, pc, ls, vI p :: st) h = grd (decide (stW st ≤ 8)) (E (y, pc + 3, ls, vI (if p < 0 then -p else p) :: st) h) := by
  simp only [Bool.and_eq_true, decide_eq_true_eq] at h1
  refine E_pv hd rfl rfl rfl rfl rfl ?_ ?_ rfl rfl
  · simp only [pv, hm, h1.1, h1.2, decide_true, Bool.and_true, Bool.true_and]
  · simp only [cv, hm]
theorem E_gc {x a u w : Nat} {sh : Nat → Nat × Nat} {I : Nat → Nat → Int32} {L : Nat → Nat → Int64} {R : Nat → Nat → Nat} {n sl : Nat} (hd : decode (mB y) pc = .ok (.invokevirtual x, 3)) (hm : mlk y x = some (8, u, w)) (h1 : (decide (1 ≤ mFr y) && decide (68 ≤ mWd y)) = true) :
    E (y, pc, ls, vR a :: st) (sh, I, L, R, n, sl) = grd ((sh a).1 == 50 && decide (stW st ≤ 8)) (E (y, pc + 3, ls, vR 3 :: st) (sh, I, L, R, n, sl)) := by
  simp only [Bool.and_eq_true, decide_eq_true_eq] at h1
  refine E_pv hd rfl rfl rfl rfl rfl ?_ ?_ rfl rfl
  · simp only [pv, hm, h1.1, h1.2, decide_true, Bool.and_true]
  · simp only [cv, hm]
/-- arraycopy: what it asks -/
def acG (sh : Nat → Nat × Nat) (a : Nat) (sp : Int32) (b : Nat) (dp m : Int32) : Bool := (sh a).1 == (sh b).1 && decide (K0 ≤ b) && !decide (sp < 0) && !decide (dp < 0) && !decide (m < 0) && decide (sp.toNatClampNeg + m.toNatClampNeg ≤ (sh a).2) && decide (dp.toNatClampNeg + m.toNatClampNeg ≤ (sh b).2)
theorem E_acI {x u w a b : Nat} {sp dp m : Int32} {sh : Nat → Nat × Nat} {I : Nat → Nat → Int32} {L : Nat → Nat → Int64} {R : Nat → Nat → Nat} {n sl : Nat} (hd : decode (mB y) pc = .ok (.invokestatic x, 3)) (hm : mlk y x = some (7, u, w)) (h1 : (decide (1 ≤ mFr y) && decide (68 ≤ mWd y)) = true)
    (hs : (sh a).1 = 2 ∨ (sh a).1 = 3 ∨ (sh a).1 = 4) : E (y, pc, ls, vI m :: vI dp :: vR b :: vI sp :: vR a :: st) (sh, I, L, R, n, sl) = grd (acG sh a sp b dp m && decide (stW st ≤ 8)) (E (y, pc + 3, ls, st) (sh, cpA I a sp.toNatClampNeg b dp.toNatClampNeg m.toNatClampNeg, L, R, n, sl)) := by
  simp only [Bool.and_eq_true, decide_eq_true_eq] at h1
  have q1 : decide (10 ≤ (sh a).1) = false := decide_eq_false (by omega)
  have q2 : ((sh a).1 == 2 || (sh a).1 == 3 || (sh a).1 == 4) = true := by rcases hs with e | e | e <;> rw [e] <;> rfl
  refine E_pv hd rfl rfl rfl rfl rfl ?_ ?_ rfl rfl
  · simp only [pv, hm, h1.1, h1.2, decide_true, Bool.and_true, Bool.true_and, acp, q1, q2, Bool.true_or, acG]
    cases decide (stW st ≤ 8)
    · simp only [grd_f, Bool.and_false]
    · simp only [grd_t, Bool.and_true]
      generalize ((sh a).1 == (sh b).1 && decide (K0 ≤ b) && !decide (sp < 0) && !decide (dp < 0) && !decide (m < 0) && decide (sp.toNatClampNeg + m.toNatClampNeg ≤ (sh a).2) && decide (dp.toNatClampNeg + m.toNatClampNeg ≤ (sh b).2)) = t
      cases t <;> rfl
  · simp only [cv, hm]
theorem E_acR {x u w a b : Nat} {sp dp m : Int32} {sh : Nat → Nat × Nat} {I : Nat → Nat → Int32} {L : Nat → Nat → Int64} {R : Nat → Nat → Nat} {n sl : Nat} (hd : decode (mB y) pc = .ok (.invokestatic x, 3)) (hm : mlk y x = some (7, u, w)) (h1 : (decide (1 ≤ mFr y) && decide (68 ≤ mWd y)) = true)
    (hs : 10 ≤ (sh a).1) : E (y, pc, ls, vI m :: vI dp :: vR b :: vI sp :: vR a :: st) (sh, I, L, R, n, sl) = grd (acG sh a sp b dp m && decide (stW st ≤ 8)) (E (y, pc + 3, ls, st) (sh, I, L, cpA R a sp.toNatClampNeg b dp.toNatClampNeg m.toNatClampNeg, n, sl)) := by
  simp only [Bool.and_eq_true, decide_eq_true_eq] at h1
  have q1 : decide (10 ≤ (sh a).1) = true := decide_eq_true hs
  refine E_pv hd rfl rfl rfl rfl rfl ?_ ?_ rfl rfl
  · simp only [pv, hm, h1.1, h1.2, decide_true, Bool.and_true, Bool.true_and, acp, q1, Bool.or_true, acG]
    cases decide (stW st ≤ 8)
    · simp only [grd_f, Bool.and_false]
    · simp only [grd_t, Bool.and_true]
      generalize ((sh a).1 == (sh b).1 && decide (K0 ≤ b) && !decide (sp < 0) && !decide (dp < 0) && !decide (m < 0) && decide (sp.toNatClampNeg + m.toNatClampNeg ≤ (sh a).2) && decide (dp.toNatClampNeg + m.toNatClampNeg ≤ (sh b).2)) = t
      cases t <;> rfl
  · simp only [cv, hm]
theorem bhd_v {pc len : Nat} {r : List Vl} (v : Vl) : bhd E y pc len ls r (some (.inl (some v), h)) = E (y, pc + len, ls, v :: r) h := rfl
theorem bhd_n {pc len : Nat} {r : List Vl} : bhd E y pc len ls r (some (.inl none, h)) = E (y, pc + len, ls, r) h := rfl
theorem bhd_t {pc len : Nat} {r : List Vl} (a : Nat) : bhd E y pc len ls r (some (.inr a, h)) = thr E y pc ls a h := rfl
/-- no handler -/
theorem thr_o {a : Nat} (hh : mH y = []) : thr E y pc ls a h = some (.inr a, h) := by unfold thr hnd; rw [hh]; rfl
theorem thr_p {a : Nat} (hh : (mH y).find? (fun q => decide (q.1 ≤ pc) && decide (pc < q.2.1)) = none) : thr E y pc ls a h = some (.inr a, h) := by unfold thr hnd; rw [hh]
theorem thr_c {a t c : Nat} (hh : hnd y pc c = some (some t)) {sh : Nat → Nat × Nat} {I : Nat → Nat → Int32} {L : Nat → Nat → Int64} {R : Nat → Nat → Nat} {n sl : Nat} (hs : sh a = (1, c)) : thr E y pc ls a (sh, I, L, R, n, sl) = E (y, t, ls, [vR a]) (sh, I, L, R, n, sl) := by unfold thr; simp only [hs, hh]
theorem isL_I (x : Int32) : isL (Sum.inl x) = false := rfl
theorem isL_L (x : Int64) : isL (Sum.inr (Sum.inl x)) = true := rfl
theorem isL_R (x : Nat ⊕ Unit) : isL (Sum.inr (Sum.inr x)) = false := rfl
theorem stW_0 : stW [] = 0 := rfl
theorem stW_I (x : Int32) (r : List Vl) : stW (Sum.inl x :: r) = 1 + stW r := rfl
theorem stW_L (x : Int64) (r : List Vl) : stW (Sum.inr (Sum.inl x) :: r) = 2 + stW r := rfl
theorem stW_R (x : Nat ⊕ Unit) (r : List Vl) : stW (Sum.inr (Sum.inr x) :: r) = 1 + stW r := rfl
end
section
variable {y pc : Nat} {ls st : List Vl} {h : Hp}
theorem E_arg {i : Instr} {len : Nat} {st' : List Vl} {b : Bool} (hd : decode (mB y) pc = .ok (i, len)) (h0 : lenOk i len = true) (h1 : ar i st = grd b (some st')) (h2 : lc i ls st = none) (h3 : br pc i st = none) (h4 : act2 y pc i len ls st h = none) : E (y, pc, ls, st) h = grd b (E (y, pc + len, ls, st') h) := by
  cases b with
  | true => exact E_go hd (by unfold act; rw [h0, h1]; rfl)
  | false => exact E_no hd (by unfold act; rw [h0, h1, h2, h3, h4]; rfl)
theorem E_dv {i : Instr} {x z w : Int32} (hd : decode (mB y) pc = .ok (i, 1)) (hi : (i = .idiv ∧ w = x / z) ∨ (i = .irem ∧ w = x - x / z * z)) : E (y, pc, ls, vI z :: vI x :: st) h = grd (!(z == 0)) (E (y, pc + 1, ls, vI w :: st) h) := by
  rcases hi with ⟨rfl, rfl⟩ | ⟨rfl, rfl⟩
  · exact E_arg hd rfl rfl rfl rfl rfl
  · exact E_arg hd rfl rfl rfl rfl rfl
theorem E_du {v : Vl} (hd : decode (mB y) pc = .ok (.dup, 1)) : E (y, pc, ls, v :: st) h = grd (!isL v) (E (y, pc + 1, ls, v :: v :: st) h) := E_arg hd rfl rfl rfl rfl rfl
theorem E_po {v : Vl} (hd : decode (mB y) pc = .ok (.pop, 1)) : E (y, pc, ls, v :: st) h = grd (!isL v) (E (y, pc + 1, ls, st) h) := E_arg hd rfl rfl rfl rfl rfl
theorem E_dx {v w : Vl} (hd : decode (mB y) pc = .ok (.dup_x1, 1)) : E (y, pc, ls, v :: w :: st) h = grd (!isL v && !isL w) (E (y, pc + 1, ls, v :: w :: v :: st) h) := E_arg hd rfl rfl rfl rfl rfl
theorem E_d2 {v w : Vl} (hd : decode (mB y) pc = .ok (.dup2, 1)) : E (y, pc, ls, v :: w :: st) h = grd (!isL v && !isL w) (E (y, pc + 1, ls, v :: w :: v :: w :: st) h) := E_arg hd rfl rfl rfl rfl rfl
theorem E_aeq {off : Int} {t a b : Nat} (hd : decode (mB y) pc = .ok (.if_acmp .eq off, 3)) (ht : tgt pc off = t) (hk : tok pc off = true) : E (y, pc, ls, vR b :: vR a :: st) h = grd (cmpOk a b) (if a = b then E (y, t, ls, st) h else E (y, pc + 3, ls, st) h) := by
  cases e : cmpOk a b with
  | true =>
    rw [grd_t, E_br (pc' := if a = b then t else pc + 3) (st' := st) hd rfl rfl rfl (by simp only [br, hk, ht, e, Bool.true_and, grd_t])]
    split <;> rfl
  | false => exact E_no hd (by unfold act; simp only [show lenOk (.if_acmp .eq off) 3 = true from rfl, show ar (.if_acmp .eq off) (vR b :: vR a :: st) = none from rfl, show lc (.if_acmp .eq off) ls (vR b :: vR a :: st) = none from rfl, br, hk, e, Bool.true_and, grd_f]; rfl)
theorem E_ane {off : Int} {t a b : Nat} (hd : decode (mB y) pc = .ok (.if_acmp .ne off, 3)) (ht : tgt pc off = t) (hk : tok pc off = true) : E (y, pc, ls, vR b :: vR a :: st) h = grd (cmpOk a b) (if a = b then E (y, pc + 3, ls, st) h else E (y, t, ls, st) h) := by
  cases e : cmpOk a b with
  | true =>
    rw [grd_t, E_br (pc' := if a = b then pc + 3 else t) (st' := st) hd rfl rfl rfl (by simp only [br, hk, ht, e, Bool.true_and, grd_t])]
    split <;> rfl
  | false => exact E_no hd (by unfold act; simp only [show lenOk (.if_acmp .ne off) 3 = true from rfl, show ar (.if_acmp .ne off) (vR b :: vR a :: st) = none from rfl, show lc (.if_acmp .ne off) ls (vR b :: vR a :: st) = none from rfl, br, hk, e, Bool.true_and, grd_f]; rfl)
/-- a switch, by the place that a number goes to -/
theorem E_sw {dflt lo hi : Int} {offs : Array Int} {len t : Nat} {x : Int32} (hd : decode (mB y) pc = .ok (.tableswitch dflt lo hi offs, len)) (ht : br pc (.tableswitch dflt lo hi offs) [vI x] = some (t, [])) : E (y, pc, ls, vI x :: st) h = E (y, t, ls, st) h := by
  refine E_br hd rfl rfl rfl ?_
  simp only [br] at ht ⊢
  split
  · rename_i q
    rw [if_pos q] at ht
    cases hk : tok pc dflt with
    | true => rw [hk] at ht; rw [grd_t] at ht ⊢; cases ht; rfl
    | false => rw [hk] at ht; cases ht
  · rename_i q
    rw [if_neg q] at ht
    split at ht
    · rename_i off hq
      try simp only [hq]
      cases hk : tok pc off with
      | true => rw [hk] at ht; rw [grd_t] at ht ⊢; cases ht; rfl
      | false => rw [hk] at ht; cases ht
    · cases ht
theorem E_mna {x : Nat} {j k : Int32} {sh : Nat → Nat × Nat} {I : Nat → Nat → Int32} {L : Nat → Nat → Int64} {R : Nat → Nat → Nat} {n sl : Nat} (hd : decode (mB y) pc = .ok (.multianewarray x 2, 4)) (hl : (lk clT (x * 64 + mC y) == some 43) = true) :
    E (y, pc, ls, vI k :: vI j :: st) (sh, I, L, R, n, sl) = grd (!decide (k < 0) && !decide (j < 0) && decide (k.toNatClampNeg ≤ 100) && decide (j.toNatClampNeg ≤ 100)) (match al2 j.toNatClampNeg k.toNatClampNeg (sh, I, L, R, n, sl) with
      | some h => E (y, pc + 4, ls, vR n :: st) h
      | none => none) := by
  cases e : al2 j.toNatClampNeg k.toNatClampNeg (sh, I, L, R, n, sl) with
  | none =>
    refine (E_no hd ?_).trans ?_
    · unfold act act2
      simp only [show lenOk (.multianewarray x 2) 4 = true from rfl, ar, lc, br, hf, hl, e, pv, cv, rvS, tvS]
      generalize (2 == 2 && true && !decide (k < 0) && !decide (j < 0) && decide (k.toNatClampNeg ≤ 100) && decide (j.toNatClampNeg ≤ 100)) = t
      cases t <;> rfl
    · generalize (!decide (k < 0) && !decide (j < 0) && decide (k.toNatClampNeg ≤ 100) && decide (j.toNatClampNeg ≤ 100)) = t
      cases t <;> rfl
  | some h1 =>
    refine E_hf hd rfl rfl rfl rfl ?_ rfl rfl rfl rfl
    simp only [hf, hl, e, Bool.and_true, Bool.true_and, beq_self_eq_true]
theorem E_ck {x c a : Nat} {sh : Nat → Nat × Nat} {I : Nat → Nat → Int32} {L : Nat → Nat → Int64} {R : Nat → Nat → Nat} {n sl : Nat} (hd : decode (mB y) pc = .ok (.checkcast x, 3)) (hl : lk clT (x * 64 + mC y) = some c) :
    E (y, pc, ls, vR a :: st) (sh, I, L, R, n, sl) = grd (sh a == (1, c)) (E (y, pc + 3, ls, vR a :: st) (sh, I, L, R, n, sl)) := by
  refine E_hf hd rfl rfl rfl rfl ?_ rfl rfl rfl rfl
  simp only [hf, hl]
end
