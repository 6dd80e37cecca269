/-! THE START of the law: both objects stand -/
def hA (L : Nat) (xs : Nat → Int32) : Hp := (u1 (sh0 L) 47 (1, 0), zr 0 (I0 xs) 47, zr 0 (fun _ _ => 0) 47, zr 0 R0 47, 48, 21)
theorem hA_eq (L : Nat) (xs : Nat → Int32) : shw (fun a => a == 1) (hA L xs) hC1 = hA L xs := by
  unfold shw ov
  have key : ∀ b, ¬ Dn (fun a => a == 1) 48 b = true → b ≠ 1 ∧ b < 48 := by
    intro b hb
    refine ⟨fun e => hb (Dn_i (.inl (by rw [e]; rfl))), Nat.lt_of_not_le fun e => hb (Dn_i (.inr e))⟩
  refine Prod.ext ?_ (Prod.ext ?_ (Prod.ext ?_ (Prod.ext ?_ rfl)))
  · funext b
    by_cases e : Dn (fun a => a == 1) 48 b = true
    · exact if_pos e
    · refine (if_neg e).trans ?_
      obtain ⟨h1, h2⟩ := key b e
      simp only [hC1, hA, u1_ap, sh0, if_neg h1]
  · funext b j
    by_cases e : Dn (fun a => a == 1) 48 b = true
    · exact if_pos e
    · refine (if_neg e).trans ?_
      obtain ⟨h1, h2⟩ := key b e
      simp only [hC1, hA, zr_ap, I0, if_neg h1]
      by_cases e2 : b = 47
      · rw [if_pos e2, if_neg (by omega)]
      · rw [if_neg e2]
  · funext b j
    by_cases e : Dn (fun a => a == 1) 48 b = true
    · exact if_pos e
    · refine (if_neg e).trans ?_
      simp only [hC1, hA, zr_ap]; split <;> rfl
  · funext b j
    by_cases e : Dn (fun a => a == 1) 48 b = true
    · exact if_pos e
    · refine (if_neg e).trans ?_
      simp only [hC1, hA, zr_ap, R0]
      by_cases e2 : b = 47
      · rw [if_pos e2, if_neg (by omega)]
      · rw [if_neg e2]
theorem hC1_hid : hid (fun a => a == 1) hC1 := by
  intro a ha
  rcases Dn_t ha with t | t
  · have : a = 1 := eq_of_beq t
    subst this; decide
  · have t : 48 ≤ a := t
    simp only [hC1]
    rw [if_neg (by omega), if_neg (by omega), if_neg (by omega), if_neg (by omega)]
theorem hC1_low : low (fun a => a == 1) hC1 := by
  intro a ha
  have ha : 48 ≤ a := ha
  have : a ≠ 1 := by omega
  simpa using this
theorem lowA : (shpA.all fun p => p.1 != 1 && decide (p.1 < 223)) = true ∧ (rfA.all fun p => p.1 != 1 && decide (p.1 < 223)) = true ∧ (inA.all fun p => p.1 != 1 && decide (p.1 < 223)) = true ∧ (i1A.all fun p => p.1 != 1 && decide (p.1 < 223)) = true ∧ (r1A.all fun p => p.1 != 1 && decide (p.1 < 223)) = true := by
  refine ⟨?_, ?_, ?_, ?_, ?_⟩ <;> decide +kernel
theorem tctor_E (L : Nat) (xs : Nat → Int32) : ∃ h', E (1, 0, [vR 47, vU], []) (hA L xs) = some (.inl none, h') ∧ h'.2.2.2.2 = (223, 3194) ∧ h'.1 1 = (2, L) ∧ (∀ j, h'.2.1 1 j = xs j) ∧ (∀ p ∈ shpA, h'.1 p.1 = p.2) ∧ (∀ p ∈ rfA, h'.2.2.2.1 p.1 p.2.1 = p.2.2)
    ∧ (∀ p ∈ inA, h'.2.1 p.1 p.2.1 = p.2.2) ∧ (∀ p ∈ i1A, h'.2.1 p.1 p.2.1 = p.2.2) ∧ (∀ p ∈ r1A, h'.2.2.2.1 p.1 p.2.1 = p.2.2) := by
  have hr := runA
  cases he : exec 3000 (1, 0, [vR 47, vU], []) hC1 with
  | none => rw [he] at hr; cases hr
  | some q =>
    obtain ⟨v, h⟩ := q
    rw [he] at hr
    cases v with
    | inr a => cases hr
    | inl v =>
      cases v with
      | some v => cases hr
      | none =>
        simp only [okA, okF, Bool.and_eq_true, List.all_eq_true] at hr
        obtain ⟨⟨n1, n2⟩, ⟨⟨⟨f1, f2⟩, f3⟩, f4⟩, f5⟩ := hr
        have n1 := eq_of_beq n1
        have n2 := eq_of_beq n2
        have hE := shw_E (w := hA L xs) hC1_hid hC1_low he
        rw [hA_eq] at hE
        have key : ∀ a, (a != 1 && decide (a < 223)) = true → Dn (fun a => a == 1) h.2.2.2.2.1 a = false := by
          intro a ha
          rw [Bool.and_eq_true] at ha
          cases e : Dn (fun a => a == 1) h.2.2.2.2.1 a with
          | false => rfl
          | true =>
            rcases Dn_t e with t | t
            · rw [eq_of_beq t] at ha; cases ha.1
            · rw [n1] at t; have := of_decide_eq_true ha.2; omega
        have one : Dn (fun a => a == 1) h.2.2.2.2.1 1 = true := rfl
        obtain ⟨l1, l2, l3, l4, l5⟩ := lowA
        refine ⟨_, hE, ?_, ?_, ?_, ?_, ?_, ?_, ?_, ?_⟩
        · show (h.2.2.2.2.1, h.2.2.2.2.2) = _
          rw [n1, n2]
        · rfl
        · intro j; rfl
        · intro p hp
          exact (if_neg (D_no (key _ (List.all_eq_true.mp l1 p hp)))).trans (eq_of_beq (f1 p hp))
        · intro p hp
          exact (if_neg (D_no (key _ (List.all_eq_true.mp l2 p hp)))).trans (eq_of_beq (f2 p hp))
        · intro p hp
          exact (if_neg (D_no (key _ (List.all_eq_true.mp l3 p hp)))).trans (eq_of_beq (f3 p hp))
        · intro p hp
          exact (if_neg (D_no (key _ (List.all_eq_true.mp l4 p hp)))).trans (eq_of_beq (f4 p hp))
        · intro p hp
          exact (if_neg (D_no (key _ (List.all_eq_true.mp l5 p hp)))).trans (eq_of_beq (f5 p hp))
/-- what stands when both objects are made -/
def St1 (L : Nat) (xs : Nat → Int32) (sh : Nat → Nat × Nat) (I : Nat → Nat → Int32) (R : Nat → Nat → Nat) : Prop :=
  Ar sh I R ∧ sh 1 = (2, L) ∧ (∀ j, I 1 j = xs j) ∧ (∀ p ∈ i1A ++ i1B, I p.1 p.2.1 = p.2.2) ∧ (∀ p ∈ r1A ++ r1B, R p.1 p.2.1 = p.2.2)
theorem start_E (L : Nat) (xs : Nat → Int32) : ∃ sh I Lg R, E (0, 0, [vR 1, vU, vU, vU], []) (h0 L xs) = E (0, 18, [vR 1, vR 47, vR 223, vI 0], []) (sh, I, Lg, R, 250, 17888) ∧ St1 L xs sh I R := by
  obtain ⟨h1, e1, n1, s1, x1, a1, a2, a3, a4, a5⟩ := tctor_E L xs
  obtain ⟨sh, I, Lg, R, nn⟩ := h1
  simp only at n1 s1 x1 a1 a2 a3 a4 a5
  subst n1
  obtain ⟨h2, e2, n2, b1, b2, b3, b4, b5⟩ := mctor_E (sh := u1 sh 223 (1, 24)) (I := zr 0 I 223) (L := zr 0 Lg 223) (R := zr 0 R 223) (u1_at _ _ _) (fun j => zr_at _ _ _ _)
  obtain ⟨sh2, I2, L2, R2, nn2⟩ := h2
  simp only at n2 b1 b2 b3 b4 b5
  subst n2
  have e1 : E (1, 0, [vR 47, vU], []) (u1 (sh0 L) 47 (1, 0), zr 0 (I0 xs) 47, zr 0 (fun _ _ => 0) 47, zr 0 R0 47, 48, 21) = some (.inl none, sh, I, Lg, R, 223, 3194) := e1
  have g : ∀ a, a < 223 → sh2 a = sh a ∧ ∀ j, I2 a j = I a j ∧ R2 a j = R a j := by
    intro a ha
    obtain ⟨p1, p2⟩ := b5 a ha
    refine ⟨p1.trans (u1_ne (by omega)), fun j => ⟨(p2 j).1.trans (zr_ne (by omega)), (p2 j).2.trans (zr_ne (by omega))⟩⟩
  obtain ⟨l1, l2, l3, l4, l5⟩ := lowA
  have lt : ∀ a, (a != 1 && decide (a < 223)) = true → a < 223 := fun a ha => by rw [Bool.and_eq_true] at ha; exact of_decide_eq_true ha.2
  refine ⟨sh2, I2, L2, R2, ?_, ⟨?_, ?_, ?_⟩, ?_, ?_, ?_, ?_⟩
  · simp only [h0, r0_0, r0_3, r0_4, r0_7, r0_8, r0_11, r0_12, r0_15, r0_16, r0_17, grd_t, grd_f, bhd_v, bhd_n, bhd_t, bhd_ite, bhd_none, grd_ite, isL_I, isL_L, isL_R, stW_0, stW_I, stW_L, stW_R, Nat.add_zero, Nat.reduceAdd, Nat.zero_le, Nat.reduceLeDiff, Nat.reduceSub, decide_true, decide_false, Bool.and_true, Bool.true_and, Bool.and_self, Bool.not_false, Bool.not_true, Bool.and_false, Bool.false_and, Bool.or_true, Bool.true_or, Bool.or_false, Bool.false_or, if_true, if_false, ite_true, ite_false, beq_self_eq_true, K0_v, u2_ap, Nat.reduceEqDiff, Nat.reduceBEq, and_self, and_true, true_and, false_and, and_false, reduceIte, nk_1_0, nk_1_1, nk_0, io_0_0, io_1_1, io_2_2, io_3_3, io_4_4, io_5_5, io_6_6, io_7_7, io_8_8, io_9_9, io_10_10, io_11_11, io_12_12, io_13_13, io_14_14, io_14_15, io_15_15, io_14_16, io_16_16, io_14_17, io_16_17, io_17_17, io_18_18, io_18_19, io_19_19, io_18_20, io_20_20, io_18_21, io_21_21, io_18_22, io_21_22, io_22_22, io_18_23, io_21_23, io_23_23, io_24_24, io_25_25, io_26_26, seval, BN_v, BS_v, e1, e2]
  · intro p hp
    rcases List.mem_append.mp hp with t | t
    · exact ((g _ (lt _ (List.all_eq_true.mp l1 p t))).1).trans (a1 p t)
    · exact b1 p t
  · intro p hp
    rcases List.mem_append.mp hp with t | t
    · exact (((g _ (lt _ (List.all_eq_true.mp l2 p t))).2 _).2).trans (a2 p t)
    · exact b2 p t
  · intro p hp
    exact (((g _ (lt _ (List.all_eq_true.mp l3 p hp))).2 _).1).trans (a3 p hp)
  · exact (g 1 (by omega)).1.trans s1
  · intro j; exact ((g 1 (by omega)).2 j).1.trans (x1 j)
  · intro p hp
    rcases List.mem_append.mp hp with t | t
    · exact (((g _ (lt _ (List.all_eq_true.mp l4 p t))).2 _).1).trans (a4 p t)
    · exact b3 p t
  · intro p hp
    rcases List.mem_append.mp hp with t | t
    · exact (((g _ (lt _ (List.all_eq_true.mp l5 p t))).2 _).2).trans (a5 p t)
    · exact b4 p t
