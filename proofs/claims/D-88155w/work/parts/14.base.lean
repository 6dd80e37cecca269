/-! THE BASE of the walks: what the guards come to, updates of heaps, small numbers -/
theorem u2_ap {α : Type} (f : Nat → Nat → α) (a k : Nat) (v : α) (b j : Nat) : u2 f a k v b j = if b = a ∧ j = k then v else f b j := rfl
theorem u2_at {α : Type} (f : Nat → Nat → α) (a k : Nat) (v : α) : u2 f a k v a k = v := by rw [u2_ap, if_pos ⟨rfl, rfl⟩]
theorem u2_ne {α : Type} {f : Nat → Nat → α} {a k : Nat} {v : α} {b j : Nat} (h : b ≠ a ∨ j ≠ k) : u2 f a k v b j = f b j := by
  rw [u2_ap, if_neg]; intro e; rcases h with h | h
  · exact h e.1
  · exact h e.2
def uS {α : Type} (S : Nat → α) (i : Nat) (v : α) : Nat → α := fun j => if j = i then v else S j
theorem uS_ap {α : Type} (S : Nat → α) (i : Nat) (v : α) (j : Nat) : uS S i v j = if j = i then v else S j := rfl
theorem uS_at {α : Type} (S : Nat → α) (i : Nat) (v : α) : uS S i v i = v := by rw [uS_ap, if_pos rfl]
theorem uS_ne {α : Type} {S : Nat → α} {i : Nat} {v : α} {j : Nat} (h : j ≠ i) : uS S i v j = S j := by rw [uS_ap, if_neg h]
theorem u2_row {α : Type} (f : Nat → Nat → α) (a k : Nat) (v : α) : u2 f a k v a = uS (f a) k v := by
  funext j; rw [u2_ap, uS_ap]; by_cases e : j = k
  · rw [if_pos ⟨rfl, e⟩, if_pos e]
  · rw [if_neg (fun q => e q.2), if_neg e]
theorem u2_off {α : Type} {f : Nat → Nat → α} {a k : Nat} {v : α} {b : Nat} (h : b ≠ a) : u2 f a k v b = f b := by funext j; exact u2_ne (.inl h)
theorem u1_ap {α : Type} (f : Nat → α) (a : Nat) (v : α) (b : Nat) : u1 f a v b = if b = a then v else f b := rfl
theorem u1_at {α : Type} (f : Nat → α) (a : Nat) (v : α) : u1 f a v a = v := by rw [u1_ap, if_pos rfl]
theorem u1_ne {α : Type} {f : Nat → α} {a : Nat} {v : α} {b : Nat} (h : b ≠ a) : u1 f a v b = f b := by rw [u1_ap, if_neg h]
theorem zr_ap {α : Type} (z : α) (f : Nat → Nat → α) (n b j : Nat) : zr z f n b j = if b = n then z else f b j := rfl
theorem zr_at {α : Type} (z : α) (f : Nat → Nat → α) (n j : Nat) : zr z f n n j = z := by rw [zr_ap, if_pos rfl]
theorem zr_ne {α : Type} {z : α} {f : Nat → Nat → α} {n b j : Nat} (h : b ≠ n) : zr z f n b j = f b j := by rw [zr_ap, if_neg h]
theorem bhd_ite {c : Prop} [Decidable c] {y pc len : Nat} {ls r : List Vl} {p q : Out} : bhd E y pc len ls r (if c then p else q) = if c then bhd E y pc len ls r p else bhd E y pc len ls r q := by split <;> rfl
theorem bhd_none {y pc len : Nat} {ls r : List Vl} : bhd E y pc len ls r none = none := rfl
theorem grd_ite {α : Type} {c : Prop} [Decidable c] {b : Bool} {p q : Option α} : grd b (if c then p else q) = if c then grd b p else grd b q := by split <;> rfl
theorem K0_v : K0 = 47 := rfl
theorem nk_1_0 : nk 1 0 = true := rfl
theorem nk_1_1 : nk 1 1 = true := rfl
theorem nk_0 (x : Int32) : nk 0 x = true := rfl
theorem io_0_0 : isO 0 (1, 0) = true := rfl
theorem io_1_1 : isO 1 (1, 1) = true := rfl
theorem io_2_2 : isO 2 (1, 2) = true := rfl
theorem io_3_3 : isO 3 (1, 3) = true := rfl
theorem io_4_4 : isO 4 (1, 4) = true := rfl
theorem io_5_5 : isO 5 (1, 5) = true := rfl
theorem io_6_6 : isO 6 (1, 6) = true := rfl
theorem io_7_7 : isO 7 (1, 7) = true := rfl
theorem io_8_8 : isO 8 (1, 8) = true := rfl
theorem io_9_9 : isO 9 (1, 9) = true := rfl
theorem io_10_10 : isO 10 (1, 10) = true := rfl
theorem io_11_11 : isO 11 (1, 11) = true := rfl
theorem io_12_12 : isO 12 (1, 12) = true := rfl
theorem io_13_13 : isO 13 (1, 13) = true := rfl
theorem io_14_14 : isO 14 (1, 14) = true := rfl
theorem io_14_15 : isO 14 (1, 15) = true := rfl
theorem io_15_15 : isO 15 (1, 15) = true := rfl
theorem io_14_16 : isO 14 (1, 16) = true := rfl
theorem io_16_16 : isO 16 (1, 16) = true := rfl
theorem io_14_17 : isO 14 (1, 17) = true := rfl
theorem io_16_17 : isO 16 (1, 17) = true := rfl
theorem io_17_17 : isO 17 (1, 17) = true := rfl
theorem io_18_18 : isO 18 (1, 18) = true := rfl
theorem io_18_19 : isO 18 (1, 19) = true := rfl
theorem io_19_19 : isO 19 (1, 19) = true := rfl
theorem io_18_20 : isO 18 (1, 20) = true := rfl
theorem io_20_20 : isO 20 (1, 20) = true := rfl
theorem io_18_21 : isO 18 (1, 21) = true := rfl
theorem io_21_21 : isO 21 (1, 21) = true := rfl
theorem io_18_22 : isO 18 (1, 22) = true := rfl
theorem io_21_22 : isO 21 (1, 22) = true := rfl
theorem io_22_22 : isO 22 (1, 22) = true := rfl
theorem io_18_23 : isO 18 (1, 23) = true := rfl
theorem io_21_23 : isO 21 (1, 23) = true := rfl
theorem io_23_23 : isO 23 (1, 23) = true := rfl
theorem io_24_24 : isO 24 (1, 24) = true := rfl
theorem io_25_25 : isO 25 (1, 25) = true := rfl
theorem io_26_26 : isO 26 (1, 26) = true := rfl
def kwB : List (List Int32) := [[115, 116, 97, 116, 101], [119, 104, 101, 110], [97, 110, 100], [103, 111], [115, 101, 116], [109, 111, 118, 101], [116, 111], [107, 105, 99, 107], [115, 116, 97, 121], [109, 97, 116, 101, 120], [109, 97, 116, 101, 121], [102, 111, 101, 120], [102, 111, 101, 121], [98, 97, 108, 108, 120], [98, 97, 108, 108, 121], [109, 121, 120], [109, 121, 121], [104, 101, 108, 100], [116, 105, 99, 107], [108, 101, 97, 100], [110, 101, 97, 114]]
def kwL : List Nat := [5, 4, 3, 2, 3, 4, 2, 4, 4, 5, 5, 4, 4, 5, 5, 3, 3, 4, 4, 4, 4]
def sh0 (L a : Nat) : Nat × Nat := if a = 1 then (2, L) else if a = 2 then (50, 0) else if 5 ≤ a ∧ a < 26 then (1, 26) else if 26 ≤ a ∧ a < 47 then (3, kwL.getD (a - 26) 0) else (0, 0)
def I0 (xs : Nat → Int32) (a j : Nat) : Int32 := if a = 1 then xs j else if 26 ≤ a ∧ a < 47 then (kwB.getD (a - 26) []).getD j 0 else 0
def R0 (a j : Nat) : Nat := if 5 ≤ a ∧ a < 26 ∧ j = 0 then a + 21 else 0
def h0 (L : Nat) (xs : Nat → Int32) : Hp := (sh0 L, I0 xs, fun _ _ => 0, R0, 47, 0)
