/-! WRITING (1): bits in an array of bytes, as the class and the model have them -/
set_option maxRecDepth 100000
def byA (acc : List Bool) (i : Nat) : Nat :=
  128 * (acc.getD (8 * i) false).toNat + 64 * (acc.getD (8 * i + 1) false).toNat + 32 * (acc.getD (8 * i + 2) false).toNat + 16 * (acc.getD (8 * i + 3) false).toNat +
  8 * (acc.getD (8 * i + 4) false).toNat + 4 * (acc.getD (8 * i + 5) false).toNat + 2 * (acc.getD (8 * i + 6) false).toNat + (acc.getD (8 * i + 7) false).toNat
theorem byA_lt (acc : List Bool) (i : Nat) : byA acc i < 256 := by
  have h : ∀ b : Bool, b.toNat ≤ 1 := fun b => by cases b <;> decide
  unfold byA
  have h0 := h (acc.getD (8 * i) false)
  have h1 := h (acc.getD (8 * i + 1) false)
  have h2 := h (acc.getD (8 * i + 2) false)
  have h3 := h (acc.getD (8 * i + 3) false)
  have h4 := h (acc.getD (8 * i + 4) false)
  have h5 := h (acc.getD (8 * i + 5) false)
  have h6 := h (acc.getD (8 * i + 6) false)
  have h7 := h (acc.getD (8 * i + 7) false)
  omega
theorem getD_app1 (acc : List Bool) (x : Bool) (k : Nat) : (acc ++ [x]).getD k false = if k < acc.length then acc.getD k false else if k = acc.length then x else false := by
  rw [List.getD_eq_getElem?_getD, List.getD_eq_getElem?_getD, List.getElem?_append]
  by_cases c : k < acc.length
  · rw [if_pos c, if_pos c]
  · rw [if_neg c, if_neg c]
    by_cases c1 : k = acc.length
    · rw [if_pos c1, c1, Nat.sub_self]; rfl
    · rw [if_neg c1]
      obtain ⟨m, hm⟩ : ∃ m, k - acc.length = m + 1 := ⟨k - acc.length - 1, by omega⟩
      rw [hm]; rfl
theorem getD_big {acc : List Bool} {k : Nat} (h : acc.length ≤ k) : acc.getD k false = false := by
  rw [List.getD_eq_getElem?_getD, List.getElem?_eq_none h]; rfl
theorem byA_oth {acc : List Bool} {x : Bool} {i : Nat} (h : ¬ i = acc.length / 8) : byA (acc ++ [x]) i = byA acc i := by
  have g : ∀ j, j < 8 → (acc ++ [x]).getD (8 * i + j) false = acc.getD (8 * i + j) false := by
    intro j hj
    rw [getD_app1]
    by_cases c : 8 * i + j < acc.length
    · rw [if_pos c]
    · rw [if_neg c, if_neg (by omega), getD_big (by omega)]
  unfold byA
  have g0 := g 0 (by omega)
  rw [Nat.add_zero] at g0
  rw [g0, g 1 (by omega), g 2 (by omega), g 3 (by omega), g 4 (by omega), g 5 (by omega), g 6 (by omega), g 7 (by omega)]
theorem byA_new (acc : List Bool) (x : Bool) : byA (acc ++ [x]) (acc.length / 8) = byA acc (acc.length / 8) + x.toNat * 2 ^ (7 - acc.length % 8) ∧ byA acc (acc.length / 8) % 2 ^ (8 - acc.length % 8) = 0 := by
  generalize hi : acc.length / 8 = i
  have hp : acc.length = 8 * i + acc.length % 8 := by omega
  have hr : acc.length % 8 < 8 := Nat.mod_lt _ (by decide)
  generalize hr2 : acc.length % 8 = r at *
  have g : ∀ j, j < 8 → (acc ++ [x]).getD (8 * i + j) false = if j < r then acc.getD (8 * i + j) false else if j = r then x else false := by
    intro j hj
    rw [getD_app1, hp]
    by_cases c : j < r
    · rw [if_pos (by omega), if_pos c]
    · rw [if_neg (by omega), if_neg c]
      by_cases c1 : j = r
      · rw [if_pos (by omega), if_pos c1]
      · rw [if_neg (by omega), if_neg c1]
  have z : ∀ j, j < 8 → r ≤ j → acc.getD (8 * i + j) false = false := fun j _ hj => getD_big (by omega)
  have g0 := g 0 (by omega)
  have z0 := z 0 (by omega)
  rw [Nat.add_zero] at g0 z0
  unfold byA
  rw [g0, g 1 (by omega), g 2 (by omega), g 3 (by omega), g 4 (by omega), g 5 (by omega), g 6 (by omega), g 7 (by omega)]
  have z1 := z 1 (by omega)
  have z2 := z 2 (by omega)
  have z3 := z 3 (by omega)
  have z4 := z 4 (by omega)
  have z5 := z 5 (by omega)
  have z6 := z 6 (by omega)
  have z7 := z 7 (by omega)
  clear g z g0 hp hi hr2
  have h8 : r = 0 ∨ r = 1 ∨ r = 2 ∨ r = 3 ∨ r = 4 ∨ r = 5 ∨ r = 6 ∨ r = 7 := by omega
  rcases h8 with h | h | h | h | h | h | h | h <;> subst h
  · simp only [z0 (by omega), z1 (by omega), z2 (by omega), z3 (by omega), z4 (by omega), z5 (by omega), z6 (by omega), z7 (by omega)]; cases x <;> decide
  · simp only [z1 (by omega), z2 (by omega), z3 (by omega), z4 (by omega), z5 (by omega), z6 (by omega), z7 (by omega)]; generalize acc.getD (8 * i) false = b0; revert b0 x; decide
  · simp only [z2 (by omega), z3 (by omega), z4 (by omega), z5 (by omega), z6 (by omega), z7 (by omega)]; generalize acc.getD (8 * i) false = b0; generalize acc.getD (8 * i + 1) false = b1; revert b0 b1 x; decide
  · simp only [z3 (by omega), z4 (by omega), z5 (by omega), z6 (by omega), z7 (by omega)]; generalize acc.getD (8 * i) false = b0; generalize acc.getD (8 * i + 1) false = b1; generalize acc.getD (8 * i + 2) false = b2; revert b0 b1 b2 x; decide
  · simp only [z4 (by omega), z5 (by omega), z6 (by omega), z7 (by omega)]; generalize acc.getD (8 * i) false = b0; generalize acc.getD (8 * i + 1) false = b1; generalize acc.getD (8 * i + 2) false = b2; generalize acc.getD (8 * i + 3) false = b3; revert b0 b1 b2 b3 x; decide
  · simp only [z5 (by omega), z6 (by omega), z7 (by omega)]; generalize acc.getD (8 * i) false = b0; generalize acc.getD (8 * i + 1) false = b1; generalize acc.getD (8 * i + 2) false = b2; generalize acc.getD (8 * i + 3) false = b3; generalize acc.getD (8 * i + 4) false = b4; revert b0 b1 b2 b3 b4 x; decide
  · simp only [z6 (by omega), z7 (by omega)]; generalize acc.getD (8 * i) false = b0; generalize acc.getD (8 * i + 1) false = b1; generalize acc.getD (8 * i + 2) false = b2; generalize acc.getD (8 * i + 3) false = b3; generalize acc.getD (8 * i + 4) false = b4; generalize acc.getD (8 * i + 5) false = b5; revert b0 b1 b2 b3 b4 b5 x; decide
  · simp only [z7 (by omega)]; generalize acc.getD (8 * i) false = b0; generalize acc.getD (8 * i + 1) false = b1; generalize acc.getD (8 * i + 2) false = b2; generalize acc.getD (8 * i + 3) false = b3; generalize acc.getD (8 * i + 4) false = b4; generalize acc.getD (8 * i + 5) false = b5; generalize acc.getD (8 * i + 6) false = b6; revert b0 b1 b2 b3 b4 b5 b6 x; decide
/-- bits in an array ar of bytes, their number in the field fd of ob -/
def WB (h : Hp) (ar fd ob : Nat) (acc : List Bool) : Prop := gI h fd ob = zI ↑acc.length ∧ ∀ i, 8 * i < acc.length → gA h ar i = zI ↑(byA acc i)
theorem or_add {a c r : Nat} (h1 : a % 2 ^ (8 - r) = 0) (hr : r < 8) (hc : c ≤ 1) : a ||| (c * 2 ^ (7 - r)) = a + c * 2 ^ (7 - r) := by
  have e : a = 2 ^ (8 - r) * (a / 2 ^ (8 - r)) := by have := Nat.div_add_mod a (2 ^ (8 - r)); omega
  have l : c * 2 ^ (7 - r) < 2 ^ (8 - r) := by
    rw [show 8 - r = (7 - r) + 1 by omega, Nat.pow_succ]
    have : 0 < 2 ^ (7 - r) := Nat.pow_pos (by decide)
    have : c * 2 ^ (7 - r) ≤ 1 * 2 ^ (7 - r) := Nat.mul_le_mul_right _ hc
    omega
  rw [e, ← Nat.two_pow_add_eq_or_of_lt l]
/-- one bit more: the byte that holds it -/
theorem bit_new (acc : List Bool) (x : Bool) : zI ↑(if acc.length % 8 = 0 then 0 else byA acc (acc.length / 8)) ||| (zI ↑x.toNat <<< zI ↑(7 - acc.length % 8)) = zI ↑(byA (acc ++ [x]) (acc.length / 8)) := by
  obtain ⟨n1, n2⟩ := byA_new acc x
  have hr : acc.length % 8 < 8 := Nat.mod_lt _ (by decide)
  have hz : (if acc.length % 8 = 0 then 0 else byA acc (acc.length / 8)) = byA acc (acc.length / 8) := by
    split
    · next c =>
      have l := byA_lt acc (acc.length / 8)
      rw [c] at n2
      have : byA acc (acc.length / 8) % 256 = 0 := n2
      omega
    · rfl
  rw [hz, zI_shl (by omega)]
  have : ((x.toNat : Nat) : Int) * 2 ^ (7 - acc.length % 8) = ((x.toNat * 2 ^ (7 - acc.length % 8) : Nat) : Int) := by push_cast; rfl
  rw [this, zI_or, n1, or_add n2 hr (by cases x <;> decide)]
