/-! INTS: Int32 by way of Int -/
set_option maxRecDepth 100000
def zI (z : Int) : Int32 := Int32.ofInt z
theorem zI_toInt {z : Int} (h1 : -2147483648 ≤ z) (h2 : z ≤ 2147483647) : (zI z).toInt = z := by
  unfold zI
  rw [Int32.toInt_ofInt]
  have h32 : (Int32.size : Int) = 4294967296 := rfl
  exact Int.bmod_eq_of_le (by omega) (by omega)
theorem zI_of (x : Int32) : x = zI x.toInt := by unfold zI; simp
theorem zI_rng (x : Int32) : -2147483648 ≤ x.toInt ∧ x.toInt ≤ 2147483647 := ⟨by have := Int32.le_toInt x; omega, by have := Int32.toInt_lt x; omega⟩
theorem zI_ex (x : Int32) : ∃ z : Int, x = zI z ∧ -2147483648 ≤ z ∧ z ≤ 2147483647 := ⟨x.toInt, zI_of x, zI_rng x⟩
theorem zI_add (a b : Int) : zI a + zI b = zI (a + b) := by simp [zI, Int32.ofInt_add]
theorem zI_sub (a b : Int) : zI a - zI b = zI (a - b) := by simp [zI, Int32.ofInt_sub]
theorem zI_mul (a b : Int) : zI a * zI b = zI (a * b) := by simp [zI, Int32.ofInt_mul]
theorem zI_neg (a : Int) : -zI a = zI (-a) := by simp [zI, Int32.ofInt_neg]
theorem zI_lt {a b : Int} (h1 : -2147483648 ≤ a) (h2 : a ≤ 2147483647) (h3 : -2147483648 ≤ b) (h4 : b ≤ 2147483647) : zI a < zI b ↔ a < b := by
  rw [Int32.lt_iff_toInt_lt, zI_toInt h1 h2, zI_toInt h3 h4]
theorem zI_le {a b : Int} (h1 : -2147483648 ≤ a) (h2 : a ≤ 2147483647) (h3 : -2147483648 ≤ b) (h4 : b ≤ 2147483647) : zI a ≤ zI b ↔ a ≤ b := by
  rw [Int32.le_iff_toInt_le, zI_toInt h1 h2, zI_toInt h3 h4]
theorem zI_eq {a b : Int} (h1 : -2147483648 ≤ a) (h2 : a ≤ 2147483647) (h3 : -2147483648 ≤ b) (h4 : b ≤ 2147483647) : zI a = zI b ↔ a = b := by
  constructor
  · intro h
    have := congrArg Int32.toInt h
    rw [zI_toInt h1 h2, zI_toInt h3 h4] at this
    exact this
  · intro h; rw [h]
theorem zI_cl {a : Int} (h1 : 0 ≤ a) (h2 : a ≤ 2147483647) : (zI a).toNatClampNeg = a.toNat := by
  show (zI a).toInt.toNat = a.toNat
  rw [zI_toInt (by omega) h2]
theorem zI_inb {a : Int} {n : Nat} (h1 : 0 ≤ a) (h2 : a < n) (h3 : a ≤ 2147483647) : inb (zI a) n = true := by
  unfold inb
  rw [zI_cl h1 h3]
  apply decide_eq_true
  rw [show (0 : Int32) = zI 0 from rfl, zI_lt (by omega) (by omega) (by omega) (by omega)]
  omega
theorem zI_div {a b : Int} (h1 : 0 ≤ a) (h2 : a ≤ 2147483647) (h3 : 0 < b) (h4 : b ≤ 2147483647) : zI a / zI b = zI (a / b) := by
  apply Int32.toInt_inj.mp
  have hq : a / b ≤ a := Int.ediv_le_self _ h1
  have hq0 : 0 ≤ a / b := Int.ediv_nonneg h1 (by omega)
  rw [Int32.toInt_div, zI_toInt (by omega) h2, zI_toInt (by omega) h4, zI_toInt (by omega) (by omega)]
  rw [Int.tdiv_eq_ediv_of_nonneg h1]
  exact Int.bmod_eq_of_le (by omega) (by omega)
theorem zI_rem {a b : Int} (h1 : 0 ≤ a) (h2 : a ≤ 2147483647) (h3 : 0 < b) (h4 : b ≤ 2147483647) : zI a - zI a / zI b * zI b = zI (a % b) := by
  rw [zI_div h1 h2 h3 h4, zI_mul, zI_sub]
  congr 1
  have := Int.mul_ediv_add_emod a b
  rw [Int.mul_comm] at this
  omega
theorem zI_nat (n : Nat) : Int32.ofNat n = zI n := by
  unfold zI
  rfl
