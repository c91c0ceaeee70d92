/-! LAYER 2: NUMBERS. Small whole numbers as the program's words -/
set_option maxRecDepth 100000
def i32 (z : Int) : Int32 := Int32.ofInt z
theorem i32_lit (n : Nat) : (OfNat.ofNat n : Int32) = i32 (OfNat.ofNat n : Int) := by
  show Int32.ofNat n = Int32.ofInt (n : Int)
  exact Int32.ofInt_eq_ofNat.symm
theorem i32_add (a b : Int) : i32 a + i32 b = i32 (a + b) := (Int32.ofInt_add a b).symm
theorem i32_sub (a b : Int) : i32 a - i32 b = i32 (a - b) := (Int32.ofInt_sub a b).symm
theorem i32_mul (a b : Int) : i32 a * i32 b = i32 (a * b) := (Int32.ofInt_mul a b).symm
theorem i32_neg (a : Int) : -i32 a = i32 (-a) := (Int32.ofInt_neg a).symm
theorem i32_toInt {a : Int} (h1 : -2147483648 ≤ a) (h2 : a < 2147483648) : (i32 a).toInt = a := Int32.toInt_ofInt_of_le (by omega) (by omega)
theorem i32_lt {a b : Int} (h1 : -2147483648 ≤ a) (h2 : a < 2147483648) (h3 : -2147483648 ≤ b) (h4 : b < 2147483648) : (i32 a < i32 b) = (a < b) := by
  rw [Int32.lt_iff_toInt_lt, i32_toInt h1 h2, i32_toInt h3 h4]
theorem i32_le {a b : Int} (h1 : -2147483648 ≤ a) (h2 : a < 2147483648) (h3 : -2147483648 ≤ b) (h4 : b < 2147483648) : (i32 a ≤ i32 b) = (a ≤ b) := by
  rw [Int32.le_iff_toInt_le, i32_toInt h1 h2, i32_toInt h3 h4]
theorem i32_eq {a b : Int} (h1 : -2147483648 ≤ a) (h2 : a < 2147483648) (h3 : -2147483648 ≤ b) (h4 : b < 2147483648) : (i32 a = i32 b) = (a = b) := by
  rw [← Int32.toInt_inj, i32_toInt h1 h2, i32_toInt h3 h4]
theorem i32_nat {a : Int} (h1 : -2147483648 ≤ a) (h2 : a < 2147483648) : (i32 a).toNatClampNeg = a.toNat := Int32.toNatClampNeg_ofInt_of_le (by omega) (by omega)
theorem i32_of (x : Int32) : i32 x.toInt = x := Int32.ofInt_toInt x
theorem i32_dv {a b : Int} (h1 : 0 ≤ a) (h2 : a < 2147483648) (h3 : 0 < b) (h4 : b < 2147483648) : dv (i32 a) (i32 b) = some (i32 (a / b)) := by
  unfold dv
  rw [if_neg]
  · congr 1
    rw [← Int32.toInt_inj, Int32.toInt_div_of_ne_left, i32_toInt (by omega) h2, i32_toInt (by omega) h4, Int.tdiv_eq_ediv_of_nonneg h1, i32_toInt]
    · have := Int.ediv_nonneg h1 (Int.le_of_lt h3); omega
    · have := Int.ediv_le_self b h1; omega
    · intro h
      have h5 := congrArg Int32.toInt h
      rw [i32_toInt (by omega) h2] at h5
      have : Int32.minValue.toInt = -2147483648 := by decide
      omega
  · show ¬ i32 b = i32 0
    rw [i32_eq (by omega) h4 (by omega) (by omega)]
    omega
theorem i32_rm {a b : Int} (h1 : 0 ≤ a) (h2 : a < 2147483648) (h3 : 0 < b) (h4 : b < 2147483648) : rm (i32 a) (i32 b) = some (i32 (a % b)) := by
  have h := i32_dv h1 h2 h3 h4
  unfold dv at h
  unfold rm
  split at h
  · cases h
  · rename_i h0
    rw [if_neg h0, Option.some.inj h, i32_mul, i32_sub]
    congr 2
    have := Int.mul_ediv_add_emod a b
    rw [Int.mul_comm] at this
    omega
theorem i32_max {a b : Int} (h1 : -2147483648 ≤ a) (h2 : a < 2147483648) (h3 : -2147483648 ≤ b) (h4 : b < 2147483648) : jmax (i32 a) (i32 b) = i32 (max a b) := by
  unfold jmax
  by_cases h : a < b
  · rw [if_pos (by rw [i32_lt h1 h2 h3 h4]; exact h), Int.max_eq_right (by omega)]
  · rw [if_neg (by rw [i32_lt h1 h2 h3 h4]; exact h), Int.max_eq_left (by omega)]
theorem i32_min {a b : Int} (h1 : -2147483648 ≤ a) (h2 : a < 2147483648) (h3 : -2147483648 ≤ b) (h4 : b < 2147483648) : jmin (i32 a) (i32 b) = i32 (min a b) := by
  unfold jmin
  by_cases h : b < a
  · rw [if_pos (by rw [i32_lt h3 h4 h1 h2]; exact h), Int.min_eq_right (by omega)]
  · rw [if_neg (by rw [i32_lt h3 h4 h1 h2]; exact h), Int.min_eq_left (by omega)]
/-- how far a number is from naught -/
def iab (a : Int) : Int := if 0 ≤ a then a else -a
theorem i32_abs {a : Int} (h1 : -2147483648 ≤ a) (h2 : a < 2147483648) : jabs (i32 a) = i32 (iab a) := by
  unfold jabs iab
  by_cases h : 0 ≤ a
  · rw [if_pos (by show i32 0 ≤ i32 a; rw [i32_le (by omega) (by omega) h1 h2]; exact h), if_pos h]
  · rw [if_neg (by show ¬ i32 0 ≤ i32 a; rw [i32_le (by omega) (by omega) h1 h2]; exact h), if_neg h]
    show i32 0 - i32 a = _
    rw [i32_sub]
    congr 1
    omega
