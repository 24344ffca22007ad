/-! INTS: Int32 by its toInt -/
set_option maxRecDepth 100000
theorem i_bmod {x : Int} (h1 : -2147483648 ≤ x) (h2 : x < 2147483648) : x.bmod (2 ^ 32) = x := by
  show (let r := x % (4294967296 : Int); if r < (4294967296 + 1) / 2 then r else r - 4294967296) = x
  dsimp only
  split <;> omega
theorem i_add {a b : Int32} (h1 : -2147483648 ≤ a.toInt + b.toInt) (h2 : a.toInt + b.toInt < 2147483648) : (a + b).toInt = a.toInt + b.toInt := by rw [Int32.toInt_add, i_bmod h1 h2]
theorem i_sub {a b : Int32} (h1 : -2147483648 ≤ a.toInt - b.toInt) (h2 : a.toInt - b.toInt < 2147483648) : (a - b).toInt = a.toInt - b.toInt := by rw [Int32.toInt_sub, i_bmod h1 h2]
theorem i_mul {a b : Int32} (h1 : -2147483648 ≤ a.toInt * b.toInt) (h2 : a.toInt * b.toInt < 2147483648) : (a * b).toInt = a.toInt * b.toInt := by rw [Int32.toInt_mul, i_bmod h1 h2]
theorem i_lt {a b : Int32} : a < b ↔ a.toInt < b.toInt := Int32.lt_iff_toInt_lt
theorem i_le {a b : Int32} : a ≤ b ↔ a.toInt ≤ b.toInt := Int32.le_iff_toInt_le
theorem i_eq {a b : Int32} : a = b ↔ a.toInt = b.toInt := Int32.toInt_inj.symm
theorem i_nat (a : Int32) : a.toNatClampNeg = a.toInt.toNat := rfl
theorem i_of {n : Nat} (h : n < 2147483648) : (Int32.ofNat n).toInt = n := Int32.toInt_ofNat_of_lt h
theorem i_min (a : Int32) : -2147483648 ≤ a.toInt := Int32.le_toInt a
theorem i_max (a : Int32) : a.toInt < 2147483648 := Int32.toInt_lt a
theorem i_in {a : Int32} {n : Nat} (h1 : 0 ≤ a.toInt) (h2 : a.toInt < n) : vp_in a n := by
  unfold vp_in
  rw [i_nat, i_lt]
  show ¬ (a.toInt < 0 ∨ n ≤ a.toInt.toNat)
  omega
theorem i_inb {a : Int32} {n : Nat} (h1 : 0 ≤ a.toInt) (h2 : a.toInt < n) : gz_inb a n = true := gz_inb_i (i_in h1 h2)
