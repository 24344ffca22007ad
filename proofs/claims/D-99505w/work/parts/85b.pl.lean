/-! BITS of small ints -/
set_option maxRecDepth 100000
theorem bt_or (m n : Nat) : Int32.ofNat m ||| Int32.ofNat n = Int32.ofNat (m ||| n) := by
  apply Int32.toBitVec.inj
  show BitVec.ofNat 32 m ||| BitVec.ofNat 32 n = BitVec.ofNat 32 (m ||| n)
  exact BitVec.ofNat_or.symm
theorem bt_and (m n : Nat) : Int32.ofNat m &&& Int32.ofNat n = Int32.ofNat (m &&& n) := by
  apply Int32.toBitVec.inj
  show BitVec.ofNat 32 m &&& BitVec.ofNat 32 n = BitVec.ofNat 32 (m &&& n)
  exact BitVec.ofNat_and.symm
theorem bt_xor (m n : Nat) : Int32.ofNat m ^^^ Int32.ofNat n = Int32.ofNat (m ^^^ n) := by
  apply Int32.toBitVec.inj
  show BitVec.ofNat 32 m ^^^ BitVec.ofNat 32 n = BitVec.ofNat 32 (m ^^^ n)
  exact BitVec.ofNat_xor.symm
theorem bt_sh : ∀ a : Nat, a < 31 → (1 : Int32) <<< (Int32.ofNat a &&& 31) = Int32.ofNat (2 ^ a) := by decide
theorem bt_31 : ∀ a : Nat, a < 31 → Int32.ofNat a &&& 31 = Int32.ofNat a := by decide
theorem bt_sm : ∀ a : Nat, a < 31 → ((Int32.ofNat a).toBitVec.smod 32).toNat = a := by decide
theorem bt_sr {m a : Nat} (hm : m < 2147483648) (ha : a < 31) : Int32.ofNat m >>> (Int32.ofNat a &&& 31) = Int32.ofNat (m >>> a) := by
  have h2 : m >>> a ≤ m := by rw [Nat.shiftRight_eq_div_pow]; exact Nat.div_le_self _ _
  rw [bt_31 a ha, i_eq, i_of (by omega)]
  show (Int32.ofNat m >>> Int32.ofNat a).toBitVec.toInt = _
  rw [Int32.toBitVec_shiftRight]
  show ((Int32.ofNat m).toBitVec.sshiftRight ((Int32.ofNat a).toBitVec.smod 32).toNat).toInt = _
  rw [bt_sm a ha, BitVec.toInt_sshiftRight]
  show (Int32.ofNat m).toInt >>> a = _
  rw [i_of hm]
  rfl
theorem bt_has {m a : Nat} (hm : m < 2147483648) (ha : a < 31) : (Int32.ofNat m >>> (Int32.ofNat a &&& 31)) &&& 1 = if m.testBit a then 1 else 0 := by
  rw [bt_sr hm ha, show Int32.ofNat (m >>> a) &&& 1 = Int32.ofNat ((m >>> a) &&& 1) from bt_and _ _, Nat.testBit, Nat.and_comm (m >>> a)]
  have : 1 &&& (m >>> a) = 0 ∨ 1 &&& (m >>> a) = 1 := by
    rw [Nat.and_comm, Nat.and_one_is_mod]; omega
  rcases this with h | h <;> rw [h] <;> rfl
theorem bt_mhas {m a : Nat} (hm : m < 2147483648) (ha : a < 31) : m_has (Int32.ofNat m) (Int32.ofNat a) = if m.testBit a then 1 else 0 := by
  unfold m_has
  rw [bt_has hm ha]
  by_cases h : m.testBit a = true
  · rw [if_pos h, if_pos rfl]
  · rw [if_neg h]; rfl
theorem bt_h1 {m a : Nat} (hm : m < 2147483648) (ha : a < 31) : ((Int32.ofNat m >>> (Int32.ofNat a &&& 31)) &&& 1 = 1) ↔ m.testBit a = true := by
  rw [bt_has hm ha]
  by_cases h : m.testBit a = true
  · simp [h]
  · simp [h]
theorem bt_h0 {m a : Nat} (hm : m < 2147483648) (ha : a < 31) : ((Int32.ofNat m >>> (Int32.ofNat a &&& 31)) &&& 1 = 0) ↔ m.testBit a = false := by
  rw [bt_has hm ha]
  by_cases h : m.testBit a = true
  · simp [h]
  · simp [h]
theorem bt_m0 {m a : Nat} (hm : m < 2147483648) (ha : a < 31) : (m_has (Int32.ofNat m) (Int32.ofNat a) = 0) ↔ m.testBit a = false := by
  rw [bt_mhas hm ha]
  by_cases h : m.testBit a = true
  · simp [h]
  · simp [h]
theorem bt_z {m : Nat} (hm : m < 2147483648) : Int32.ofNat m = 0 ↔ m = 0 := by
  rw [show (0 : Int32) = Int32.ofNat 0 from rfl, o_eq hm (by omega)]
theorem bt_p2 (a i : Nat) : (2 ^ a).testBit i = decide (a = i) := Nat.testBit_two_pow
theorem bt_lt {m : Nat} {k : Nat} (h : ∀ i, k ≤ i → m.testBit i = false) : m < 2 ^ k := Nat.lt_pow_two_of_testBit m (fun i hi => h i hi)
theorem bt_tf {m k i : Nat} (h : m < 2 ^ k) (hi : k ≤ i) : m.testBit i = false := Nat.testBit_lt_two_pow (Nat.lt_of_lt_of_le h (Nat.pow_le_pow_right (by decide) hi))
theorem bt_4096 {k m : Nat} (hk : k ≤ 12) (h : m < 2 ^ k) : m < 4096 := Nat.lt_of_lt_of_le h (Nat.pow_le_pow_right (by decide) hk)
theorem bt_orlt {k a b : Nat} (ha : a < 2 ^ k) (hb : b < 2 ^ k) : a ||| b < 2 ^ k := Nat.or_lt_two_pow ha hb
theorem bt_pl {k a : Nat} (h : a < k) : 2 ^ a < 2 ^ k := Nat.pow_lt_pow_right (by decide) h
