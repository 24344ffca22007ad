/-! a byte of the tape -/
set_option maxRecDepth 100000
theorem tp_byte (w : Int32) : tpR (w.toInt8.toInt32.toInt8.toInt32) (w &&& 255) := by
  have e1 : w.toInt8.toInt32.toInt8.toInt32.toInt = w.toInt8.toInt := by simp
  have e2 : w.toInt8.toInt = w.toInt.bmod 256 := by simp
  have e3 : (w &&& 255).toBitVec.toNat = w.toBitVec.toNat % 256 := by
    show (w.toBitVec &&& 255#32).toNat = _
    rw [BitVec.toNat_and]
    exact Nat.and_two_pow_sub_one_eq_mod _ 8
  have e4 : (w &&& 255).toInt = ((w.toBitVec.toNat % 256 : Nat) : Int) := by
    show (w &&& 255).toBitVec.toInt = _
    rw [BitVec.toInt_eq_toNat_cond, e3]
    rw [if_pos (by omega)]
  have e5 : w.toInt = if 2 * w.toBitVec.toNat < 4294967296 then (w.toBitVec.toNat : Int) else (w.toBitVec.toNat : Int) - 4294967296 := by
    show w.toBitVec.toInt = _
    rw [BitVec.toInt_eq_toNat_cond]
    rfl
  refine ⟨by rw [e4]; omega, by rw [e4]; omega, ?_⟩
  rw [e1, e2, e4, e5]
  generalize w.toBitVec.toNat = k
  unfold Int.bmod
  split <;> (dsimp only; split <;> split <;> omega)
