set_option maxRecDepth 100000
theorem b255 (y : Int32) : y.toInt8.toInt32 &&& 255 = y &&& 255 := by
  apply Int32.toBitVec_inj.mp
  rw [Int32.toBitVec_and, Int32.toBitVec_and]
  apply BitVec.eq_of_getLsbD_eq
  intro i hi
  rw [BitVec.getLsbD_and, BitVec.getLsbD_and]
  by_cases h8 : i < 8
  · congr 1
    show ((y.toBitVec.signExtend 8).signExtend 32).getLsbD i = y.toBitVec.getLsbD i
    rw [BitVec.getLsbD_signExtend, if_pos h8, BitVec.getLsbD_signExtend, if_pos hi]
    simp [hi, h8]
  · have h255 : ∀ i, i < 32 → ¬ i < 8 → (Int32.toBitVec 255).getLsbD i = false := by decide
    rw [h255 i hi h8, Bool.and_false, Bool.and_false]
theorem nar_b (y : Int32) : f_nar 1 y &&& 255 = y &&& 255 := by
  have : f_nar 1 y = y.toInt8.toInt32 := rfl
  rw [this, b255]
theorem lt256 (y : Int32) : ∃ c, c < 256 ∧ y &&& 255 = nI c := by
  have h0 : y &&& 255 = Int32.ofNat ((y &&& 255).toBitVec.toNat) := by
    apply Int32.toBitVec_inj.mp
    show _ = BitVec.ofNat 32 _
    rw [BitVec.ofNat_toNat]
    simp
  refine ⟨(y &&& 255).toBitVec.toNat, ?_, h0⟩
  rw [Int32.toBitVec_and, BitVec.toNat_and]
  exact Nat.lt_of_le_of_lt Nat.and_le_right (by decide)
