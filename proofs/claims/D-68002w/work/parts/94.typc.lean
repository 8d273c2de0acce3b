/-! ===== typing into the component: pure ===== -/
theorem ss255 (x : BitVec 64) (s : Nat) (h : s ≤ 56) : x.sshiftRight s &&& 255#64 = x >>> s &&& 255#64 := by
  apply BitVec.eq_of_getLsbD_eq
  intro i hi
  rw [BitVec.getLsbD_and, BitVec.getLsbD_and, BitVec.getLsbD_sshiftRight, BitVec.getLsbD_ushiftRight]
  by_cases h8 : i < 8
  · rw [if_pos (by omega), decide_eq_false (by omega)]; rfl
  · have : (255#64).getLsbD i = false := by
      rw [BitVec.getLsbD_ofNat, show (255 : Nat) = 2 ^ 8 - 1 by rfl, Nat.testBit_two_pow_sub_one, decide_eq_false h8, Bool.and_false]
    rw [this, Bool.and_false, Bool.and_false]
theorem shI (w : Int64) (s : Nat) (hs : s < 8) : (w >>> ((iI (8 * (s : Int))).toInt64 &&& 63)) &&& 255 = (w.toUInt64 >>> ((iI (8 * (s : Int))).toInt64.toUInt64 &&& Int64.toUInt64 63)).toInt64 &&& 255 := by
  apply Int64.toBitVec_inj.mp
  have hh : s = 0 ∨ s = 1 ∨ s = 2 ∨ s = 3 ∨ s = 4 ∨ s = 5 ∨ s = 6 ∨ s = 7 := by omega
  rcases hh with e | e | e | e | e | e | e | e <;> subst e
  · exact ss255 w.toBitVec 0 (by decide)
  · exact ss255 w.toBitVec 8 (by decide)
  · exact ss255 w.toBitVec 16 (by decide)
  · exact ss255 w.toBitVec 24 (by decide)
  · exact ss255 w.toBitVec 32 (by decide)
  · exact ss255 w.toBitVec 40 (by decide)
  · exact ss255 w.toBitVec 48 (by decide)
  · exact ss255 w.toBitVec 56 (by decide)
theorem low8 (a : Int64) : a.toInt32.toInt8 = (a &&& 255).toInt32.toInt8 := by
  apply Int8.toBitVec_inj.mp
  rw [Int32.toBitVec_toInt8, Int32.toBitVec_toInt8, Int64.toBitVec_toInt32, Int64.toBitVec_toInt32, Int64.toBitVec_and]
  apply BitVec.eq_of_getLsbD_eq
  intro i hi
  have : (Int64.toBitVec 255).getLsbD i = true := by
    show (255#64).getLsbD i = true
    rw [BitVec.getLsbD_ofNat, show (255 : Nat) = 2 ^ 8 - 1 by rfl, Nat.testBit_two_pow_sub_one, decide_eq_true hi, decide_eq_true (by omega)]; rfl
  rw [BitVec.getLsbD_signExtend, BitVec.getLsbD_signExtend, BitVec.getLsbD_signExtend, BitVec.getLsbD_signExtend, if_pos (by omega), if_pos (by omega), if_pos (by omega), if_pos (by omega), BitVec.getLsbD_and, this, Bool.and_true]
theorem bc_i2 (w : Int64) {s : Nat} (hs : s < 8) : ((w >>> ((iI (8 * (s : Int))).toInt64 &&& 63)) &&& 255).toInt32 = iI (bc w s) := by rw [shI w s hs]; exact bc_i w s
theorem bc_b (w : Int64) {s : Nat} (hs : s < 8) (h : okc (bc w s) = true) : (w >>> ((iI (8 * (s : Int))).toInt64 &&& 63)).toInt32.toInt8.toInt32 = iI (bc w s) := by
  have h2 := of_decide_eq_true h
  rw [low8, shI w s hs, bc_i, iI_b (by omega)]
