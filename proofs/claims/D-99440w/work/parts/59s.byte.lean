/-! A BYTE of a number, both ways -/
set_option maxRecDepth 100000
theorem low8 {x y : Int32} (h : ∀ i, i < 8 → tb x i = tb y i) : x.toInt8 = y.toInt8 := by
  apply Int8.toBitVec_inj.mp
  apply BitVec.eq_of_getLsbD_eq
  intro i hi
  have e : ∀ z : Int32, z.toInt8.toBitVec = z.toBitVec.signExtend 8 := fun _ => rfl
  rw [e, e, BitVec.signExtend_eq_setWidth_of_le _ (by decide), BitVec.signExtend_eq_setWidth_of_le _ (by decide), BitVec.getLsbD_setWidth, BitVec.getLsbD_setWidth]
  rw [decide_eq_true hi, Bool.true_and, Bool.true_and]
  exact h i hi
theorem tb_255 : ∀ i, i < 8 → tb 255 i = true := by decide +kernel
theorem sh_s : ∀ k, k < 32 → ((nI k &&& 31).toBitVec.smod 32).toNat = k := by decide +kernel
theorem sh_u : ∀ k, k < 32 → ((nI k).toUInt32 &&& Int32.toUInt32 31).toBitVec.toNat % 32 = k := by decide +kernel
theorem byte_eq (v : Int32) {k : Nat} (hk : k ≤ 24) : (v >>> (nI k &&& 31)).toInt8.toInt32 = sbI ((v.toUInt32 >>> ((nI k).toUInt32 &&& Int32.toUInt32 31)).toInt32 &&& 255) := by
  unfold sbI
  refine congrArg Int8.toInt32 (low8 fun i hi => ?_)
  rw [tb_and, tb_255 i hi, Bool.and_true]
  unfold tb
  rw [Int32.toBitVec_shiftRight, BitVec.sshiftRight', sh_s k (by omega), BitVec.getLsbD_sshiftRight]
  have e : (v.toUInt32 >>> ((nI k).toUInt32 &&& Int32.toUInt32 31)).toInt32.toBitVec = v.toBitVec >>> (((nI k).toUInt32 &&& Int32.toUInt32 31).toBitVec.toNat % 32) := by
    show (v.toUInt32 >>> ((nI k).toUInt32 &&& Int32.toUInt32 31)).toBitVec = _
    rw [UInt32.toBitVec_shiftRight]
    show v.toBitVec >>> (((nI k).toUInt32 &&& Int32.toUInt32 31).toBitVec % 32) = _
    rw [BitVec.ushiftRight_eq']
    rw [BitVec.toNat_umod]
    rfl
  rw [e, sh_u k (by omega), BitVec.getLsbD_ushiftRight]
  have h1 : ¬ 32 ≤ i := by omega
  have h2 : k + i < 32 := by omega
  simp [h1, h2]
