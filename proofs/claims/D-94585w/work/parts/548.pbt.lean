/-! PURE LAW 7: bits of a set -/
set_option maxRecDepth 100000
def bt (x : Int32) (t : Nat) : Prop := (x >>> (iN t &&& 31)) &&& 1 = 1
theorem bt_c6 {t : Nat} (ht : t < 6) : t = 0 ∨ t = 1 ∨ t = 2 ∨ t = 3 ∨ t = 4 ∨ t = 5 := by omega
theorem bt_and1 (y : BitVec 32) : (y &&& 1#32 = 1#32) ↔ y.getLsbD 0 = true := by
  constructor
  · intro h
    have := congrArg (fun z : BitVec 32 => z.getLsbD 0) h
    simpa using this
  · intro h
    apply BitVec.eq_of_getLsbD_eq
    intro i hi
    rw [BitVec.getLsbD_and, BitVec.getLsbD_one]
    by_cases c : i = 0
    · subst c
      simp [h]
    · simp [c]
theorem bt_iff {x : Int32} {t : Nat} (ht : t < 6) : bt x t ↔ x.toBitVec.getLsbD t = true := by
  unfold bt
  rw [← Int32.toBitVec_inj, Int32.toBitVec_and]
  show (((x >>> (iN t &&& 31)).toBitVec &&& 1#32) = 1#32) ↔ _
  rw [bt_and1, Int32.toBitVec_shiftRight, BitVec.getLsbD_sshiftRight']
  have h : ((iN t &&& 31).toBitVec.smod 32).toNat = t := by
    rcases bt_c6 ht with rfl | rfl | rfl | rfl | rfl | rfl <;> decide
  rw [h, if_pos (by omega)]
  simp
theorem bt_one {t i : Nat} (ht : t < 6) (hi : i < 6) : ((1 : Int32) <<< (iN t &&& 31)).toBitVec.getLsbD i = decide (i = t) := by
  rcases bt_c6 ht with rfl | rfl | rfl | rfl | rfl | rfl <;> rcases bt_c6 hi with rfl | rfl | rfl | rfl | rfl | rfl <;> decide
theorem bt_m1 {i : Nat} (hi : i < 6) : (-1 : Int32).toBitVec.getLsbD i = true := by
  rcases bt_c6 hi with rfl | rfl | rfl | rfl | rfl | rfl <;> decide
theorem bt_set {x : Int32} {t i : Nat} (ht : t < 6) (hi : i < 6) : bt (x ||| (1 <<< (iN t &&& 31))) i ↔ (i = t ∨ bt x i) := by
  rw [bt_iff hi, bt_iff hi, Int32.toBitVec_or, BitVec.getLsbD_or, bt_one ht hi]
  simp only [Bool.or_eq_true, decide_eq_true_eq]
  exact Or.comm
theorem bt_clr {x : Int32} {t i : Nat} (ht : t < 6) (hi : i < 6) : bt (x &&& ((1 <<< (iN t &&& 31)) ^^^ (-1))) i ↔ (i ≠ t ∧ bt x i) := by
  rw [bt_iff hi, bt_iff hi, Int32.toBitVec_and, BitVec.getLsbD_and, Int32.toBitVec_xor, BitVec.getLsbD_xor, bt_one ht hi, bt_m1 hi]
  simp only [Bool.and_eq_true, Bool.bne_true, Bool.xor_true, Bool.not_eq_true', decide_eq_false_iff_not]
  exact And.comm
theorem bt_0 {t : Nat} (ht : t < 6) : ¬ bt 0 t := by
  rw [bt_iff ht]
  rcases bt_c6 ht with rfl | rfl | rfl | rfl | rfl | rfl <;> decide
