theorem bt_1 (y : Int32) : (y &&& 1 = 0) ↔ y.toBitVec.getLsbD 0 = false := by
  rw [pk_and y 1 (by decide), show (0 : Int32) = nI 0 from rfl, nI_eq (by omega) (by decide)]
  show _ ↔ y.toBitVec.toNat.testBit 0 = false
  rw [Nat.testBit_zero, decide_eq_false_iff_not]
  omega
theorem bt_and (y : Int32) : y &&& 1 = 0 ∨ y &&& 1 = 1 := by
  rw [pk_and y 1 (by decide)]
  have : y.toBitVec.toNat % 2 ^ 1 = 0 ∨ y.toBitVec.toNat % 2 ^ 1 = 1 := by omega
  rcases this with h | h
  · exact Or.inl (by rw [h]; rfl)
  · exact Or.inr (by rw [h]; rfl)
theorem bt_shr (x s : Int32) (r : Nat) (hr : r < 32) (hs : (s.toBitVec.smod 32).toNat = r) : (x >>> s).toBitVec.getLsbD 0 = bt x r := by
  have e : (x >>> s).toBitVec = x.toBitVec.sshiftRight r := by
    rw [Int32.toBitVec_shiftRight, BitVec.sshiftRight_eq', hs]
  rw [e, BitVec.getLsbD_sshiftRight]
  simp [hr, bt]
theorem bt_s : ∀ r : Fin 12, ((nI r.val &&& 31).toBitVec.smod 32).toNat = r.val := by decide +kernel
theorem bt_c : ∀ r r' : Fin 12, ((1 : Int32) <<< (nI r.val &&& 31)).toBitVec.getLsbD r'.val = decide (r'.val = r.val) := by decide +kernel
theorem bt_get (x : Int32) {r : Nat} (hr : r < 12) : (((x >>> (nI r &&& 31)) &&& 1) = 0) ↔ bt x r = false := by
  rw [bt_1, bt_shr x _ r (by omega) (bt_s ⟨r, hr⟩)]
theorem bt_set (x : Int32) {r r' : Nat} (hr : r < 12) (hr' : r' < 12) : bt (x ||| ((1 : Int32) <<< (nI r &&& 31))) r' = (bt x r' || decide (r' = r)) := by
  unfold bt
  rw [Int32.toBitVec_or, BitVec.getLsbD_or, bt_c ⟨r, hr⟩ ⟨r', hr'⟩]
theorem bt_0 (r : Nat) : bt 0 r = false := by
  show (0#32).getLsbD r = false
  exact BitVec.getLsbD_zero
/-- the multiplier's bit -/
theorem mu_neg (x : Int32) : x.toInt16.toInt32 < 0 ↔ x.toBitVec.getLsbD 15 = true := by
  rw [i_lt, show (0 : Int32).toInt = 0 from rfl]
  show x.toInt16.toInt32.toBitVec.toInt < 0 ↔ _
  have h := BitVec.msb_eq_toInt (x := x.toInt16.toInt32.toBitVec)
  rw [← decide_eq_true_iff (p := x.toInt16.toInt32.toBitVec.toInt < 0), ← h]
  rw [Int16.toBitVec_toInt32, Int32.toBitVec_toInt16, BitVec.msb_signExtend]
  simp [BitVec.msb_eq_getLsbD_last, BitVec.getElem_signExtend]
theorem mu_bit (x : Int32) : (((x <<< ((1 : Int32) &&& 31)) >>> ((16 : Int32) &&& 31)) &&& 1 = 0) ↔ x.toBitVec.getLsbD 15 = false := by
  rw [bt_1, bt_shr _ _ 16 (by decide) (by decide)]
  unfold bt
  have e : (x <<< ((1 : Int32) &&& 31)).toBitVec = x.toBitVec <<< 1 := by
    rw [Int32.toBitVec_shiftLeft]
    rfl
  rw [e, BitVec.getLsbD_shiftLeft]
  simp
theorem mu_shl (x : Int32) : (x.toInt16.toInt32 <<< ((1 : Int32) &&& 31)).toInt16.toInt32 = (x <<< ((1 : Int32) &&& 31)).toInt16.toInt32 := by
  have h : (x.toInt16.toInt32 <<< ((1 : Int32) &&& 31)).toInt16 = (x <<< ((1 : Int32) &&& 31)).toInt16 := by
    apply Int16.toBitVec_inj.mp
    rw [Int32.toBitVec_toInt16, Int32.toBitVec_toInt16]
    have e : ∀ y : Int32, (y <<< ((1 : Int32) &&& 31)).toBitVec = y.toBitVec <<< 1 := fun y => by
      rw [Int32.toBitVec_shiftLeft]
      rfl
    rw [e, e, Int16.toBitVec_toInt32, Int32.toBitVec_toInt16]
    apply BitVec.eq_of_getLsbD_eq
    intro i hi
    simp only [BitVec.getLsbD_setWidth, BitVec.getLsbD_shiftLeft, BitVec.getLsbD_signExtend]
    by_cases h0 : i < 1
    · have h3 : i < 32 := by omega
      simp [h0, hi, h3]
    · have h3 : i < 32 := by omega
      have h1 : i - 1 < 16 := by omega
      have h2 : i - 1 < 32 := by omega
      simp [h1, h2, h3, hi]
  rw [h]
