/-! bits of a long -/
set_option maxRecDepth 20000
def bt (x : Int) (j : Nat) : Int := o64 (· &&& ·) (((Int64.ofInt x).toUInt64 >>> ((Int32.ofInt (j : Int)).toInt64.toUInt64 &&& Int64.toUInt64 63)).toInt64.toInt) 1
theorem and1 (b : BitVec 64) : (b &&& 1#64).toInt = if b.getLsbD 0 then 1 else 0 := by
  have h : b &&& 1#64 = if b.getLsbD 0 then 1#64 else 0#64 := by
    apply BitVec.eq_of_getLsbD_eq
    intro i hi
    rw [BitVec.getLsbD_and, BitVec.getLsbD_one]
    by_cases c : b.getLsbD 0 = true
    · rw [if_pos c, BitVec.getLsbD_one]
      by_cases e : i = 0
      · subst e; rw [c]; simp
      · simp [e]
    · rw [if_neg c]
      by_cases e : i = 0
      · subst e; simp at c; simp [c]
      · simp [e]
  rw [h]
  split <;> rfl
theorem bt_e (x : Int) (j : Nat) (hj : j < 64) : bt x j = if (BitVec.ofInt 64 x).getLsbD j then 1 else 0 := by
  unfold bt o64
  rw [Int64.ofInt_toInt]
  have e1 : ((Int32.ofInt (j : Int)).toInt64.toUInt64 &&& Int64.toUInt64 63) = UInt64.ofNat j := by
    have h1 : (Int32.ofInt (j : Int)).toInt64 = Int64.ofNat j := by
      apply Int64.toInt_inj.mp
      rw [Int32.toInt_toInt64, Int64.toInt_ofNat_of_lt (by omega), Int32.toInt_ofInt_of_le (by omega) (by omega)]
    rw [h1]
    apply UInt64.toNat_inj.mp
    rw [UInt64.toNat_and]
    have : (Int64.ofNat j).toUInt64 = UInt64.ofNat j := rfl
    rw [this, UInt64.toNat_ofNat']
    have h2 : (Int64.toUInt64 63).toNat = 2 ^ 6 - 1 := by decide
    rw [h2, Nat.and_two_pow_sub_one_eq_mod]
    omega
  rw [e1]
  show ((((Int64.ofInt x).toUInt64 >>> UInt64.ofNat j).toInt64) &&& (Int64.ofInt 1)).toInt = _
  have e2 : ((((Int64.ofInt x).toUInt64 >>> UInt64.ofNat j).toInt64) &&& (Int64.ofInt 1)).toInt = ((BitVec.ofInt 64 x >>> j) &&& 1#64).toInt := by
    have : (UInt64.ofNat j).toBitVec.toNat % 64 = j := by
      show (UInt64.ofNat j).toNat % 64 = j
      rw [UInt64.toNat_ofNat']
      omega
    show ((((Int64.ofInt x).toUInt64 >>> UInt64.ofNat j).toInt64).toBitVec &&& (Int64.ofInt 1).toBitVec).toInt = _
    have e3 : (((Int64.ofInt x).toUInt64 >>> UInt64.ofNat j).toInt64).toBitVec = BitVec.ofInt 64 x >>> j := by
      show ((Int64.ofInt x).toUInt64 >>> UInt64.ofNat j).toBitVec = _
      rw [UInt64.toBitVec_shiftRight]
      show (BitVec.ofInt 64 x) >>> ((UInt64.ofNat j).toBitVec % 64) = _
      rw [BitVec.ushiftRight_eq' ]
      congr 1
    rw [e3]
    rfl
  rw [e2, and1]
  simp
theorem bt_or (x y : Int) (j : Nat) (hj : j < 64) : bt (o64 (· ||| ·) x y) j = if bt x j = 1 ∨ bt y j = 1 then 1 else 0 := by
  rw [bt_e _ _ hj, bt_e _ _ hj, bt_e _ _ hj]
  have : BitVec.ofInt 64 (o64 (· ||| ·) x y) = BitVec.ofInt 64 x ||| BitVec.ofInt 64 y := by
    unfold o64
    show BitVec.ofInt 64 (Int64.ofInt x ||| Int64.ofInt y).toBitVec.toInt = _
    rw [BitVec.ofInt_toInt]
    rfl
  rw [this, BitVec.getLsbD_or]
  by_cases a : (BitVec.ofInt 64 x).getLsbD j <;> by_cases b : (BitVec.ofInt 64 y).getLsbD j <;> simp [a, b]
theorem bt_one : ∀ c : Nat, c < 60 → ∀ j : Nat, j < 60 → bt ((Int64.ofInt 1 <<< ((Int32.ofInt (c : Int)).toInt64 &&& 63)).toInt) j = if j = c then 1 else 0 := by
  decide +kernel
