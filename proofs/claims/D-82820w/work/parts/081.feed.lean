/-! feed -/
set_option maxRecDepth 20000
/-- the byte of a long at a shift -/
def bg (v : Int) (n : Nat) : Int := (((BitVec.ofInt 64 v).toNat / 2 ^ n % 256 : Nat) : Int)
theorem bg_b {v : Int} {n : Nat} : 0 ≤ bg v n ∧ bg v n < 256 := by unfold bg; omega
theorem o32_255 (x : Int) : o32 (· &&& ·) x 255 = x % 256 := by
  unfold o32
  show (Int32.ofInt x &&& 255).toInt = _
  have e2 : (Int32.ofInt x &&& 255).toBitVec = BitVec.ofInt 32 x &&& 255#32 := rfl
  have hn : (BitVec.ofInt 32 x &&& 255#32).toNat = (BitVec.ofInt 32 x).toNat % 2 ^ 8 := by
    rw [BitVec.toNat_and]
    exact Nat.and_two_pow_sub_one_eq_mod _ 8
  have e3 : (Int32.ofInt x &&& 255).toInt = (BitVec.ofInt 32 x &&& 255#32).toInt := rfl
  have h2 : (BitVec.ofInt 32 x).toNat = (x % 2 ^ 32).toNat := by rw [BitVec.toNat_ofInt]; rfl
  rw [e3, BitVec.toInt_eq_toNat_of_lt (by omega), hn, h2]
  omega
theorem o64_255 (x : Int) : o64 (· &&& ·) x 255 = x % 256 := by
  unfold o64
  show (Int64.ofInt x &&& 255).toInt = _
  have hn : (BitVec.ofInt 64 x &&& 255#64).toNat = (BitVec.ofInt 64 x).toNat % 2 ^ 8 := by
    rw [BitVec.toNat_and]
    exact Nat.and_two_pow_sub_one_eq_mod _ 8
  have e3 : (Int64.ofInt x &&& 255).toInt = (BitVec.ofInt 64 x &&& 255#64).toInt := rfl
  have h2 : (BitVec.ofInt 64 x).toNat = (x % 2 ^ 64).toNat := by rw [BitVec.toNat_ofInt]; rfl
  rw [e3, BitVec.toInt_eq_toNat_of_lt (by omega), hn, h2]
  omega
theorem bv_mod (b : BitVec 64) (n : Nat) (h : n ≤ 56) : (b.toInt / 2 ^ n) % 256 = ((b.toNat / 2 ^ n % 256 : Nat) : Int) := by
  have hb := b.isLt
  rw [BitVec.toInt_eq_toNat_cond]
  split
  · norm_cast
  · have e : ((b.toNat : Int) - ((2 ^ 64 : Nat) : Int)) / 2 ^ n = (b.toNat : Int) / 2 ^ n - 2 ^ (64 - n) := by
      have : ((2 ^ 64 : Nat) : Int) = 2 ^ (64 - n) * 2 ^ n := by
        rw [← Int.pow_add, show 64 - n + n = 64 by omega]; norm_cast
      rw [this]
      exact Int.sub_mul_ediv_right _ _ (by have : (0 : Int) < 2 ^ n := Int.pow_pos (by decide); omega)
    rw [e]
    have d : (2 : Int) ^ (64 - n) = 256 * 2 ^ (56 - n) := by
      rw [show (256 : Int) = 2 ^ 8 by decide, ← Int.pow_add]; congr 1; omega
    rw [d]
    have : ((b.toNat : Int) / 2 ^ n - 256 * 2 ^ (56 - n)) % 256 = ((b.toNat : Int) / 2 ^ n) % 256 := by omega
    rw [this]
    norm_cast
theorem w32_mod (x : Int) : w32 x % 256 = x % 256 := by
  unfold w32
  rw [Int.bmod_def]
  split <;> omega
theorem bg_c {v : Int} {k : Nat} (hk : k < 16) : o32 (· &&& ·) (w32 ((Int64.ofInt v >>> ((Int32.ofInt (w32 (56 - (w32 (8 * (o32 (· &&& ·) (k : Int) 7)))))).toInt64 &&& 63)).toInt)) 255 = bg v (56 - 8 * (k % 8)) := by
  have sh : ∀ k : Nat, k < 16 → ((Int32.ofInt (w32 (56 - (w32 (8 * (o32 (· &&& ·) (k : Int) 7)))))).toInt64 &&& 63) = Int64.ofNat (56 - 8 * (k % 8)) := by decide
  rw [o32_255, w32_mod, sh k hk]
  have e : (Int64.ofInt v >>> Int64.ofNat (56 - 8 * (k % 8))).toInt = (BitVec.ofInt 64 v).toInt / 2 ^ (56 - 8 * (k % 8)) := by
    have e1 : (Int64.ofInt v >>> Int64.ofNat (56 - 8 * (k % 8))).toBitVec = (BitVec.ofInt 64 v).sshiftRight (56 - 8 * (k % 8)) := by
      rw [Int64.toBitVec_shiftRight]
      have : ((Int64.ofNat (56 - 8 * (k % 8))).toBitVec.smod 64).toNat = 56 - 8 * (k % 8) := by
        have : ∀ k : Nat, k < 16 → ((Int64.ofNat (56 - 8 * (k % 8))).toBitVec.smod 64).toNat = 56 - 8 * (k % 8) := by decide
        exact this k hk
      rw [BitVec.sshiftRight_eq', this]
      rfl
    show (Int64.ofInt v >>> Int64.ofNat (56 - 8 * (k % 8))).toBitVec.toInt = _
    rw [e1, BitVec.toInt_sshiftRight, Int.shiftRight_eq_div_pow]
    norm_cast
  rw [e, bv_mod _ _ (by omega)]
  rfl
theorem bg_t {v : Int} {n : Nat} (hn : n ≤ 56) : w32 (o64 (· &&& ·) (((Int64.ofInt v).toUInt64 >>> ((Int32.ofInt (n : Int)).toInt64.toUInt64 &&& Int64.toUInt64 63)).toInt64.toInt) 255) = bg v n := by
  have sh : ∀ n : Nat, n ≤ 56 → ((Int32.ofInt (n : Int)).toInt64.toUInt64 &&& Int64.toUInt64 63) = UInt64.ofNat n := by decide
  rw [o64_255, sh n hn]
  have e : ((Int64.ofInt v).toUInt64 >>> UInt64.ofNat n).toInt64.toInt = ((BitVec.ofInt 64 v) >>> n).toInt := by
    have : (UInt64.ofNat n).toBitVec.toNat % 64 = n := by
      show (UInt64.ofNat n).toNat % 64 = n
      rw [UInt64.toNat_ofNat']
      omega
    show ((Int64.ofInt v).toUInt64 >>> UInt64.ofNat n).toBitVec.toInt = _
    rw [UInt64.toBitVec_shiftRight]
    show ((BitVec.ofInt 64 v) >>> ((UInt64.ofNat n).toBitVec % 64)).toInt = _
    rw [BitVec.ushiftRight_eq']
    congr 2
  have b := bv_mod ((BitVec.ofInt 64 v) >>> n) 0 (by omega)
  simp only [Nat.pow_zero, Int.pow_zero, Int.ediv_one, Nat.div_one] at b
  rw [e, b, BitVec.toNat_ushiftRight, Nat.shiftRight_eq_div_pow, w32_of (by omega) (by omega)]
  rfl
