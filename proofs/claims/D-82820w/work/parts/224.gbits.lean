/-! seven bits a type -/
set_option maxRecDepth 20000
/-- the type at a place -/
def gtA (w : Int) (k : Nat) : Int := ((w.toNat / 2 ^ (7 * k) % 128 : Nat) : Int)
/-- T's words for rows of types -/
def gtW : List Nat → Nat
  | [] => 0
  | t :: r => t + 128 * gtW r
theorem gt_sh (k : Nat) (hk : k < 8) : ((Int32.ofInt (w32 (7 * (k : Int)))).toInt64.toUInt64 &&& Int64.toUInt64 63) = UInt64.ofNat (7 * k) := by
  have e0 : w32 (7 * (k : Int)) = ((7 * k : Nat) : Int) := by rw [show (7 * (k : Int)) = ((7 * k : Nat) : Int) by omega]; exact w32_of (by omega) (by omega)
  rw [e0]
  have hj : 7 * k < 64 := by omega
  clear e0 hk
  generalize 7 * k = j at *
  have h1 : (Int32.ofInt ((j : Nat) : Int)).toInt64 = Int64.ofNat j := by
    apply Int64.toInt_inj.mp
    rw [Int32.toInt_toInt64, Int64.toInt_ofNat_of_lt (by omega), Int32.toInt_ofInt_of_le (by omega) (by omega)]
  rw [h1]
  apply UInt64.toNat_inj.mp
  rw [UInt64.toNat_and]
  have : (Int64.ofNat j).toUInt64 = UInt64.ofNat j := rfl
  rw [this, UInt64.toNat_ofNat']
  have h2 : (Int64.toUInt64 63).toNat = 2 ^ 6 - 1 := by decide
  rw [h2, Nat.and_two_pow_sub_one_eq_mod]
  omega
theorem gt_get (w k : Nat) (hk : k < 8) (hw : w < 2 ^ 56) : o64 (· &&& ·) (((Int64.ofInt (w : Int)).toUInt64 >>> ((Int32.ofInt (w32 (7 * (k : Int)))).toInt64.toUInt64 &&& Int64.toUInt64 63)).toInt64.toInt) 127 = gtA (w : Int) k := by
  rw [gt_sh k hk]
  unfold o64
  rw [Int64.ofInt_toInt]
  show ((((Int64.ofInt (w : Int)).toUInt64 >>> UInt64.ofNat (7 * k)).toInt64).toBitVec &&& (Int64.ofInt 127).toBitVec).toInt = _
  have hj : (UInt64.ofNat (7 * k)).toBitVec.toNat % 64 = 7 * k := by
    show (UInt64.ofNat (7 * k)).toNat % 64 = 7 * k
    rw [UInt64.toNat_ofNat']
    omega
  have e3 : (((Int64.ofInt (w : Int)).toUInt64 >>> UInt64.ofNat (7 * k)).toInt64).toBitVec = BitVec.ofNat 64 w >>> (7 * k) := by
    show ((Int64.ofInt (w : Int)).toUInt64 >>> UInt64.ofNat (7 * k)).toBitVec = _
    rw [UInt64.toBitVec_shiftRight]
    show (BitVec.ofInt 64 (w : Int)) >>> ((UInt64.ofNat (7 * k)).toBitVec % 64) = _
    rw [BitVec.ushiftRight_eq', BitVec.ofInt_natCast]
    congr 1
  rw [e3]
  have tn : (BitVec.ofNat 64 w >>> (7 * k) &&& (Int64.ofInt 127).toBitVec).toNat = w / 2 ^ (7 * k) % 128 := by
    rw [BitVec.toNat_and, BitVec.toNat_ushiftRight, BitVec.toNat_ofNat, Nat.mod_eq_of_lt (by omega)]
    have h2 : (Int64.ofInt 127).toBitVec.toNat = 2 ^ 7 - 1 := by decide
    rw [h2, Nat.and_two_pow_sub_one_eq_mod, Nat.shiftRight_eq_div_pow]
  rw [BitVec.toInt_eq_toNat_of_lt (by rw [tn]; omega), tn]
  rfl
theorem gt_shl : ∀ k : Nat, k < 8 → ∀ t : Nat, t < 128 → (Int64.ofInt (t : Int) <<< ((Int32.ofInt (w32 (7 * (k : Int)))).toInt64 &&& 63)).toInt = ((t * 2 ^ (7 * k) : Nat) : Int) := by
  decide +kernel
theorem gt_or (w k t : Nat) (hk : k < 8) (ht : t < 128) (hw : w < 2 ^ (7 * k)) : o64 (· ||| ·) (w : Int) ((Int64.ofInt (t : Int) <<< ((Int32.ofInt (w32 (7 * (k : Int)))).toInt64 &&& 63)).toInt) = ((w + t * 2 ^ (7 * k) : Nat) : Int) := by
  rw [gt_shl k hk t ht]
  have b1 : 2 ^ (7 * k) ≤ 2 ^ 49 := Nat.pow_le_pow_right (by decide) (by omega)
  have b2 : t * 2 ^ (7 * k) ≤ 127 * 2 ^ 49 := Nat.mul_le_mul (by omega) b1
  unfold o64
  show (BitVec.ofInt 64 (w : Int) ||| BitVec.ofInt 64 ((t * 2 ^ (7 * k) : Nat) : Int)).toInt = _
  rw [BitVec.ofInt_natCast, BitVec.ofInt_natCast]
  have tn : (BitVec.ofNat 64 w ||| BitVec.ofNat 64 (t * 2 ^ (7 * k))).toNat = w + t * 2 ^ (7 * k) := by
    rw [BitVec.toNat_or, BitVec.toNat_ofNat, BitVec.toNat_ofNat, Nat.mod_eq_of_lt (by omega), Nat.mod_eq_of_lt (by omega), Nat.or_comm, Nat.mul_comm, ← Nat.two_pow_add_eq_or_of_lt hw]
    omega
  rw [BitVec.toInt_eq_toNat_of_lt (by rw [tn]; omega), tn]
theorem gtW_lt : ∀ l : List Nat, (∀ t, t ∈ l → t < 128) → gtW l < 2 ^ (7 * l.length) := fun l => by
  induction l with
  | nil => intro _; decide
  | cons t r ih =>
    intro h
    have := ih (fun x hx => h x (List.mem_cons_of_mem _ hx))
    have ht := h t (List.mem_cons_self ..)
    unfold gtW
    rw [List.length_cons, show 7 * (r.length + 1) = 7 * r.length + 7 by omega, Nat.pow_add]
    omega
theorem gtW_app : ∀ (l : List Nat) (t : Nat), gtW (l ++ [t]) = gtW l + t * 2 ^ (7 * l.length) := fun l => by
  induction l with
  | nil => intro t; simp [gtW]
  | cons x r ih =>
    intro t
    show x + 128 * gtW (r ++ [t]) = x + 128 * gtW r + t * 2 ^ (7 * (r.length + 1))
    rw [ih, show 7 * (r.length + 1) = 7 * r.length + 7 by omega, Nat.pow_add, Nat.mul_add]
    have : 128 * (t * 2 ^ (7 * r.length)) = t * (2 ^ (7 * r.length) * 2 ^ 7) := by
      rw [Nat.mul_left_comm, Nat.mul_comm 128]
    omega
theorem gtW_get : ∀ (l : List Nat) (k : Nat), (∀ t, t ∈ l → t < 128) → k < l.length → gtA (gtW l : Int) k = (l.getD k 0 : Int) := fun l => by
  induction l with
  | nil => intro k _ hk; simp at hk
  | cons x r ih =>
    intro k h hk
    have hx := h x (List.mem_cons_self ..)
    unfold gtA
    rw [Int.toNat_natCast]
    cases k with
    | zero => simp [gtW]; omega
    | succ k =>
      have := ih k (fun y hy => h y (List.mem_cons_of_mem _ hy)) (by simpa using hk)
      unfold gtA at this
      rw [Int.toNat_natCast] at this
      rw [List.getD_cons_succ, ← this]
      congr 2
      show (x + 128 * gtW r) / 2 ^ (7 * (k + 1)) = gtW r / 2 ^ (7 * k)
      rw [show 7 * (k + 1) = 7 + 7 * k by omega, Nat.pow_add, ← Nat.div_div_eq_div_mul]
      congr 1
      omega
