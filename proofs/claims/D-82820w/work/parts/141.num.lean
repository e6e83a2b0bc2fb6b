/-! the digits of a number -/
set_option maxRecDepth 20000
theorem w64_i {x : Int} (h1 : -9223372036854775808 ≤ x) (h2 : x < 9223372036854775808) : w64 x = x := by
  unfold w64
  rw [Int.bmod_eq_of_le (by omega) (by omega)]
theorem o64_d {v u : Int} (hv : -9223372036854775808 ≤ v ∧ v < 9223372036854775808) (hu : 1 ≤ u ∧ u < 9223372036854775808) : o64 (· / ·) v u = v.tdiv u := by
  unfold o64
  simp only []
  have b := Int.natAbs_tdiv_le_natAbs v u
  rw [Int64.toInt_div, Int64.toInt_ofInt_of_le (by omega) (by omega), Int64.toInt_ofInt_of_le (by omega) (by omega)]
  by_cases q : u = 1
  · subst q
    rw [Int.tdiv_one]
    exact Int.bmod_eq_of_le (by omega) (by omega)
  · have c : (v.tdiv u).natAbs < 9223372036854775808 := by
      have : v.natAbs ≤ 9223372036854775808 := by omega
      have e : (v.tdiv u).natAbs = v.natAbs / u.natAbs := Int.natAbs_tdiv _ _
      have : v.natAbs / u.natAbs ≤ v.natAbs / 2 := Nat.div_le_div_left (by omega) (by omega)
      omega
    exact Int.bmod_eq_of_le (by omega) (by omega)
theorem o64_m {v : Int} (hv : -9223372036854775808 ≤ v ∧ v < 9223372036854775808) : o64 (fun a b => a - a / b * b) v 10 = v.tmod 10 := by
  unfold o64
  simp only []
  have e : Int64.ofInt v - Int64.ofInt v / Int64.ofInt 10 * Int64.ofInt 10 = Int64.ofInt (v.tmod 10) := by
    apply Int64.toInt_inj.mp
    have b : (v.tmod 10).natAbs < 10 := by
      rw [Int.natAbs_tmod]
      exact Nat.mod_lt _ (by decide)
    have c : (v.tdiv 10).natAbs ≤ v.natAbs / 10 := by rw [Int.natAbs_tdiv]; exact Nat.le_refl _
    have m := Int.tmod_add_mul_tdiv v 10
    rw [Int64.toInt_sub, Int64.toInt_mul, Int64.toInt_div, Int64.toInt_ofInt_of_le (n := v) (by omega) (by omega), Int64.toInt_ofInt_of_le (n := 10) (by decide) (by decide), Int64.toInt_ofInt_of_le (n := v.tmod 10) (by omega) (by omega)]
    rw [Int.bmod_eq_of_le (n := v.tdiv 10) (by omega) (by omega), Int.bmod_eq_of_le (n := v.tdiv 10 * 10) (by omega) (by omega), Int.bmod_eq_of_le (by omega) (by omega)]
    omega
  rw [e]
  have b : (v.tmod 10).natAbs < 10 := by
    rw [Int.natAbs_tmod]
    exact Nat.mod_lt _ (by decide)
  exact Int64.toInt_ofInt_of_le (by omega) (by omega)
/-- a digit -/
def dgN (v : Int) (k : Nat) : Int := 48 + (((v.tdiv (10 ^ k : Nat)).tmod 10).natAbs : Int)
/-- the digits from the k-th on -/
def dgL (v : Int) : Nat → List Int
  | 0 => [dgN v 0]
  | k + 1 => dgN v (k + 1) :: dgL v k
/-- whether there are digits ahead of the k-th -/
def ndC (v : Int) (k : Nat) : Prop := 9 < v.tdiv (10 ^ k : Nat) ∨ v.tdiv (10 ^ k : Nat) < -9
/-- which digit is the first -/
def ndK (v : Int) : Nat → Nat → Nat
  | 0, k => k
  | f + 1, k => if 9 < v.tdiv (10 ^ k : Nat) ∨ v.tdiv (10 ^ k : Nat) < -9 then ndK v f (k + 1) else k
def nuL (v : Int) : List Int := (if v < 0 then [45] else []) ++ dgL v (ndK v 18 0)
theorem ndC_18 {v : Int} (hv : -9223372036854775808 ≤ v ∧ v < 9223372036854775808) : ¬ ndC v 18 := by
  unfold ndC
  have e : ((10 ^ 18 : Nat) : Int) = 1000000000000000000 := by decide
  rw [e]
  have b : (v.tdiv 1000000000000000000).natAbs = v.natAbs / 1000000000000000000 := by rw [Int.natAbs_tdiv]; rfl
  omega
theorem ndK_le {v : Int} : ∀ f k, ndK v f k ≤ k + f
  | 0, k => by unfold ndK; omega
  | f + 1, k => by
    unfold ndK
    split
    · have := ndK_le (v := v) f (k + 1); omega
    · omega
theorem dgL_len {v : Int} : ∀ k, (dgL v k).length = k + 1
  | 0 => rfl
  | k + 1 => by unfold dgL; rw [List.length_cons, dgL_len k]
theorem nuL_len {v : Int} : (nuL v).length ≤ 20 := by
  unfold nuL
  have := ndK_le (v := v) 18 0
  rw [List.length_append, dgL_len]
  split
  · simp only [List.length_cons, List.length_nil]; omega
  · simp only [List.length_nil]; omega
theorem t10 {k : Nat} (hk : k ≤ 18) : 1 ≤ ((10 ^ k : Nat) : Int) ∧ ((10 ^ k : Nat) : Int) ≤ 1000000000000000000 := by
  have h1 : 1 ≤ 10 ^ k := Nat.one_le_pow _ _ (by decide)
  have h2 : 10 ^ k ≤ 10 ^ 18 := Nat.pow_le_pow_right (by decide) hk
  have e : (10 ^ 18 : Nat) = 1000000000000000000 := by decide
  omega
theorem t10s {k : Nat} (hk : k < 18) : w64 (((10 ^ k : Nat) : Int) * 10) = ((10 ^ (k + 1) : Nat) : Int) := by
  have := t10 (k := k + 1) (by omega)
  rw [Nat.pow_succ] at this ⊢
  rw [w64_i (by omega) (by omega)]
  omega
theorem t10d {k : Nat} (hk : k ≤ 18) : o64 (· / ·) ((10 ^ k : Nat) : Int) 10 = if k = 0 then 0 else ((10 ^ (k - 1) : Nat) : Int) := by
  have := t10 hk
  rw [o64_d (by omega) (by decide)]
  by_cases q : k = 0
  · subst q; rfl
  · rw [if_neg q]
    obtain ⟨j, rfl⟩ : ∃ j, k = j + 1 := ⟨k - 1, by omega⟩
    rw [Nat.pow_succ, Nat.add_sub_cancel]
    rw [Int.tdiv_eq_ediv_of_nonneg (by omega)]
    omega
theorem dg_r {v : Int} : 0 ≤ (v.tmod 10).natAbs ∧ (v.tmod 10).natAbs ≤ 9 := by
  have : (v.tmod 10).natAbs < 10 := by rw [Int.natAbs_tmod]; exact Nat.mod_lt _ (by decide)
  omega
/-- the digit as C has it -/
theorem dg_c {v : Int} (hv : -9223372036854775808 ≤ v ∧ v < 9223372036854775808) {k : Nat} (hk : k ≤ 18) : w8 (w32 (48 + w32 (w64 (if o64 (fun a b => a - a / b * b) (o64 (· / ·) v ((10 ^ k : Nat) : Int)) 10 < 0 then -(o64 (fun a b => a - a / b * b) (o64 (· / ·) v ((10 ^ k : Nat) : Int)) 10) else o64 (fun a b => a - a / b * b) (o64 (· / ·) v ((10 ^ k : Nat) : Int)) 10)))) = dgN v k := by
  have p := t10 hk
  have b : (v.tdiv ((10 ^ k : Nat) : Int)).natAbs ≤ v.natAbs := Int.natAbs_tdiv_le_natAbs _ _
  have hd : -9223372036854775808 ≤ v.tdiv ((10 ^ k : Nat) : Int) ∧ v.tdiv ((10 ^ k : Nat) : Int) < 9223372036854775808 := by
    have := o64_d hv (u := ((10 ^ k : Nat) : Int)) (by omega)
    rw [← this]
    unfold o64
    constructor
    · exact Int64.le_toInt _
    · exact Int64.toInt_lt _
  rw [o64_d hv (by omega), o64_m hd]
  have r := dg_r (v := v.tdiv ((10 ^ k : Nat) : Int))
  unfold dgN
  generalize (v.tdiv ((10 ^ k : Nat) : Int)).tmod 10 = x at *
  have e : (if x < 0 then -x else x) = (x.natAbs : Int) := by split <;> omega
  rw [e, w64_i (by omega) (by omega), w32_of (x := (x.natAbs : Int)) (by omega) (by omega), w32_of (by omega) (by omega), w8_of (by omega) (by omega)]
