/-! T: operators of two values -/
set_option maxRecDepth 20000
def arN (op v w : Int) : Int := if op = 7 then w64 (v + w) else if op = 8 then w64 (v - w) else if op = 9 then w64 (v * w) else if op = 10 then o64 (· / ·) v w else o64 (fun a b => a - a / b * b) v w
/-- two values give way to one -/
def binS (S : SS) (t n : Nat) (ty v : Int) : SS := u2 (u2 (u2 (isS S ty v) f_Md_height t ((n - 1 : Nat) : Int)) f_Md_pileType (2100 * t + n - 1 - 1) ty) f_Md_pileValue (2100 * t + n - 1 - 1) v
def jnO (x y : Int) : Prop := (x = 3 ∨ y = 3) ∧ x ≤ 3 ∧ y ≤ 3
def cmO (op d : Int) : Prop := (op = 16 ∧ d < 0) ∨ (op = 17 ∧ d ≤ 0) ∨ (op = 18 ∧ 0 < d) ∨ (op = 19 ∧ 0 ≤ d)
theorem o64_m1 {v : Int} (h : -9223372036854775808 ≤ v ∧ v < 9223372036854775808) : o64 (· / ·) v (-1) = w64 (-v) := by
  unfold o64
  have e : (Int64.ofInt v / Int64.ofInt (-1)) = -(Int64.ofInt v) := by
    apply Int64.toInt_inj.mp
    rw [Int64.toInt_div, Int64.toInt_neg, show (Int64.ofInt (-1)).toInt = -1 by decide, Int.tdiv_neg, Int.tdiv_one]
  simp only []
  rw [e, Int64.toInt_neg, Int64.toInt_ofInt_of_le (by omega) (by omega)]
  rfl
theorem r64_m1 {v : Int} : o64 (fun a b => a - a / b * b) v (-1) = 0 := by
  unfold o64
  have e : (Int64.ofInt v / Int64.ofInt (-1)) = -(Int64.ofInt v) := by
    apply Int64.toInt_inj.mp
    rw [Int64.toInt_div, Int64.toInt_neg, show (Int64.ofInt (-1)).toInt = -1 by decide, Int.tdiv_neg, Int.tdiv_one]
  simp only []
  rw [e, show Int64.ofInt (-1) = -1 by decide]
  have : Int64.ofInt v - -Int64.ofInt v * -1 = 0 := by
    rw [Int64.neg_mul_neg, Int64.mul_one, Int64.sub_self]
  rw [this]; rfl
section
variable {ρ : Nat → Nat} {d : Nat} {h h' h0 : ah} {Q : QT} {T k f g n c t i j x y p : Nat} {op a b v w ty : Int} {S X : SS}
theorem s_171 (O : TOK h0 T) (D : DF S t n c f p k op a b) (hn : 2 ≤ n) (q : Q (Sum.inl none) (cn h0 T (atS (binS S t n ty v) t c ((p + 1 : Nat) : Int)))) : wpB PGm ρ (d + 7) m_Md_operators 171 [(0, vR T), (3, vI ((2100 * t + n - 1 - 1 : Nat) : Int))] [] (cn h0 T (isS S ty v)) (dK ρ d T Q) := by
  have O' := O
  obtain ⟨kT, G, kH⟩ := O
  obtain ⟨F, ⟨d1, d2, d3, d4, d5, d6⟩, e1, e2, e3, e4, e5, e6, e7, e8⟩ := D
  obtain ⟨t1, t2, t3, t4, t5⟩ := F
  refine b_Md_operators_171 ?_
  unfold isS
  simp (decide := true) (disch := first | decide | omega) only [cnI, cnIe, cnR, cnK, cnl, cnA' G, cn_sI, cn_sIe, cn_sA' G, kT, kH, KN G, LN G, u2_f, u2_s, w32_aa, w32_ss, w32_p1, w32_m1, Int.toNat_natCast, true_and, and_true, false_and, and_false, or_false, false_or, ne_eq, not_false_eq_true, forall_const, implies_true, not_true_eq_false, false_implies, t1, t4]
  refine ⟨by omega, by omega, by omega, by omega, ?_⟩
  simp (decide := true) (disch := first | decide | omega) only [cnI, cnIe, cnR, cnK, cnl, cnA' G, cn_sI, cn_sIe, cn_sA' G, kT, kH, KN G, LN G, u2_f, u2_s, w32_aa, w32_ss, w32_p1, w32_m1, Int.toNat_natCast, true_and, and_true, false_and, and_false, or_false, false_or, ne_eq, not_false_eq_true, forall_const, implies_true, not_true_eq_false, false_implies, cV]
  refine s_d137 (v := ((p + 1 : Nat) : Int)) (t := t) (c := c) O' ?_ ?_ d1 (by omega) q
  · simp (decide := true) (disch := first | decide | omega) only [cnI, cnIe, cnR, cnK, cnl, cnA' G, cn_sI, cn_sIe, cn_sA' G, kT, kH, KN G, LN G, u2_f, u2_s, w32_aa, w32_ss, w32_p1, w32_m1, Int.toNat_natCast, true_and, and_true, false_and, and_false, or_false, false_or, ne_eq, not_false_eq_true, forall_const, implies_true, not_true_eq_false, false_implies, e1]
  · simp (decide := true) (disch := first | decide | omega) only [cnI, cnIe, cnR, cnK, cnl, cnA' G, cn_sI, cn_sIe, cn_sA' G, kT, kH, KN G, LN G, u2_f, u2_s, w32_aa, w32_ss, w32_p1, w32_m1, Int.toNat_natCast, true_and, and_true, false_and, and_false, or_false, false_or, ne_eq, not_false_eq_true, forall_const, implies_true, not_true_eq_false, false_implies, e2]
theorem s_n235 (O : TOK h0 T) (q : Q (Sum.inl none) (cn h0 T (isS S 2 v))) : wpB PGm ρ (d + 1) m_Md_numbers 235 [] [vL v, vI 2, vR T] (cn h0 T S) Q := by
  have O' := O
  obtain ⟨kT, G, kH⟩ := O
  refine b_Md_numbers_235 ?_
  simp (decide := true) (disch := first | decide | omega) only [cnI, cnIe, cnR, cnK, cnl, cnA' G, cn_sI, cn_sIe, cn_sA' G, kT, kH, KN G, LN G, u2_f, u2_s, w32_aa, w32_ss, w32_p1, w32_m1, Int.toNat_natCast, true_and, and_true, false_and, and_false, or_false, false_or, ne_eq, not_false_eq_true, forall_const, implies_true, not_true_eq_false, false_implies]
  exact s_is O' q
theorem s_n144 (O : TOK h0 T) (rv : -9223372036854775808 ≤ v ∧ v < 9223372036854775808) (nz : ¬ ((op = 10 ∨ op = 11) ∧ w = 0)) (ho : op = 7 ∨ op = 8 ∨ op = 9 ∨ op = 10 ∨ op = 11) (q : Q (Sum.inl none) (cn h0 T (isS S 2 (arN op v w)))) : wpB PGm ρ (d + 1) m_Md_numbers 144 [(0, vR T), (1, vI op), (4, vL v), (6, vL w)] [] (cn h0 T S) Q := by
  have g : ∀ u : Int, u = arN op v w → wpB PGm ρ (d + 1) m_Md_numbers 235 [] [vL u, vI 2, vR T] (cn h0 T S) Q := fun u hu => by subst hu; exact s_n235 O q
  refine b_Md_numbers_144 ⟨fun n7 => ⟨fun n8 => ⟨fun n9 => ⟨fun n10 => ⟨fun z => ⟨?_, g _ ?_⟩, fun z => g _ ?_⟩, fun e10 => ⟨fun z => ⟨?_, g _ ?_⟩, fun z => g _ ?_⟩⟩, fun e9 => g _ ?_⟩, fun e8 => g _ ?_⟩, fun e7 => g _ ?_⟩
  · intro c; exact nz ⟨by omega, c⟩
  · unfold arN; rw [if_neg n7, if_neg n8, if_neg n9, if_neg n10]
  · rw [lc_z] at z; unfold arN; rw [if_neg n7, if_neg n8, if_neg n9, if_neg n10, z, r64_m1]
  · intro c; exact nz ⟨Or.inl e10, c⟩
  · unfold arN; rw [if_neg n7, if_neg n8, if_neg n9, if_pos e10]
  · rw [lc_z] at z; unfold arN; rw [if_neg n7, if_neg n8, if_neg n9, if_pos e10, z, o64_m1 rv]
  · unfold arN; rw [if_neg n7, if_neg n8, if_pos e9]
  · unfold arN; rw [if_neg n7, if_pos e8]
  · unfold arN; rw [if_pos e7]
theorem s_n120 (O : TOK h0 T) (rv : -9223372036854775808 ≤ v ∧ v < 9223372036854775808) (ho : op = 7 ∨ op = 8 ∨ op = 9 ∨ op = 10 ∨ op = 11) (q1 : ¬ ((op = 10 ∨ op = 11) ∧ w = 0) → Q (Sum.inl none) (cn h0 T (isS S 2 (arN op v w)))) (q2 : (op = 10 ∨ op = 11) → w = 0 → Q (Sum.inr (hR h0 f_Md_halt T)) (cn h0 T (erS S 2))) : wpB PGm ρ (d + 2) m_Md_numbers 120 [(0, vR T), (1, vI op), (4, vL v), (6, vL w)] [] (cn h0 T S) Q := by
  have g132 : (op = 10 ∨ op = 11) → wpB PGm ρ (d + 2) m_Md_numbers 132 [(0, vR T), (1, vI op), (4, vL v), (6, vL w)] [] (cn h0 T S) Q := by
    intro k3
    refine b_Md_numbers_132 ⟨fun z => ?_, fun z => ?_⟩
    · have nz : ¬ ((op = 10 ∨ op = 11) ∧ w = 0) := fun c => z (by rw [lc_z]; exact c.2)
      exact s_n144 O rv nz ho (q1 nz)
    · rw [lc_z] at z
      refine ⟨O.1, s_error O ⟨?_, q2 k3 z⟩⟩
      show hK h0 _ ≠ 0
      rw [O.2.2]; decide
  refine b_Md_numbers_120 ⟨fun z => g132 (Or.inl z), fun z => ⟨fun z2 => ?_, fun z2 => g132 (Or.inr z2)⟩⟩
  have nz : ¬ ((op = 10 ∨ op = 11) ∧ w = 0) := fun c => c.1.elim z z2
  exact s_n144 O rv nz ho (q1 nz)
theorem s_n95 (O : TOK h0 T) (hx : x < 4200) (hy : y < 4200) (q1 : S f_Md_pileType x = 2 → S f_Md_pileType y = 2 → wpB PGm ρ (d + 2) m_Md_numbers 120 [(0, vR T), (1, vI op), (4, vL v), (6, vL w)] [] (cn h0 T S) Q) (q2 : ¬ (S f_Md_pileType x = 2 ∧ S f_Md_pileType y = 2) → Q (Sum.inr (hR h0 f_Md_halt T)) (cn h0 T (erS S 1))) : wpB PGm ρ (d + 2) m_Md_numbers 95 [(0, vR T), (1, vI op), (2, vI (x : Int)), (3, vI (y : Int)), (4, vL v), (6, vL w)] [] (cn h0 T S) Q := by
  have g115 : ¬ (S f_Md_pileType x = 2 ∧ S f_Md_pileType y = 2) → wpB PGm ρ (d + 2) m_Md_numbers 115 [(0, vR T), (1, vI op), (4, vL v), (6, vL w)] [] (cn h0 T S) Q := by
    intro k1
    refine b_Md_numbers_115 ⟨O.1, s_error O ⟨?_, q2 k1⟩⟩
    show hK h0 _ ≠ 0
    rw [O.2.2]; decide
  obtain ⟨kT, G, kH⟩ := O
  refine b_Md_numbers_95 ?_
  clear q2
  simp (decide := true) (disch := first | decide | omega) only [cnI, cnIe, cnR, cnK, cnl, cnA' G, cn_sI, cn_sIe, cn_sA' G, kT, kH, KN G, LN G, u2_f, u2_s, w32_aa, w32_ss, w32_p1, w32_m1, Int.toNat_natCast, true_and, and_true, false_and, and_false, or_false, false_or, ne_eq, not_false_eq_true, forall_const, implies_true, not_true_eq_false, false_implies]
  exact ⟨by omega, fun z => g115 (fun c => z c.1), fun z => ⟨by omega, fun z2 => q1 z z2, fun z2 => g115 (fun c => z2 c.2)⟩⟩
/-- where a text is made of two values -/
abbrev jK (ρ : Nat → Nat) (d T : Nat) (Q : QT) : QT := cI (fun z h5 => hK h5 T = k_Md ∧ wpB PGm ρ (d + 1) m_Md_is 0 [(0, vR T), (1, vI 3), (2, vL z)] [] h5 (cV (fun h12 => Q (Sum.inl none) h12) (fun e h' => hK h' e ≠ 0 ∧ Q (Sum.inr e) h'))) (fun e h' => hK h' e ≠ 0 ∧ Q (Sum.inr e) h')
theorem s_n42 (O : TOK h0 T) (hx : x < 4200) (hy : y < 4200) (q1 : ¬ (S f_Md_pileType x ≤ 3 ∧ S f_Md_pileType y ≤ 3) → wpB PGm ρ (d + 2) m_Md_numbers 95 [(0, vR T), (1, vI op), (2, vI (x : Int)), (3, vI (y : Int)), (4, vL v), (6, vL w)] [] (cn h0 T S) Q) (q2 : S f_Md_pileType x ≤ 3 → S f_Md_pileType y ≤ 3 → wpB PGm ρ (d + 1) m_Md_joined 0 [(0, vR T), (1, vI (S f_Md_pileType x)), (2, vL v), (4, vI (S f_Md_pileType y)), (5, vL w)] [] (cn h0 T S) (jK ρ d T Q)) : wpB PGm ρ (d + 2) m_Md_numbers 42 [(0, vR T), (1, vI op), (2, vI (x : Int)), (3, vI (y : Int)), (4, vL v), (6, vL w)] [] (cn h0 T S) Q := by
  obtain ⟨kT, G, kH⟩ := O
  refine b_Md_numbers_42 ?_
  simp (decide := true) (disch := first | decide | omega) only [cnI, cnIe, cnR, cnK, cnl, cnA' G, cn_sI, cn_sIe, cn_sA' G, kT, kH, KN G, LN G, u2_f, u2_s, w32_aa, w32_ss, w32_p1, w32_m1, Int.toNat_natCast, true_and, and_true, false_and, and_false, or_false, false_or, ne_eq, not_false_eq_true, forall_const, implies_true, not_true_eq_false, false_implies]
  refine ⟨by omega, b_Md_prints_0 ⟨fun z => ⟨fun _ => q1 (fun c => by have := c.1; omega), fun c => absurd rfl c⟩, fun z => ⟨fun c => absurd c (by decide), fun _ => ?_⟩⟩⟩
  simp (decide := true) (disch := first | decide | omega) only [cnI, cnIe, cnR, cnK, cnl, cnA' G, cn_sI, cn_sIe, cn_sA' G, kT, kH, KN G, LN G, u2_f, u2_s, w32_aa, w32_ss, w32_p1, w32_m1, Int.toNat_natCast, true_and, and_true, false_and, and_false, or_false, false_or, ne_eq, not_false_eq_true, forall_const, implies_true, not_true_eq_false, false_implies]
  refine ⟨by omega, b_Md_prints_0 ⟨fun z2 => ⟨fun _ => q1 (fun c => by have := c.2; omega), fun c => absurd rfl c⟩, fun z2 => ⟨fun c => absurd c (by decide), fun _ => ?_⟩⟩⟩
  simp (decide := true) (disch := first | decide | omega) only [cnI, cnIe, cnR, cnK, cnl, cnA' G, cn_sI, cn_sIe, cn_sA' G, kT, kH, KN G, LN G, u2_f, u2_s, w32_aa, w32_ss, w32_p1, w32_m1, Int.toNat_natCast, true_and, and_true, false_and, and_false, or_false, false_or, ne_eq, not_false_eq_true, forall_const, implies_true, not_true_eq_false, false_implies]
  exact ⟨by omega, by omega, q2 z z2⟩
theorem s_numbers (O : TOK h0 T) (hx : x < 4200) (hy : y < 4200) (q1 : ¬ (op = 7 ∧ jnO (S f_Md_pileType x) (S f_Md_pileType y)) → wpB PGm ρ (d + 2) m_Md_numbers 95 [(0, vR T), (1, vI op), (2, vI (x : Int)), (3, vI (y : Int)), (4, vL (S f_Md_pileValue x)), (6, vL (S f_Md_pileValue y))] [] (cn h0 T S) Q) (q2 : op = 7 → jnO (S f_Md_pileType x) (S f_Md_pileType y) → wpB PGm ρ (d + 1) m_Md_joined 0 [(0, vR T), (1, vI (S f_Md_pileType x)), (2, vL (S f_Md_pileValue x)), (4, vI (S f_Md_pileType y)), (5, vL (S f_Md_pileValue y))] [] (cn h0 T S) (jK ρ d T Q)) : wpB PGm ρ (d + 2) m_Md_numbers 0 [(0, vR T), (1, vI op), (2, vI (x : Int)), (3, vI (y : Int))] [] (cn h0 T S) Q := by
  have g42 : op = 7 → (S f_Md_pileType x = 3 ∨ S f_Md_pileType y = 3) → wpB PGm ρ (d + 2) m_Md_numbers 42 [(0, vR T), (1, vI op), (2, vI (x : Int)), (3, vI (y : Int)), (4, vL (S f_Md_pileValue x)), (6, vL (S f_Md_pileValue y))] [] (cn h0 T S) Q := fun k1 k2 => s_n42 O hx hy (fun z => q1 (fun c => z c.2.2)) (fun z z2 => q2 k1 ⟨k2, z, z2⟩)
  obtain ⟨kT, G, kH⟩ := O
  refine b_Md_numbers_0 ?_
  simp (decide := true) (disch := first | decide | omega) only [cnI, cnIe, cnR, cnK, cnl, cnA' G, cn_sI, cn_sIe, cn_sA' G, kT, kH, KN G, LN G, u2_f, u2_s, w32_aa, w32_ss, w32_p1, w32_m1, Int.toNat_natCast, true_and, and_true, false_and, and_false, or_false, false_or, ne_eq, not_false_eq_true, forall_const, implies_true, not_true_eq_false, false_implies]
  refine ⟨by omega, by omega, fun z => q1 (fun c => z c.1), fun z => ⟨by omega, fun z2 => g42 z (Or.inl z2), fun z2 => ⟨by omega, fun z3 => q1 (fun c => c.2.1.elim z2 z3), fun z3 => g42 z (Or.inr z3)⟩⟩⟩
theorem s_alike (O : TOK h0 T) {ty v tz w : Int} (q1 : ¬ (ty = 3 ∧ tz = 3) → (ty = tz ∧ v = w) → Q (Sum.inl (some (vI 1))) (cn h0 T S)) (q0 : ¬ (ty = 3 ∧ tz = 3) → ¬ (ty = tz ∧ v = w) → Q (Sum.inl (some (vI 0))) (cn h0 T S)) (q2 : ty = 3 → tz = 3 → ∃ z : Int, (∀ Q' : QT, Q' (Sum.inl (some (vI z))) (cn h0 T S) → wpB PGm ρ d m_Md_compareTexts 0 [(0, vR T), (1, vI (w32 v)), (2, vI (w32 w))] [] (cn h0 T S) Q') ∧ (z = 0 → Q (Sum.inl (some (vI 1))) (cn h0 T S)) ∧ (z ≠ 0 → Q (Sum.inl (some (vI 0))) (cn h0 T S))) : wpB PGm ρ (d + 1) m_Md_alike 0 [(0, vR T), (1, vI ty), (2, vL v), (4, vI tz), (5, vL w)] [] (cn h0 T S) Q := by
  have g31 : ¬ (ty = 3 ∧ tz = 3) → wpB PGm ρ (d + 1) m_Md_alike 31 [(1, vI ty), (2, vL v), (4, vI tz), (5, vL w)] [] (cn h0 T S) Q := by
    intro k
    refine b_Md_alike_31 (b_Md_isSame_0 ⟨fun z => ⟨Or.inl rfl, q0 k (fun c => z c.1)⟩, fun z => ⟨fun z2 => ⟨Or.inl rfl, q0 k (fun c => z2 (by rw [lc_z]; exact c.2))⟩, fun z2 => ⟨Or.inr rfl, q1 k ⟨z, by rw [lc_z] at z2; exact z2⟩⟩⟩⟩)
  refine b_Md_alike_0 ⟨fun z => g31 (fun c => z c.1), fun z => ⟨fun z2 => g31 (fun c => z2 c.2), fun z2 => ⟨O.1, ?_⟩⟩⟩
  obtain ⟨u, k1, k2, k3⟩ := q2 z z2
  exact k1 _ ⟨fun y => k3 y, fun y => k2 y⟩
theorem s_cmp250 (O : TOK h0 T) (q : Q (Sum.inl none) (cn h0 T (isS S 1 v))) : wpB PGm ρ (d + 1) m_Md_compares 250 [] [vL v, vI 1, vR T] (cn h0 T S) Q := b_Md_compares_250 ⟨O.1, s_is O q⟩
theorem s_cmp65 (O : TOK h0 T) (q : Q (Sum.inl none) (cn h0 T (isS S 1 v))) : wpB PGm ρ (d + 1) m_Md_compares 65 [] [vL v, vI 1, vR T] (cn h0 T S) Q := b_Md_compares_65 ⟨O.1, s_is O q⟩
theorem s_cmp167 (O : TOK h0 T) (ho : op = 16 ∨ op = 17 ∨ op = 18 ∨ op = 19) (q1 : cmO op v → Q (Sum.inl none) (cn h0 T (isS S 1 1))) (q0 : ¬ cmO op v → Q (Sum.inl none) (cn h0 T (isS S 1 0))) : wpB PGm ρ (d + 1) m_Md_compares 167 [(0, vR T), (1, vI op)] [vI v] (cn h0 T S) Q := by
  have g1 : cmO op v → wpB PGm ρ (d + 1) m_Md_compares 236 [(0, vR T)] [vI 1] (cn h0 T S) Q := fun z => b_Md_compares_236 ⟨fun c => absurd c (by decide), fun _ => s_cmp250 O (q1 z)⟩
  have g0 : ¬ cmO op v → wpB PGm ρ (d + 1) m_Md_compares 236 [(0, vR T)] [vI 0] (cn h0 T S) Q := fun z => b_Md_compares_236 ⟨fun _ => s_cmp250 O (q0 z), fun c => absurd rfl c⟩
  unfold cmO at g1 g0
  clear q1 q0
  exact b_Md_compares_167 ⟨fun n16 => ⟨fun n17 => ⟨fun n18 => ⟨fun z => g0 (by omega), fun z => g1 (by omega)⟩, fun e18 => ⟨fun z => g0 (by omega), fun z => g1 (by omega)⟩⟩, fun e17 => ⟨fun z => g0 (by omega), fun z => g1 (by omega)⟩⟩, fun e16 => ⟨fun z => g0 (by omega), fun z => g1 (by omega)⟩⟩
theorem s_cmp121 (O : TOK h0 T) (hd : 9 ≤ d) (hx : x < 4200) (hy : y < 4200) (q1 : S f_Md_pileType x = 2 → wpB PGm ρ (d + 1) m_Md_compares 167 [(0, vR T), (1, vI op)] [vI (if S f_Md_pileValue x < S f_Md_pileValue y then -1 else if S f_Md_pileValue x = S f_Md_pileValue y then 0 else 1)] (cn h0 T S) Q) (q2 : S f_Md_pileType x ≠ 2 → ∃ z : Int, (∀ Q' : QT, Q' (Sum.inl (some (vI z))) (cn h0 T S) → wpB PGm ρ d m_Md_compareTexts 0 [(0, vR T), (1, vI (w32 (S f_Md_pileValue x))), (2, vI (w32 (S f_Md_pileValue y)))] [] (cn h0 T S) Q') ∧ wpB PGm ρ (d + 1) m_Md_compares 167 [(0, vR T), (1, vI op)] [vI z] (cn h0 T S) Q) : wpB PGm ρ (d + 1) m_Md_compares 121 [(0, vR T), (1, vI op), (2, vI (x : Int)), (3, vI (y : Int))] [] (cn h0 T S) Q := by
  obtain ⟨kT, G, kH⟩ := O
  refine b_Md_compares_121 (by omega) ?_
  simp (decide := true) (disch := first | decide | omega) only [cnI, cnIe, cnR, cnK, cnl, cnA' G, cn_sI, cn_sIe, cn_sA' G, kT, kH, KN G, LN G, u2_f, u2_s, w32_aa, w32_ss, w32_p1, w32_m1, Int.toNat_natCast, true_and, and_true, false_and, and_false, or_false, false_or, ne_eq, not_false_eq_true, forall_const, implies_true, not_true_eq_false, false_implies]
  refine ⟨by omega, fun z => ⟨by omega, by omega, ?_⟩, fun z => ⟨by omega, by omega, q1 z⟩⟩
  obtain ⟨u, k1, k2⟩ := q2 z
  exact k1 _ k2
theorem s_cmpL (O : TOK h0 T) (hd : 9 ≤ d) (ho : op = 16 ∨ op = 17 ∨ op = 18 ∨ op = 19) (hx : x < 4200) (hy : y < 4200) (q0 : ¬ (S f_Md_pileType x = S f_Md_pileType y ∧ (S f_Md_pileType x = 2 ∨ S f_Md_pileType x = 3)) → Q (Sum.inr (hR h0 f_Md_halt T)) (cn h0 T (erS S 1))) (q1 : S f_Md_pileType x = S f_Md_pileType y → (S f_Md_pileType x = 2 ∨ S f_Md_pileType x = 3) → wpB PGm ρ (d + 1) m_Md_compares 121 [(0, vR T), (1, vI op), (2, vI (x : Int)), (3, vI (y : Int))] [] (cn h0 T S) Q) : wpB PGm ρ (d + 1) m_Md_compares 0 [(0, vR T), (1, vI op), (2, vI (x : Int)), (3, vI (y : Int))] [] (cn h0 T S) Q := by
  have g1 : S f_Md_pileType x = S f_Md_pileType y → (S f_Md_pileType x = 2 ∨ S f_Md_pileType x = 3) → wpB PGm ρ (d + 1) m_Md_compares 109 [(0, vR T), (1, vI op), (2, vI (x : Int)), (3, vI (y : Int))] [vI 1] (cn h0 T S) Q := fun z z2 => b_Md_compares_109 ⟨fun _ => q1 z z2, fun c => absurd c (by decide)⟩
  have g0 : ¬ (S f_Md_pileType x = S f_Md_pileType y ∧ (S f_Md_pileType x = 2 ∨ S f_Md_pileType x = 3)) → wpB PGm ρ (d + 1) m_Md_compares 109 [(0, vR T), (1, vI op), (2, vI (x : Int)), (3, vI (y : Int))] [vI 0] (cn h0 T S) Q := by
    intro z
    refine b_Md_compares_109 ⟨fun c => absurd rfl c, fun _ => ⟨O.1, ?_⟩⟩
    obtain ⟨e, rfl⟩ : ∃ e, d = e + 1 := ⟨d - 1, by omega⟩
    refine s_error O ⟨?_, q0 z⟩
    show hK h0 _ ≠ 0
    rw [O.2.2]; decide
  clear q0 q1
  obtain ⟨kT, G, kH⟩ := O
  have n14 : ¬ op = 14 := by omega
  have n15 : ¬ op = 15 := by omega
  refine b_Md_compares_0 ⟨fun c => absurd c n14, fun _ => ⟨fun _ => ?_, fun c => absurd c n15⟩⟩
  clear ho n14 n15
  simp (decide := true) (disch := first | decide | omega) only [cnI, cnIe, cnR, cnK, cnl, cnA' G, cn_sI, cn_sIe, cn_sA' G, kT, kH, KN G, LN G, u2_f, u2_s, w32_aa, w32_ss, w32_p1, w32_m1, Int.toNat_natCast, true_and, and_true, false_and, and_false, or_false, false_or, ne_eq, not_false_eq_true, forall_const, implies_true, not_true_eq_false, false_implies]
  exact ⟨by omega, by omega, fun z => g0 (fun c => z c.1), fun z => ⟨by omega, fun z2 => g1 z (Or.inl z2), fun z2 => ⟨by omega, fun z3 => g0 (fun c => c.2.elim z2 z3), fun z3 => g1 z (Or.inr z3)⟩⟩⟩
theorem s_cmpS (O : TOK h0 T) (ho : op = 14 ∨ op = 15) (hx : x < 4200) (hy : y < 4200) {same : Prop} (q1 : same → Q (Sum.inl none) (cn h0 T (isS S 1 (if op = 14 then 1 else 0)))) (q0 : ¬ same → Q (Sum.inl none) (cn h0 T (isS S 1 (if op = 14 then 0 else 1)))) (k : ∀ Q' : QT, (same → Q' (Sum.inl (some (vI 1))) (cn h0 T S)) → (¬ same → Q' (Sum.inl (some (vI 0))) (cn h0 T S)) → wpB PGm ρ (d + 1) m_Md_alike 0 [(0, vR T), (1, vI (S f_Md_pileType x)), (2, vL (S f_Md_pileValue x)), (4, vI (S f_Md_pileType y)), (5, vL (S f_Md_pileValue y))] [] (cn h0 T S) Q') : wpB PGm ρ (d + 2) m_Md_compares 0 [(0, vR T), (1, vI op), (2, vI (x : Int)), (3, vI (y : Int))] [] (cn h0 T S) Q := by
  have g65 : ∀ v, (same → v = if op = 14 then 1 else 0) → (¬ same → v = if op = 14 then 0 else 1) → wpB PGm ρ (d + 2) m_Md_compares 65 [] [vL v, vI 1, vR T] (cn h0 T S) Q := by
    intro v h1 h2
    by_cases z : same
    · rw [h1 z]; exact s_cmp65 O (q1 z)
    · rw [h2 z]; exact s_cmp65 O (q0 z)
  have g12 : wpB PGm ρ (d + 2) m_Md_compares 12 [(0, vR T), (1, vI op), (2, vI (x : Int)), (3, vI (y : Int))] [] (cn h0 T S) Q := by
    clear q1 q0
    obtain ⟨kT, G, kH⟩ := O
    have O' : TOK h0 T := ⟨kT, G, kH⟩
    refine b_Md_compares_12 ?_
    simp (decide := true) (disch := first | decide | omega) only [cnI, cnIe, cnR, cnK, cnl, cnA' G, cn_sI, cn_sIe, cn_sA' G, kT, kH, KN G, LN G, u2_f, u2_s, w32_aa, w32_ss, w32_p1, w32_m1, Int.toNat_natCast, true_and, and_true, false_and, and_false, or_false, false_or, ne_eq, not_false_eq_true, forall_const, implies_true, not_true_eq_false, false_implies]
    refine ⟨by omega, by omega, by omega, by omega, k _ (fun z => ?_) (fun z => ?_)⟩
    · refine ⟨fun z2 => b_Md_compares_57 ⟨fun _ => g65 _ (fun _ => ?_) (fun c => absurd z c), fun c => absurd c (by decide)⟩, fun z2 => b_Md_compares_57 ⟨fun c => absurd rfl c, fun _ => g65 _ (fun _ => ?_) (fun c => absurd z c)⟩⟩
      · rw [if_neg z2]
      · rw [if_pos z2]
    · refine ⟨fun z2 => b_Md_compares_57 ⟨fun c => absurd rfl c, fun _ => g65 _ (fun c => absurd c z) (fun _ => ?_)⟩, fun z2 => b_Md_compares_57 ⟨fun _ => g65 _ (fun c => absurd c z) (fun _ => ?_), fun c => absurd c (by decide)⟩⟩
      · rw [if_neg z2]
      · rw [if_pos z2]
  exact b_Md_compares_0 ⟨fun _ => g12, fun z => ⟨fun z2 => by omega, fun _ => g12⟩⟩
end
