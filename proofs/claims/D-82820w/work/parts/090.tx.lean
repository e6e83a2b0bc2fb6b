/-! T: small methods, by its rows -/
set_option maxRecDepth 20000
theorem w32_aa {a b : Nat} (h : a + b ≤ 2000000000) : w32 ((a : Int) + (b : Int)) = ((a + b : Nat) : Int) := by rw [w32_of (by omega) (by omega)]; omega
theorem w32_ss {a b : Nat} (h : b ≤ a ∧ a ≤ 2000000000) : w32 ((a : Int) - (b : Int)) = ((a - b : Nat) : Int) := by rw [w32_of (by omega) (by omega)]; omega
theorem w32_p1 {a : Nat} (h : a ≤ 2000000000) : w32 ((a : Int) + 1) = ((a + 1 : Nat) : Int) := w32_s h
theorem w32_m1 {a : Nat} (h : 1 ≤ a ∧ a ≤ 2000000000) : w32 ((a : Int) - 1) = ((a - 1 : Nat) : Int) := by rw [w32_of (by omega) (by omega)]; omega
abbrev SS : Type := Nat → Nat → Int
/-- T's object is whole -/
def TOK (h0 : ah) (T : Nat) : Prop := hK h0 T = k_Md ∧ TT h0 T ∧ hK h0 (hR h0 f_Md_halt T) = k_MdHalt
/-- T's task at hand is t, with n values on its pile and c calls -/
def TF (S : SS) (t n c : Nat) : Prop := S f_Md_t 0 = (t : Int) ∧ S f_Md_p0 0 = ((2100 * t : Nat) : Int) ∧ S f_Md_f0 0 = ((200 * t : Nat) : Int) ∧ S f_Md_height t = (n : Int) ∧ S f_Md_frames t = (c : Int)
/-- an error, the end of memory -/
def erS (S : SS) (n : Int) : SS := u2 (u2 S f_MdHalt_number 0 n) f_MdHalt_place 0 0
def pshS (S : SS) (t n : Nat) (ty v : Int) : SS := u2 (u2 (u2 S f_Md_pileType (2100 * t + n) ty) f_Md_pileValue (2100 * t + n) v) f_Md_height t ((n + 1 : Nat) : Int)
def isS (S : SS) (ty v : Int) : SS := u2 (u2 S f_Md_type 0 ty) f_Md_value 0 v
def popS (S : SS) (t n : Nat) : SS := isS (u2 S f_Md_height t ((n - 1 : Nat) : Int)) (S f_Md_pileType (2100 * t + (n - 1))) (S f_Md_pileValue (2100 * t + (n - 1)))
section
variable {ρ : Nat → Nat} {d : Nat} {h h' h0 : ah} {Q : QT} {T k f g a n c t i j x : Nat} {v w : Int} {S X : SS}
theorem s_h (O : TOK h0 T) (F : TF S t n c) (ht : t ≤ 1) (hn : n ≤ 2100) (q : Q (Sum.inl (some (vI ((2100 * t + n : Nat) : Int)))) (cn h0 T S)) : wpB PGm ρ d m_Md_h 0 [(0, vR T)] [] (cn h0 T S) Q := by
  obtain ⟨kT, G, kH⟩ := O
  obtain ⟨e1, e2, e3, e4, e5⟩ := F
  refine b_Md_h_0 ?_
  simp (decide := true) (disch := first | decide | omega) only [cnI, cnIe, cnR, cnK, cnl, cnA' G, cn_sI, cn_sIe, cn_sA' G, kT, kH, KN G, LN G, u2_f, u2_s, w32_aa, w32_ss, w32_p1, w32_m1, Int.toNat_natCast, true_and, and_true, false_and, and_false, or_false, false_or, ne_eq, not_false_eq_true, forall_const, implies_true, not_true_eq_false, false_implies, e1, e2, e3, e4, e5]
  exact ⟨by omega, q⟩
theorem s_error (O : TOK h0 T) (q : Q (Sum.inr (hR h0 f_Md_halt T)) (cn h0 T (erS S v))) : wpB PGm ρ (d + 1) m_Md_error 0 [(0, vR T), (1, vI v)] [] (cn h0 T S) Q := by
  obtain ⟨kT, G, kH⟩ := O
  refine b_Md_error_0 ?_
  simp (decide := true) (disch := first | decide | omega) only [cnI, cnIe, cnR, cnK, cnl, cnA' G, cn_sI, cn_sIe, cn_sA' G, kT, kH, KN G, LN G, u2_f, u2_s, w32_aa, w32_ss, w32_p1, w32_m1, Int.toNat_natCast, true_and, and_true, false_and, and_false, or_false, false_or, ne_eq, not_false_eq_true, forall_const, implies_true, not_true_eq_false, false_implies]
  refine b_MdHalt_of_0 ?_
  simp (decide := true) (disch := first | decide | omega) only [cnI, cnIe, cnR, cnK, cnl, cnA' G, cn_sI, cn_sIe, cn_sA' G, kT, kH, KN G, LN G, u2_f, u2_s, w32_aa, w32_ss, w32_p1, w32_m1, Int.toNat_natCast, true_and, and_true, false_and, and_false, or_false, false_or, ne_eq, not_false_eq_true, forall_const, implies_true, not_true_eq_false, false_implies, cR]
  exact q
theorem s_room (O : TOK h0 T) (q1 : v ≠ 0 → Q (Sum.inl none) (cn h0 T S)) (q0 : v = 0 → Q (Sum.inr (hR h0 f_Md_halt T)) (cn h0 T (erS S 99))) : wpB PGm ρ (d + 1) m_Md_room 0 [(0, vR T), (1, vI v)] [] (cn h0 T S) Q := by
  obtain ⟨kT, G, kH⟩ := O
  refine b_Md_room_0 ⟨q1, fun e => ?_⟩
  simp (decide := true) (disch := first | decide | omega) only [cnI, cnIe, cnR, cnK, cnl, cnA' G, cn_sI, cn_sIe, cn_sA' G, kT, kH, KN G, LN G, u2_f, u2_s, w32_aa, w32_ss, w32_p1, w32_m1, Int.toNat_natCast, true_and, and_true, false_and, and_false, or_false, false_or, ne_eq, not_false_eq_true, forall_const, implies_true, not_true_eq_false, false_implies]
  refine b_MdHalt_of_0 ?_
  simp (decide := true) (disch := first | decide | omega) only [cnI, cnIe, cnR, cnK, cnl, cnA' G, cn_sI, cn_sIe, cn_sA' G, kT, kH, KN G, LN G, u2_f, u2_s, w32_aa, w32_ss, w32_p1, w32_m1, Int.toNat_natCast, true_and, and_true, false_and, and_false, or_false, false_or, ne_eq, not_false_eq_true, forall_const, implies_true, not_true_eq_false, false_implies, cR]
  exact q0 e
theorem s_is (O : TOK h0 T) (q : Q (Sum.inl none) (cn h0 T (isS S v w))) : wpB PGm ρ d m_Md_is 0 [(0, vR T), (1, vI v), (2, vL w)] [] (cn h0 T S) Q := by
  obtain ⟨kT, G, kH⟩ := O
  refine b_Md_is_0 ?_
  simp (decide := true) (disch := first | decide | omega) only [cnI, cnIe, cnR, cnK, cnl, cnA' G, cn_sI, cn_sIe, cn_sA' G, kT, kH, KN G, LN G, u2_f, u2_s, w32_aa, w32_ss, w32_p1, w32_m1, Int.toNat_natCast, true_and, and_true, false_and, and_false, or_false, false_or, ne_eq, not_false_eq_true, forall_const, implies_true, not_true_eq_false, false_implies]
  exact q
theorem s_mayPile (O : TOK h0 T) (F : TF S t n c) (ht : t ≤ 1) (q1 : n < 2000 → Q (Sum.inl none) (cn h0 T S)) (q0 : 2000 ≤ n → Q (Sum.inr (hR h0 f_Md_halt T)) (cn h0 T (erS S 11))) : wpB PGm ρ (d + 2) m_Md_mayPile 0 [(0, vR T)] [] (cn h0 T S) Q := by
  have O' := O
  obtain ⟨kT, G, kH⟩ := O
  obtain ⟨e1, e2, e3, e4, e5⟩ := F
  refine b_Md_mayPile_0 ?_
  simp (decide := true) (disch := first | decide | omega) only [cnI, cnIe, cnR, cnK, cnl, cnA' G, cn_sI, cn_sIe, cn_sA' G, kT, kH, KN G, LN G, u2_f, u2_s, w32_aa, w32_ss, w32_p1, w32_m1, Int.toNat_natCast, true_and, and_true, false_and, and_false, or_false, false_or, ne_eq, not_false_eq_true, forall_const, implies_true, not_true_eq_false, false_implies, e1, e2, e3, e4, e5]
  refine ⟨by omega, fun z => q1 (by omega), fun z => s_error O' ?_⟩
  simp (decide := true) (disch := first | decide | omega) only [cnI, cnIe, cnR, cnK, cnl, cnA' G, cn_sI, cn_sIe, cn_sA' G, kT, kH, KN G, LN G, u2_f, u2_s, w32_aa, w32_ss, w32_p1, w32_m1, Int.toNat_natCast, true_and, and_true, false_and, and_false, or_false, false_or, ne_eq, not_false_eq_true, forall_const, implies_true, not_true_eq_false, false_implies, cV]
  exact q0 (by omega)
theorem s_push (O : TOK h0 T) (F : TF S t n c) (ht : t ≤ 1) (hn : n < 2100) (q : Q (Sum.inl none) (cn h0 T (pshS S t n v w))) : wpB PGm ρ (d + 1) m_Md_push 0 [(0, vR T), (1, vI v), (2, vL w)] [] (cn h0 T S) Q := by
  have O' := O
  have F' := F
  obtain ⟨kT, G, kH⟩ := O
  obtain ⟨e1, e2, e3, e4, e5⟩ := F
  refine b_Md_push_0 ?_
  simp (decide := true) (disch := first | decide | omega) only [cnI, cnIe, cnR, cnK, cnl, cnA' G, cn_sI, cn_sIe, cn_sA' G, kT, kH, KN G, LN G, u2_f, u2_s, w32_aa, w32_ss, w32_p1, w32_m1, Int.toNat_natCast, true_and, and_true, false_and, and_false, or_false, false_or, ne_eq, not_false_eq_true, forall_const, implies_true, not_true_eq_false, false_implies]
  refine s_h O' F' ht (by omega) ?_
  simp (decide := true) (disch := first | decide | omega) only [cnI, cnIe, cnR, cnK, cnl, cnA' G, cn_sI, cn_sIe, cn_sA' G, kT, kH, KN G, LN G, u2_f, u2_s, w32_aa, w32_ss, w32_p1, w32_m1, Int.toNat_natCast, true_and, and_true, false_and, and_false, or_false, false_or, ne_eq, not_false_eq_true, forall_const, implies_true, not_true_eq_false, false_implies, cI]
  refine ⟨by omega, s_h O' (t := t) (n := n) (c := c) ⟨by simp (decide := true) (disch := first | decide | omega) only [cnI, cnIe, cnR, cnK, cnl, cnA' G, cn_sI, cn_sIe, cn_sA' G, kT, kH, KN G, LN G, u2_f, u2_s, w32_aa, w32_ss, w32_p1, w32_m1, Int.toNat_natCast, true_and, and_true, false_and, and_false, or_false, false_or, ne_eq, not_false_eq_true, forall_const, implies_true, not_true_eq_false, false_implies, e1], by simp (decide := true) (disch := first | decide | omega) only [cnI, cnIe, cnR, cnK, cnl, cnA' G, cn_sI, cn_sIe, cn_sA' G, kT, kH, KN G, LN G, u2_f, u2_s, w32_aa, w32_ss, w32_p1, w32_m1, Int.toNat_natCast, true_and, and_true, false_and, and_false, or_false, false_or, ne_eq, not_false_eq_true, forall_const, implies_true, not_true_eq_false, false_implies, e2], by simp (decide := true) (disch := first | decide | omega) only [cnI, cnIe, cnR, cnK, cnl, cnA' G, cn_sI, cn_sIe, cn_sA' G, kT, kH, KN G, LN G, u2_f, u2_s, w32_aa, w32_ss, w32_p1, w32_m1, Int.toNat_natCast, true_and, and_true, false_and, and_false, or_false, false_or, ne_eq, not_false_eq_true, forall_const, implies_true, not_true_eq_false, false_implies, e3], by simp (decide := true) (disch := first | decide | omega) only [cnI, cnIe, cnR, cnK, cnl, cnA' G, cn_sI, cn_sIe, cn_sA' G, kT, kH, KN G, LN G, u2_f, u2_s, w32_aa, w32_ss, w32_p1, w32_m1, Int.toNat_natCast, true_and, and_true, false_and, and_false, or_false, false_or, ne_eq, not_false_eq_true, forall_const, implies_true, not_true_eq_false, false_implies, e4], by simp (decide := true) (disch := first | decide | omega) only [cnI, cnIe, cnR, cnK, cnl, cnA' G, cn_sI, cn_sIe, cn_sA' G, kT, kH, KN G, LN G, u2_f, u2_s, w32_aa, w32_ss, w32_p1, w32_m1, Int.toNat_natCast, true_and, and_true, false_and, and_false, or_false, false_or, ne_eq, not_false_eq_true, forall_const, implies_true, not_true_eq_false, false_implies, e5]⟩ ht (by omega) ?_⟩
  simp (decide := true) (disch := first | decide | omega) only [cnI, cnIe, cnR, cnK, cnl, cnA' G, cn_sI, cn_sIe, cn_sA' G, kT, kH, KN G, LN G, u2_f, u2_s, w32_aa, w32_ss, w32_p1, w32_m1, Int.toNat_natCast, true_and, and_true, false_and, and_false, or_false, false_or, ne_eq, not_false_eq_true, forall_const, implies_true, not_true_eq_false, false_implies, cI, e1, e4]
  exact ⟨by omega, by omega, by omega, q⟩
theorem s_pop (O : TOK h0 T) (F : TF S t n c) (ht : t ≤ 1) (hn : n ≤ 2100) (h1 : 1 ≤ n) (q : Q (Sum.inl none) (cn h0 T (popS S t n))) : wpB PGm ρ (d + 1) m_Md_pop 0 [(0, vR T)] [] (cn h0 T S) Q := by
  have O' := O
  obtain ⟨kT, G, kH⟩ := O
  obtain ⟨e1, e2, e3, e4, e5⟩ := F
  refine b_Md_pop_0 ?_
  simp (decide := true) (disch := first | decide | omega) only [cnI, cnIe, cnR, cnK, cnl, cnA' G, cn_sI, cn_sIe, cn_sA' G, kT, kH, KN G, LN G, u2_f, u2_s, w32_aa, w32_ss, w32_p1, w32_m1, Int.toNat_natCast, true_and, and_true, false_and, and_false, or_false, false_or, ne_eq, not_false_eq_true, forall_const, implies_true, not_true_eq_false, false_implies, e1, e4]
  have F1 : TF (u2 S f_Md_height t ((n - 1 : Nat) : Int)) t (n - 1) c := ⟨by simp (decide := true) (disch := first | decide | omega) only [cnI, cnIe, cnR, cnK, cnl, cnA' G, cn_sI, cn_sIe, cn_sA' G, kT, kH, KN G, LN G, u2_f, u2_s, w32_aa, w32_ss, w32_p1, w32_m1, Int.toNat_natCast, true_and, and_true, false_and, and_false, or_false, false_or, ne_eq, not_false_eq_true, forall_const, implies_true, not_true_eq_false, false_implies, e1], by simp (decide := true) (disch := first | decide | omega) only [cnI, cnIe, cnR, cnK, cnl, cnA' G, cn_sI, cn_sIe, cn_sA' G, kT, kH, KN G, LN G, u2_f, u2_s, w32_aa, w32_ss, w32_p1, w32_m1, Int.toNat_natCast, true_and, and_true, false_and, and_false, or_false, false_or, ne_eq, not_false_eq_true, forall_const, implies_true, not_true_eq_false, false_implies, e2], by simp (decide := true) (disch := first | decide | omega) only [cnI, cnIe, cnR, cnK, cnl, cnA' G, cn_sI, cn_sIe, cn_sA' G, kT, kH, KN G, LN G, u2_f, u2_s, w32_aa, w32_ss, w32_p1, w32_m1, Int.toNat_natCast, true_and, and_true, false_and, and_false, or_false, false_or, ne_eq, not_false_eq_true, forall_const, implies_true, not_true_eq_false, false_implies, e3], by simp (decide := true) (disch := first | decide | omega) only [cnI, cnIe, cnR, cnK, cnl, cnA' G, cn_sI, cn_sIe, cn_sA' G, kT, kH, KN G, LN G, u2_f, u2_s, w32_aa, w32_ss, w32_p1, w32_m1, Int.toNat_natCast, true_and, and_true, false_and, and_false, or_false, false_or, ne_eq, not_false_eq_true, forall_const, implies_true, not_true_eq_false, false_implies], by simp (decide := true) (disch := first | decide | omega) only [cnI, cnIe, cnR, cnK, cnl, cnA' G, cn_sI, cn_sIe, cn_sA' G, kT, kH, KN G, LN G, u2_f, u2_s, w32_aa, w32_ss, w32_p1, w32_m1, Int.toNat_natCast, true_and, and_true, false_and, and_false, or_false, false_or, ne_eq, not_false_eq_true, forall_const, implies_true, not_true_eq_false, false_implies, e5]⟩
  refine ⟨by omega, by omega, s_h O' F1 ht (by omega) ?_⟩
  simp (decide := true) (disch := first | decide | omega) only [cnI, cnIe, cnR, cnK, cnl, cnA' G, cn_sI, cn_sIe, cn_sA' G, kT, kH, KN G, LN G, u2_f, u2_s, w32_aa, w32_ss, w32_p1, w32_m1, Int.toNat_natCast, true_and, and_true, false_and, and_false, or_false, false_or, ne_eq, not_false_eq_true, forall_const, implies_true, not_true_eq_false, false_implies, cI]
  refine ⟨by omega, s_h O' F1 ht (by omega) ?_⟩
  simp (decide := true) (disch := first | decide | omega) only [cnI, cnIe, cnR, cnK, cnl, cnA' G, cn_sI, cn_sIe, cn_sA' G, kT, kH, KN G, LN G, u2_f, u2_s, w32_aa, w32_ss, w32_p1, w32_m1, Int.toNat_natCast, true_and, and_true, false_and, and_false, or_false, false_or, ne_eq, not_false_eq_true, forall_const, implies_true, not_true_eq_false, false_implies, cI]
  refine ⟨by omega, s_is O' q⟩
theorem s_isNot (q1 : v = 0 ∨ (v = 1 ∧ w = 0) → Q (Sum.inl (some (vI 1))) h) (q0 : ¬ (v = 0 ∨ (v = 1 ∧ w = 0)) → Q (Sum.inl (some (vI 0))) h) : wpB PGm ρ d m_Md_isNot 0 [(0, vR T), (1, vI v), (2, vL w)] [] h Q := by
  refine b_Md_isNot_0 ⟨fun e => q1 (Or.inl e), fun e => ⟨fun e1 => q0 (by omega), fun e1 => ⟨fun e2 => q0 ?_, fun e2 => q1 ?_⟩⟩⟩
  · rw [lc_z] at e2; omega
  · rw [lc_z] at e2; omega
theorem s_hasRoomFor (O : TOK h0 T) {n : Nat} (e1 : S f_Md_allMade 0 = (a : Int)) (ha : a ≤ 100000) (hn : n ≤ 100000) (q1 : a + n ≤ 8000 → Q (Sum.inl (some (vI 1))) (cn h0 T S)) (q0 : 8000 < a + n → Q (Sum.inl (some (vI 0))) (cn h0 T S)) : wpB PGm ρ d m_Md_hasRoomFor 0 [(0, vR T), (1, vI (n : Int))] [] (cn h0 T S) Q := by
  obtain ⟨kT, G, kH⟩ := O
  refine b_Md_hasRoomFor_0 ?_
  simp (decide := true) (disch := first | decide | omega) only [cnI, cnIe, cnR, cnK, cnl, cnA' G, cn_sI, cn_sIe, cn_sA' G, kT, kH, KN G, LN G, u2_f, u2_s, w32_aa, w32_ss, w32_p1, w32_m1, Int.toNat_natCast, true_and, and_true, false_and, and_false, or_false, false_or, ne_eq, not_false_eq_true, forall_const, implies_true, not_true_eq_false, false_implies, e1]
  exact ⟨fun z => q0 (by omega), fun z => q1 (by omega)⟩
theorem s_hasShape (q1 : v = 4 ∨ v = 5 → Q (Sum.inl (some (vI 1))) h) (q0 : ¬ (v = 4 ∨ v = 5) → Q (Sum.inl (some (vI 0))) h) : wpB PGm ρ d m_Md_hasShape 0 [(0, vR T), (1, vI v)] [] h Q :=
  b_Md_hasShape_0 ⟨fun e => q1 (Or.inl e), fun e => ⟨fun e1 => q0 (by omega), fun e1 => q1 (Or.inr e1)⟩⟩
theorem s_in {x y z : Int} (q1 : y ≤ x ∧ x ≤ z → Q (Sum.inl (some (vI 1))) h) (q0 : ¬ (y ≤ x ∧ x ≤ z) → Q (Sum.inl (some (vI 0))) h) : wpB PGm ρ d m_Md_in 0 [(0, vL x), (2, vL y), (4, vL z)] [] h Q := by
  refine b_Md_in_0 ⟨fun e => q0 ?_, fun e => ⟨fun e1 => q0 ?_, fun e1 => q1 ?_⟩⟩
  · rw [lc_n] at e; omega
  · rw [lc_p] at e1; omega
  · rw [lc_nn] at e; rw [lc_np] at e1; omega
theorem s_setsVariable (O : TOK h0 T) {ty v : Int} (hx : x < 60000) (q : Q (Sum.inl none) (cn h0 T (u2 (u2 S f_Md_variableTypes x ty) f_Md_variableValue x v))) : wpB PGm ρ d m_Md_setsVariable 0 [(0, vR T), (1, vI (x : Int)), (2, vI ty), (3, vL v)] [] (cn h0 T S) Q := by
  obtain ⟨kT, G, kH⟩ := O
  refine b_Md_setsVariable_0 ?_
  simp (decide := true) (disch := first | decide | omega) only [cnI, cnIe, cnR, cnK, cnl, cnA' G, cn_sI, cn_sIe, cn_sA' G, kT, kH, KN G, LN G, u2_f, u2_s, w32_aa, w32_ss, w32_p1, w32_m1, Int.toNat_natCast, true_and, and_true, false_and, and_false, or_false, false_or, ne_eq, not_false_eq_true, forall_const, implies_true, not_true_eq_false, false_implies]
  exact ⟨by omega, by omega, q⟩
theorem s_put (O : TOK h0 T) {ty v : Int} (hx : x < 4200) (q : Q (Sum.inl none) (cn h0 T (u2 (u2 S f_Md_pileType x ty) f_Md_pileValue x v))) : wpB PGm ρ d m_Md_put 0 [(0, vR T), (1, vI (x : Int)), (2, vI ty), (3, vL v)] [] (cn h0 T S) Q := by
  obtain ⟨kT, G, kH⟩ := O
  refine b_Md_put_0 ?_
  simp (decide := true) (disch := first | decide | omega) only [cnI, cnIe, cnR, cnK, cnl, cnA' G, cn_sI, cn_sIe, cn_sA' G, kT, kH, KN G, LN G, u2_f, u2_s, w32_aa, w32_ss, w32_p1, w32_m1, Int.toNat_natCast, true_and, and_true, false_and, and_false, or_false, false_or, ne_eq, not_false_eq_true, forall_const, implies_true, not_true_eq_false, false_implies]
  exact ⟨by omega, by omega, q⟩
end
