/-! T: instructions, by its rows -/
set_option maxRecDepth 20000
def upN (S : SS) : Nat → Nat → Nat
  | 0, c => c
  | j + 1, c => (S f_Md_around (upN S j c)).toNat
def tpS (S : SS) (t n : Nat) : Int := S f_Md_pileType (2100 * t + n - 1)
def vpS (S : SS) (t n : Nat) : Int := S f_Md_pileValue (2100 * t + n - 1)
def tp2 (S : SS) (t n : Nat) : Int := S f_Md_pileType (2100 * t + n - 1 - 1)
def vp2 (S : SS) (t n : Nat) : Int := S f_Md_pileValue (2100 * t + n - 1 - 1)
def isNo (ty v : Int) : Prop := ty = 0 ∨ (ty = 1 ∧ v = 0)
section
variable {ρ : Nat → Nat} {d : Nat} {h h' h0 : ah} {Q : QT} {T k f g n c t i j x p : Nat} {op b v w : Int} {S X : SS}
theorem s_callOut (O : TOK h0 T) {a c0 : Nat} (e1 : S f_Md_top 0 = (x : Int)) (hx : x < 400) (e2 : S f_Md_frameAround x = (c0 : Int)) (ha : a ≤ 1000) (hb : ∀ j, j ≤ a → upN S j c0 < 8000) (hp : ∀ j, j < a → 0 ≤ S f_Md_around (upN S j c0)) (q : Q (Sum.inl (some (vI (upN S a c0 : Int)))) (cn h0 T S)) : wpB PGm ρ d m_Md_callOut 0 [(0, vR T), (1, vI (a : Int))] [] (cn h0 T S) Q := by
  obtain ⟨kT, G, kH⟩ := O
  have lp : ∀ m j, a - j < m → j ≤ a → wpB PGm ρ d m_Md_callOut 12 [(0, vR T), (1, vI (a : Int)), (2, vI (upN S j c0 : Int)), (3, vI (j : Int))] [] (cn h0 T S) Q := by
    intro m
    induction m with
    | zero => intro j hm; omega
    | succ m ih =>
      intro j hm hj
      refine b_Md_callOut_12 ⟨fun z => ?_, fun z => ?_⟩
      · have : j = a := by omega
        subst this; exact q
      · have := hb j hj
        simp (decide := true) (disch := first | decide | omega) only [cnI, cnIe, cnR, cnK, cnl, cnA' G, cn_sI, cn_sIe, cn_sA' G, kT, kH, KN G, LN G, u2_f, u2_s, w32_aa, w32_ss, w32_p1, w32_m1, Int.toNat_natCast, true_and, and_true, false_and, and_false, or_false, false_or, ne_eq, not_false_eq_true, forall_const, implies_true, not_true_eq_false, false_implies]
        refine ⟨by omega, ?_⟩
        have e : S f_Md_around (upN S j c0) = (upN S (j + 1) c0 : Int) := by
          show _ = ((S f_Md_around (upN S j c0)).toNat : Int)
          have := hp j (by omega); omega
        rw [e]
        exact ih (j + 1) (by omega) (by omega)
  refine b_Md_callOut_0 ?_
  simp (decide := true) (disch := first | decide | omega) only [cnI, cnIe, cnR, cnK, cnl, cnA' G, cn_sI, cn_sIe, cn_sA' G, kT, kH, KN G, LN G, u2_f, u2_s, w32_aa, w32_ss, w32_p1, w32_m1, Int.toNat_natCast, true_and, and_true, false_and, and_false, or_false, false_or, ne_eq, not_false_eq_true, forall_const, implies_true, not_true_eq_false, false_implies, e1, e2]
  exact ⟨by omega, lp _ 0 (Nat.lt_succ_self _) (by omega)⟩
theorem s_LOAD (O : TOK h0 T) {a b c0 y : Nat} (D : DF S t n c f p k 1 (a : Int) (b : Int)) (e0 : S f_Md_frameAround (200 * t + (c - 1)) = (c0 : Int)) (ha : a ≤ 1000) (hb : ∀ j, j ≤ a → upN S j c0 < 8000) (hp : ∀ j, j < a → 0 ≤ S f_Md_around (upN S j c0)) (ev : S f_Md_variablesFrom (upN S a c0) = (y : Int)) (hy : y + b < 60000) (q1 : n < 2000 → Q (Sum.inl none) (cn h0 T (atS (pshS S t n (S f_Md_variableTypes (y + b)) (S f_Md_variableValue (y + b))) t c ((p + 1 : Nat) : Int)))) (q0 : n = 2000 → Q (Sum.inr (hR h0 f_Md_halt T)) (cn h0 T (erS S 11))) : wpB PGm ρ (d + 8) m_Md_does 0 [(0, vR T)] [] (cn h0 T S) Q := by
  have O' := O
  refine s_does_var O D (by omega) ?_
  obtain ⟨kT, G, kH⟩ := O
  obtain ⟨F, ⟨d1, d2, d3, d4, d5, d6⟩, e1, e2, e3, e4, e5, e6, e7, e8⟩ := D
  have := hb a (by omega)
  refine b_Md_variables_0 ?_
  simp (decide := true) (disch := first | decide | omega) only [cnI, cnIe, cnR, cnK, cnl, cnA' G, cn_sI, cn_sIe, cn_sA' G, kT, kH, KN G, LN G, u2_f, u2_s, w32_aa, w32_ss, w32_p1, w32_m1, Int.toNat_natCast, true_and, and_true, false_and, and_false, or_false, false_or, ne_eq, not_false_eq_true, forall_const, implies_true, not_true_eq_false, false_implies]
  refine b_Md_variables_10 ?_
  simp (decide := true) (disch := first | decide | omega) only [cnI, cnIe, cnR, cnK, cnl, cnA' G, cn_sI, cn_sIe, cn_sA' G, kT, kH, KN G, LN G, u2_f, u2_s, w32_aa, w32_ss, w32_p1, w32_m1, Int.toNat_natCast, true_and, and_true, false_and, and_false, or_false, false_or, ne_eq, not_false_eq_true, forall_const, implies_true, not_true_eq_false, false_implies]
  refine s_callOut O' e1 (by omega) e0 ha hb hp ?_
  simp (decide := true) (disch := first | decide | omega) only [cnI, cnIe, cnR, cnK, cnl, cnA' G, cn_sI, cn_sIe, cn_sA' G, kT, kH, KN G, LN G, u2_f, u2_s, w32_aa, w32_ss, w32_p1, w32_m1, Int.toNat_natCast, true_and, and_true, false_and, and_false, or_false, false_or, ne_eq, not_false_eq_true, forall_const, implies_true, not_true_eq_false, false_implies, cI, ev]
  refine ⟨by omega, b_Md_variables_26 ?_⟩
  simp (decide := true) (disch := first | decide | omega) only [cnI, cnIe, cnR, cnK, cnl, cnA' G, cn_sI, cn_sIe, cn_sA' G, kT, kH, KN G, LN G, u2_f, u2_s, w32_aa, w32_ss, w32_p1, w32_m1, Int.toNat_natCast, true_and, and_true, false_and, and_false, or_false, false_or, ne_eq, not_false_eq_true, forall_const, implies_true, not_true_eq_false, false_implies]
  refine s_h O' F d1 (by omega) ?_
  simp (decide := true) (disch := first | decide | omega) only [cnI, cnIe, cnR, cnK, cnl, cnA' G, cn_sI, cn_sIe, cn_sA' G, kT, kH, KN G, LN G, u2_f, u2_s, w32_aa, w32_ss, w32_p1, w32_m1, Int.toNat_natCast, true_and, and_true, false_and, and_false, or_false, false_or, ne_eq, not_false_eq_true, forall_const, implies_true, not_true_eq_false, false_implies, cI]
  refine s_mayPile O' F d1 (fun z => ?_) (fun z => ?_)
  · simp (decide := true) (disch := first | decide | omega) only [cnI, cnIe, cnR, cnK, cnl, cnA' G, cn_sI, cn_sIe, cn_sA' G, kT, kH, KN G, LN G, u2_f, u2_s, w32_aa, w32_ss, w32_p1, w32_m1, Int.toNat_natCast, true_and, and_true, false_and, and_false, or_false, false_or, ne_eq, not_false_eq_true, forall_const, implies_true, not_true_eq_false, false_implies, cV]
    refine ⟨by omega, by omega, s_push O' F d1 (by omega) ?_⟩
    simp (decide := true) (disch := first | decide | omega) only [cnI, cnIe, cnR, cnK, cnl, cnA' G, cn_sI, cn_sIe, cn_sA' G, kT, kH, KN G, LN G, u2_f, u2_s, w32_aa, w32_ss, w32_p1, w32_m1, Int.toNat_natCast, true_and, and_true, false_and, and_false, or_false, false_or, ne_eq, not_false_eq_true, forall_const, implies_true, not_true_eq_false, false_implies, cV]
    refine s_d137 (v := ((p + 1 : Nat) : Int)) (t := t) (c := c) O' ?_ ?_ d1 (by omega) (q1 z)
    · unfold pshS; simp (decide := true) (disch := first | decide | omega) only [cnI, cnIe, cnR, cnK, cnl, cnA' G, cn_sI, cn_sIe, cn_sA' G, kT, kH, KN G, LN G, u2_f, u2_s, w32_aa, w32_ss, w32_p1, w32_m1, Int.toNat_natCast, true_and, and_true, false_and, and_false, or_false, false_or, ne_eq, not_false_eq_true, forall_const, implies_true, not_true_eq_false, false_implies, e1]
    · unfold pshS; simp (decide := true) (disch := first | decide | omega) only [cnI, cnIe, cnR, cnK, cnl, cnA' G, cn_sI, cn_sIe, cn_sA' G, kT, kH, KN G, LN G, u2_f, u2_s, w32_aa, w32_ss, w32_p1, w32_m1, Int.toNat_natCast, true_and, and_true, false_and, and_false, or_false, false_or, ne_eq, not_false_eq_true, forall_const, implies_true, not_true_eq_false, false_implies, e2]
  · simp (decide := true) (disch := first | decide | omega) only [cnI, cnIe, cnR, cnK, cnl, cnA' G, cn_sI, cn_sIe, cn_sA' G, kT, kH, KN G, LN G, u2_f, u2_s, w32_aa, w32_ss, w32_p1, w32_m1, Int.toNat_natCast, true_and, and_true, false_and, and_false, or_false, false_or, ne_eq, not_false_eq_true, forall_const, implies_true, not_true_eq_false, false_implies, cV]
    exact q0 (by omega)
theorem s_STORE (O : TOK h0 T) {a b c0 y : Nat} (D : DF S t n c f p k 2 (a : Int) (b : Int)) (e0 : S f_Md_frameAround (200 * t + (c - 1)) = (c0 : Int)) (ha : a ≤ 1000) (hb : ∀ j, j ≤ a → upN S j c0 < 8000) (hp : ∀ j, j < a → 0 ≤ S f_Md_around (upN S j c0)) (ev : S f_Md_variablesFrom (upN S a c0) = (y : Int)) (hy : y + b < 60000) (hn : 1 ≤ n) (q : Q (Sum.inl none) (cn h0 T (atS (u2 (u2 S f_Md_variableTypes (y + b) (tpS S t n)) f_Md_variableValue (y + b) (vpS S t n)) t c ((p + 1 : Nat) : Int)))) : wpB PGm ρ (d + 8) m_Md_does 0 [(0, vR T)] [] (cn h0 T S) Q := by
  have O' := O
  refine s_does_var O D (by omega) ?_
  obtain ⟨kT, G, kH⟩ := O
  obtain ⟨F, ⟨d1, d2, d3, d4, d5, d6⟩, e1, e2, e3, e4, e5, e6, e7, e8⟩ := D
  have := hb a (by omega)
  refine b_Md_variables_0 ?_
  simp (decide := true) (disch := first | decide | omega) only [cnI, cnIe, cnR, cnK, cnl, cnA' G, cn_sI, cn_sIe, cn_sA' G, kT, kH, KN G, LN G, u2_f, u2_s, w32_aa, w32_ss, w32_p1, w32_m1, Int.toNat_natCast, true_and, and_true, false_and, and_false, or_false, false_or, ne_eq, not_false_eq_true, forall_const, implies_true, not_true_eq_false, false_implies]
  refine b_Md_variables_10 ?_
  simp (decide := true) (disch := first | decide | omega) only [cnI, cnIe, cnR, cnK, cnl, cnA' G, cn_sI, cn_sIe, cn_sA' G, kT, kH, KN G, LN G, u2_f, u2_s, w32_aa, w32_ss, w32_p1, w32_m1, Int.toNat_natCast, true_and, and_true, false_and, and_false, or_false, false_or, ne_eq, not_false_eq_true, forall_const, implies_true, not_true_eq_false, false_implies]
  refine s_callOut O' e1 (by omega) e0 ha hb hp ?_
  simp (decide := true) (disch := first | decide | omega) only [cnI, cnIe, cnR, cnK, cnl, cnA' G, cn_sI, cn_sIe, cn_sA' G, kT, kH, KN G, LN G, u2_f, u2_s, w32_aa, w32_ss, w32_p1, w32_m1, Int.toNat_natCast, true_and, and_true, false_and, and_false, or_false, false_or, ne_eq, not_false_eq_true, forall_const, implies_true, not_true_eq_false, false_implies, cI, ev]
  refine ⟨by omega, b_Md_variables_26 ?_⟩
  simp (decide := true) (disch := first | decide | omega) only [cnI, cnIe, cnR, cnK, cnl, cnA' G, cn_sI, cn_sIe, cn_sA' G, kT, kH, KN G, LN G, u2_f, u2_s, w32_aa, w32_ss, w32_p1, w32_m1, Int.toNat_natCast, true_and, and_true, false_and, and_false, or_false, false_or, ne_eq, not_false_eq_true, forall_const, implies_true, not_true_eq_false, false_implies]
  refine s_h O' F d1 (by omega) ?_
  simp (decide := true) (disch := first | decide | omega) only [cnI, cnIe, cnR, cnK, cnl, cnA' G, cn_sI, cn_sIe, cn_sA' G, kT, kH, KN G, LN G, u2_f, u2_s, w32_aa, w32_ss, w32_p1, w32_m1, Int.toNat_natCast, true_and, and_true, false_and, and_false, or_false, false_or, ne_eq, not_false_eq_true, forall_const, implies_true, not_true_eq_false, false_implies, cI]
  refine ⟨by omega, by omega, s_setsVariable O' hy ?_⟩
  simp (decide := true) (disch := first | decide | omega) only [cnI, cnIe, cnR, cnK, cnl, cnA' G, cn_sI, cn_sIe, cn_sA' G, kT, kH, KN G, LN G, u2_f, u2_s, w32_aa, w32_ss, w32_p1, w32_m1, Int.toNat_natCast, true_and, and_true, false_and, and_false, or_false, false_or, ne_eq, not_false_eq_true, forall_const, implies_true, not_true_eq_false, false_implies, cV]
  refine s_d137 (v := ((p + 1 : Nat) : Int)) (t := t) (c := c) O' ?_ ?_ d1 (by omega) q
  · simp (decide := true) (disch := first | decide | omega) only [cnI, cnIe, cnR, cnK, cnl, cnA' G, cn_sI, cn_sIe, cn_sA' G, kT, kH, KN G, LN G, u2_f, u2_s, w32_aa, w32_ss, w32_p1, w32_m1, Int.toNat_natCast, true_and, and_true, false_and, and_false, or_false, false_or, ne_eq, not_false_eq_true, forall_const, implies_true, not_true_eq_false, false_implies, e1]
  · simp (decide := true) (disch := first | decide | omega) only [cnI, cnIe, cnR, cnK, cnl, cnA' G, cn_sI, cn_sIe, cn_sA' G, kT, kH, KN G, LN G, u2_f, u2_s, w32_aa, w32_ss, w32_p1, w32_m1, Int.toNat_natCast, true_and, and_true, false_and, and_false, or_false, false_or, ne_eq, not_false_eq_true, forall_const, implies_true, not_true_eq_false, false_implies, e2]
theorem s_POP (O : TOK h0 T) {a : Int} (D : DF S t n c f p k 5 a b) (hn : 1 ≤ n) (q : Q (Sum.inl none) (cn h0 T (atS (u2 S f_Md_height t ((n - 1 : Nat) : Int)) t c ((p + 1 : Nat) : Int)))) : wpB PGm ρ (d + 8) m_Md_does 0 [(0, vR T)] [] (cn h0 T S) Q := by
  have O' := O
  refine s_does_opr O D (by omega) ?_
  obtain ⟨kT, G, kH⟩ := O
  obtain ⟨F, ⟨d1, d2, d3, d4, d5, d6⟩, e1, e2, e3, e4, e5, e6, e7, e8⟩ := D
  have F' := F
  obtain ⟨t1, t2, t3, t4, t5⟩ := F
  refine b_Md_operators_0 ?_
  simp (decide := true) (disch := first | decide | omega) only [cnI, cnIe, cnR, cnK, cnl, cnA' G, cn_sI, cn_sIe, cn_sA' G, kT, kH, KN G, LN G, u2_f, u2_s, w32_aa, w32_ss, w32_p1, w32_m1, Int.toNat_natCast, true_and, and_true, false_and, and_false, or_false, false_or, ne_eq, not_false_eq_true, forall_const, implies_true, not_true_eq_false, false_implies]
  refine s_h O' F' d1 (by omega) ?_
  simp (decide := true) (disch := first | decide | omega) only [cnI, cnIe, cnR, cnK, cnl, cnA' G, cn_sI, cn_sIe, cn_sA' G, kT, kH, KN G, LN G, u2_f, u2_s, w32_aa, w32_ss, w32_p1, w32_m1, Int.toNat_natCast, true_and, and_true, false_and, and_false, or_false, false_or, ne_eq, not_false_eq_true, forall_const, implies_true, not_true_eq_false, false_implies, cI, t1, t4]
  refine ⟨by omega, by omega, ?_⟩
  simp (decide := true) (disch := first | decide | omega) only [cnI, cnIe, cnR, cnK, cnl, cnA' G, cn_sI, cn_sIe, cn_sA' G, kT, kH, KN G, LN G, u2_f, u2_s, w32_aa, w32_ss, w32_p1, w32_m1, Int.toNat_natCast, true_and, and_true, false_and, and_false, or_false, false_or, ne_eq, not_false_eq_true, forall_const, implies_true, not_true_eq_false, false_implies, cV]
  refine s_d137 (v := ((p + 1 : Nat) : Int)) (t := t) (c := c) O' ?_ ?_ d1 (by omega) q
  · simp (decide := true) (disch := first | decide | omega) only [cnI, cnIe, cnR, cnK, cnl, cnA' G, cn_sI, cn_sIe, cn_sA' G, kT, kH, KN G, LN G, u2_f, u2_s, w32_aa, w32_ss, w32_p1, w32_m1, Int.toNat_natCast, true_and, and_true, false_and, and_false, or_false, false_or, ne_eq, not_false_eq_true, forall_const, implies_true, not_true_eq_false, false_implies, e1]
  · simp (decide := true) (disch := first | decide | omega) only [cnI, cnIe, cnR, cnK, cnl, cnA' G, cn_sI, cn_sIe, cn_sA' G, kT, kH, KN G, LN G, u2_f, u2_s, w32_aa, w32_ss, w32_p1, w32_m1, Int.toNat_natCast, true_and, and_true, false_and, and_false, or_false, false_or, ne_eq, not_false_eq_true, forall_const, implies_true, not_true_eq_false, false_implies, e2]
theorem s_DUP (O : TOK h0 T) {a : Int} (D : DF S t n c f p k 6 a b) (hn : 1 ≤ n) (q1 : n < 2000 → Q (Sum.inl none) (cn h0 T (atS (pshS S t n (tpS S t n) (vpS S t n)) t c ((p + 1 : Nat) : Int)))) (q0 : n = 2000 → Q (Sum.inr (hR h0 f_Md_halt T)) (cn h0 T (erS S 11))) : wpB PGm ρ (d + 8) m_Md_does 0 [(0, vR T)] [] (cn h0 T S) Q := by
  have O' := O
  refine s_does_opr O D (by omega) ?_
  obtain ⟨kT, G, kH⟩ := O
  obtain ⟨F, ⟨d1, d2, d3, d4, d5, d6⟩, e1, e2, e3, e4, e5, e6, e7, e8⟩ := D
  refine b_Md_operators_0 ?_
  simp (decide := true) (disch := first | decide | omega) only [cnI, cnIe, cnR, cnK, cnl, cnA' G, cn_sI, cn_sIe, cn_sA' G, kT, kH, KN G, LN G, u2_f, u2_s, w32_aa, w32_ss, w32_p1, w32_m1, Int.toNat_natCast, true_and, and_true, false_and, and_false, or_false, false_or, ne_eq, not_false_eq_true, forall_const, implies_true, not_true_eq_false, false_implies]
  refine s_h O' F d1 (by omega) ?_
  simp (decide := true) (disch := first | decide | omega) only [cnI, cnIe, cnR, cnK, cnl, cnA' G, cn_sI, cn_sIe, cn_sA' G, kT, kH, KN G, LN G, u2_f, u2_s, w32_aa, w32_ss, w32_p1, w32_m1, Int.toNat_natCast, true_and, and_true, false_and, and_false, or_false, false_or, ne_eq, not_false_eq_true, forall_const, implies_true, not_true_eq_false, false_implies, cI]
  refine s_mayPile O' F d1 (fun z => ?_) (fun z => ?_)
  · simp (decide := true) (disch := first | decide | omega) only [cnI, cnIe, cnR, cnK, cnl, cnA' G, cn_sI, cn_sIe, cn_sA' G, kT, kH, KN G, LN G, u2_f, u2_s, w32_aa, w32_ss, w32_p1, w32_m1, Int.toNat_natCast, true_and, and_true, false_and, and_false, or_false, false_or, ne_eq, not_false_eq_true, forall_const, implies_true, not_true_eq_false, false_implies, cV]
    refine ⟨by omega, by omega, s_push O' F d1 (by omega) ?_⟩
    simp (decide := true) (disch := first | decide | omega) only [cnI, cnIe, cnR, cnK, cnl, cnA' G, cn_sI, cn_sIe, cn_sA' G, kT, kH, KN G, LN G, u2_f, u2_s, w32_aa, w32_ss, w32_p1, w32_m1, Int.toNat_natCast, true_and, and_true, false_and, and_false, or_false, false_or, ne_eq, not_false_eq_true, forall_const, implies_true, not_true_eq_false, false_implies, cV]
    refine s_d137 (v := ((p + 1 : Nat) : Int)) (t := t) (c := c) O' ?_ ?_ d1 (by omega) (q1 z)
    · unfold pshS; simp (decide := true) (disch := first | decide | omega) only [cnI, cnIe, cnR, cnK, cnl, cnA' G, cn_sI, cn_sIe, cn_sA' G, kT, kH, KN G, LN G, u2_f, u2_s, w32_aa, w32_ss, w32_p1, w32_m1, Int.toNat_natCast, true_and, and_true, false_and, and_false, or_false, false_or, ne_eq, not_false_eq_true, forall_const, implies_true, not_true_eq_false, false_implies, e1]
    · unfold pshS; simp (decide := true) (disch := first | decide | omega) only [cnI, cnIe, cnR, cnK, cnl, cnA' G, cn_sI, cn_sIe, cn_sA' G, kT, kH, KN G, LN G, u2_f, u2_s, w32_aa, w32_ss, w32_p1, w32_m1, Int.toNat_natCast, true_and, and_true, false_and, and_false, or_false, false_or, ne_eq, not_false_eq_true, forall_const, implies_true, not_true_eq_false, false_implies, e2]
  · simp (decide := true) (disch := first | decide | omega) only [cnI, cnIe, cnR, cnK, cnl, cnA' G, cn_sI, cn_sIe, cn_sA' G, kT, kH, KN G, LN G, u2_f, u2_s, w32_aa, w32_ss, w32_p1, w32_m1, Int.toNat_natCast, true_and, and_true, false_and, and_false, or_false, false_or, ne_eq, not_false_eq_true, forall_const, implies_true, not_true_eq_false, false_implies, cV]
    exact q0 (by omega)
theorem s_MINUS (O : TOK h0 T) {a : Int} (D : DF S t n c f p k 12 a b) (hn : 1 ≤ n) (q1 : tpS S t n = 2 → Q (Sum.inl none) (cn h0 T (atS (u2 S f_Md_pileValue (2100 * t + n - 1) (w64 (-(vpS S t n)))) t c ((p + 1 : Nat) : Int)))) (q0 : tpS S t n ≠ 2 → Q (Sum.inr (hR h0 f_Md_halt T)) (cn h0 T (erS S 1))) : wpB PGm ρ (d + 8) m_Md_does 0 [(0, vR T)] [] (cn h0 T S) Q := by
  have O' := O
  refine s_does_opr O D (by omega) ?_
  obtain ⟨kT, G, kH⟩ := O
  obtain ⟨F, ⟨d1, d2, d3, d4, d5, d6⟩, e1, e2, e3, e4, e5, e6, e7, e8⟩ := D
  refine b_Md_operators_0 ?_
  simp (decide := true) (disch := first | decide | omega) only [cnI, cnIe, cnR, cnK, cnl, cnA' G, cn_sI, cn_sIe, cn_sA' G, kT, kH, KN G, LN G, u2_f, u2_s, w32_aa, w32_ss, w32_p1, w32_m1, Int.toNat_natCast, true_and, and_true, false_and, and_false, or_false, false_or, ne_eq, not_false_eq_true, forall_const, implies_true, not_true_eq_false, false_implies]
  refine s_h O' F d1 (by omega) ?_
  simp (decide := true) (disch := first | decide | omega) only [cnI, cnIe, cnR, cnK, cnl, cnA' G, cn_sI, cn_sIe, cn_sA' G, kT, kH, KN G, LN G, u2_f, u2_s, w32_aa, w32_ss, w32_p1, w32_m1, Int.toNat_natCast, true_and, and_true, false_and, and_false, or_false, false_or, ne_eq, not_false_eq_true, forall_const, implies_true, not_true_eq_false, false_implies, cI]
  refine ⟨by omega, fun z => b_Md_operators_82 ?_, fun z => s_error O' ?_⟩
  · simp (decide := true) (disch := first | decide | omega) only [cnI, cnIe, cnR, cnK, cnl, cnA' G, cn_sI, cn_sIe, cn_sA' G, kT, kH, KN G, LN G, u2_f, u2_s, w32_aa, w32_ss, w32_p1, w32_m1, Int.toNat_natCast, true_and, and_true, false_and, and_false, or_false, false_or, ne_eq, not_false_eq_true, forall_const, implies_true, not_true_eq_false, false_implies]
    refine ⟨by omega, by omega, ?_⟩
    simp (decide := true) (disch := first | decide | omega) only [cnI, cnIe, cnR, cnK, cnl, cnA' G, cn_sI, cn_sIe, cn_sA' G, kT, kH, KN G, LN G, u2_f, u2_s, w32_aa, w32_ss, w32_p1, w32_m1, Int.toNat_natCast, true_and, and_true, false_and, and_false, or_false, false_or, ne_eq, not_false_eq_true, forall_const, implies_true, not_true_eq_false, false_implies, cV]
    refine s_d137 (v := ((p + 1 : Nat) : Int)) (t := t) (c := c) O' ?_ ?_ d1 (by omega) (q1 z)
    · simp (decide := true) (disch := first | decide | omega) only [cnI, cnIe, cnR, cnK, cnl, cnA' G, cn_sI, cn_sIe, cn_sA' G, kT, kH, KN G, LN G, u2_f, u2_s, w32_aa, w32_ss, w32_p1, w32_m1, Int.toNat_natCast, true_and, and_true, false_and, and_false, or_false, false_or, ne_eq, not_false_eq_true, forall_const, implies_true, not_true_eq_false, false_implies, e1]
    · simp (decide := true) (disch := first | decide | omega) only [cnI, cnIe, cnR, cnK, cnl, cnA' G, cn_sI, cn_sIe, cn_sA' G, kT, kH, KN G, LN G, u2_f, u2_s, w32_aa, w32_ss, w32_p1, w32_m1, Int.toNat_natCast, true_and, and_true, false_and, and_false, or_false, false_or, ne_eq, not_false_eq_true, forall_const, implies_true, not_true_eq_false, false_implies, e2]
  · simp (decide := true) (disch := first | decide | omega) only [cnI, cnIe, cnR, cnK, cnl, cnA' G, cn_sI, cn_sIe, cn_sA' G, kT, kH, KN G, LN G, u2_f, u2_s, w32_aa, w32_ss, w32_p1, w32_m1, Int.toNat_natCast, true_and, and_true, false_and, and_false, or_false, false_or, ne_eq, not_false_eq_true, forall_const, implies_true, not_true_eq_false, false_implies, cV]
    exact q0 z
theorem s_NOT (O : TOK h0 T) {a : Int} (D : DF S t n c f p k 13 a b) (hn : 1 ≤ n) (q : ∀ v, (isNo (tpS S t n) (vpS S t n) → v = 1) → (¬ isNo (tpS S t n) (vpS S t n) → v = 0) → Q (Sum.inl none) (cn h0 T (atS (u2 (u2 S f_Md_pileType (2100 * t + n - 1) 1) f_Md_pileValue (2100 * t + n - 1) v) t c ((p + 1 : Nat) : Int)))) : wpB PGm ρ (d + 8) m_Md_does 0 [(0, vR T)] [] (cn h0 T S) Q := by
  have O' := O
  refine s_does_opr O D (by omega) ?_
  obtain ⟨kT, G, kH⟩ := O
  obtain ⟨F, ⟨d1, d2, d3, d4, d5, d6⟩, e1, e2, e3, e4, e5, e6, e7, e8⟩ := D
  refine b_Md_operators_0 ?_
  simp (decide := true) (disch := first | decide | omega) only [cnI, cnIe, cnR, cnK, cnl, cnA' G, cn_sI, cn_sIe, cn_sA' G, kT, kH, KN G, LN G, u2_f, u2_s, w32_aa, w32_ss, w32_p1, w32_m1, Int.toNat_natCast, true_and, and_true, false_and, and_false, or_false, false_or, ne_eq, not_false_eq_true, forall_const, implies_true, not_true_eq_false, false_implies]
  refine s_h O' F d1 (by omega) ?_
  simp (decide := true) (disch := first | decide | omega) only [cnI, cnIe, cnR, cnK, cnl, cnA' G, cn_sI, cn_sIe, cn_sA' G, kT, kH, KN G, LN G, u2_f, u2_s, w32_aa, w32_ss, w32_p1, w32_m1, Int.toNat_natCast, true_and, and_true, false_and, and_false, or_false, false_or, ne_eq, not_false_eq_true, forall_const, implies_true, not_true_eq_false, false_implies, cI]
  refine ⟨by omega, by omega, s_isNot (fun z => ?_) (fun z => ?_)⟩
  · simp (decide := true) (disch := first | decide | omega) only [cnI, cnIe, cnR, cnK, cnl, cnA' G, cn_sI, cn_sIe, cn_sA' G, kT, kH, KN G, LN G, u2_f, u2_s, w32_aa, w32_ss, w32_p1, w32_m1, Int.toNat_natCast, true_and, and_true, false_and, and_false, or_false, false_or, ne_eq, not_false_eq_true, forall_const, implies_true, not_true_eq_false, false_implies, cI]
    refine ⟨by omega, by omega, ?_⟩
    simp (decide := true) (disch := first | decide | omega) only [cnI, cnIe, cnR, cnK, cnl, cnA' G, cn_sI, cn_sIe, cn_sA' G, kT, kH, KN G, LN G, u2_f, u2_s, w32_aa, w32_ss, w32_p1, w32_m1, Int.toNat_natCast, true_and, and_true, false_and, and_false, or_false, false_or, ne_eq, not_false_eq_true, forall_const, implies_true, not_true_eq_false, false_implies, cV]
    refine s_d137 (v := ((p + 1 : Nat) : Int)) (t := t) (c := c) O' ?_ ?_ d1 (by omega) (q 1 (fun _ => rfl) (fun y => absurd z y))
    · simp (decide := true) (disch := first | decide | omega) only [cnI, cnIe, cnR, cnK, cnl, cnA' G, cn_sI, cn_sIe, cn_sA' G, kT, kH, KN G, LN G, u2_f, u2_s, w32_aa, w32_ss, w32_p1, w32_m1, Int.toNat_natCast, true_and, and_true, false_and, and_false, or_false, false_or, ne_eq, not_false_eq_true, forall_const, implies_true, not_true_eq_false, false_implies, e1]
    · simp (decide := true) (disch := first | decide | omega) only [cnI, cnIe, cnR, cnK, cnl, cnA' G, cn_sI, cn_sIe, cn_sA' G, kT, kH, KN G, LN G, u2_f, u2_s, w32_aa, w32_ss, w32_p1, w32_m1, Int.toNat_natCast, true_and, and_true, false_and, and_false, or_false, false_or, ne_eq, not_false_eq_true, forall_const, implies_true, not_true_eq_false, false_implies, e2]
  · simp (decide := true) (disch := first | decide | omega) only [cnI, cnIe, cnR, cnK, cnl, cnA' G, cn_sI, cn_sIe, cn_sA' G, kT, kH, KN G, LN G, u2_f, u2_s, w32_aa, w32_ss, w32_p1, w32_m1, Int.toNat_natCast, true_and, and_true, false_and, and_false, or_false, false_or, ne_eq, not_false_eq_true, forall_const, implies_true, not_true_eq_false, false_implies, cI]
    refine ⟨by omega, by omega, ?_⟩
    simp (decide := true) (disch := first | decide | omega) only [cnI, cnIe, cnR, cnK, cnl, cnA' G, cn_sI, cn_sIe, cn_sA' G, kT, kH, KN G, LN G, u2_f, u2_s, w32_aa, w32_ss, w32_p1, w32_m1, Int.toNat_natCast, true_and, and_true, false_and, and_false, or_false, false_or, ne_eq, not_false_eq_true, forall_const, implies_true, not_true_eq_false, false_implies, cV]
    refine s_d137 (v := ((p + 1 : Nat) : Int)) (t := t) (c := c) O' ?_ ?_ d1 (by omega) (q 0 (fun y => absurd y z) (fun _ => rfl))
    · simp (decide := true) (disch := first | decide | omega) only [cnI, cnIe, cnR, cnK, cnl, cnA' G, cn_sI, cn_sIe, cn_sA' G, kT, kH, KN G, LN G, u2_f, u2_s, w32_aa, w32_ss, w32_p1, w32_m1, Int.toNat_natCast, true_and, and_true, false_and, and_false, or_false, false_or, ne_eq, not_false_eq_true, forall_const, implies_true, not_true_eq_false, false_implies, e1]
    · simp (decide := true) (disch := first | decide | omega) only [cnI, cnIe, cnR, cnK, cnl, cnA' G, cn_sI, cn_sIe, cn_sA' G, kT, kH, KN G, LN G, u2_f, u2_s, w32_aa, w32_ss, w32_p1, w32_m1, Int.toNat_natCast, true_and, and_true, false_and, and_false, or_false, false_or, ne_eq, not_false_eq_true, forall_const, implies_true, not_true_eq_false, false_implies, e2]
theorem s_JUMP (O : TOK h0 T) {a : Int} (D : DF S t n c f p k 20 a b) (q : Q (Sum.inl none) (cn h0 T (atS (u2 S f_Md_after 0 a) t c a))) : wpB PGm ρ (d + 8) m_Md_does 0 [(0, vR T)] [] (cn h0 T S) Q := by
  have O' := O
  refine s_does_oth O D (by omega) ?_
  obtain ⟨kT, G, kH⟩ := O
  obtain ⟨F, ⟨d1, d2, d3, d4, d5, d6⟩, e1, e2, e3, e4, e5, e6, e7, e8⟩ := D
  refine b_Md_others_0 ?_
  simp (decide := true) (disch := first | decide | omega) only [cnI, cnIe, cnR, cnK, cnl, cnA' G, cn_sI, cn_sIe, cn_sA' G, kT, kH, KN G, LN G, u2_f, u2_s, w32_aa, w32_ss, w32_p1, w32_m1, Int.toNat_natCast, true_and, and_true, false_and, and_false, or_false, false_or, ne_eq, not_false_eq_true, forall_const, implies_true, not_true_eq_false, false_implies]
  refine s_h O' F d1 (by omega) ?_
  simp (decide := true) (disch := first | decide | omega) only [cnI, cnIe, cnR, cnK, cnl, cnA' G, cn_sI, cn_sIe, cn_sA' G, kT, kH, KN G, LN G, u2_f, u2_s, w32_aa, w32_ss, w32_p1, w32_m1, Int.toNat_natCast, true_and, and_true, false_and, and_false, or_false, false_or, ne_eq, not_false_eq_true, forall_const, implies_true, not_true_eq_false, false_implies, cI, cV]
  refine s_d137 (v := a) (t := t) (c := c) O' ?_ ?_ d1 (by omega) q
  · simp (decide := true) (disch := first | decide | omega) only [cnI, cnIe, cnR, cnK, cnl, cnA' G, cn_sI, cn_sIe, cn_sA' G, kT, kH, KN G, LN G, u2_f, u2_s, w32_aa, w32_ss, w32_p1, w32_m1, Int.toNat_natCast, true_and, and_true, false_and, and_false, or_false, false_or, ne_eq, not_false_eq_true, forall_const, implies_true, not_true_eq_false, false_implies, e1]
  · simp (decide := true) (disch := first | decide | omega) only [cnI, cnIe, cnR, cnK, cnl, cnA' G, cn_sI, cn_sIe, cn_sA' G, kT, kH, KN G, LN G, u2_f, u2_s, w32_aa, w32_ss, w32_p1, w32_m1, Int.toNat_natCast, true_and, and_true, false_and, and_false, or_false, false_or, ne_eq, not_false_eq_true, forall_const, implies_true, not_true_eq_false, false_implies, e2]
theorem s_UNLESS (O : TOK h0 T) {a : Int} (D : DF S t n c f p k 21 a b) (hn : 1 ≤ n) (q : ∀ v, (isNo (tpS S t n) (vpS S t n) → v = a) → (¬ isNo (tpS S t n) (vpS S t n) → v = ((p + 1 : Nat) : Int)) → Q (Sum.inl none) (cn h0 T (atS (u2 (isS (u2 S f_Md_height t ((n - 1 : Nat) : Int)) (S f_Md_pileType (2100 * t + (n - 1))) (S f_Md_pileValue (2100 * t + (n - 1)))) f_Md_after 0 v) t c v))) : wpB PGm ρ (d + 8) m_Md_does 0 [(0, vR T)] [] (cn h0 T S) Q := by
  have O' := O
  refine s_does_oth O D (by omega) ?_
  obtain ⟨kT, G, kH⟩ := O
  obtain ⟨F, ⟨d1, d2, d3, d4, d5, d6⟩, e1, e2, e3, e4, e5, e6, e7, e8⟩ := D
  have en : 2100 * t + (n - 1) = 2100 * t + n - 1 := by omega
  refine b_Md_others_0 ?_
  simp (decide := true) (disch := first | decide | omega) only [cnI, cnIe, cnR, cnK, cnl, cnA' G, cn_sI, cn_sIe, cn_sA' G, kT, kH, KN G, LN G, u2_f, u2_s, w32_aa, w32_ss, w32_p1, w32_m1, Int.toNat_natCast, true_and, and_true, false_and, and_false, or_false, false_or, ne_eq, not_false_eq_true, forall_const, implies_true, not_true_eq_false, false_implies]
  refine s_h O' F d1 (by omega) ?_
  simp (decide := true) (disch := first | decide | omega) only [cnI, cnIe, cnR, cnK, cnl, cnA' G, cn_sI, cn_sIe, cn_sA' G, kT, kH, KN G, LN G, u2_f, u2_s, w32_aa, w32_ss, w32_p1, w32_m1, Int.toNat_natCast, true_and, and_true, false_and, and_false, or_false, false_or, ne_eq, not_false_eq_true, forall_const, implies_true, not_true_eq_false, false_implies, cI]
  refine s_pop O' F d1 (by omega) hn ?_
  simp (decide := true) (disch := first | decide | omega) only [cnI, cnIe, cnR, cnK, cnl, cnA' G, cn_sI, cn_sIe, cn_sA' G, kT, kH, KN G, LN G, u2_f, u2_s, w32_aa, w32_ss, w32_p1, w32_m1, Int.toNat_natCast, true_and, and_true, false_and, and_false, or_false, false_or, ne_eq, not_false_eq_true, forall_const, implies_true, not_true_eq_false, false_implies, cV, popS, isS]
  refine s_isNot (fun z => ?_) (fun z => ?_)
  · simp (decide := true) (disch := first | decide | omega) only [cnI, cnIe, cnR, cnK, cnl, cnA' G, cn_sI, cn_sIe, cn_sA' G, kT, kH, KN G, LN G, u2_f, u2_s, w32_aa, w32_ss, w32_p1, w32_m1, Int.toNat_natCast, true_and, and_true, false_and, and_false, or_false, false_or, ne_eq, not_false_eq_true, forall_const, implies_true, not_true_eq_false, false_implies, cI, e2]
    refine s_d137 (v := a) (t := t) (c := c) O' ?_ ?_ d1 (by omega) (q a (fun _ => rfl) (fun y => absurd ?_ y))
    · simp (decide := true) (disch := first | decide | omega) only [cnI, cnIe, cnR, cnK, cnl, cnA' G, cn_sI, cn_sIe, cn_sA' G, kT, kH, KN G, LN G, u2_f, u2_s, w32_aa, w32_ss, w32_p1, w32_m1, Int.toNat_natCast, true_and, and_true, false_and, and_false, or_false, false_or, ne_eq, not_false_eq_true, forall_const, implies_true, not_true_eq_false, false_implies, e1]
    · simp (decide := true) (disch := first | decide | omega) only [cnI, cnIe, cnR, cnK, cnl, cnA' G, cn_sI, cn_sIe, cn_sA' G, kT, kH, KN G, LN G, u2_f, u2_s, w32_aa, w32_ss, w32_p1, w32_m1, Int.toNat_natCast, true_and, and_true, false_and, and_false, or_false, false_or, ne_eq, not_false_eq_true, forall_const, implies_true, not_true_eq_false, false_implies, e2]
    · rw [en] at z; exact z
  · simp (decide := true) (disch := first | decide | omega) only [cnI, cnIe, cnR, cnK, cnl, cnA' G, cn_sI, cn_sIe, cn_sA' G, kT, kH, KN G, LN G, u2_f, u2_s, w32_aa, w32_ss, w32_p1, w32_m1, Int.toNat_natCast, true_and, and_true, false_and, and_false, or_false, false_or, ne_eq, not_false_eq_true, forall_const, implies_true, not_true_eq_false, false_implies, cI, e2]
    refine s_d137 (v := ((p + 1 : Nat) : Int)) (t := t) (c := c) O' ?_ ?_ d1 (by omega) (q _ (fun y => absurd y ?_) (fun _ => rfl))
    · simp (decide := true) (disch := first | decide | omega) only [cnI, cnIe, cnR, cnK, cnl, cnA' G, cn_sI, cn_sIe, cn_sA' G, kT, kH, KN G, LN G, u2_f, u2_s, w32_aa, w32_ss, w32_p1, w32_m1, Int.toNat_natCast, true_and, and_true, false_and, and_false, or_false, false_or, ne_eq, not_false_eq_true, forall_const, implies_true, not_true_eq_false, false_implies, e1]
    · simp (decide := true) (disch := first | decide | omega) only [cnI, cnIe, cnR, cnK, cnl, cnA' G, cn_sI, cn_sIe, cn_sA' G, kT, kH, KN G, LN G, u2_f, u2_s, w32_aa, w32_ss, w32_p1, w32_m1, Int.toNat_natCast, true_and, and_true, false_and, and_false, or_false, false_or, ne_eq, not_false_eq_true, forall_const, implies_true, not_true_eq_false, false_implies, e2]
    · rw [en] at z; exact z
theorem s_OR (O : TOK h0 T) {a : Int} (D : DF S t n c f p k op a b) (ho : op = 22 ∨ op = 23) (hn : 1 ≤ n) (q1 : (isNo (tpS S t n) (vpS S t n) ↔ op = 23) → Q (Sum.inl none) (cn h0 T (atS (u2 S f_Md_after 0 a) t c a))) (q0 : ¬ (isNo (tpS S t n) (vpS S t n) ↔ op = 23) → Q (Sum.inl none) (cn h0 T (atS (u2 S f_Md_height t ((n - 1 : Nat) : Int)) t c ((p + 1 : Nat) : Int)))) : wpB PGm ρ (d + 8) m_Md_does 0 [(0, vR T)] [] (cn h0 T S) Q := by
  have O' := O
  refine s_does_oth O D (by omega) ?_
  obtain ⟨kT, G, kH⟩ := O
  obtain ⟨F, ⟨d1, d2, d3, d4, d5, d6⟩, e1, e2, e3, e4, e5, e6, e7, e8⟩ := D
  have F' := F
  obtain ⟨t1, t2, t3, t4, t5⟩ := F
  have g : wpB PGm ρ (d + 7) m_Md_others 118 [(0, vR T), (1, vI op), (2, vI a), (3, vI ((2100 * t + n - 1 : Nat) : Int))] [] (cn h0 T S) (dK ρ d T Q) := by
    have g2 : ∀ x y : Int, ((x = y) ↔ (isNo (tpS S t n) (vpS S t n) ↔ op = 23)) → wpB PGm ρ (d + 7) m_Md_others 145 [(0, vR T), (2, vI a)] [vI y, vI x] (cn h0 T S) (dK ρ d T Q) := by
      intro x y hxy
      refine b_Md_others_145 ⟨fun z => ?_, fun z => ?_⟩
      · simp (decide := true) (disch := first | decide | omega) only [cnI, cnIe, cnR, cnK, cnl, cnA' G, cn_sI, cn_sIe, cn_sA' G, kT, kH, KN G, LN G, u2_f, u2_s, w32_aa, w32_ss, w32_p1, w32_m1, Int.toNat_natCast, true_and, and_true, false_and, and_false, or_false, false_or, ne_eq, not_false_eq_true, forall_const, implies_true, not_true_eq_false, false_implies, t1, t4]
        refine ⟨by omega, by omega, ?_⟩
        simp (decide := true) (disch := first | decide | omega) only [cnI, cnIe, cnR, cnK, cnl, cnA' G, cn_sI, cn_sIe, cn_sA' G, kT, kH, KN G, LN G, u2_f, u2_s, w32_aa, w32_ss, w32_p1, w32_m1, Int.toNat_natCast, true_and, and_true, false_and, and_false, or_false, false_or, ne_eq, not_false_eq_true, forall_const, implies_true, not_true_eq_false, false_implies, cV]
        refine s_d137 (v := ((p + 1 : Nat) : Int)) (t := t) (c := c) O' ?_ ?_ d1 (by omega) (q0 (fun y => z (hxy.mpr y)))
        · simp (decide := true) (disch := first | decide | omega) only [cnI, cnIe, cnR, cnK, cnl, cnA' G, cn_sI, cn_sIe, cn_sA' G, kT, kH, KN G, LN G, u2_f, u2_s, w32_aa, w32_ss, w32_p1, w32_m1, Int.toNat_natCast, true_and, and_true, false_and, and_false, or_false, false_or, ne_eq, not_false_eq_true, forall_const, implies_true, not_true_eq_false, false_implies, e1]
        · simp (decide := true) (disch := first | decide | omega) only [cnI, cnIe, cnR, cnK, cnl, cnA' G, cn_sI, cn_sIe, cn_sA' G, kT, kH, KN G, LN G, u2_f, u2_s, w32_aa, w32_ss, w32_p1, w32_m1, Int.toNat_natCast, true_and, and_true, false_and, and_false, or_false, false_or, ne_eq, not_false_eq_true, forall_const, implies_true, not_true_eq_false, false_implies, e2]
      · simp (decide := true) (disch := first | decide | omega) only [cnI, cnIe, cnR, cnK, cnl, cnA' G, cn_sI, cn_sIe, cn_sA' G, kT, kH, KN G, LN G, u2_f, u2_s, w32_aa, w32_ss, w32_p1, w32_m1, Int.toNat_natCast, true_and, and_true, false_and, and_false, or_false, false_or, ne_eq, not_false_eq_true, forall_const, implies_true, not_true_eq_false, false_implies, cV]
        refine s_d137 (v := a) (t := t) (c := c) O' ?_ ?_ d1 (by omega) (q1 (hxy.mp z))
        · simp (decide := true) (disch := first | decide | omega) only [cnI, cnIe, cnR, cnK, cnl, cnA' G, cn_sI, cn_sIe, cn_sA' G, kT, kH, KN G, LN G, u2_f, u2_s, w32_aa, w32_ss, w32_p1, w32_m1, Int.toNat_natCast, true_and, and_true, false_and, and_false, or_false, false_or, ne_eq, not_false_eq_true, forall_const, implies_true, not_true_eq_false, false_implies, e1]
        · simp (decide := true) (disch := first | decide | omega) only [cnI, cnIe, cnR, cnK, cnl, cnA' G, cn_sI, cn_sIe, cn_sA' G, kT, kH, KN G, LN G, u2_f, u2_s, w32_aa, w32_ss, w32_p1, w32_m1, Int.toNat_natCast, true_and, and_true, false_and, and_false, or_false, false_or, ne_eq, not_false_eq_true, forall_const, implies_true, not_true_eq_false, false_implies, e2]
    refine b_Md_others_118 ?_
    simp (decide := true) (disch := first | decide | omega) only [cnI, cnIe, cnR, cnK, cnl, cnA' G, cn_sI, cn_sIe, cn_sA' G, kT, kH, KN G, LN G, u2_f, u2_s, w32_aa, w32_ss, w32_p1, w32_m1, Int.toNat_natCast, true_and, and_true, false_and, and_false, or_false, false_or, ne_eq, not_false_eq_true, forall_const, implies_true, not_true_eq_false, false_implies]
    refine ⟨by omega, by omega, s_isNot (fun z => ⟨fun y => g2 _ _ ?_, fun y => g2 _ _ ?_⟩) (fun z => ⟨fun y => g2 _ _ ?_, fun y => g2 _ _ ?_⟩)⟩
    · exact ⟨fun c => absurd c (by decide), fun c => absurd (c.mp z) y⟩
    · exact ⟨fun _ => ⟨fun _ => y, fun _ => z⟩, fun _ => rfl⟩
    · exact ⟨fun _ => ⟨fun c => absurd c z, fun c => absurd c y⟩, fun _ => rfl⟩
    · exact ⟨fun c => absurd c (by decide), fun c => absurd (c.mpr y) z⟩
  refine b_Md_others_0 ?_
  simp (decide := true) (disch := first | decide | omega) only [cnI, cnIe, cnR, cnK, cnl, cnA' G, cn_sI, cn_sIe, cn_sA' G, kT, kH, KN G, LN G, u2_f, u2_s, w32_aa, w32_ss, w32_p1, w32_m1, Int.toNat_natCast, true_and, and_true, false_and, and_false, or_false, false_or, ne_eq, not_false_eq_true, forall_const, implies_true, not_true_eq_false, false_implies]
  refine s_h O' F' d1 (by omega) ?_
  rcases ho with rfl | rfl
  · simp (decide := true) (disch := first | decide | omega) only [cnI, cnIe, cnR, cnK, cnl, cnA' G, cn_sI, cn_sIe, cn_sA' G, kT, kH, KN G, LN G, u2_f, u2_s, w32_aa, w32_ss, w32_p1, w32_m1, Int.toNat_natCast, true_and, and_true, false_and, and_false, or_false, false_or, ne_eq, not_false_eq_true, forall_const, implies_true, not_true_eq_false, false_implies, cI]
    exact g
  · simp (decide := true) (disch := first | decide | omega) only [cnI, cnIe, cnR, cnK, cnl, cnA' G, cn_sI, cn_sIe, cn_sA' G, kT, kH, KN G, LN G, u2_f, u2_s, w32_aa, w32_ss, w32_p1, w32_m1, Int.toNat_natCast, true_and, and_true, false_and, and_false, or_false, false_or, ne_eq, not_false_eq_true, forall_const, implies_true, not_true_eq_false, false_implies, cI]
    exact g
theorem s_TRY (O : TOK h0 T) {a : Int} {r : Nat} (D : DF S t n c f p k 31 a b) (er : S f_Md_tries t = (r : Int)) (hr : r < 10000) (q : Q (Sum.inl none) (cn h0 T (atS (u2 (u2 (u2 (u2 S f_Md_tryAt (10000 * t + r) a) f_Md_tryHeight (10000 * t + r) (n : Int)) f_Md_tryFrame (10000 * t + r) ((c - 1 : Nat) : Int)) f_Md_tries t ((r + 1 : Nat) : Int)) t c ((p + 1 : Nat) : Int)))) : wpB PGm ρ (d + 8) m_Md_does 0 [(0, vR T)] [] (cn h0 T S) Q := by
  have O' := O
  refine s_does_oth O D (by omega) ?_
  obtain ⟨kT, G, kH⟩ := O
  obtain ⟨F, ⟨d1, d2, d3, d4, d5, d6⟩, e1, e2, e3, e4, e5, e6, e7, e8⟩ := D
  have F' := F
  obtain ⟨t1, t2, t3, t4, t5⟩ := F
  have e9 : w32 (10000 * (t : Int)) = ((10000 * t : Nat) : Int) := by rw [w32_of (by omega) (by omega)]; omega
  refine b_Md_others_0 ?_
  simp (decide := true) (disch := first | decide | omega) only [cnI, cnIe, cnR, cnK, cnl, cnA' G, cn_sI, cn_sIe, cn_sA' G, kT, kH, KN G, LN G, u2_f, u2_s, w32_aa, w32_ss, w32_p1, w32_m1, Int.toNat_natCast, true_and, and_true, false_and, and_false, or_false, false_or, ne_eq, not_false_eq_true, forall_const, implies_true, not_true_eq_false, false_implies]
  refine s_h O' F' d1 (by omega) ?_
  simp (decide := true) (disch := first | decide | omega) only [cnI, cnIe, cnR, cnK, cnl, cnA' G, cn_sI, cn_sIe, cn_sA' G, kT, kH, KN G, LN G, u2_f, u2_s, w32_aa, w32_ss, w32_p1, w32_m1, Int.toNat_natCast, true_and, and_true, false_and, and_false, or_false, false_or, ne_eq, not_false_eq_true, forall_const, implies_true, not_true_eq_false, false_implies, cI, t1, er, e9, t4]
  refine ⟨by omega, by omega, by omega, by omega, b_Md_others_334 ?_⟩
  simp (decide := true) (disch := first | decide | omega) only [cnI, cnIe, cnR, cnK, cnl, cnA' G, cn_sI, cn_sIe, cn_sA' G, kT, kH, KN G, LN G, u2_f, u2_s, w32_aa, w32_ss, w32_p1, w32_m1, Int.toNat_natCast, true_and, and_true, false_and, and_false, or_false, false_or, ne_eq, not_false_eq_true, forall_const, implies_true, not_true_eq_false, false_implies, t1, t5, er]
  refine ⟨by omega, by omega, by omega, by omega, ?_⟩
  simp (decide := true) (disch := first | decide | omega) only [cnI, cnIe, cnR, cnK, cnl, cnA' G, cn_sI, cn_sIe, cn_sA' G, kT, kH, KN G, LN G, u2_f, u2_s, w32_aa, w32_ss, w32_p1, w32_m1, Int.toNat_natCast, true_and, and_true, false_and, and_false, or_false, false_or, ne_eq, not_false_eq_true, forall_const, implies_true, not_true_eq_false, false_implies, cV]
  refine s_d137 (v := ((p + 1 : Nat) : Int)) (t := t) (c := c) O' ?_ ?_ d1 (by omega) q
  · simp (decide := true) (disch := first | decide | omega) only [cnI, cnIe, cnR, cnK, cnl, cnA' G, cn_sI, cn_sIe, cn_sA' G, kT, kH, KN G, LN G, u2_f, u2_s, w32_aa, w32_ss, w32_p1, w32_m1, Int.toNat_natCast, true_and, and_true, false_and, and_false, or_false, false_or, ne_eq, not_false_eq_true, forall_const, implies_true, not_true_eq_false, false_implies, e1]
  · simp (decide := true) (disch := first | decide | omega) only [cnI, cnIe, cnR, cnK, cnl, cnA' G, cn_sI, cn_sIe, cn_sA' G, kT, kH, KN G, LN G, u2_f, u2_s, w32_aa, w32_ss, w32_p1, w32_m1, Int.toNat_natCast, true_and, and_true, false_and, and_false, or_false, false_or, ne_eq, not_false_eq_true, forall_const, implies_true, not_true_eq_false, false_implies, e2]
theorem s_TRIED (O : TOK h0 T) {a : Int} {r : Nat} (D : DF S t n c f p k 32 a b) (er : S f_Md_tries t = (r : Int)) (hr : 1 ≤ r ∧ r ≤ 10000) (q : Q (Sum.inl none) (cn h0 T (atS (u2 S f_Md_tries t ((r - 1 : Nat) : Int)) t c ((p + 1 : Nat) : Int)))) : wpB PGm ρ (d + 8) m_Md_does 0 [(0, vR T)] [] (cn h0 T S) Q := by
  have O' := O
  refine s_does_oth O D (by omega) ?_
  obtain ⟨kT, G, kH⟩ := O
  obtain ⟨F, ⟨d1, d2, d3, d4, d5, d6⟩, e1, e2, e3, e4, e5, e6, e7, e8⟩ := D
  have F' := F
  obtain ⟨t1, t2, t3, t4, t5⟩ := F
  refine b_Md_others_0 ?_
  simp (decide := true) (disch := first | decide | omega) only [cnI, cnIe, cnR, cnK, cnl, cnA' G, cn_sI, cn_sIe, cn_sA' G, kT, kH, KN G, LN G, u2_f, u2_s, w32_aa, w32_ss, w32_p1, w32_m1, Int.toNat_natCast, true_and, and_true, false_and, and_false, or_false, false_or, ne_eq, not_false_eq_true, forall_const, implies_true, not_true_eq_false, false_implies]
  refine s_h O' F' d1 (by omega) ?_
  simp (decide := true) (disch := first | decide | omega) only [cnI, cnIe, cnR, cnK, cnl, cnA' G, cn_sI, cn_sIe, cn_sA' G, kT, kH, KN G, LN G, u2_f, u2_s, w32_aa, w32_ss, w32_p1, w32_m1, Int.toNat_natCast, true_and, and_true, false_and, and_false, or_false, false_or, ne_eq, not_false_eq_true, forall_const, implies_true, not_true_eq_false, false_implies, cI, t1, er]
  refine ⟨by omega, by omega, ?_⟩
  simp (decide := true) (disch := first | decide | omega) only [cnI, cnIe, cnR, cnK, cnl, cnA' G, cn_sI, cn_sIe, cn_sA' G, kT, kH, KN G, LN G, u2_f, u2_s, w32_aa, w32_ss, w32_p1, w32_m1, Int.toNat_natCast, true_and, and_true, false_and, and_false, or_false, false_or, ne_eq, not_false_eq_true, forall_const, implies_true, not_true_eq_false, false_implies, cV]
  refine s_d137 (v := ((p + 1 : Nat) : Int)) (t := t) (c := c) O' ?_ ?_ d1 (by omega) q
  · simp (decide := true) (disch := first | decide | omega) only [cnI, cnIe, cnR, cnK, cnl, cnA' G, cn_sI, cn_sIe, cn_sA' G, kT, kH, KN G, LN G, u2_f, u2_s, w32_aa, w32_ss, w32_p1, w32_m1, Int.toNat_natCast, true_and, and_true, false_and, and_false, or_false, false_or, ne_eq, not_false_eq_true, forall_const, implies_true, not_true_eq_false, false_implies, e1]
  · simp (decide := true) (disch := first | decide | omega) only [cnI, cnIe, cnR, cnK, cnl, cnA' G, cn_sI, cn_sIe, cn_sA' G, kT, kH, KN G, LN G, u2_f, u2_s, w32_aa, w32_ss, w32_p1, w32_m1, Int.toNat_natCast, true_and, and_true, false_and, and_false, or_false, false_or, ne_eq, not_false_eq_true, forall_const, implies_true, not_true_eq_false, false_implies, e2]
theorem s_THIS (O : TOK h0 T) {a : Int} (D : DF S t n c f p k 33 a b) (q1 : n < 2000 → Q (Sum.inl none) (cn h0 T (atS (pshS S t n (S f_Md_thisType (200 * t + (c - 1))) (S f_Md_thisValue (200 * t + (c - 1)))) t c ((p + 1 : Nat) : Int)))) (q0 : n = 2000 → Q (Sum.inr (hR h0 f_Md_halt T)) (cn h0 T (erS S 11))) : wpB PGm ρ (d + 8) m_Md_does 0 [(0, vR T)] [] (cn h0 T S) Q := by
  have O' := O
  refine s_does_oth O D (by omega) ?_
  obtain ⟨kT, G, kH⟩ := O
  obtain ⟨F, ⟨d1, d2, d3, d4, d5, d6⟩, e1, e2, e3, e4, e5, e6, e7, e8⟩ := D
  refine b_Md_others_0 ?_
  simp (decide := true) (disch := first | decide | omega) only [cnI, cnIe, cnR, cnK, cnl, cnA' G, cn_sI, cn_sIe, cn_sA' G, kT, kH, KN G, LN G, u2_f, u2_s, w32_aa, w32_ss, w32_p1, w32_m1, Int.toNat_natCast, true_and, and_true, false_and, and_false, or_false, false_or, ne_eq, not_false_eq_true, forall_const, implies_true, not_true_eq_false, false_implies]
  refine s_h O' F d1 (by omega) ?_
  simp (decide := true) (disch := first | decide | omega) only [cnI, cnIe, cnR, cnK, cnl, cnA' G, cn_sI, cn_sIe, cn_sA' G, kT, kH, KN G, LN G, u2_f, u2_s, w32_aa, w32_ss, w32_p1, w32_m1, Int.toNat_natCast, true_and, and_true, false_and, and_false, or_false, false_or, ne_eq, not_false_eq_true, forall_const, implies_true, not_true_eq_false, false_implies, cI]
  refine b_Md_others_384 ?_
  simp (decide := true) (disch := first | decide | omega) only [cnI, cnIe, cnR, cnK, cnl, cnA' G, cn_sI, cn_sIe, cn_sA' G, kT, kH, KN G, LN G, u2_f, u2_s, w32_aa, w32_ss, w32_p1, w32_m1, Int.toNat_natCast, true_and, and_true, false_and, and_false, or_false, false_or, ne_eq, not_false_eq_true, forall_const, implies_true, not_true_eq_false, false_implies]
  refine s_mayPile O' F d1 (fun z => ?_) (fun z => ?_)
  · simp (decide := true) (disch := first | decide | omega) only [cnI, cnIe, cnR, cnK, cnl, cnA' G, cn_sI, cn_sIe, cn_sA' G, kT, kH, KN G, LN G, u2_f, u2_s, w32_aa, w32_ss, w32_p1, w32_m1, Int.toNat_natCast, true_and, and_true, false_and, and_false, or_false, false_or, ne_eq, not_false_eq_true, forall_const, implies_true, not_true_eq_false, false_implies, cV, e1]
    refine ⟨by omega, by omega, s_push O' F d1 (by omega) ?_⟩
    simp (decide := true) (disch := first | decide | omega) only [cnI, cnIe, cnR, cnK, cnl, cnA' G, cn_sI, cn_sIe, cn_sA' G, kT, kH, KN G, LN G, u2_f, u2_s, w32_aa, w32_ss, w32_p1, w32_m1, Int.toNat_natCast, true_and, and_true, false_and, and_false, or_false, false_or, ne_eq, not_false_eq_true, forall_const, implies_true, not_true_eq_false, false_implies, cV]
    refine s_d137 (v := ((p + 1 : Nat) : Int)) (t := t) (c := c) O' ?_ ?_ d1 (by omega) (q1 z)
    · unfold pshS; simp (decide := true) (disch := first | decide | omega) only [cnI, cnIe, cnR, cnK, cnl, cnA' G, cn_sI, cn_sIe, cn_sA' G, kT, kH, KN G, LN G, u2_f, u2_s, w32_aa, w32_ss, w32_p1, w32_m1, Int.toNat_natCast, true_and, and_true, false_and, and_false, or_false, false_or, ne_eq, not_false_eq_true, forall_const, implies_true, not_true_eq_false, false_implies, e1]
    · unfold pshS; simp (decide := true) (disch := first | decide | omega) only [cnI, cnIe, cnR, cnK, cnl, cnA' G, cn_sI, cn_sIe, cn_sA' G, kT, kH, KN G, LN G, u2_f, u2_s, w32_aa, w32_ss, w32_p1, w32_m1, Int.toNat_natCast, true_and, and_true, false_and, and_false, or_false, false_or, ne_eq, not_false_eq_true, forall_const, implies_true, not_true_eq_false, false_implies, e2]
  · simp (decide := true) (disch := first | decide | omega) only [cnI, cnIe, cnR, cnK, cnl, cnA' G, cn_sI, cn_sIe, cn_sA' G, kT, kH, KN G, LN G, u2_f, u2_s, w32_aa, w32_ss, w32_p1, w32_m1, Int.toNat_natCast, true_and, and_true, false_and, and_false, or_false, false_or, ne_eq, not_false_eq_true, forall_const, implies_true, not_true_eq_false, false_implies, cV]
    exact q0 (by omega)
end
