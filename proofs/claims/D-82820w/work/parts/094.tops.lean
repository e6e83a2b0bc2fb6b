/-! T: an instruction, by its rows -/
set_option maxRecDepth 20000
/-- the instruction at hand: function f, place p, its row is k + p -/
def DF (S : SS) (t n c f p k : Nat) (op a b : Int) : Prop := TF S t n c ∧ (t ≤ 1 ∧ n ≤ 2000 ∧ 1 ≤ c ∧ c ≤ 200 ∧ f < 400 ∧ k + p < 20000) ∧ S f_Md_top 0 = ((200 * t + (c - 1) : Nat) : Int) ∧ S f_Md_after 0 = ((p + 1 : Nat) : Int) ∧ S f_Md_frameFunction (200 * t + (c - 1)) = (f : Int) ∧ S f_Md_frameAt (200 * t + (c - 1)) = (p : Int) ∧ S f_Md_codeFrom f = (k : Int) ∧ S f_Md_codeOp (k + p) = op ∧ S f_Md_codeA (k + p) = a ∧ S f_Md_codeB (k + p) = b
def atS (S : SS) (t c : Nat) (v : Int) : SS := u2 S f_Md_frameAt (200 * t + (c - 1)) v
abbrev dK (ρ : Nat → Nat) (d T : Nat) (Q : QT) : QT := cV (fun h' => wpB PGm ρ (d + 8) m_Md_does 137 [(0, vR T)] [] h' Q) (fun e h' => hK h' e ≠ 0 ∧ Q (Sum.inr e) h')
section
variable {ρ : Nat → Nat} {d : Nat} {h h' h0 : ah} {Q : QT} {T k f g n c t i j x p : Nat} {op a b v w : Int} {S X : SS}
theorem s_d137 (O : TOK h0 T) (e1 : S f_Md_top 0 = ((200 * t + (c - 1) : Nat) : Int)) (e2 : S f_Md_after 0 = v) (ht : t ≤ 1) (hc : 1 ≤ c ∧ c ≤ 200) (q : Q (Sum.inl none) (cn h0 T (atS S t c v))) : wpB PGm ρ d m_Md_does 137 [(0, vR T)] [] (cn h0 T S) Q := by
  obtain ⟨kT, G, kH⟩ := O
  refine b_Md_does_137 ?_
  simp (decide := true) (disch := first | decide | omega) only [cnI, cnIe, cnR, cnK, cnl, cnA' G, cn_sI, cn_sIe, cn_sA' G, kT, kH, KN G, LN G, u2_f, u2_s, w32_aa, w32_ss, w32_p1, w32_m1, Int.toNat_natCast, true_and, and_true, false_and, and_false, or_false, false_or, ne_eq, not_false_eq_true, forall_const, implies_true, not_true_eq_false, false_implies, e1, e2]
  exact ⟨by omega, q⟩
theorem s_does_var (O : TOK h0 T) (D : DF S t n c f p k op a b) (ho : 0 ≤ op ∧ op < 5) (q : wpB PGm ρ (d + 7) m_Md_variables 0 [(0, vR T), (1, vI op), (2, vI a), (3, vI b)] [] (cn h0 T S) (dK ρ d T Q)) : wpB PGm ρ (d + 8) m_Md_does 0 [(0, vR T)] [] (cn h0 T S) Q := by
  obtain ⟨kT, G, kH⟩ := O
  obtain ⟨F, ⟨d1, d2, d3, d4, d5, d6⟩, e1, e2, e3, e4, e5, e6, e7, e8⟩ := D
  refine b_Md_does_0 ?_
  simp (decide := true) (disch := first | decide | omega) only [cnI, cnIe, cnR, cnK, cnl, cnA' G, cn_sI, cn_sIe, cn_sA' G, kT, kH, KN G, LN G, u2_f, u2_s, w32_aa, w32_ss, w32_p1, w32_m1, Int.toNat_natCast, true_and, and_true, false_and, and_false, or_false, false_or, ne_eq, not_false_eq_true, forall_const, implies_true, not_true_eq_false, false_implies, e1, e2, e3, e4, e5, e6, e7, e8]
  refine ⟨by omega, by omega, by omega, by omega, by omega, fun _ => ⟨fun _ => ⟨fun _ => ⟨fun z => by omega, fun _ => ⟨by omega, q⟩⟩, fun z => by omega⟩, fun z => by omega⟩, fun z => by omega⟩
theorem s_does_opr (O : TOK h0 T) (D : DF S t n c f p k op a b) (ho : 5 ≤ op ∧ op < 20) (q : wpB PGm ρ (d + 7) m_Md_operators 0 [(0, vR T), (1, vI op)] [] (cn h0 T S) (dK ρ d T Q)) : wpB PGm ρ (d + 8) m_Md_does 0 [(0, vR T)] [] (cn h0 T S) Q := by
  obtain ⟨kT, G, kH⟩ := O
  obtain ⟨F, ⟨d1, d2, d3, d4, d5, d6⟩, e1, e2, e3, e4, e5, e6, e7, e8⟩ := D
  refine b_Md_does_0 ?_
  simp (decide := true) (disch := first | decide | omega) only [cnI, cnIe, cnR, cnK, cnl, cnA' G, cn_sI, cn_sIe, cn_sA' G, kT, kH, KN G, LN G, u2_f, u2_s, w32_aa, w32_ss, w32_p1, w32_m1, Int.toNat_natCast, true_and, and_true, false_and, and_false, or_false, false_or, ne_eq, not_false_eq_true, forall_const, implies_true, not_true_eq_false, false_implies, e1, e2, e3, e4, e5, e6, e7, e8]
  refine ⟨by omega, by omega, by omega, by omega, by omega, fun _ => ⟨fun _ => ⟨fun _ => ⟨fun _ => ⟨fun z => by omega, fun _ => q⟩, fun z => by omega⟩, fun z => by omega⟩, fun z => by omega⟩, fun z => by omega⟩
theorem s_does_oth (O : TOK h0 T) (D : DF S t n c f p k op a b) (ho : 20 ≤ op ∧ op ≠ 27 ∧ op ≠ 29 ∧ op ≠ 30) (q : wpB PGm ρ (d + 7) m_Md_others 0 [(0, vR T), (1, vI op), (2, vI a)] [] (cn h0 T S) (dK ρ d T Q)) : wpB PGm ρ (d + 8) m_Md_does 0 [(0, vR T)] [] (cn h0 T S) Q := by
  obtain ⟨kT, G, kH⟩ := O
  obtain ⟨F, ⟨d1, d2, d3, d4, d5, d6⟩, e1, e2, e3, e4, e5, e6, e7, e8⟩ := D
  refine b_Md_does_0 ?_
  simp (decide := true) (disch := first | decide | omega) only [cnI, cnIe, cnR, cnK, cnl, cnA' G, cn_sI, cn_sIe, cn_sA' G, kT, kH, KN G, LN G, u2_f, u2_s, w32_aa, w32_ss, w32_p1, w32_m1, Int.toNat_natCast, true_and, and_true, false_and, and_false, or_false, false_or, ne_eq, not_false_eq_true, forall_const, implies_true, not_true_eq_false, false_implies, e1, e2, e3, e4, e5, e6, e7, e8]
  refine ⟨by omega, by omega, by omega, by omega, by omega, fun _ => ⟨fun _ => ⟨fun _ => ⟨fun _ => ⟨fun _ => q, fun z => by omega⟩, fun z => by omega⟩, fun z => by omega⟩, fun z => by omega⟩, fun z => by omega⟩
/-- what stays of the task at hand -/
theorem TF.e (F : TF S t n c) (e1 : X f_Md_t 0 = S f_Md_t 0) (e2 : X f_Md_p0 0 = S f_Md_p0 0) (e3 : X f_Md_f0 0 = S f_Md_f0 0) (e4 : X f_Md_height t = (x : Int)) (e5 : X f_Md_frames t = S f_Md_frames t) : TF X t x c := ⟨e1.trans F.1, e2.trans F.2.1, e3.trans F.2.2.1, e4, e5.trans F.2.2.2.2⟩
-- PUSH
def cTy (a : Int) : Int := if a = 0 then 0 else if a < 3 then 1 else if a = 3 then 2 else 3
def cVa (a b : Int) : Int := if a = 2 then 1 else if 2 < a then b else 0
theorem s_PUSH (O : TOK h0 T) (D : DF S t n c f p k 0 a b) (q1 : n < 2000 → Q (Sum.inl none) (cn h0 T (atS (pshS S t n (cTy a) (cVa a b)) t c ((p + 1 : Nat) : Int)))) (q0 : n = 2000 → Q (Sum.inr (hR h0 f_Md_halt T)) (cn h0 T (erS S 11))) : wpB PGm ρ (d + 8) m_Md_does 0 [(0, vR T)] [] (cn h0 T S) Q := by
  have O' := O
  refine s_does_var O D (by omega) ?_
  obtain ⟨kT, G, kH⟩ := O
  obtain ⟨F, ⟨d1, d2, d3, d4, d5, d6⟩, e1, e2, e3, e4, e5, e6, e7, e8⟩ := D
  refine b_Md_variables_0 ?_
  simp (decide := true) (disch := first | decide | omega) only [cnI, cnIe, cnR, cnK, cnl, cnA' G, cn_sI, cn_sIe, cn_sA' G, kT, kH, KN G, LN G, u2_f, u2_s, w32_aa, w32_ss, w32_p1, w32_m1, Int.toNat_natCast, true_and, and_true, false_and, and_false, or_false, false_or, ne_eq, not_false_eq_true, forall_const, implies_true, not_true_eq_false, false_implies]
  refine b_Md_variables_26 ?_
  simp (decide := true) (disch := first | decide | omega) only [cnI, cnIe, cnR, cnK, cnl, cnA' G, cn_sI, cn_sIe, cn_sA' G, kT, kH, KN G, LN G, u2_f, u2_s, w32_aa, w32_ss, w32_p1, w32_m1, Int.toNat_natCast, true_and, and_true, false_and, and_false, or_false, false_or, ne_eq, not_false_eq_true, forall_const, implies_true, not_true_eq_false, false_implies]
  refine s_h O' F d1 (by omega) ?_
  simp (decide := true) (disch := first | decide | omega) only [cnI, cnIe, cnR, cnK, cnl, cnA' G, cn_sI, cn_sIe, cn_sA' G, kT, kH, KN G, LN G, u2_f, u2_s, w32_aa, w32_ss, w32_p1, w32_m1, Int.toNat_natCast, true_and, and_true, false_and, and_false, or_false, false_or, ne_eq, not_false_eq_true, forall_const, implies_true, not_true_eq_false, false_implies, cI]
  refine s_mayPile O' F d1 (fun z => ?_) (fun z => ?_)
  · simp (decide := true) (disch := first | decide | omega) only [cnI, cnIe, cnR, cnK, cnl, cnA' G, cn_sI, cn_sIe, cn_sA' G, kT, kH, KN G, LN G, u2_f, u2_s, w32_aa, w32_ss, w32_p1, w32_m1, Int.toNat_natCast, true_and, and_true, false_and, and_false, or_false, false_or, ne_eq, not_false_eq_true, forall_const, implies_true, not_true_eq_false, false_implies, cV]
    have fin : ∀ ty va, ty = cTy a → va = cVa a b → wpB PGm ρ (d + 7) m_Md_variables 120 [] [vL va, vI ty, vR T] (cn h0 T S) (dK ρ d T Q) := by
      intro ty va h1 h2
      subst h1 h2
      refine b_Md_variables_120 ?_
      simp (decide := true) (disch := first | decide | omega) only [cnI, cnIe, cnR, cnK, cnl, cnA' G, cn_sI, cn_sIe, cn_sA' G, kT, kH, KN G, LN G, u2_f, u2_s, w32_aa, w32_ss, w32_p1, w32_m1, Int.toNat_natCast, true_and, and_true, false_and, and_false, or_false, false_or, ne_eq, not_false_eq_true, forall_const, implies_true, not_true_eq_false, false_implies]
      refine s_push O' F d1 (by omega) ?_
      simp (decide := true) (disch := first | decide | omega) only [cnI, cnIe, cnR, cnK, cnl, cnA' G, cn_sI, cn_sIe, cn_sA' G, kT, kH, KN G, LN G, u2_f, u2_s, w32_aa, w32_ss, w32_p1, w32_m1, Int.toNat_natCast, true_and, and_true, false_and, and_false, or_false, false_or, ne_eq, not_false_eq_true, forall_const, implies_true, not_true_eq_false, false_implies, cV]
      refine s_d137 (v := ((p + 1 : Nat) : Int)) (t := t) (c := c) O' ?_ ?_ d1 (by omega) (q1 z)
      · unfold pshS; simp (decide := true) (disch := first | decide | omega) only [cnI, cnIe, cnR, cnK, cnl, cnA' G, cn_sI, cn_sIe, cn_sA' G, kT, kH, KN G, LN G, u2_f, u2_s, w32_aa, w32_ss, w32_p1, w32_m1, Int.toNat_natCast, true_and, and_true, false_and, and_false, or_false, false_or, ne_eq, not_false_eq_true, forall_const, implies_true, not_true_eq_false, false_implies, e1]
      · unfold pshS; simp (decide := true) (disch := first | decide | omega) only [cnI, cnIe, cnR, cnK, cnl, cnA' G, cn_sI, cn_sIe, cn_sA' G, kT, kH, KN G, LN G, u2_f, u2_s, w32_aa, w32_ss, w32_p1, w32_m1, Int.toNat_natCast, true_and, and_true, false_and, and_false, or_false, false_or, ne_eq, not_false_eq_true, forall_const, implies_true, not_true_eq_false, false_implies, e2]
    have g100 : ∀ ty, ty = cTy a → wpB PGm ρ (d + 7) m_Md_variables 100 [(2, vI a), (3, vI b)] [vI ty, vR T] (cn h0 T S) (dK ρ d T Q) := by
      intro ty h1
      refine b_Md_variables_100 ⟨fun y => ⟨fun y2 => fin _ _ h1 ?_, fun y2 => fin _ _ h1 ?_⟩, fun y => fin _ _ h1 ?_⟩
      · unfold cVa; rw [if_neg y, if_neg (by omega)]
      · unfold cVa; rw [if_neg y, if_pos (by omega)]
      · unfold cVa; rw [if_pos y]
    refine ⟨fun y => ⟨fun y2 => ⟨fun y3 => g100 _ ?_, fun y3 => g100 _ ?_⟩, fun y2 => g100 _ ?_⟩, fun y => g100 _ ?_⟩
    · unfold cTy; rw [if_neg y, if_neg (by omega), if_neg y3]
    · unfold cTy; rw [if_neg y, if_neg (by omega), if_pos y3]
    · unfold cTy; rw [if_neg y, if_pos y2]
    · unfold cTy; rw [if_pos y]
  · simp (decide := true) (disch := first | decide | omega) only [cnI, cnIe, cnR, cnK, cnl, cnA' G, cn_sI, cn_sIe, cn_sA' G, kT, kH, KN G, LN G, u2_f, u2_s, w32_aa, w32_ss, w32_p1, w32_m1, Int.toNat_natCast, true_and, and_true, false_and, and_false, or_false, false_or, ne_eq, not_false_eq_true, forall_const, implies_true, not_true_eq_false, false_implies, cV]
    exact q0 (by omega)
-- GLOAD, GSTORE
theorem s_GLOAD (O : TOK h0 T) {a : Nat} (D : DF S t n c f p k 3 (a : Int) b) (ha : a < 4000) (q1 : n < 2000 → S f_Md_isGlobal a ≠ 0 → Q (Sum.inl none) (cn h0 T (atS (pshS S t n (S f_Md_globalType a) (S f_Md_globalValue a)) t c ((p + 1 : Nat) : Int)))) (q2 : n < 2000 → S f_Md_isGlobal a = 0 → Q (Sum.inr (hR h0 f_Md_halt T)) (cn h0 T (erS S 10))) (q0 : n = 2000 → Q (Sum.inr (hR h0 f_Md_halt T)) (cn h0 T (erS S 11))) : wpB PGm ρ (d + 8) m_Md_does 0 [(0, vR T)] [] (cn h0 T S) Q := by
  have O' := O
  refine s_does_var O D (by omega) ?_
  obtain ⟨kT, G, kH⟩ := O
  obtain ⟨F, ⟨d1, d2, d3, d4, d5, d6⟩, e1, e2, e3, e4, e5, e6, e7, e8⟩ := D
  refine b_Md_variables_0 ?_
  simp (decide := true) (disch := first | decide | omega) only [cnI, cnIe, cnR, cnK, cnl, cnA' G, cn_sI, cn_sIe, cn_sA' G, kT, kH, KN G, LN G, u2_f, u2_s, w32_aa, w32_ss, w32_p1, w32_m1, Int.toNat_natCast, true_and, and_true, false_and, and_false, or_false, false_or, ne_eq, not_false_eq_true, forall_const, implies_true, not_true_eq_false, false_implies]
  refine b_Md_variables_26 ?_
  simp (decide := true) (disch := first | decide | omega) only [cnI, cnIe, cnR, cnK, cnl, cnA' G, cn_sI, cn_sIe, cn_sA' G, kT, kH, KN G, LN G, u2_f, u2_s, w32_aa, w32_ss, w32_p1, w32_m1, Int.toNat_natCast, true_and, and_true, false_and, and_false, or_false, false_or, ne_eq, not_false_eq_true, forall_const, implies_true, not_true_eq_false, false_implies]
  refine s_h O' F d1 (by omega) ?_
  simp (decide := true) (disch := first | decide | omega) only [cnI, cnIe, cnR, cnK, cnl, cnA' G, cn_sI, cn_sIe, cn_sA' G, kT, kH, KN G, LN G, u2_f, u2_s, w32_aa, w32_ss, w32_p1, w32_m1, Int.toNat_natCast, true_and, and_true, false_and, and_false, or_false, false_or, ne_eq, not_false_eq_true, forall_const, implies_true, not_true_eq_false, false_implies, cI]
  refine s_mayPile O' F d1 (fun z => ?_) (fun z => ?_)
  · simp (decide := true) (disch := first | decide | omega) only [cnI, cnIe, cnR, cnK, cnl, cnA' G, cn_sI, cn_sIe, cn_sA' G, kT, kH, KN G, LN G, u2_f, u2_s, w32_aa, w32_ss, w32_p1, w32_m1, Int.toNat_natCast, true_and, and_true, false_and, and_false, or_false, false_or, ne_eq, not_false_eq_true, forall_const, implies_true, not_true_eq_false, false_implies, cV]
    refine ⟨by omega, fun y => ?_, fun y => ?_⟩
    · refine b_Md_variables_193 ?_
      simp (decide := true) (disch := first | decide | omega) only [cnI, cnIe, cnR, cnK, cnl, cnA' G, cn_sI, cn_sIe, cn_sA' G, kT, kH, KN G, LN G, u2_f, u2_s, w32_aa, w32_ss, w32_p1, w32_m1, Int.toNat_natCast, true_and, and_true, false_and, and_false, or_false, false_or, ne_eq, not_false_eq_true, forall_const, implies_true, not_true_eq_false, false_implies]
      refine ⟨by omega, by omega, s_push O' F d1 (by omega) ?_⟩
      simp (decide := true) (disch := first | decide | omega) only [cnI, cnIe, cnR, cnK, cnl, cnA' G, cn_sI, cn_sIe, cn_sA' G, kT, kH, KN G, LN G, u2_f, u2_s, w32_aa, w32_ss, w32_p1, w32_m1, Int.toNat_natCast, true_and, and_true, false_and, and_false, or_false, false_or, ne_eq, not_false_eq_true, forall_const, implies_true, not_true_eq_false, false_implies, cV]
      refine s_d137 (v := ((p + 1 : Nat) : Int)) (t := t) (c := c) O' ?_ ?_ d1 (by omega) (q1 z y)
      · unfold pshS; simp (decide := true) (disch := first | decide | omega) only [cnI, cnIe, cnR, cnK, cnl, cnA' G, cn_sI, cn_sIe, cn_sA' G, kT, kH, KN G, LN G, u2_f, u2_s, w32_aa, w32_ss, w32_p1, w32_m1, Int.toNat_natCast, true_and, and_true, false_and, and_false, or_false, false_or, ne_eq, not_false_eq_true, forall_const, implies_true, not_true_eq_false, false_implies, e1]
      · unfold pshS; simp (decide := true) (disch := first | decide | omega) only [cnI, cnIe, cnR, cnK, cnl, cnA' G, cn_sI, cn_sIe, cn_sA' G, kT, kH, KN G, LN G, u2_f, u2_s, w32_aa, w32_ss, w32_p1, w32_m1, Int.toNat_natCast, true_and, and_true, false_and, and_false, or_false, false_or, ne_eq, not_false_eq_true, forall_const, implies_true, not_true_eq_false, false_implies, e2]
    · refine s_error O' ?_
      simp (decide := true) (disch := first | decide | omega) only [cnI, cnIe, cnR, cnK, cnl, cnA' G, cn_sI, cn_sIe, cn_sA' G, kT, kH, KN G, LN G, u2_f, u2_s, w32_aa, w32_ss, w32_p1, w32_m1, Int.toNat_natCast, true_and, and_true, false_and, and_false, or_false, false_or, ne_eq, not_false_eq_true, forall_const, implies_true, not_true_eq_false, false_implies, cV]
      exact q2 z y
  · simp (decide := true) (disch := first | decide | omega) only [cnI, cnIe, cnR, cnK, cnl, cnA' G, cn_sI, cn_sIe, cn_sA' G, kT, kH, KN G, LN G, u2_f, u2_s, w32_aa, w32_ss, w32_p1, w32_m1, Int.toNat_natCast, true_and, and_true, false_and, and_false, or_false, false_or, ne_eq, not_false_eq_true, forall_const, implies_true, not_true_eq_false, false_implies, cV]
    exact q0 (by omega)
def gstS (S : SS) (a : Nat) (ty v : Int) : SS := u2 (u2 (u2 S f_Md_isGlobal a 1) f_Md_globalType a ty) f_Md_globalValue a v
theorem s_GSTORE (O : TOK h0 T) {a : Nat} (D : DF S t n c f p k 4 (a : Int) b) (ha : a < 4000) (hn : 1 ≤ n) (q : Q (Sum.inl none) (cn h0 T (atS (gstS S a (S f_Md_pileType (2100 * t + n - 1)) (S f_Md_pileValue (2100 * t + n - 1))) t c ((p + 1 : Nat) : Int)))) : wpB PGm ρ (d + 8) m_Md_does 0 [(0, vR T)] [] (cn h0 T S) Q := by
  have O' := O
  refine s_does_var O D (by omega) ?_
  obtain ⟨kT, G, kH⟩ := O
  obtain ⟨F, ⟨d1, d2, d3, d4, d5, d6⟩, e1, e2, e3, e4, e5, e6, e7, e8⟩ := D
  refine b_Md_variables_0 ?_
  simp (decide := true) (disch := first | decide | omega) only [cnI, cnIe, cnR, cnK, cnl, cnA' G, cn_sI, cn_sIe, cn_sA' G, kT, kH, KN G, LN G, u2_f, u2_s, w32_aa, w32_ss, w32_p1, w32_m1, Int.toNat_natCast, true_and, and_true, false_and, and_false, or_false, false_or, ne_eq, not_false_eq_true, forall_const, implies_true, not_true_eq_false, false_implies]
  refine b_Md_variables_26 ?_
  simp (decide := true) (disch := first | decide | omega) only [cnI, cnIe, cnR, cnK, cnl, cnA' G, cn_sI, cn_sIe, cn_sA' G, kT, kH, KN G, LN G, u2_f, u2_s, w32_aa, w32_ss, w32_p1, w32_m1, Int.toNat_natCast, true_and, and_true, false_and, and_false, or_false, false_or, ne_eq, not_false_eq_true, forall_const, implies_true, not_true_eq_false, false_implies]
  refine s_h O' F d1 (by omega) ?_
  simp (decide := true) (disch := first | decide | omega) only [cnI, cnIe, cnR, cnK, cnl, cnA' G, cn_sI, cn_sIe, cn_sA' G, kT, kH, KN G, LN G, u2_f, u2_s, w32_aa, w32_ss, w32_p1, w32_m1, Int.toNat_natCast, true_and, and_true, false_and, and_false, or_false, false_or, ne_eq, not_false_eq_true, forall_const, implies_true, not_true_eq_false, false_implies, cI]
  refine ⟨by omega, by omega, by omega, by omega, by omega, ?_⟩
  simp (decide := true) (disch := first | decide | omega) only [cnI, cnIe, cnR, cnK, cnl, cnA' G, cn_sI, cn_sIe, cn_sA' G, kT, kH, KN G, LN G, u2_f, u2_s, w32_aa, w32_ss, w32_p1, w32_m1, Int.toNat_natCast, true_and, and_true, false_and, and_false, or_false, false_or, ne_eq, not_false_eq_true, forall_const, implies_true, not_true_eq_false, false_implies, cV]
  refine s_d137 (v := ((p + 1 : Nat) : Int)) (t := t) (c := c) O' ?_ ?_ d1 (by omega) q
  · simp (decide := true) (disch := first | decide | omega) only [cnI, cnIe, cnR, cnK, cnl, cnA' G, cn_sI, cn_sIe, cn_sA' G, kT, kH, KN G, LN G, u2_f, u2_s, w32_aa, w32_ss, w32_p1, w32_m1, Int.toNat_natCast, true_and, and_true, false_and, and_false, or_false, false_or, ne_eq, not_false_eq_true, forall_const, implies_true, not_true_eq_false, false_implies, e1]
  · simp (decide := true) (disch := first | decide | omega) only [cnI, cnIe, cnR, cnK, cnl, cnA' G, cn_sI, cn_sIe, cn_sA' G, kT, kH, KN G, LN G, u2_f, u2_s, w32_aa, w32_ss, w32_p1, w32_m1, Int.toNat_natCast, true_and, and_true, false_and, and_false, or_false, false_or, ne_eq, not_false_eq_true, forall_const, implies_true, not_true_eq_false, false_implies, e2]
end
