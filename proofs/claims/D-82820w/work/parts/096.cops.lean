/-! C: instructions, by its rows -/
set_option maxRecDepth 20000
/-- what C's machine is like as an instruction is done -/
def IX (h : ah) (C : Nat) (X : X3) (Y : Y3) (o n c : Nat) : Prop := AC h C ∧ FC h C ∧ isT o ∧ XF X Y C o n c ∧ (n ≤ 2000 ∧ 1 ≤ c ∧ c ≤ 200)
section
variable {ρ : Nat → Nat} {d : Nat} {h h' : ah} {Q : QT} {C f g o n c i j x k m : Nat} {a b v w : Int} {X : X3} {Y : Y3}
def ctX (a : Int) : Int := if a = 0 then 0 else if a < 3 then 1 else if a = 3 then 2 else 3
def cvX (X : X3) (a b : Int) : Int := if a = 0 then 0 else if a < 3 then w32 (a - 1) else if a = 3 then b else X 32 f_Machine_literalText b.toNat
theorem r_PUSH (I : IX h C X Y o n c) (ha : ¬ a = 0 → 3 ≤ a → ¬ a = 3 → 0 ≤ b ∧ b < (hl h (hR h f_Machine_literalText (C + 32)) : Int)) (q1 : n < 2000 → Q (Sum.inl none) (cc h C (goX (pshX X o n (ctX a) (cvX X a b)) o c) Y)) (q0 : n = 2000 → Q (Sum.inr (C + 33)) (cc h C (erX X 11) Y)) : wpB PGm ρ (d + 20) m_Machine_instruct 0 [(0, vR (C + 32)), (1, vI 0), (2, vI a), (3, vI b)] [] (cc h C X Y) Q := by
  obtain ⟨G, F, ht, e0, hn, hc1, hc2⟩ := I
  have f1 := F.t ht
  unfold FCt at f1
  have f2 := F
  unfold FC at f2
  have e := e0
  obtain ⟨e1, e2, e3⟩ := e
  refine b_Machine_instruct_0 (by omega) ?_
  simp (decide := true) (disch := first | decide | omega) only [ccI, ccR, ccIt ht, ccRo, ccK, ccl, ccA G, ccAt G ht, ccB G, ccBt G ht, cc_sI, cc_sR, cc_sIt ht, cc_sA G, cc_sAt G ht, cc_sB G, cc_sBt G ht, f1, f2, u3_f, u3_s, KCt G ht, KC G, w32_aa, w32_ss, w32_p1, w32_m1, Int.toNat_natCast, true_and, and_true, false_and, and_false, or_false, false_or, ne_eq, not_false_eq_true, forall_const, implies_true, not_true_eq_false, false_implies, e1, e2]
  refine b_Machine_constant_0 ?_
  simp (decide := true) (disch := first | decide | omega) only [ccI, ccR, ccIt ht, ccRo, ccK, ccl, ccA G, ccAt G ht, ccB G, ccBt G ht, cc_sI, cc_sR, cc_sIt ht, cc_sA G, cc_sAt G ht, cc_sB G, cc_sBt G ht, f1, f2, u3_f, u3_s, KCt G ht, KC G, w32_aa, w32_ss, w32_p1, w32_m1, Int.toNat_natCast, true_and, and_true, false_and, and_false, or_false, false_or, ne_eq, not_false_eq_true, forall_const, implies_true, not_true_eq_false, false_implies, e1, e2, cV]
  have g : ∀ ty va, ty = ctX a → va = cvX X a b → wpB PGm ρ (d + 18) m_Machine_pushed 0 [(0, vR (C + 32)), (1, vI ty), (2, vL va)] [] (cc h C X Y) (cV (fun h17 => Q (Sum.inl none) h17) fun e20 h19 => ¬hK h19 e20 = 0 ∧ ¬hK h19 e20 = 0 ∧ Q (Sum.inr e20) h19) := by
    intro ty va h1 h2
    subst h1 h2
    refine r_pushed G F ht e0 hn ⟨hc1, hc2⟩ ?_ (fun z => q1 z) (fun z => ?_)
    · unfold ctX; (repeat split) <;> omega
    · simp (decide := true) (disch := first | decide | omega) only [ccI, ccR, ccIt ht, ccRo, ccK, ccl, ccA G, ccAt G ht, ccB G, ccBt G ht, cc_sI, cc_sR, cc_sIt ht, cc_sA G, cc_sAt G ht, cc_sB G, cc_sBt G ht, f1, f2, u3_f, u3_s, KCt G ht, KC G, w32_aa, w32_ss, w32_p1, w32_m1, Int.toNat_natCast, true_and, and_true, false_and, and_false, or_false, false_or, ne_eq, not_false_eq_true, forall_const, implies_true, not_true_eq_false, false_implies, cV]
      exact q0 z
  refine ⟨fun y => ⟨fun y2 => ⟨fun y3 => ⟨ha y y2 y3, g _ _ ?_ ?_⟩, fun y3 => g _ _ ?_ ?_⟩, fun y2 => g _ _ ?_ ?_⟩, fun y => g _ _ ?_ ?_⟩
  · unfold ctX; rw [if_neg y, if_neg (by omega), if_neg y3]
  · unfold cvX; rw [if_neg y, if_neg (by omega), if_neg y3]
  · unfold ctX; rw [if_neg y, if_neg (by omega), if_pos y3]
  · unfold cvX; rw [if_neg y, if_neg (by omega), if_pos y3]
  · unfold ctX; rw [if_neg y, if_pos y2]
  · unfold cvX; rw [if_neg y, if_pos y2]
  · unfold ctX; rw [if_pos y]
  · unfold cvX; rw [if_pos y]
theorem r_POP (I : IX h C X Y o n c) (hn1 : 1 ≤ n) (q : Q (Sum.inl none) (cc h C (goX (u3 X o f_Task_size 0 ((n - 1 : Nat) : Int)) o c) Y)) : wpB PGm ρ (d + 20) m_Machine_instruct 0 [(0, vR (C + 32)), (1, vI 5), (2, vI a), (3, vI b)] [] (cc h C X Y) Q := by
  obtain ⟨G, F, ht, e0, hn, hc1, hc2⟩ := I
  have f1 := F.t ht
  unfold FCt at f1
  have f2 := F
  unfold FC at f2
  have e := e0
  obtain ⟨e1, e2, e3⟩ := e
  refine b_Machine_instruct_0 (by omega) ?_
  simp (decide := true) (disch := first | decide | omega) only [ccI, ccR, ccIt ht, ccRo, ccK, ccl, ccA G, ccAt G ht, ccB G, ccBt G ht, cc_sI, cc_sR, cc_sIt ht, cc_sA G, cc_sAt G ht, cc_sB G, cc_sBt G ht, f1, f2, u3_f, u3_s, KCt G ht, KC G, w32_aa, w32_ss, w32_p1, w32_m1, Int.toNat_natCast, true_and, and_true, false_and, and_false, or_false, false_or, ne_eq, not_false_eq_true, forall_const, implies_true, not_true_eq_false, false_implies, e1, e2]
  refine r_go (n := n - 1) (c := c) G F ht ⟨e1, ?_, ?_⟩ ⟨hc1, hc2⟩ q
  · simp (decide := true) (disch := first | decide | omega) only [ccI, ccR, ccIt ht, ccRo, ccK, ccl, ccA G, ccAt G ht, ccB G, ccBt G ht, cc_sI, cc_sR, cc_sIt ht, cc_sA G, cc_sAt G ht, cc_sB G, cc_sBt G ht, f1, f2, u3_f, u3_s, KCt G ht, KC G, w32_aa, w32_ss, w32_p1, w32_m1, Int.toNat_natCast, true_and, and_true, false_and, and_false, or_false, false_or, ne_eq, not_false_eq_true, forall_const, implies_true, not_true_eq_false, false_implies]
  · simp (decide := true) (disch := first | decide | omega) only [ccI, ccR, ccIt ht, ccRo, ccK, ccl, ccA G, ccAt G ht, ccB G, ccBt G ht, cc_sI, cc_sR, cc_sIt ht, cc_sA G, cc_sAt G ht, cc_sB G, cc_sBt G ht, f1, f2, u3_f, u3_s, KCt G ht, KC G, w32_aa, w32_ss, w32_p1, w32_m1, Int.toNat_natCast, true_and, and_true, false_and, and_false, or_false, false_or, ne_eq, not_false_eq_true, forall_const, implies_true, not_true_eq_false, false_implies, e3]
theorem r_DUP (I : IX h C X Y o n c) (hn1 : 1 ≤ n) (hv : -128 ≤ X o f_Task_tags (n - 1) ∧ X o f_Task_tags (n - 1) ≤ 127) (q1 : n < 2000 → Q (Sum.inl none) (cc h C (goX (pshX X o n (X o f_Task_tags (n - 1)) (X o f_Task_words (n - 1))) o c) Y)) (q0 : n = 2000 → Q (Sum.inr (C + 33)) (cc h C (erX X 11) Y)) : wpB PGm ρ (d + 20) m_Machine_instruct 0 [(0, vR (C + 32)), (1, vI 6), (2, vI a), (3, vI b)] [] (cc h C X Y) Q := by
  obtain ⟨G, F, ht, e0, hn, hc1, hc2⟩ := I
  have f1 := F.t ht
  unfold FCt at f1
  have f2 := F
  unfold FC at f2
  have e := e0
  obtain ⟨e1, e2, e3⟩ := e
  refine b_Machine_instruct_0 (by omega) ?_
  simp (decide := true) (disch := first | decide | omega) only [ccI, ccR, ccIt ht, ccRo, ccK, ccl, ccA G, ccAt G ht, ccB G, ccBt G ht, cc_sI, cc_sR, cc_sIt ht, cc_sA G, cc_sAt G ht, cc_sB G, cc_sBt G ht, f1, f2, u3_f, u3_s, KCt G ht, KC G, w32_aa, w32_ss, w32_p1, w32_m1, Int.toNat_natCast, true_and, and_true, false_and, and_false, or_false, false_or, ne_eq, not_false_eq_true, forall_const, implies_true, not_true_eq_false, false_implies, e1, e2]
  refine ⟨by omega, by omega, r_pushed G F ht e0 hn ⟨hc1, hc2⟩ hv (fun z => q1 z) (fun z => ?_)⟩
  simp (decide := true) (disch := first | decide | omega) only [ccI, ccR, ccIt ht, ccRo, ccK, ccl, ccA G, ccAt G ht, ccB G, ccBt G ht, cc_sI, cc_sR, cc_sIt ht, cc_sA G, cc_sAt G ht, cc_sB G, cc_sBt G ht, f1, f2, u3_f, u3_s, KCt G ht, KC G, w32_aa, w32_ss, w32_p1, w32_m1, Int.toNat_natCast, true_and, and_true, false_and, and_false, or_false, false_or, ne_eq, not_false_eq_true, forall_const, implies_true, not_true_eq_false, false_implies, cV]
  exact q0 z
theorem r_MINUS (I : IX h C X Y o n c) (hn1 : 1 ≤ n) (q1 : X o f_Task_tags (n - 1) = 2 → Q (Sum.inl none) (cc h C (goX (u3 X o f_Task_words (n - 1) (w64 (-(X o f_Task_words (n - 1))))) o c) Y)) (q0 : X o f_Task_tags (n - 1) ≠ 2 → Q (Sum.inr (C + 33)) (cc h C (erX X 1) Y)) : wpB PGm ρ (d + 20) m_Machine_instruct 0 [(0, vR (C + 32)), (1, vI 12), (2, vI a), (3, vI b)] [] (cc h C X Y) Q := by
  obtain ⟨G, F, ht, e0, hn, hc1, hc2⟩ := I
  have f1 := F.t ht
  unfold FCt at f1
  have f2 := F
  unfold FC at f2
  have e := e0
  obtain ⟨e1, e2, e3⟩ := e
  refine b_Machine_instruct_0 (by omega) ?_
  simp (decide := true) (disch := first | decide | omega) only [ccI, ccR, ccIt ht, ccRo, ccK, ccl, ccA G, ccAt G ht, ccB G, ccBt G ht, cc_sI, cc_sR, cc_sIt ht, cc_sA G, cc_sAt G ht, cc_sB G, cc_sBt G ht, f1, f2, u3_f, u3_s, KCt G ht, KC G, w32_aa, w32_ss, w32_p1, w32_m1, Int.toNat_natCast, true_and, and_true, false_and, and_false, or_false, false_or, ne_eq, not_false_eq_true, forall_const, implies_true, not_true_eq_false, false_implies, e1, e2]
  refine b_Machine_instruct_389 ?_
  simp (decide := true) (disch := first | decide | omega) only [ccI, ccR, ccIt ht, ccRo, ccK, ccl, ccA G, ccAt G ht, ccB G, ccBt G ht, cc_sI, cc_sR, cc_sIt ht, cc_sA G, cc_sAt G ht, cc_sB G, cc_sBt G ht, f1, f2, u3_f, u3_s, KCt G ht, KC G, w32_aa, w32_ss, w32_p1, w32_m1, Int.toNat_natCast, true_and, and_true, false_and, and_false, or_false, false_or, ne_eq, not_false_eq_true, forall_const, implies_true, not_true_eq_false, false_implies, e1, e2]
  refine ⟨by omega, fun z => ⟨by omega, by omega, r_go (n := n) (c := c) G F ht ⟨e1, ?_, ?_⟩ ⟨hc1, hc2⟩ (q1 z)⟩, fun z => r_sig G F ?_⟩
  · simp (decide := true) (disch := first | decide | omega) only [ccI, ccR, ccIt ht, ccRo, ccK, ccl, ccA G, ccAt G ht, ccB G, ccBt G ht, cc_sI, cc_sR, cc_sIt ht, cc_sA G, cc_sAt G ht, cc_sB G, cc_sBt G ht, f1, f2, u3_f, u3_s, KCt G ht, KC G, w32_aa, w32_ss, w32_p1, w32_m1, Int.toNat_natCast, true_and, and_true, false_and, and_false, or_false, false_or, ne_eq, not_false_eq_true, forall_const, implies_true, not_true_eq_false, false_implies, e2]
  · simp (decide := true) (disch := first | decide | omega) only [ccI, ccR, ccIt ht, ccRo, ccK, ccl, ccA G, ccAt G ht, ccB G, ccBt G ht, cc_sI, cc_sR, cc_sIt ht, cc_sA G, cc_sAt G ht, cc_sB G, cc_sBt G ht, f1, f2, u3_f, u3_s, KCt G ht, KC G, w32_aa, w32_ss, w32_p1, w32_m1, Int.toNat_natCast, true_and, and_true, false_and, and_false, or_false, false_or, ne_eq, not_false_eq_true, forall_const, implies_true, not_true_eq_false, false_implies, e3]
  · simp (decide := true) (disch := first | decide | omega) only [ccI, ccR, ccIt ht, ccRo, ccK, ccl, ccA G, ccAt G ht, ccB G, ccBt G ht, cc_sI, cc_sR, cc_sIt ht, cc_sA G, cc_sAt G ht, cc_sB G, cc_sBt G ht, f1, f2, u3_f, u3_s, KCt G ht, KC G, w32_aa, w32_ss, w32_p1, w32_m1, Int.toNat_natCast, true_and, and_true, false_and, and_false, or_false, false_or, ne_eq, not_false_eq_true, forall_const, implies_true, not_true_eq_false, false_implies, cR]
    exact q0 z
theorem r_NOT (I : IX h C X Y o n c) (hn1 : 1 ≤ n) (q : ∀ v, (isNo (X o f_Task_tags (n - 1)) (X o f_Task_words (n - 1)) → v = 1) → (¬ isNo (X o f_Task_tags (n - 1)) (X o f_Task_words (n - 1)) → v = 0) → Q (Sum.inl none) (cc h C (goX (u3 (u3 X o f_Task_words (n - 1) v) o f_Task_tags (n - 1) 1) o c) Y)) : wpB PGm ρ (d + 20) m_Machine_instruct 0 [(0, vR (C + 32)), (1, vI 13), (2, vI a), (3, vI b)] [] (cc h C X Y) Q := by
  obtain ⟨G, F, ht, e0, hn, hc1, hc2⟩ := I
  have f1 := F.t ht
  unfold FCt at f1
  have f2 := F
  unfold FC at f2
  have e := e0
  obtain ⟨e1, e2, e3⟩ := e
  have g : ∀ v, (isNo (X o f_Task_tags (n - 1)) (X o f_Task_words (n - 1)) → v = 1) → (¬ isNo (X o f_Task_tags (n - 1)) (X o f_Task_words (n - 1)) → v = 0) → wpB PGm ρ (d + 20) m_Machine_instruct 463 [(0, vR (C + 32)), (4, vI ((n - 1 : Nat) : Int))] [vL v, vI ((n - 1 : Nat) : Int), vR (hR h f_Task_words (C + o))] (cc h C X Y) Q := by
    intro v h1 h2
    refine b_Machine_instruct_463 ?_
    simp (decide := true) (disch := first | decide | omega) only [ccI, ccR, ccIt ht, ccRo, ccK, ccl, ccA G, ccAt G ht, ccB G, ccBt G ht, cc_sI, cc_sR, cc_sIt ht, cc_sA G, cc_sAt G ht, cc_sB G, cc_sBt G ht, f1, f2, u3_f, u3_s, KCt G ht, KC G, w32_aa, w32_ss, w32_p1, w32_m1, Int.toNat_natCast, true_and, and_true, false_and, and_false, or_false, false_or, ne_eq, not_false_eq_true, forall_const, implies_true, not_true_eq_false, false_implies, e1, e2]
    refine ⟨by omega, by omega, r_go (n := n) (c := c) G F ht ⟨e1, ?_, ?_⟩ ⟨hc1, hc2⟩ (q v h1 h2)⟩
    · simp (decide := true) (disch := first | decide | omega) only [ccI, ccR, ccIt ht, ccRo, ccK, ccl, ccA G, ccAt G ht, ccB G, ccBt G ht, cc_sI, cc_sR, cc_sIt ht, cc_sA G, cc_sAt G ht, cc_sB G, cc_sBt G ht, f1, f2, u3_f, u3_s, KCt G ht, KC G, w32_aa, w32_ss, w32_p1, w32_m1, Int.toNat_natCast, true_and, and_true, false_and, and_false, or_false, false_or, ne_eq, not_false_eq_true, forall_const, implies_true, not_true_eq_false, false_implies, e2]
    · simp (decide := true) (disch := first | decide | omega) only [ccI, ccR, ccIt ht, ccRo, ccK, ccl, ccA G, ccAt G ht, ccB G, ccBt G ht, cc_sI, cc_sR, cc_sIt ht, cc_sA G, cc_sAt G ht, cc_sB G, cc_sBt G ht, f1, f2, u3_f, u3_s, KCt G ht, KC G, w32_aa, w32_ss, w32_p1, w32_m1, Int.toNat_natCast, true_and, and_true, false_and, and_false, or_false, false_or, ne_eq, not_false_eq_true, forall_const, implies_true, not_true_eq_false, false_implies, e3]
  refine b_Machine_instruct_0 (by omega) ?_
  simp (decide := true) (disch := first | decide | omega) only [ccI, ccR, ccIt ht, ccRo, ccK, ccl, ccA G, ccAt G ht, ccB G, ccBt G ht, cc_sI, cc_sR, cc_sIt ht, cc_sA G, cc_sAt G ht, cc_sB G, cc_sBt G ht, f1, f2, u3_f, u3_s, KCt G ht, KC G, w32_aa, w32_ss, w32_p1, w32_m1, Int.toNat_natCast, true_and, and_true, false_and, and_false, or_false, false_or, ne_eq, not_false_eq_true, forall_const, implies_true, not_true_eq_false, false_implies, e1, e2]
  refine r_isNot G F ht e1 (by omega) (fun z => ?_) (fun z => ?_)
  · simp (decide := true) (disch := first | decide | omega) only [ccI, ccR, ccIt ht, ccRo, ccK, ccl, ccA G, ccAt G ht, ccB G, ccBt G ht, cc_sI, cc_sR, cc_sIt ht, cc_sA G, cc_sAt G ht, cc_sB G, cc_sBt G ht, f1, f2, u3_f, u3_s, KCt G ht, KC G, w32_aa, w32_ss, w32_p1, w32_m1, Int.toNat_natCast, true_and, and_true, false_and, and_false, or_false, false_or, ne_eq, not_false_eq_true, forall_const, implies_true, not_true_eq_false, false_implies, cI]
    exact g 1 (fun _ => rfl) (fun y => absurd z y)
  · simp (decide := true) (disch := first | decide | omega) only [ccI, ccR, ccIt ht, ccRo, ccK, ccl, ccA G, ccAt G ht, ccB G, ccBt G ht, cc_sI, cc_sR, cc_sIt ht, cc_sA G, cc_sAt G ht, cc_sB G, cc_sBt G ht, f1, f2, u3_f, u3_s, KCt G ht, KC G, w32_aa, w32_ss, w32_p1, w32_m1, Int.toNat_natCast, true_and, and_true, false_and, and_false, or_false, false_or, ne_eq, not_false_eq_true, forall_const, implies_true, not_true_eq_false, false_implies, cI]
    exact g 0 (fun y => absurd y z) (fun _ => rfl)
theorem r_JUMP (I : IX h C X Y o n c) (q : Q (Sum.inl none) (cc h C (u3 X o f_Task_next (c - 1) a) Y)) : wpB PGm ρ (d + 20) m_Machine_instruct 0 [(0, vR (C + 32)), (1, vI 20), (2, vI a), (3, vI b)] [] (cc h C X Y) Q := by
  obtain ⟨G, F, ht, e0, hn, hc1, hc2⟩ := I
  have f1 := F.t ht
  unfold FCt at f1
  have f2 := F
  unfold FC at f2
  have e := e0
  obtain ⟨e1, e2, e3⟩ := e
  refine b_Machine_instruct_0 (by omega) ?_
  simp (decide := true) (disch := first | decide | omega) only [ccI, ccR, ccIt ht, ccRo, ccK, ccl, ccA G, ccAt G ht, ccB G, ccBt G ht, cc_sI, cc_sR, cc_sIt ht, cc_sA G, cc_sAt G ht, cc_sB G, cc_sBt G ht, f1, f2, u3_f, u3_s, KCt G ht, KC G, w32_aa, w32_ss, w32_p1, w32_m1, Int.toNat_natCast, true_and, and_true, false_and, and_false, or_false, false_or, ne_eq, not_false_eq_true, forall_const, implies_true, not_true_eq_false, false_implies, e1, e2, e3]
  exact ⟨by omega, q⟩
theorem r_jump (I : IX h C X Y o n c) (hn1 : 1 ≤ n) {op : Int} (ho : op = 21 ∨ op = 22 ∨ op = 23) (q1 : (op = 22 ↔ ¬ isNo (X o f_Task_tags (n - 1)) (X o f_Task_words (n - 1))) → op = 21 → Q (Sum.inl none) (cc h C (u3 (u3 X o f_Task_size 0 ((n - 1 : Nat) : Int)) o f_Task_next (c - 1) a) Y)) (q2 : (op = 22 ↔ ¬ isNo (X o f_Task_tags (n - 1)) (X o f_Task_words (n - 1))) → op ≠ 21 → Q (Sum.inl none) (cc h C (u3 X o f_Task_next (c - 1) a) Y)) (q3 : ¬ (op = 22 ↔ ¬ isNo (X o f_Task_tags (n - 1)) (X o f_Task_words (n - 1))) → Q (Sum.inl none) (cc h C (goX (u3 X o f_Task_size 0 ((n - 1 : Nat) : Int)) o c) Y)) : wpB PGm ρ (d + 18) m_Machine_jump 0 [(0, vR (C + 32)), (1, vI op), (2, vI a), (3, vI ((n - 1 : Nat) : Int))] [] (cc h C X Y) Q := by
  obtain ⟨G, F, ht, e0, hn, hc1, hc2⟩ := I
  have f1 := F.t ht
  unfold FCt at f1
  have f2 := F
  unfold FC at f2
  have e := e0
  obtain ⟨e1, e2, e3⟩ := e
  have g54 : ∀ (X : X3) (v : Int), XF X Y C o (n - 1) c ∨ XF X Y C o n c → (¬ v = 0 → Q (Sum.inl none) (cc h C (u3 X o f_Task_next (c - 1) a) Y)) → (v = 0 → Q (Sum.inl none) (cc h C (goX X o c) Y)) → wpB PGm ρ (d + 18) m_Machine_jump 54 [(0, vR (C + 32)), (2, vI a), (5, vI v)] [] (cc h C X Y) Q := by
    intro X v eX k1 k0
    have e3 : X o f_Task_calls 0 = (c : Int) := eX.elim (fun z => z.2.2) (fun z => z.2.2)
    refine b_Machine_jump_54 ⟨fun z => ?_, fun z => ?_⟩
    · simp (decide := true) (disch := first | decide | omega) only [ccI, ccR, ccIt ht, ccRo, ccK, ccl, ccA G, ccAt G ht, ccB G, ccBt G ht, cc_sI, cc_sR, cc_sIt ht, cc_sA G, cc_sAt G ht, cc_sB G, cc_sBt G ht, f1, f2, u3_f, u3_s, KCt G ht, KC G, w32_aa, w32_ss, w32_p1, w32_m1, Int.toNat_natCast, true_and, and_true, false_and, and_false, or_false, false_or, ne_eq, not_false_eq_true, forall_const, implies_true, not_true_eq_false, false_implies]
      exact eX.elim (fun y => r_go G F ht y ⟨hc1, hc2⟩ (k0 z)) (fun y => r_go G F ht y ⟨hc1, hc2⟩ (k0 z))
    · simp (decide := true) (disch := first | decide | omega) only [ccI, ccR, ccIt ht, ccRo, ccK, ccl, ccA G, ccAt G ht, ccB G, ccBt G ht, cc_sI, cc_sR, cc_sIt ht, cc_sA G, cc_sAt G ht, cc_sB G, cc_sBt G ht, f1, f2, u3_f, u3_s, KCt G ht, KC G, w32_aa, w32_ss, w32_p1, w32_m1, Int.toNat_natCast, true_and, and_true, false_and, and_false, or_false, false_or, ne_eq, not_false_eq_true, forall_const, implies_true, not_true_eq_false, false_implies, e1, e3]
      exact ⟨by omega, k1 z⟩
  have g41 : ∀ (v : Int), (¬ v = 0 → Q (Sum.inl none) (cc h C (u3 (u3 X o f_Task_size 0 ((n - 1 : Nat) : Int)) o f_Task_next (c - 1) a) Y)) → (v = 0 → Q (Sum.inl none) (cc h C (goX (u3 X o f_Task_size 0 ((n - 1 : Nat) : Int)) o c) Y)) → wpB PGm ρ (d + 18) m_Machine_jump 41 [(0, vR (C + 32)), (2, vI a), (5, vI v)] [] (cc h C X Y) Q := by
    intro v k1 k0
    refine b_Machine_jump_41 ?_
    simp (decide := true) (disch := first | decide | omega) only [ccI, ccR, ccIt ht, ccRo, ccK, ccl, ccA G, ccAt G ht, ccB G, ccBt G ht, cc_sI, cc_sR, cc_sIt ht, cc_sA G, cc_sAt G ht, cc_sB G, cc_sBt G ht, f1, f2, u3_f, u3_s, KCt G ht, KC G, w32_aa, w32_ss, w32_p1, w32_m1, Int.toNat_natCast, true_and, and_true, false_and, and_false, or_false, false_or, ne_eq, not_false_eq_true, forall_const, implies_true, not_true_eq_false, false_implies, e1, e2]
    exact g54 _ _ (Or.inl ⟨e1, by simp (decide := true) (disch := first | decide | omega) only [ccI, ccR, ccIt ht, ccRo, ccK, ccl, ccA G, ccAt G ht, ccB G, ccBt G ht, cc_sI, cc_sR, cc_sIt ht, cc_sA G, cc_sAt G ht, cc_sB G, cc_sBt G ht, f1, f2, u3_f, u3_s, KCt G ht, KC G, w32_aa, w32_ss, w32_p1, w32_m1, Int.toNat_natCast, true_and, and_true, false_and, and_false, or_false, false_or, ne_eq, not_false_eq_true, forall_const, implies_true, not_true_eq_false, false_implies], by simp (decide := true) (disch := first | decide | omega) only [ccI, ccR, ccIt ht, ccRo, ccK, ccl, ccA G, ccAt G ht, ccB G, ccBt G ht, cc_sI, cc_sR, cc_sIt ht, cc_sA G, cc_sAt G ht, cc_sB G, cc_sBt G ht, f1, f2, u3_f, u3_s, KCt G ht, KC G, w32_aa, w32_ss, w32_p1, w32_m1, Int.toNat_natCast, true_and, and_true, false_and, and_false, or_false, false_or, ne_eq, not_false_eq_true, forall_const, implies_true, not_true_eq_false, false_implies, e3]⟩) k1 k0
  have g28 : ∀ v : Int, (¬ v = 0 ↔ (op = 22 ↔ ¬ isNo (X o f_Task_tags (n - 1)) (X o f_Task_words (n - 1)))) → wpB PGm ρ (d + 18) m_Machine_jump 28 [(0, vR (C + 32)), (1, vI op), (2, vI a)] [vI v] (cc h C X Y) Q := by
    intro v hv
    refine b_Machine_jump_28 ⟨fun y => g41 _ (fun z => q1 (hv.mp z) y) (fun z => q3 (fun x => hv.mpr x z)), fun y => ⟨fun z => g54 _ _ (Or.inr e0) (fun _ => q2 (hv.mp z) y) (fun x => absurd x z), fun z => g41 _ (fun x => absurd z x) (fun _ => q3 (fun x => hv.mpr x z))⟩⟩
  refine b_Machine_jump_0 ?_
  simp (decide := true) (disch := first | decide | omega) only [ccI, ccR, ccIt ht, ccRo, ccK, ccl, ccA G, ccAt G ht, ccB G, ccBt G ht, cc_sI, cc_sR, cc_sIt ht, cc_sA G, cc_sAt G ht, cc_sB G, cc_sBt G ht, f1, f2, u3_f, u3_s, KCt G ht, KC G, w32_aa, w32_ss, w32_p1, w32_m1, Int.toNat_natCast, true_and, and_true, false_and, and_false, or_false, false_or, ne_eq, not_false_eq_true, forall_const, implies_true, not_true_eq_false, false_implies]
  refine r_isNot G F ht e1 (by omega) (fun z => ⟨fun y => g28 _ ?_, fun y => ⟨fun x => g28 _ ?_, fun x => absurd x (by decide)⟩⟩) (fun z => ⟨fun y => g28 _ ?_, fun y => ⟨fun x => absurd rfl x, fun x => g28 _ ?_⟩⟩)
  · exact ⟨fun _ => ⟨fun c => absurd c y, fun c => absurd z c⟩, fun _ => by decide⟩
  · exact ⟨fun c => absurd rfl c, fun c => absurd z (c.mp y)⟩
  · exact ⟨fun c => absurd rfl c, fun c => absurd (c.mpr z) y⟩
  · exact ⟨fun _ => ⟨fun _ => z, fun _ => y⟩, fun _ => by decide⟩
theorem r_UNL (I : IX h C X Y o n c) (hn1 : 1 ≤ n) {op : Int} (ho : op = 21 ∨ op = 22 ∨ op = 23) (q1 : (op = 22 ↔ ¬ isNo (X o f_Task_tags (n - 1)) (X o f_Task_words (n - 1))) → op = 21 → Q (Sum.inl none) (cc h C (u3 (u3 X o f_Task_size 0 ((n - 1 : Nat) : Int)) o f_Task_next (c - 1) a) Y)) (q2 : (op = 22 ↔ ¬ isNo (X o f_Task_tags (n - 1)) (X o f_Task_words (n - 1))) → op ≠ 21 → Q (Sum.inl none) (cc h C (u3 X o f_Task_next (c - 1) a) Y)) (q3 : ¬ (op = 22 ↔ ¬ isNo (X o f_Task_tags (n - 1)) (X o f_Task_words (n - 1))) → Q (Sum.inl none) (cc h C (goX (u3 X o f_Task_size 0 ((n - 1 : Nat) : Int)) o c) Y)) : wpB PGm ρ (d + 20) m_Machine_instruct 0 [(0, vR (C + 32)), (1, vI op), (2, vI a), (3, vI b)] [] (cc h C X Y) Q := by
  have I' := I
  obtain ⟨G, F, ht, e0, hn, hc1, hc2⟩ := I
  have f1 := F.t ht
  unfold FCt at f1
  have f2 := F
  unfold FC at f2
  have e := e0
  obtain ⟨e1, e2, e3⟩ := e
  have g : wpB PGm ρ (d + 20) m_Machine_instruct 503 [(0, vR (C + 32)), (1, vI op), (2, vI a), (4, vI ((n - 1 : Nat) : Int))] [] (cc h C X Y) Q := by
    refine b_Machine_instruct_503 ?_
    simp (decide := true) (disch := first | decide | omega) only [ccI, ccR, ccIt ht, ccRo, ccK, ccl, ccA G, ccAt G ht, ccB G, ccBt G ht, cc_sI, cc_sR, cc_sIt ht, cc_sA G, cc_sAt G ht, cc_sB G, cc_sBt G ht, f1, f2, u3_f, u3_s, KCt G ht, KC G, w32_aa, w32_ss, w32_p1, w32_m1, Int.toNat_natCast, true_and, and_true, false_and, and_false, or_false, false_or, ne_eq, not_false_eq_true, forall_const, implies_true, not_true_eq_false, false_implies]
    exact r_jump (d := d + 1) I' hn1 ho q1 q2 q3
  refine b_Machine_instruct_0 (by omega) ?_
  rcases ho with rfl | rfl | rfl
  · simp (decide := true) (disch := first | decide | omega) only [ccI, ccR, ccIt ht, ccRo, ccK, ccl, ccA G, ccAt G ht, ccB G, ccBt G ht, cc_sI, cc_sR, cc_sIt ht, cc_sA G, cc_sAt G ht, cc_sB G, cc_sBt G ht, f1, f2, u3_f, u3_s, KCt G ht, KC G, w32_aa, w32_ss, w32_p1, w32_m1, Int.toNat_natCast, true_and, and_true, false_and, and_false, or_false, false_or, ne_eq, not_false_eq_true, forall_const, implies_true, not_true_eq_false, false_implies, e1, e2]
    exact g
  · simp (decide := true) (disch := first | decide | omega) only [ccI, ccR, ccIt ht, ccRo, ccK, ccl, ccA G, ccAt G ht, ccB G, ccBt G ht, cc_sI, cc_sR, cc_sIt ht, cc_sA G, cc_sAt G ht, cc_sB G, cc_sBt G ht, f1, f2, u3_f, u3_s, KCt G ht, KC G, w32_aa, w32_ss, w32_p1, w32_m1, Int.toNat_natCast, true_and, and_true, false_and, and_false, or_false, false_or, ne_eq, not_false_eq_true, forall_const, implies_true, not_true_eq_false, false_implies, e1, e2]
    exact g
  · simp (decide := true) (disch := first | decide | omega) only [ccI, ccR, ccIt ht, ccRo, ccK, ccl, ccA G, ccAt G ht, ccB G, ccBt G ht, cc_sI, cc_sR, cc_sIt ht, cc_sA G, cc_sAt G ht, cc_sB G, cc_sBt G ht, f1, f2, u3_f, u3_s, KCt G ht, KC G, w32_aa, w32_ss, w32_p1, w32_m1, Int.toNat_natCast, true_and, and_true, false_and, and_false, or_false, false_or, ne_eq, not_false_eq_true, forall_const, implies_true, not_true_eq_false, false_implies, e1, e2]
    exact g
theorem r_TRIED (I : IX h C X Y o n c) {r : Nat} (er : X o f_Task_tries 0 = (r : Int)) (hr : 1 ≤ r ∧ r ≤ 10000) (q : Q (Sum.inl none) (cc h C (goX (u3 X o f_Task_tries 0 ((r - 1 : Nat) : Int)) o c) Y)) : wpB PGm ρ (d + 20) m_Machine_instruct 0 [(0, vR (C + 32)), (1, vI 32), (2, vI a), (3, vI b)] [] (cc h C X Y) Q := by
  obtain ⟨G, F, ht, e0, hn, hc1, hc2⟩ := I
  have f1 := F.t ht
  unfold FCt at f1
  have f2 := F
  unfold FC at f2
  have e := e0
  obtain ⟨e1, e2, e3⟩ := e
  refine b_Machine_instruct_0 (by omega) ?_
  simp (decide := true) (disch := first | decide | omega) only [ccI, ccR, ccIt ht, ccRo, ccK, ccl, ccA G, ccAt G ht, ccB G, ccBt G ht, cc_sI, cc_sR, cc_sIt ht, cc_sA G, cc_sAt G ht, cc_sB G, cc_sBt G ht, f1, f2, u3_f, u3_s, KCt G ht, KC G, w32_aa, w32_ss, w32_p1, w32_m1, Int.toNat_natCast, true_and, and_true, false_and, and_false, or_false, false_or, ne_eq, not_false_eq_true, forall_const, implies_true, not_true_eq_false, false_implies, e1, e2, er]
  refine r_go (n := n) (c := c) G F ht ⟨e1, ?_, ?_⟩ ⟨hc1, hc2⟩ q
  · simp (decide := true) (disch := first | decide | omega) only [ccI, ccR, ccIt ht, ccRo, ccK, ccl, ccA G, ccAt G ht, ccB G, ccBt G ht, cc_sI, cc_sR, cc_sIt ht, cc_sA G, cc_sAt G ht, cc_sB G, cc_sBt G ht, f1, f2, u3_f, u3_s, KCt G ht, KC G, w32_aa, w32_ss, w32_p1, w32_m1, Int.toNat_natCast, true_and, and_true, false_and, and_false, or_false, false_or, ne_eq, not_false_eq_true, forall_const, implies_true, not_true_eq_false, false_implies, e2]
  · simp (decide := true) (disch := first | decide | omega) only [ccI, ccR, ccIt ht, ccRo, ccK, ccl, ccA G, ccAt G ht, ccB G, ccBt G ht, cc_sI, cc_sR, cc_sIt ht, cc_sA G, cc_sAt G ht, cc_sB G, cc_sBt G ht, f1, f2, u3_f, u3_s, KCt G ht, KC G, w32_aa, w32_ss, w32_p1, w32_m1, Int.toNat_natCast, true_and, and_true, false_and, and_false, or_false, false_or, ne_eq, not_false_eq_true, forall_const, implies_true, not_true_eq_false, false_implies, e3]
theorem r_THIS (I : IX h C X Y o n c) (hv : -128 ≤ X o f_Task_thisTag (c - 1) ∧ X o f_Task_thisTag (c - 1) ≤ 127) (q1 : n < 2000 → Q (Sum.inl none) (cc h C (goX (pshX X o n (X o f_Task_thisTag (c - 1)) (X o f_Task_thisWord (c - 1))) o c) Y)) (q0 : n = 2000 → Q (Sum.inr (C + 33)) (cc h C (erX X 11) Y)) : wpB PGm ρ (d + 20) m_Machine_instruct 0 [(0, vR (C + 32)), (1, vI 33), (2, vI a), (3, vI b)] [] (cc h C X Y) Q := by
  obtain ⟨G, F, ht, e0, hn, hc1, hc2⟩ := I
  have f1 := F.t ht
  unfold FCt at f1
  have f2 := F
  unfold FC at f2
  have e := e0
  obtain ⟨e1, e2, e3⟩ := e
  refine b_Machine_instruct_0 (by omega) ?_
  simp (decide := true) (disch := first | decide | omega) only [ccI, ccR, ccIt ht, ccRo, ccK, ccl, ccA G, ccAt G ht, ccB G, ccBt G ht, cc_sI, cc_sR, cc_sIt ht, cc_sA G, cc_sAt G ht, cc_sB G, cc_sBt G ht, f1, f2, u3_f, u3_s, KCt G ht, KC G, w32_aa, w32_ss, w32_p1, w32_m1, Int.toNat_natCast, true_and, and_true, false_and, and_false, or_false, false_or, ne_eq, not_false_eq_true, forall_const, implies_true, not_true_eq_false, false_implies, e1, e2, e3]
  refine ⟨by omega, by omega, r_pushed G F ht e0 hn ⟨hc1, hc2⟩ hv (fun z => b_Machine_instruct_845 (q1 z)) (fun z => ?_)⟩
  simp (decide := true) (disch := first | decide | omega) only [ccI, ccR, ccIt ht, ccRo, ccK, ccl, ccA G, ccAt G ht, ccB G, ccBt G ht, cc_sI, cc_sR, cc_sIt ht, cc_sA G, cc_sAt G ht, cc_sB G, cc_sBt G ht, f1, f2, u3_f, u3_s, KCt G ht, KC G, w32_aa, w32_ss, w32_p1, w32_m1, Int.toNat_natCast, true_and, and_true, false_and, and_false, or_false, false_or, ne_eq, not_false_eq_true, forall_const, implies_true, not_true_eq_false, false_implies, cV]
  exact q0 z
end
