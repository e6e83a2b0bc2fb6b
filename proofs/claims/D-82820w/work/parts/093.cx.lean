/-! C: small methods of the machine, by its rows -/
set_option maxRecDepth 20000
/-- C's task at hand is at o, with n values on its pile and c calls -/
def XF (X : X3) (Y : Y3) (C o n c : Nat) : Prop := Y 32 f_Machine_t 0 = C + o ∧ X o f_Task_size 0 = (n : Int) ∧ X o f_Task_calls 0 = (c : Int)
def erX (X : X3) (v : Int) : X3 := u3 X 33 f_Signal_error 0 v
def pshX (X : X3) (o n : Nat) (ty v : Int) : X3 := u3 (u3 (u3 X o f_Task_tags n ty) o f_Task_words n v) o f_Task_size 0 ((n + 1 : Nat) : Int)
def goX (X : X3) (o c : Nat) : X3 := u3 X o f_Task_next (c - 1) (w32 (X o f_Task_next (c - 1) + 1))
def ansX (X : X3) (o n c : Nat) (ty v : Int) : X3 := goX (u3 (u3 (u3 X o f_Task_size 0 ((n + 1 : Nat) : Int)) o f_Task_tags n ty) o f_Task_words n v) o c
def endX (X : X3) (o : Nat) (s ty v : Int) : X3 := u3 (u3 (u3 (u3 (u3 (u3 X o f_Task_state 0 s) o f_Task_tag 0 ty) o f_Task_word 0 v) o f_Task_calls 0 0) o f_Task_size 0 0) o f_Task_tries 0 0
section
variable {ρ : Nat → Nat} {d : Nat} {h h' : ah} {Q : QT} {C f g o a b n c i j x k m : Nat} {v w : Int} {X : X3} {Y : Y3}
theorem r_push (G : AC h C) (F : FC h C) (ht : isT o) (e : X o f_Task_size 0 = (n : Int)) (hn : n ≤ 2000) (hv : -128 ≤ v ∧ v ≤ 127) (q : Q (Sum.inl none) (cc h C (pshX X o n v w) Y)) : wpB PGm ρ d m_Task_push 0 [(0, vR (C + o)), (1, vI v), (2, vL w)] [] (cc h C X Y) Q := by
  have f1 := F.t ht
  unfold FCt at f1
  have f2 := trivial
  refine b_Task_push_0 ?_
  simp (decide := true) (disch := first | decide | omega) only [ccI, ccR, ccIt ht, ccRo, ccK, ccl, ccA G, ccAt G ht, ccB G, ccBt G ht, cc_sI, cc_sR, cc_sIt ht, cc_sA G, cc_sAt G ht, cc_sB G, cc_sBt G ht, f1, f2, u3_f, u3_s, KCt G ht, KC G, w32_aa, w32_ss, w32_p1, w32_m1, Int.toNat_natCast, true_and, and_true, false_and, and_false, or_false, false_or, ne_eq, not_false_eq_true, forall_const, implies_true, not_true_eq_false, false_implies, e]
  exact ⟨⟨hv, by omega⟩, by omega, q⟩
theorem r_end (G : AC h C) (F : FC h C) (ht : isT o) {s : Int} (hv : -128 ≤ v ∧ v ≤ 127) (q : Q (Sum.inl none) (cc h C (endX X o s v w) Y)) : wpB PGm ρ d m_Task_end 0 [(0, vR (C + o)), (1, vI s), (2, vI v), (3, vL w)] [] (cc h C X Y) Q := by
  have f1 := F.t ht
  unfold FCt at f1
  have f2 := trivial
  refine b_Task_end_0 ?_
  simp (decide := true) (disch := first | decide | omega) only [ccI, ccR, ccIt ht, ccRo, ccK, ccl, ccA G, ccAt G ht, ccB G, ccBt G ht, cc_sI, cc_sR, cc_sIt ht, cc_sA G, cc_sAt G ht, cc_sB G, cc_sBt G ht, f1, f2, u3_f, u3_s, KCt G ht, KC G, w32_aa, w32_ss, w32_p1, w32_m1, Int.toNat_natCast, true_and, and_true, false_and, and_false, or_false, false_or, ne_eq, not_false_eq_true, forall_const, implies_true, not_true_eq_false, false_implies]
  exact ⟨hv, q⟩
theorem r_sig (G : AC h C) (F : FC h C) (q : Q (Sum.inl (some (vR (C + 33)))) (cc h C (erX X v) Y)) : wpB PGm ρ d m_Signal_of 0 [(0, vR (C + 33)), (1, vI v)] [] (cc h C X Y) Q := by
  have f2 := F
  unfold FC at f2
  have f1 := trivial
  have ht : isT 62 := Or.inl rfl
  refine b_Signal_of_0 ?_
  simp (decide := true) (disch := first | decide | omega) only [ccI, ccR, ccIt ht, ccRo, ccK, ccl, ccA G, ccAt G ht, ccB G, ccBt G ht, cc_sI, cc_sR, cc_sIt ht, cc_sA G, cc_sAt G ht, cc_sB G, cc_sBt G ht, f1, f2, u3_f, u3_s, KCt G ht, KC G, w32_aa, w32_ss, w32_p1, w32_m1, Int.toNat_natCast, true_and, and_true, false_and, and_false, or_false, false_or, ne_eq, not_false_eq_true, forall_const, implies_true, not_true_eq_false, false_implies]
  exact q
theorem r_room (G : AC h C) (F : FC h C) (ht : isT o) (e : XF X Y C o n c) (q1 : n ≠ 2000 → Q (Sum.inl none) (cc h C X Y)) (q0 : n = 2000 → Q (Sum.inr (C + 33)) (cc h C (erX X 11) Y)) : wpB PGm ρ (d + 1) m_Machine_room 0 [(0, vR (C + 32))] [] (cc h C X Y) Q := by
  have f1 := F.t ht
  unfold FCt at f1
  have f2 := F
  unfold FC at f2
  obtain ⟨e1, e2, e3⟩ := e
  refine b_Machine_room_0 ?_
  simp (decide := true) (disch := first | decide | omega) only [ccI, ccR, ccIt ht, ccRo, ccK, ccl, ccA G, ccAt G ht, ccB G, ccBt G ht, cc_sI, cc_sR, cc_sIt ht, cc_sA G, cc_sAt G ht, cc_sB G, cc_sBt G ht, f1, f2, u3_f, u3_s, KCt G ht, KC G, w32_aa, w32_ss, w32_p1, w32_m1, Int.toNat_natCast, true_and, and_true, false_and, and_false, or_false, false_or, ne_eq, not_false_eq_true, forall_const, implies_true, not_true_eq_false, false_implies, e1, e2]
  refine ⟨fun z => q1 (by omega), fun z => r_sig G F ?_⟩
  simp (decide := true) (disch := first | decide | omega) only [ccI, ccR, ccIt ht, ccRo, ccK, ccl, ccA G, ccAt G ht, ccB G, ccBt G ht, cc_sI, cc_sR, cc_sIt ht, cc_sA G, cc_sAt G ht, cc_sB G, cc_sBt G ht, f1, f2, u3_f, u3_s, KCt G ht, KC G, w32_aa, w32_ss, w32_p1, w32_m1, Int.toNat_natCast, true_and, and_true, false_and, and_false, or_false, false_or, ne_eq, not_false_eq_true, forall_const, implies_true, not_true_eq_false, false_implies, cR]
  exact q0 (by omega)
theorem r_go (G : AC h C) (F : FC h C) (ht : isT o) (e : XF X Y C o n c) (hc : 1 ≤ c ∧ c ≤ 200) (q : Q (Sum.inl none) (cc h C (goX X o c) Y)) : wpB PGm ρ d m_Machine_go 0 [(0, vR (C + 32))] [] (cc h C X Y) Q := by
  have f1 := F.t ht
  unfold FCt at f1
  have f2 := F
  unfold FC at f2
  obtain ⟨e1, e2, e3⟩ := e
  refine b_Machine_go_0 ?_
  simp (decide := true) (disch := first | decide | omega) only [ccI, ccR, ccIt ht, ccRo, ccK, ccl, ccA G, ccAt G ht, ccB G, ccBt G ht, cc_sI, cc_sR, cc_sIt ht, cc_sA G, cc_sAt G ht, cc_sB G, cc_sBt G ht, f1, f2, u3_f, u3_s, KCt G ht, KC G, w32_aa, w32_ss, w32_p1, w32_m1, Int.toNat_natCast, true_and, and_true, false_and, and_false, or_false, false_or, ne_eq, not_false_eq_true, forall_const, implies_true, not_true_eq_false, false_implies, e1, e2, e3]
  exact ⟨by omega, by omega, q⟩
theorem XF.psh (e : XF X Y C o n c) : XF (pshX X o n v w) Y C o (n + 1) c := by
  obtain ⟨e1, e2, e3⟩ := e
  refine ⟨e1, ?_, ?_⟩
  · unfold pshX; rw [u3_s]
  · unfold pshX; rw [u3_f (by decide), u3_f (by decide), u3_f (by decide)]; exact e3
theorem r_pushed (G : AC h C) (F : FC h C) (ht : isT o) (e : XF X Y C o n c) (hn : n ≤ 2000) (hc : 1 ≤ c ∧ c ≤ 200) (hv : -128 ≤ v ∧ v ≤ 127) (q1 : n < 2000 → Q (Sum.inl none) (cc h C (goX (pshX X o n v w) o c) Y)) (q0 : n = 2000 → Q (Sum.inr (C + 33)) (cc h C (erX X 11) Y)) : wpB PGm ρ (d + 2) m_Machine_pushed 0 [(0, vR (C + 32)), (1, vI v), (2, vL w)] [] (cc h C X Y) Q := by
  have f1 := F.t ht
  unfold FCt at f1
  have f2 := F
  unfold FC at f2
  have e0 := e
  obtain ⟨e1, e2, e3⟩ := e
  refine b_Machine_pushed_0 ?_
  simp (decide := true) (disch := first | decide | omega) only [ccI, ccR, ccIt ht, ccRo, ccK, ccl, ccA G, ccAt G ht, ccB G, ccBt G ht, cc_sI, cc_sR, cc_sIt ht, cc_sA G, cc_sAt G ht, cc_sB G, cc_sBt G ht, f1, f2, u3_f, u3_s, KCt G ht, KC G, w32_aa, w32_ss, w32_p1, w32_m1, Int.toNat_natCast, true_and, and_true, false_and, and_false, or_false, false_or, ne_eq, not_false_eq_true, forall_const, implies_true, not_true_eq_false, false_implies, e1, e2, e3]
  refine r_room G F ht e0 (fun z => ?_) (fun z => ?_)
  · simp (decide := true) (disch := first | decide | omega) only [ccI, ccR, ccIt ht, ccRo, ccK, ccl, ccA G, ccAt G ht, ccB G, ccBt G ht, cc_sI, cc_sR, cc_sIt ht, cc_sA G, cc_sAt G ht, cc_sB G, cc_sBt G ht, f1, f2, u3_f, u3_s, KCt G ht, KC G, w32_aa, w32_ss, w32_p1, w32_m1, Int.toNat_natCast, true_and, and_true, false_and, and_false, or_false, false_or, ne_eq, not_false_eq_true, forall_const, implies_true, not_true_eq_false, false_implies, cV, e1]
    refine r_push G F ht e2 hn hv ?_
    simp (decide := true) (disch := first | decide | omega) only [ccI, ccR, ccIt ht, ccRo, ccK, ccl, ccA G, ccAt G ht, ccB G, ccBt G ht, cc_sI, cc_sR, cc_sIt ht, cc_sA G, cc_sAt G ht, cc_sB G, cc_sBt G ht, f1, f2, u3_f, u3_s, KCt G ht, KC G, w32_aa, w32_ss, w32_p1, w32_m1, Int.toNat_natCast, true_and, and_true, false_and, and_false, or_false, false_or, ne_eq, not_false_eq_true, forall_const, implies_true, not_true_eq_false, false_implies, cV]
    exact r_go G F ht e0.psh hc (q1 (by omega))
  · simp (decide := true) (disch := first | decide | omega) only [ccI, ccR, ccIt ht, ccRo, ccK, ccl, ccA G, ccAt G ht, ccB G, ccBt G ht, cc_sI, cc_sR, cc_sIt ht, cc_sA G, cc_sAt G ht, cc_sB G, cc_sBt G ht, f1, f2, u3_f, u3_s, KCt G ht, KC G, w32_aa, w32_ss, w32_p1, w32_m1, Int.toNat_natCast, true_and, and_true, false_and, and_false, or_false, false_or, ne_eq, not_false_eq_true, forall_const, implies_true, not_true_eq_false, false_implies, cV]
    exact q0 z
theorem r_answer (G : AC h C) (F : FC h C) (ht : isT o) (e : Y 32 f_Machine_t 0 = C + o) (e3 : X o f_Task_calls 0 = (c : Int)) (hn : n ≤ 2000) (hc : 1 ≤ c ∧ c ≤ 200) (hv : -128 ≤ v ∧ v ≤ 127) (q : Q (Sum.inl none) (cc h C (ansX X o n c v w) Y)) : wpB PGm ρ (d + 1) m_Machine_answer 0 [(0, vR (C + 32)), (1, vI (n : Int)), (2, vI v), (3, vL w)] [] (cc h C X Y) Q := by
  have f1 := F.t ht
  unfold FCt at f1
  have f2 := F
  unfold FC at f2
  refine b_Machine_answer_0 ?_
  simp (decide := true) (disch := first | decide | omega) only [ccI, ccR, ccIt ht, ccRo, ccK, ccl, ccA G, ccAt G ht, ccB G, ccBt G ht, cc_sI, cc_sR, cc_sIt ht, cc_sA G, cc_sAt G ht, cc_sB G, cc_sBt G ht, f1, f2, u3_f, u3_s, KCt G ht, KC G, w32_aa, w32_ss, w32_p1, w32_m1, Int.toNat_natCast, true_and, and_true, false_and, and_false, or_false, false_or, ne_eq, not_false_eq_true, forall_const, implies_true, not_true_eq_false, false_implies, e, e3]
  refine ⟨⟨hv, by omega⟩, by omega, r_go (n := n + 1) (c := c) G F ht ⟨e, ?_, ?_⟩ hc ?_⟩
  · rw [u3_f (by decide), u3_f (by decide), u3_s]
  · rw [u3_f (by decide), u3_f (by decide), u3_f (by decide)]; exact e3
  · exact q
theorem r_isNot (G : AC h C) (F : FC h C) (ht : isT o) (e : Y 32 f_Machine_t 0 = C + o) (hn : n ≤ 2000) (q1 : X o f_Task_tags n = 0 ∨ (X o f_Task_tags n = 1 ∧ X o f_Task_words n = 0) → Q (Sum.inl (some (vI 1))) (cc h C X Y)) (q0 : ¬ (X o f_Task_tags n = 0 ∨ (X o f_Task_tags n = 1 ∧ X o f_Task_words n = 0)) → Q (Sum.inl (some (vI 0))) (cc h C X Y)) : wpB PGm ρ d m_Machine_isNot 0 [(0, vR (C + 32)), (1, vI (n : Int))] [] (cc h C X Y) Q := by
  have f1 := F.t ht
  unfold FCt at f1
  have f2 := F
  unfold FC at f2
  refine b_Machine_isNot_0 ?_
  simp (decide := true) (disch := first | decide | omega) only [ccI, ccR, ccIt ht, ccRo, ccK, ccl, ccA G, ccAt G ht, ccB G, ccBt G ht, cc_sI, cc_sR, cc_sIt ht, cc_sA G, cc_sAt G ht, cc_sB G, cc_sBt G ht, f1, f2, u3_f, u3_s, KCt G ht, KC G, w32_aa, w32_ss, w32_p1, w32_m1, Int.toNat_natCast, true_and, and_true, false_and, and_false, or_false, false_or, ne_eq, not_false_eq_true, forall_const, implies_true, not_true_eq_false, false_implies, e, lc_z]
  exact ⟨by omega, fun z => q1 (Or.inl z), fun z => ⟨by omega, fun z2 => q0 (by omega), fun z2 => ⟨by omega, fun z3 => q0 (by omega), fun z3 => q1 (Or.inr ⟨z2, z3⟩)⟩⟩⟩
end
