/-! something is thrown, a call comes back -/
set_option maxRecDepth 20000
def finS (S : SS) (t : Nat) (s ty v : Int) : SS := u2 (u2 (u2 (u2 (u2 (u2 S f_Md_state t s) f_Md_resultType t ty) f_Md_resultValue t v) f_Md_frames t 0) f_Md_height t 0) f_Md_tries t 0
/-- T goes on at try r - 1: frame j, place a, height m -/
def thrS (S : SS) (t r j a m : Nat) (ty v : Int) : SS := pshS (u2 (u2 (u2 (u2 (u2 S f_Md_tries t ((r - 1 : Nat) : Int)) f_Md_frames t ((j + 1 : Nat) : Int)) f_Md_top 0 ((200 * t + j : Nat) : Int)) f_Md_frameAt (200 * t + j) (a : Int)) f_Md_height t (m : Int)) t m ty v
def rsX (X : X3) (o r j a m : Nat) (ty v : Int) : X3 := pshX (u3 (u3 (u3 (u3 X o f_Task_tries 0 ((r - 1 : Nat) : Int)) o f_Task_calls 0 ((j + 1 : Nat) : Int)) o f_Task_size 0 (m : Int)) o f_Task_next j (a : Int)) o m ty v
section
variable {ρ : Nat → Nat} {d : Nat} {h h' h0 : ah} {Q : QT} {T k f g n c t i j x p r m C o : Nat} {op b v w ty s : Int} {S : SS} {X : X3} {Y : Y3}
theorem s_finishes (O : TOK h0 T) (e : S f_Md_t 0 = (t : Int)) (ht : t ≤ 1) (q : Q (Sum.inl none) (cn h0 T (finS S t s ty v))) : wpB PGm ρ d m_Md_finishes 0 [(0, vR T), (1, vI s), (2, vI ty), (3, vL v)] [] (cn h0 T S) Q := by
  obtain ⟨kT, G, kH⟩ := O
  refine b_Md_finishes_0 ?_
  simp (decide := true) (disch := first | decide | omega) only [cnI, cnIe, cnR, cnK, cnl, cnA' G, cn_sI, cn_sIe, cn_sA' G, kT, kH, KN G, LN G, u2_f, u2_s, w32_aa, w32_ss, w32_p1, w32_m1, Int.toNat_natCast, true_and, and_true, false_and, and_false, or_false, false_or, ne_eq, not_false_eq_true, forall_const, implies_true, not_true_eq_false, false_implies, e]
  exact ⟨by omega, by omega, by omega, by omega, by omega, by omega, q⟩
theorem s_thrown0 (O : TOK h0 T) (e : S f_Md_t 0 = (t : Int)) (ht : t ≤ 1) (er : S f_Md_tries t = 0) (q : Q (Sum.inl none) (cn h0 T (finS S t 3 ty v))) : wpB PGm ρ (d + 1) m_Md_thrownIs 0 [(0, vR T), (1, vI ty), (2, vL v)] [] (cn h0 T S) Q := by
  have O' := O
  obtain ⟨kT, G, kH⟩ := O
  refine b_Md_thrownIs_0 ?_
  simp (decide := true) (disch := first | decide | omega) only [cnI, cnIe, cnR, cnK, cnl, cnA' G, cn_sI, cn_sIe, cn_sA' G, kT, kH, KN G, LN G, u2_f, u2_s, w32_aa, w32_ss, w32_p1, w32_m1, Int.toNat_natCast, true_and, and_true, false_and, and_false, or_false, false_or, ne_eq, not_false_eq_true, forall_const, implies_true, not_true_eq_false, false_implies, e, er]
  exact ⟨by omega, s_finishes O' e ht q⟩
theorem s_thrown (O : TOK h0 T) {a : Nat} (F : TF S t n c) (ht : t ≤ 1) (er : S f_Md_tries t = (r : Int)) (hr : 1 ≤ r ∧ r ≤ 10000) (e1 : S f_Md_tryFrame (10000 * t + (r - 1)) = (j : Int)) (hj : j < 200) (e2 : S f_Md_tryAt (10000 * t + (r - 1)) = (a : Int)) (e3 : S f_Md_tryHeight (10000 * t + (r - 1)) = (m : Int)) (hm : m ≤ 2000) (q : Q (Sum.inl none) (cn h0 T (thrS S t r j a m ty v))) : wpB PGm ρ (d + 2) m_Md_thrownIs 0 [(0, vR T), (1, vI ty), (2, vL v)] [] (cn h0 T S) Q := by
  have O' := O
  obtain ⟨kT, G, kH⟩ := O
  obtain ⟨t1, t2, t3, t4, t5⟩ := F
  have e9 : w32 (10000 * (t : Int)) = ((10000 * t : Nat) : Int) := by rw [w32_of (by omega) (by omega)]; omega
  have nz : ¬ (r : Int) = 0 := by omega
  refine b_Md_thrownIs_0 ?_
  simp (decide := true) (disch := first | decide | omega) only [cnI, cnIe, cnR, cnK, cnl, cnA' G, cn_sI, cn_sIe, cn_sA' G, kT, kH, KN G, LN G, u2_f, u2_s, w32_aa, w32_ss, w32_p1, w32_m1, Int.toNat_natCast, true_and, and_true, false_and, and_false, or_false, false_or, ne_eq, not_false_eq_true, forall_const, implies_true, not_true_eq_false, false_implies, t1, t3, er, e9, e1, nz]
  refine ⟨by omega, by omega, by omega, by omega, by omega, by omega, by omega, b_Md_thrownIs_87 ?_⟩
  simp (decide := true) (disch := first | decide | omega) only [cnI, cnIe, cnR, cnK, cnl, cnA' G, cn_sI, cn_sIe, cn_sA' G, kT, kH, KN G, LN G, u2_f, u2_s, w32_aa, w32_ss, w32_p1, w32_m1, Int.toNat_natCast, true_and, and_true, false_and, and_false, or_false, false_or, ne_eq, not_false_eq_true, forall_const, implies_true, not_true_eq_false, false_implies, t1, e1, e2, e3]
  refine ⟨by omega, by omega, by omega, by omega, s_push (t := t) (n := m) (c := j + 1) O' ⟨?_, ?_, ?_, ?_, ?_⟩ ht (by omega) q⟩
  · simp (decide := true) (disch := first | decide | omega) only [cnI, cnIe, cnR, cnK, cnl, cnA' G, cn_sI, cn_sIe, cn_sA' G, kT, kH, KN G, LN G, u2_f, u2_s, w32_aa, w32_ss, w32_p1, w32_m1, Int.toNat_natCast, true_and, and_true, false_and, and_false, or_false, false_or, ne_eq, not_false_eq_true, forall_const, implies_true, not_true_eq_false, false_implies, t1]
  · simp (decide := true) (disch := first | decide | omega) only [cnI, cnIe, cnR, cnK, cnl, cnA' G, cn_sI, cn_sIe, cn_sA' G, kT, kH, KN G, LN G, u2_f, u2_s, w32_aa, w32_ss, w32_p1, w32_m1, Int.toNat_natCast, true_and, and_true, false_and, and_false, or_false, false_or, ne_eq, not_false_eq_true, forall_const, implies_true, not_true_eq_false, false_implies, t2]
  · simp (decide := true) (disch := first | decide | omega) only [cnI, cnIe, cnR, cnK, cnl, cnA' G, cn_sI, cn_sIe, cn_sA' G, kT, kH, KN G, LN G, u2_f, u2_s, w32_aa, w32_ss, w32_p1, w32_m1, Int.toNat_natCast, true_and, and_true, false_and, and_false, or_false, false_or, ne_eq, not_false_eq_true, forall_const, implies_true, not_true_eq_false, false_implies, t3]
  · simp (decide := true) (disch := first | decide | omega) only [cnI, cnIe, cnR, cnK, cnl, cnA' G, cn_sI, cn_sIe, cn_sA' G, kT, kH, KN G, LN G, u2_f, u2_s, w32_aa, w32_ss, w32_p1, w32_m1, Int.toNat_natCast, true_and, and_true, false_and, and_false, or_false, false_or, ne_eq, not_false_eq_true, forall_const, implies_true, not_true_eq_false, false_implies]
  · simp (decide := true) (disch := first | decide | omega) only [cnI, cnIe, cnR, cnK, cnl, cnA' G, cn_sI, cn_sIe, cn_sA' G, kT, kH, KN G, LN G, u2_f, u2_s, w32_aa, w32_ss, w32_p1, w32_m1, Int.toNat_natCast, true_and, and_true, false_and, and_false, or_false, false_or, ne_eq, not_false_eq_true, forall_const, implies_true, not_true_eq_false, false_implies]
theorem r_raise0 (G : AC h C) (F : FC h C) (ht : isT o) (er : X o f_Task_tries 0 = 0) (hv : -128 ≤ ty ∧ ty ≤ 127) (q : Q (Sum.inl none) (cc h C (endX X o 3 ty v) Y)) : wpB PGm ρ (d + 1) m_Task_raise 0 [(0, vR (C + o)), (1, vI ty), (2, vL v)] [] (cc h C X Y) Q := by
  have f1 := F.t ht
  unfold FCt at f1
  have f2 := trivial
  refine b_Task_raise_0 ?_
  simp (decide := true) (disch := first | decide | omega) only [ccI, ccR, ccIt ht, ccRo, ccK, ccl, ccA G, ccAt G ht, ccB G, ccBt G ht, cc_sI, cc_sR, cc_sIt ht, cc_sA G, cc_sAt G ht, cc_sB G, cc_sBt G ht, f1, f2, u3_f, u3_s, KCt G ht, KC G, w32_aa, w32_ss, w32_p1, w32_m1, Int.toNat_natCast, true_and, and_true, false_and, and_false, or_false, false_or, ne_eq, not_false_eq_true, forall_const, implies_true, not_true_eq_false, false_implies, er]
  exact r_end G F ht hv q
theorem r_raise (G : AC h C) (F : FC h C) (ht : isT o) {a : Nat} (er : X o f_Task_tries 0 = (r : Int)) (hr : 1 ≤ r ∧ r ≤ 10000) (l1 : r ≤ hl h (hR h f_Task_tryCall (C + o))) (l2 : r ≤ hl h (hR h f_Task_tryTo (C + o))) (l3 : r ≤ hl h (hR h f_Task_trySize (C + o))) (e1 : X o f_Task_tryCall (r - 1) = ((j + 1 : Nat) : Int)) (hj : j < 200) (e2 : X o f_Task_tryTo (r - 1) = (a : Int)) (e3 : X o f_Task_trySize (r - 1) = (m : Int)) (hm : m ≤ 2000) (hv : -128 ≤ ty ∧ ty ≤ 127) (q : Q (Sum.inl none) (cc h C (rsX X o r j a m ty v) Y)) : wpB PGm ρ (d + 1) m_Task_raise 0 [(0, vR (C + o)), (1, vI ty), (2, vL v)] [] (cc h C X Y) Q := by
  have f1 := F.t ht
  unfold FCt at f1
  have f2 := trivial
  have nz : ¬ (r : Int) = 0 := by omega
  have ej : w32 (((j + 1 : Nat) : Int) - 1) = (j : Int) := by rw [w32_of (by omega) (by omega)]; omega
  refine b_Task_raise_0 ?_
  simp (decide := true) (disch := first | decide | omega) only [ccI, ccR, ccIt ht, ccRo, ccK, ccl, ccA G, ccAt G ht, ccB G, ccBt G ht, cc_sI, cc_sR, cc_sIt ht, cc_sA G, cc_sAt G ht, cc_sB G, cc_sBt G ht, f1, f2, u3_f, u3_s, KCt G ht, KC G, w32_aa, w32_ss, w32_p1, w32_m1, Int.toNat_natCast, true_and, and_true, false_and, and_false, or_false, false_or, ne_eq, not_false_eq_true, forall_const, implies_true, not_true_eq_false, false_implies, er, e1, e2, e3, nz, ej]
  refine ⟨by omega, by omega, by omega, by omega, r_push (n := m) G F ht ?_ hm hv q⟩
  simp (decide := true) (disch := first | decide | omega) only [ccI, ccR, ccIt ht, ccRo, ccK, ccl, ccA G, ccAt G ht, ccB G, ccBt G ht, cc_sI, cc_sR, cc_sIt ht, cc_sA G, cc_sAt G ht, cc_sB G, cc_sBt G ht, f1, f2, u3_f, u3_s, KCt G ht, KC G, w32_aa, w32_ss, w32_p1, w32_m1, Int.toNat_natCast, true_and, and_true, false_and, and_false, or_false, false_or, ne_eq, not_false_eq_true, forall_const, implies_true, not_true_eq_false, false_implies]
/-- T's call comes back with a value -/
def rtS (S : SS) (t c m q : Nat) : SS := u2 (u2 (u2 S f_Md_height t (m : Int)) f_Md_tries t (q : Int)) f_Md_frames t ((c - 1 : Nat) : Int)
theorem s_ret33 (O : TOK h0 T) {q0 : Nat} (e1 : S f_Md_t 0 = (t : Int)) (e2 : S f_Md_p0 0 = ((2100 * t : Nat) : Int)) (e3 : S f_Md_f0 0 = ((200 * t : Nat) : Int)) (e4 : S f_Md_top 0 = ((200 * t + (c - 1) : Nat) : Int)) (e5 : S f_Md_frames t = (c : Int)) (ht : t ≤ 1) (hc : 1 ≤ c ∧ c ≤ 200) (eb : S f_Md_frameBase (200 * t + (c - 1)) = (m : Int)) (hm : m ≤ 2000) (eq : S f_Md_frameTries (200 * t + (c - 1)) = (q0 : Int)) (et : S f_Md_type 0 = ty) (ev : S f_Md_value 0 = v) (q1 : c = 1 → Q (Sum.inl none) (cn h0 T (finS (rtS S t c m q0) t 2 ty v))) (q2 : 2 ≤ c → Q (Sum.inl none) (cn h0 T (pshS (u2 (rtS S t c m q0) f_Md_top 0 ((200 * t + (c - 1) - 1 : Nat) : Int)) t m ty v))) : wpB PGm ρ (d + 2) m_Md_returns 33 [(0, vR T)] [] (cn h0 T S) Q := by
  have O' := O
  obtain ⟨kT, G, kH⟩ := O
  have g1 := q1
  have g2 := q2
  clear q1 q2
  refine b_Md_returns_33 ?_
  simp (decide := true) (disch := first | decide | omega) only [cnI, cnIe, cnR, cnK, cnl, cnA' G, cn_sI, cn_sIe, cn_sA' G, kT, kH, KN G, LN G, u2_f, u2_s, w32_aa, w32_ss, w32_p1, w32_m1, Int.toNat_natCast, true_and, and_true, false_and, and_false, or_false, false_or, ne_eq, not_false_eq_true, forall_const, implies_true, not_true_eq_false, false_implies, e1, e3, e4, e5, eb, eq, et, ev]
  refine ⟨by omega, by omega, by omega, by omega, by omega, by omega, by omega, fun z => ⟨by omega, b_Md_returns_128 ?_⟩, fun z => ?_⟩
  · simp (decide := true) (disch := first | decide | omega) only [cnI, cnIe, cnR, cnK, cnl, cnA' G, cn_sI, cn_sIe, cn_sA' G, kT, kH, KN G, LN G, u2_f, u2_s, w32_aa, w32_ss, w32_p1, w32_m1, Int.toNat_natCast, true_and, and_true, false_and, and_false, or_false, false_or, ne_eq, not_false_eq_true, forall_const, implies_true, not_true_eq_false, false_implies, et, ev]
    refine s_push (t := t) (n := m) (c := c - 1) O' ⟨?_, ?_, ?_, ?_, ?_⟩ ht (by omega) ?_
    · simp (decide := true) (disch := first | decide | omega) only [cnI, cnIe, cnR, cnK, cnl, cnA' G, cn_sI, cn_sIe, cn_sA' G, kT, kH, KN G, LN G, u2_f, u2_s, w32_aa, w32_ss, w32_p1, w32_m1, Int.toNat_natCast, true_and, and_true, false_and, and_false, or_false, false_or, ne_eq, not_false_eq_true, forall_const, implies_true, not_true_eq_false, false_implies, e1]
    · simp (decide := true) (disch := first | decide | omega) only [cnI, cnIe, cnR, cnK, cnl, cnA' G, cn_sI, cn_sIe, cn_sA' G, kT, kH, KN G, LN G, u2_f, u2_s, w32_aa, w32_ss, w32_p1, w32_m1, Int.toNat_natCast, true_and, and_true, false_and, and_false, or_false, false_or, ne_eq, not_false_eq_true, forall_const, implies_true, not_true_eq_false, false_implies, e2]
    · simp (decide := true) (disch := first | decide | omega) only [cnI, cnIe, cnR, cnK, cnl, cnA' G, cn_sI, cn_sIe, cn_sA' G, kT, kH, KN G, LN G, u2_f, u2_s, w32_aa, w32_ss, w32_p1, w32_m1, Int.toNat_natCast, true_and, and_true, false_and, and_false, or_false, false_or, ne_eq, not_false_eq_true, forall_const, implies_true, not_true_eq_false, false_implies, e3]
    · simp (decide := true) (disch := first | decide | omega) only [cnI, cnIe, cnR, cnK, cnl, cnA' G, cn_sI, cn_sIe, cn_sA' G, kT, kH, KN G, LN G, u2_f, u2_s, w32_aa, w32_ss, w32_p1, w32_m1, Int.toNat_natCast, true_and, and_true, false_and, and_false, or_false, false_or, ne_eq, not_false_eq_true, forall_const, implies_true, not_true_eq_false, false_implies]
    · simp (decide := true) (disch := first | decide | omega) only [cnI, cnIe, cnR, cnK, cnl, cnA' G, cn_sI, cn_sIe, cn_sA' G, kT, kH, KN G, LN G, u2_f, u2_s, w32_aa, w32_ss, w32_p1, w32_m1, Int.toNat_natCast, true_and, and_true, false_and, and_false, or_false, false_or, ne_eq, not_false_eq_true, forall_const, implies_true, not_true_eq_false, false_implies]
    · exact g2 (by omega)
  · refine s_finishes (t := t) O' ?_ ht (g1 (by omega))
    simp (decide := true) (disch := first | decide | omega) only [cnI, cnIe, cnR, cnK, cnl, cnA' G, cn_sI, cn_sIe, cn_sA' G, kT, kH, KN G, LN G, u2_f, u2_s, w32_aa, w32_ss, w32_p1, w32_m1, Int.toNat_natCast, true_and, and_true, false_and, and_false, or_false, false_or, ne_eq, not_false_eq_true, forall_const, implies_true, not_true_eq_false, false_implies, e1]
theorem s_RETURN (O : TOK h0 T) {a : Int} (D : DF S t n c f p k 29 a b) (hn : 1 ≤ n) {m q0 : Nat} {ty v : Int} {S1 : SS} (eb : S f_Md_frameBase (200 * t + (c - 1)) = (m : Int)) (hm : m ≤ 2000) (eq : S f_Md_frameTries (200 * t + (c - 1)) = (q0 : Int)) (hx : (¬ (0 ≤ S f_Md_frameNew (200 * t + (c - 1)) ∧ S f_Md_pileType (2100 * t + (n - 1)) ≠ 4) ∧ S1 = popS S t n ∧ ty = S f_Md_pileType (2100 * t + (n - 1)) ∧ v = S f_Md_pileValue (2100 * t + (n - 1))) ∨ ((0 ≤ S f_Md_frameNew (200 * t + (c - 1)) ∧ S f_Md_pileType (2100 * t + (n - 1)) ≠ 4) ∧ S1 = isS (popS S t n) 4 (S f_Md_frameNew (200 * t + (c - 1))) ∧ ty = 4 ∧ v = S f_Md_frameNew (200 * t + (c - 1))))
    (q1 : c = 1 → Q (Sum.inl none) (cn h0 T (finS (rtS S1 t c m q0) t 2 ty v))) (q2 : 2 ≤ c → Q (Sum.inl none) (cn h0 T (pshS (u2 (rtS S1 t c m q0) f_Md_top 0 ((200 * t + (c - 1) - 1 : Nat) : Int)) t m ty v))) : wpB PGm ρ (d + 8) m_Md_does 0 [(0, vR T)] [] (cn h0 T S) Q := by
  have O' := O
  obtain ⟨kT, G, kH⟩ := O
  obtain ⟨F, ⟨d1, d2, d3, d4, d5, d6⟩, e1, e2, e3, e4, e5, e6, e7, e8⟩ := D
  have F' := F
  obtain ⟨t1, t2, t3, t4, t5⟩ := F
  have g : wpB PGm ρ (d + 7) m_Md_returns 33 [(0, vR T)] [] (cn h0 T S1) (cV (fun h62 => Q (Sum.inl none) h62) (fun e h' => ¬ hK h' e = 0 ∧ Q (Sum.inr e) h')) := by
    have hS : ∀ f i, f ≠ f_Md_height → f ≠ f_Md_type → f ≠ f_Md_value → S1 f i = S f i := by
      intro f i n1 n2 n3
      rcases hx with ⟨-, q, -⟩ | ⟨-, q, -⟩
      · rw [q]; unfold popS isS; rw [u2_f n3, u2_f n2, u2_f n1]
      · rw [q]; unfold popS isS; rw [u2_f n3, u2_f n2, u2_f n3, u2_f n2, u2_f n1]
    refine s_ret33 (d := d + 5) (c := c) (ty := ty) (v := v) O' ?_ ?_ ?_ ?_ ?_ d1 ⟨d3, d4⟩ ?_ hm ?_ ?_ ?_ q1 q2
    · rw [hS _ _ (by decide) (by decide) (by decide)]; exact t1
    · rw [hS _ _ (by decide) (by decide) (by decide)]; exact t2
    · rw [hS _ _ (by decide) (by decide) (by decide)]; exact t3
    · rw [hS _ _ (by decide) (by decide) (by decide)]; exact e1
    · rw [hS _ _ (by decide) (by decide) (by decide)]; exact t5
    · rw [hS _ _ (by decide) (by decide) (by decide)]; exact eb
    · rw [hS _ _ (by decide) (by decide) (by decide)]; exact eq
    · rcases hx with ⟨-, q, q3, -⟩ | ⟨-, q, q3, -⟩
      · rw [q, q3]; unfold popS isS; rw [u2_f (by decide), u2_s]
      · rw [q, q3]; unfold popS isS; rw [u2_f (by decide), u2_s]
    · rcases hx with ⟨-, q, -, q3⟩ | ⟨-, q, -, q3⟩
      · rw [q, q3]; unfold popS isS; rw [u2_s]
      · rw [q, q3]; unfold popS isS; rw [u2_s]
  clear q1 q2
  have gx := hx
  clear hx
  refine b_Md_does_0 ?_
  simp (decide := true) (disch := first | decide | omega) only [cnI, cnIe, cnR, cnK, cnl, cnA' G, cn_sI, cn_sIe, cn_sA' G, kT, kH, KN G, LN G, u2_f, u2_s, w32_aa, w32_ss, w32_p1, w32_m1, Int.toNat_natCast, true_and, and_true, false_and, and_false, or_false, false_or, ne_eq, not_false_eq_true, forall_const, implies_true, not_true_eq_false, false_implies, e1, e2, e3, e4, e5, e6]
  refine ⟨by omega, by omega, by omega, by omega, by omega, b_Md_returns_0 ?_⟩
  simp (decide := true) (disch := first | decide | omega) only [cnI, cnIe, cnR, cnK, cnl, cnA' G, cn_sI, cn_sIe, cn_sA' G, kT, kH, KN G, LN G, u2_f, u2_s, w32_aa, w32_ss, w32_p1, w32_m1, Int.toNat_natCast, true_and, and_true, false_and, and_false, or_false, false_or, ne_eq, not_false_eq_true, forall_const, implies_true, not_true_eq_false, false_implies]
  refine s_pop O' F' d1 (by omega) hn ?_
  simp (decide := true) (disch := first | decide | omega) only [cnI, cnIe, cnR, cnK, cnl, cnA' G, cn_sI, cn_sIe, cn_sA' G, kT, kH, KN G, LN G, u2_f, u2_s, w32_aa, w32_ss, w32_p1, w32_m1, Int.toNat_natCast, true_and, and_true, false_and, and_false, or_false, false_or, ne_eq, not_false_eq_true, forall_const, implies_true, not_true_eq_false, false_implies, cV, popS, isS, e1]
  refine ⟨by omega, fun z => ?_, fun z => ⟨fun z2 => ?_, fun z2 => ?_⟩⟩
  · rcases gx with ⟨-, q, -⟩ | ⟨q, -⟩
    · rw [q] at g; exact g
    · omega
  · rcases gx with ⟨-, q, -⟩ | ⟨q, -⟩
    · rw [q] at g; exact g
    · exact absurd z2 q.2
  · rcases gx with ⟨q, -⟩ | ⟨-, q, -⟩
    · exact absurd ⟨z, z2⟩ q
    · rw [q] at g
      exact s_is O' g
end
