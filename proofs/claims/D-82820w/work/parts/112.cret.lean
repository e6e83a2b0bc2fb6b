/-! C: a call comes back, something is thrown; T: throw -/
set_option maxRecDepth 20000
/-- C's call comes back: c calls were there, m is the height, q the tries that stay -/
def cbX (X : X3) (o c m q r : Nat) : X3 := if q < r then u3 (u3 (u3 X o f_Task_calls 0 ((c - 1 : Nat) : Int)) o f_Task_size 0 (m : Int)) o f_Task_tries 0 (q : Int) else u3 (u3 X o f_Task_calls 0 ((c - 1 : Nat) : Int)) o f_Task_size 0 (m : Int)
section
variable {ρ : Nat → Nat} {d : Nat} {h h' h0 : ah} {Q : QT} {T k f g n c t i j x p r m C o q0 : Nat} {op a b v w ty s : Int} {S : SS} {X : X3} {Y : Y3}
theorem r_cb109 (G : AC h C) (F : FC h C) (ht : isT o) (e1 : X o f_Task_calls 0 = ((c - 1 : Nat) : Int)) (e2 : X o f_Task_size 0 = (m : Int)) (hm : m ≤ 2000) (hv : -128 ≤ ty ∧ ty ≤ 127) (q1 : c - 1 = 0 → Q (Sum.inl none) (cc h C (endX X o 2 ty v) Y)) (q2 : 1 ≤ c - 1 → Q (Sum.inl none) (cc h C (pshX X o m ty v) Y)) : wpB PGm ρ (d + 1) m_Task_comeBack 109 [(0, vR (C + o)), (5, vI ty)] [vL v] (cc h C X Y) Q := by
  have f1 := F.t ht
  unfold FCt at f1
  have f2 := trivial
  have g1 := q1
  have g2 := q2
  clear q1 q2
  refine b_Task_comeBack_109 ?_
  simp (decide := true) (disch := first | decide | omega) only [ccI, ccR, ccIt ht, ccRo, ccK, ccl, ccA G, ccAt G ht, ccB G, ccBt G ht, cc_sI, cc_sR, cc_sIt ht, cc_sA G, cc_sAt G ht, cc_sB G, cc_sBt G ht, f1, f2, u3_f, u3_s, KCt G ht, KC G, w32_aa, w32_ss, w32_p1, w32_m1, Int.toNat_natCast, true_and, and_true, false_and, and_false, or_false, false_or, ne_eq, not_false_eq_true, forall_const, implies_true, not_true_eq_false, false_implies, e1]
  exact ⟨fun z => r_end G F ht hv (g1 (by omega)), fun z => r_push (n := m) G F ht e2 hm hv (g2 (by omega))⟩
theorem r_cb61 (G : AC h C) (F : FC h C) (ht : isT o) {x : Nat} {ty' v' : Int} (hx : (Y o f_Task_made (c - 1) = 0 ∧ ty' = ty ∧ v' = v) ∨ (Y o f_Task_made (c - 1) ≠ 0 ∧ hK h (Y o f_Task_made (c - 1)) = k_Obj ∧ ((ty = 4 ∧ ty' = ty ∧ v' = v) ∨ (ty ≠ 4 ∧ ty' = 4 ∧ v' = hI h f_Thing_number (Y o f_Task_made (c - 1)))))) (e1 : X o f_Task_calls 0 = ((c - 1 : Nat) : Int)) (hc : 1 ≤ c ∧ c ≤ 200) (q : wpB PGm ρ (d + 1) m_Task_comeBack 109 [(0, vR (C + o)), (5, vI ty')] [vL v'] (cc h C X Y) Q) : wpB PGm ρ (d + 1) m_Task_comeBack 61 [(0, vR (C + o)), (1, vI ty), (2, vL v)] [] (cc h C X Y) Q := by
  have f1 := F.t ht
  unfold FCt at f1
  have f2 := trivial
  refine b_Task_comeBack_61 ?_
  simp (decide := true) (disch := first | decide | omega) only [ccI, ccR, ccIt ht, ccRo, ccK, ccl, ccA G, ccAt G ht, ccB G, ccBt G ht, cc_sI, cc_sR, cc_sIt ht, cc_sA G, cc_sAt G ht, cc_sB G, cc_sBt G ht, f1, f2, u3_f, u3_s, KCt G ht, KC G, w32_aa, w32_ss, w32_p1, w32_m1, Int.toNat_natCast, true_and, and_true, false_and, and_false, or_false, false_or, ne_eq, not_false_eq_true, forall_const, implies_true, not_true_eq_false, false_implies, e1]
  refine ⟨by omega, fun z => b_Task_comeBack_87 ⟨fun _ => ?_, fun z2 => absurd z z2⟩, fun z => ⟨fun z2 => b_Task_comeBack_87 ⟨fun z3 => absurd z3 z, fun _ => ⟨fun _ => ?_, fun z3 => absurd z2 z3⟩⟩, fun z2 => b_Task_comeBack_87 ⟨fun z3 => absurd z3 z, fun _ => ⟨fun z3 => absurd z3 z2, fun _ => ?_⟩⟩⟩⟩
  · rcases hx with ⟨-, rfl, rfl⟩ | ⟨c, -⟩
    · exact q
    · exact absurd z c
  · rcases hx with ⟨c, -⟩ | ⟨-, -, ⟨-, rfl, rfl⟩ | ⟨c, -⟩⟩
    · exact absurd c z
    · exact q
    · exact absurd z2 c
  · rcases hx with ⟨c, -⟩ | ⟨-, c, ⟨c2, -⟩ | ⟨-, rfl, rfl⟩⟩
    · exact absurd c z
    · exact absurd c2 z2
    · refine ⟨?_, ?_⟩
      · rw [ccK, c]; decide
      · rw [ccIo (by decide)]; exact q
theorem r_cb23 (G : AC h C) (F : FC h C) (ht : isT o) (hc : 1 ≤ c ∧ c ≤ 200) (hl1 : r ≤ hl h (hR h f_Task_tryCall (C + o))) (hr : r ≤ 10000) (e1 : X o f_Task_calls 0 = ((c - 1 : Nat) : Int)) (e2 : X o f_Task_size 0 = (m : Int)) (e3 : X o f_Task_tries 0 = (r : Int)) (hq : q0 ≤ r) (hin : ∀ k, q0 ≤ k → k < r → X o f_Task_tryCall k = (c : Int)) (hout : ∀ k, k < q0 → X o f_Task_tryCall k ≤ ((c - 1 : Nat) : Int)) (q : ∀ X', (∀ a f i, ¬ (a = o ∧ f = f_Task_tries) → X' a f i = X a f i) → X' o f_Task_tries 0 = (q0 : Int) → (r = q0 → X' = X) → (q0 < r → X' = u3 X o f_Task_tries 0 (q0 : Int)) → wpB PGm ρ (d + 1) m_Task_comeBack 61 [(0, vR (C + o)), (1, vI ty), (2, vL v)] [] (cc h C X' Y) Q) : wpB PGm ρ (d + 1) m_Task_comeBack 23 [(0, vR (C + o)), (1, vI ty), (2, vL v)] [] (cc h C X Y) Q := by
  have f1 := F.t ht
  unfold FCt at f1
  have f2 := trivial
  have lp : ∀ j (X1 : X3), (∀ a f i, ¬ (a = o ∧ f = f_Task_tries) → X1 a f i = X a f i) → X1 o f_Task_tries 0 = ((q0 + j : Nat) : Int) → q0 + j ≤ r → (q0 + j = r → X1 = X) → (q0 + j < r → X1 = u3 X o f_Task_tries 0 ((q0 + j : Nat) : Int)) → wpB PGm ρ (d + 1) m_Task_comeBack 23 [(0, vR (C + o)), (1, vI ty), (2, vL v)] [] (cc h C X1 Y) Q := by
    intro j
    induction j with
    | zero =>
      intro X1 x1 x2 x3 x4 x5
      have g := q X1 x1 (by rw [x2]; rfl) (fun z => x4 (by omega)) (fun z => x5 (by omega))
      clear q
      have ec : X1 o f_Task_calls 0 = ((c - 1 : Nat) : Int) := by rw [x1 _ _ _ (by intro z; exact absurd z.2 (by decide))]; exact e1
      have et : X1 o f_Task_tries 0 = (q0 : Int) := by rw [x2]; rfl
      refine b_Task_comeBack_23 ?_
      simp (decide := true) (disch := first | decide | omega) only [ccI, ccR, ccIt ht, ccRo, ccK, ccl, ccA G, ccAt G ht, ccB G, ccBt G ht, cc_sI, cc_sR, cc_sIt ht, cc_sA G, cc_sAt G ht, cc_sB G, cc_sBt G ht, f1, f2, u3_f, u3_s, KCt G ht, KC G, w32_aa, w32_ss, w32_p1, w32_m1, Int.toNat_natCast, true_and, and_true, false_and, and_false, or_false, false_or, ne_eq, not_false_eq_true, forall_const, implies_true, not_true_eq_false, false_implies, et, ec]
      refine ⟨fun _ => g, fun z => ?_⟩
      have := hout (q0 - 1) (by omega)
      rw [← x1 _ _ _ (by intro z; exact absurd z.2 (by decide))] at this
      rw [w32_m1 (by omega)]
      simp (decide := true) (disch := first | decide | omega) only [ccI, ccR, ccIt ht, ccRo, ccK, ccl, ccA G, ccAt G ht, ccB G, ccBt G ht, cc_sI, cc_sR, cc_sIt ht, cc_sA G, cc_sAt G ht, cc_sB G, cc_sBt G ht, f1, f2, u3_f, u3_s, KCt G ht, KC G, w32_aa, w32_ss, w32_p1, w32_m1, Int.toNat_natCast, true_and, and_true, false_and, and_false, or_false, false_or, ne_eq, not_false_eq_true, forall_const, implies_true, not_true_eq_false, false_implies, et, ec]
      exact ⟨by omega, fun _ => g, fun z2 => by omega⟩
    | succ j ih =>
      intro X1 x1 x2 x3 x4 x5
      clear q
      have ec : X1 o f_Task_calls 0 = ((c - 1 : Nat) : Int) := by rw [x1 _ _ _ (by intro z; exact absurd z.2 (by decide))]; exact e1
      have hk := hin (q0 + j) (by omega) (by omega)
      rw [← x1 _ _ _ (by intro z; exact absurd z.2 (by decide))] at hk
      have g := ih (u3 X1 o f_Task_tries 0 ((q0 + j : Nat) : Int)) (fun a f i hf => by rw [u3_e, if_neg (fun z => hf ⟨z.1, z.2.1⟩)]; exact x1 a f i hf) u3_s (by omega) (fun z => by omega) (fun z => by
        by_cases y : q0 + (j + 1) = r
        · rw [x4 y]
        · rw [x5 (by omega)]
          funext a f i
          rw [u3_e, u3_e, u3_e]
          by_cases y2 : a = o ∧ f = f_Task_tries ∧ i = 0
          · rw [if_pos y2, if_pos y2]
          · rw [if_neg y2, if_neg y2, if_neg y2])
      clear ih x4 x5
      have ep : w32 (((q0 + (j + 1) : Nat) : Int) - 1) = ((q0 + j : Nat) : Int) := by rw [w32_of (by omega) (by omega)]; omega
      refine b_Task_comeBack_23 ?_
      simp (decide := true) (disch := first | decide | omega) only [ccI, ccR, ccIt ht, ccRo, ccK, ccl, ccA G, ccAt G ht, ccB G, ccBt G ht, cc_sI, cc_sR, cc_sIt ht, cc_sA G, cc_sAt G ht, cc_sB G, cc_sBt G ht, f1, f2, u3_f, u3_s, KCt G ht, KC G, w32_aa, w32_ss, w32_p1, w32_m1, Int.toNat_natCast, true_and, and_true, false_and, and_false, or_false, false_or, ne_eq, not_false_eq_true, forall_const, implies_true, not_true_eq_false, false_implies, x2, ec, ep, hk]
      exact ⟨fun z => by omega, fun z => ⟨by omega, fun z2 => by omega, fun _ => g⟩⟩
  have := lp (r - q0) X (fun _ _ _ _ => rfl) (by rw [e3]; congr 1; omega) (by omega) (fun _ => rfl) (fun z => by omega)
  exact this
theorem r_comeBack (G : AC h C) (F : FC h C) (ht : isT o) (hc : 1 ≤ c ∧ c ≤ 200) (hl1 : r ≤ hl h (hR h f_Task_tryCall (C + o))) (hr : r ≤ 10000) (e1 : X o f_Task_calls 0 = (c : Int)) (e3 : X o f_Task_tries 0 = (r : Int)) (eb : X o f_Task_base (c - 1) = (m : Int)) (hm : m ≤ 2000) (hq : q0 ≤ r) (hin : ∀ k, q0 ≤ k → k < r → X o f_Task_tryCall k = (c : Int)) (hout : ∀ k, k < q0 → X o f_Task_tryCall k ≤ ((c - 1 : Nat) : Int)) {ty' v' : Int} (hv : -128 ≤ ty' ∧ ty' ≤ 127) (hx : (Y o f_Task_made (c - 1) = 0 ∧ ty' = ty ∧ v' = v) ∨ (Y o f_Task_made (c - 1) ≠ 0 ∧ hK h (Y o f_Task_made (c - 1)) = k_Obj ∧ ((ty = 4 ∧ ty' = ty ∧ v' = v) ∨ (ty ≠ 4 ∧ ty' = 4 ∧ v' = hI h f_Thing_number (Y o f_Task_made (c - 1))))))
    (q1 : c - 1 = 0 → Q (Sum.inl none) (cc h C (endX (cbX X o c m q0 r) o 2 ty' v') Y)) (q2 : 1 ≤ c - 1 → Q (Sum.inl none) (cc h C (pshX (cbX X o c m q0 r) o m ty' v') Y)) : wpB PGm ρ (d + 1) m_Task_comeBack 0 [(0, vR (C + o)), (1, vI ty), (2, vL v)] [] (cc h C X Y) Q := by
  have f1 := F.t ht
  unfold FCt at f1
  have f2 := trivial
  have g : wpB PGm ρ (d + 1) m_Task_comeBack 23 [(0, vR (C + o)), (1, vI ty), (2, vL v)] [] (cc h C (u3 (u3 X o f_Task_calls 0 ((c - 1 : Nat) : Int)) o f_Task_size 0 (m : Int)) Y) Q := by
    refine r_cb23 (c := c) (m := m) (r := r) (q0 := q0) G F ht hc hl1 hr (by rw [u3_f (by decide), u3_s]) u3_s (by rw [u3_f (by decide), u3_f (by decide)]; exact e3) hq (fun k z1 z2 => by rw [u3_f (by decide), u3_f (by decide)]; exact hin k z1 z2) (fun k z => by rw [u3_f (by decide), u3_f (by decide)]; exact hout k z) (fun X' x1 x2 x3 x4 => ?_)
    have eX : X' = cbX X o c m q0 r := by
      unfold cbX
      by_cases z : q0 < r
      · rw [if_pos z]; exact x4 z
      · rw [if_neg z]; exact x3 (by omega)
    have c1 : X' o f_Task_calls 0 = ((c - 1 : Nat) : Int) := by rw [x1 _ _ _ (by intro z; exact absurd z.2 (by decide)), u3_f (by decide), u3_s]
    have c2 : X' o f_Task_size 0 = (m : Int) := by rw [x1 _ _ _ (by intro z; exact absurd z.2 (by decide)), u3_s]
    refine r_cb61 (c := c) (x := 0) G F ht hx c1 hc (r_cb109 (c := c) (m := m) G F ht c1 c2 hm hv ?_ ?_)
    · rw [eX]; exact q1
    · rw [eX]; exact q2
  refine b_Task_comeBack_0 ?_
  clear q1 q2
  simp (decide := true) (disch := first | decide | omega) only [ccI, ccR, ccIt ht, ccRo, ccK, ccl, ccA G, ccAt G ht, ccB G, ccBt G ht, cc_sI, cc_sR, cc_sIt ht, cc_sA G, cc_sAt G ht, cc_sB G, cc_sBt G ht, f1, f2, u3_f, u3_s, KCt G ht, KC G, w32_aa, w32_ss, w32_p1, w32_m1, Int.toNat_natCast, true_and, and_true, false_and, and_false, or_false, false_or, ne_eq, not_false_eq_true, forall_const, implies_true, not_true_eq_false, false_implies, e1, eb]
  exact ⟨by omega, g⟩
theorem cb_o {a f i : Nat} (hf : ¬ (a = o ∧ (f = f_Task_tries ∨ f = f_Task_calls ∨ f = f_Task_size))) : cbX X o c m q0 r a f i = X a f i := by
  unfold cbX
  split
  · rw [u3_e, if_neg (fun z => hf ⟨z.1, Or.inl z.2.1⟩), u3_e, if_neg (fun z => hf ⟨z.1, Or.inr (Or.inr z.2.1)⟩), u3_e, if_neg (fun z => hf ⟨z.1, Or.inr (Or.inl z.2.1)⟩)]
  · rw [u3_e, if_neg (fun z => hf ⟨z.1, Or.inr (Or.inr z.2.1)⟩), u3_e, if_neg (fun z => hf ⟨z.1, Or.inr (Or.inl z.2.1)⟩)]
theorem cb_c : cbX X o c m q0 r o f_Task_calls 0 = ((c - 1 : Nat) : Int) := by
  unfold cbX
  split
  · rw [u3_f (by decide), u3_f (by decide), u3_s]
  · rw [u3_f (by decide), u3_s]
theorem cb_s : cbX X o c m q0 r o f_Task_size 0 = (m : Int) := by
  unfold cbX
  split
  · rw [u3_f (by decide), u3_s]
  · rw [u3_s]
theorem cb_t (hq : q0 ≤ r) (e : X o f_Task_tries 0 = (r : Int)) : cbX X o c m q0 r o f_Task_tries 0 = (q0 : Int) := by
  unfold cbX
  split
  · rw [u3_s]
  · rw [u3_f (by decide), u3_f (by decide), e]; congr 1; omega
theorem cb_nx : NXo o X (cbX X o c m q0 r) := by
  have n0 : NXo o X (u3 (u3 X o f_Task_calls 0 ((c - 1 : Nat) : Int)) o f_Task_size 0 (m : Int)) := NXo.u (by decide) (NXo.u (by decide) NXo.rf)
  unfold cbX
  split
  · exact NXo.u (by decide) n0
  · exact n0
theorem r_RETURN (I : IX h C X Y o n c) (hn1 : 1 ≤ n) (q : wpB PGm ρ (d + 19) m_Task_comeBack 0 [(0, vR (C + o)), (1, vI (X o f_Task_tags (n - 1))), (2, vL (X o f_Task_words (n - 1)))] [] (cc h C X Y) (cV (fun h3 => Q (Sum.inl none) h3) (fun e h' => ¬ hK h' e = 0 ∧ Q (Sum.inr e) h'))) : wpB PGm ρ (d + 20) m_Machine_instruct 0 [(0, vR (C + 32)), (1, vI 29), (2, vI a), (3, vI b)] [] (cc h C X Y) Q := by
  obtain ⟨G, F, ht, e0, hn, hc1, hc2⟩ := I
  have f1 := F.t ht
  unfold FCt at f1
  have f2 := F
  unfold FC at f2
  obtain ⟨e1, e2, e3⟩ := e0
  refine b_Machine_instruct_0 (by omega) ?_
  simp (decide := true) (disch := first | decide | omega) only [ccI, ccR, ccIt ht, ccRo, ccK, ccl, ccA G, ccAt G ht, ccB G, ccBt G ht, cc_sI, cc_sR, cc_sIt ht, cc_sA G, cc_sAt G ht, cc_sB G, cc_sBt G ht, f1, f2, u3_f, u3_s, KCt G ht, KC G, w32_aa, w32_ss, w32_p1, w32_m1, Int.toNat_natCast, true_and, and_true, false_and, and_false, or_false, false_or, ne_eq, not_false_eq_true, forall_const, implies_true, not_true_eq_false, false_implies, e1, e2]
  refine ⟨by omega, by omega, wpB_mon (fun o h' z => ?_) q⟩
  cases o with
  | inr x => exact z
  | inl y => cases y with
    | none => exact b_Machine_instruct_739 z
    | some y => exact z
theorem r_THROW (I : IX h C X Y o n c) (hn1 : 1 ≤ n) (q : wpB PGm ρ (d + 19) m_Task_raise 0 [(0, vR (C + o)), (1, vI (X o f_Task_tags (n - 1))), (2, vL (X o f_Task_words (n - 1)))] [] (cc h C X Y) (cV (fun h3 => Q (Sum.inl none) h3) (fun e h' => ¬ hK h' e = 0 ∧ Q (Sum.inr e) h'))) : wpB PGm ρ (d + 20) m_Machine_instruct 0 [(0, vR (C + 32)), (1, vI 30), (2, vI a), (3, vI b)] [] (cc h C X Y) Q := by
  obtain ⟨G, F, ht, e0, hn, hc1, hc2⟩ := I
  have f1 := F.t ht
  unfold FCt at f1
  have f2 := F
  unfold FC at f2
  obtain ⟨e1, e2, e3⟩ := e0
  refine b_Machine_instruct_0 (by omega) ?_
  simp (decide := true) (disch := first | decide | omega) only [ccI, ccR, ccIt ht, ccRo, ccK, ccl, ccA G, ccAt G ht, ccB G, ccBt G ht, cc_sI, cc_sR, cc_sIt ht, cc_sA G, cc_sAt G ht, cc_sB G, cc_sBt G ht, f1, f2, u3_f, u3_s, KCt G ht, KC G, w32_aa, w32_ss, w32_p1, w32_m1, Int.toNat_natCast, true_and, and_true, false_and, and_false, or_false, false_or, ne_eq, not_false_eq_true, forall_const, implies_true, not_true_eq_false, false_implies, e1, e2]
  exact ⟨by omega, by omega, q⟩
theorem s_THROW (O : TOK h0 T) (D : DF S t n c f p k 30 a b) (hn : 1 ≤ n) (q : wpB PGm ρ (d + 7) m_Md_thrownIs 0 [(0, vR T), (1, vI (S f_Md_pileType (2100 * t + (n - 1)))), (2, vL (S f_Md_pileValue (2100 * t + (n - 1))))] [] (cn h0 T (popS S t n)) (cV (fun h3 => Q (Sum.inl none) h3) (fun e h' => ¬ hK h' e = 0 ∧ Q (Sum.inr e) h'))) : wpB PGm ρ (d + 8) m_Md_does 0 [(0, vR T)] [] (cn h0 T S) Q := by
  have O' := O
  obtain ⟨kT, G, kH⟩ := O
  obtain ⟨F, ⟨d1, d2, d3, d4, d5, d6⟩, e1, e2, e3, e4, e5, e6, e7, e8⟩ := D
  refine b_Md_does_0 ?_
  simp (decide := true) (disch := first | decide | omega) only [cnI, cnIe, cnR, cnK, cnl, cnA' G, cn_sI, cn_sIe, cn_sA' G, kT, kH, KN G, LN G, u2_f, u2_s, w32_aa, w32_ss, w32_p1, w32_m1, Int.toNat_natCast, true_and, and_true, false_and, and_false, or_false, false_or, ne_eq, not_false_eq_true, forall_const, implies_true, not_true_eq_false, false_implies, e1, e2, e3, e4, e5, e6]
  refine ⟨by omega, by omega, by omega, by omega, by omega, s_pop O' F d1 (by omega) hn ?_⟩
  simp (decide := true) (disch := first | decide | omega) only [cnI, cnIe, cnR, cnK, cnl, cnA' G, cn_sI, cn_sIe, cn_sA' G, kT, kH, KN G, LN G, u2_f, u2_s, w32_aa, w32_ss, w32_p1, w32_m1, Int.toNat_natCast, true_and, and_true, false_and, and_false, or_false, false_or, ne_eq, not_false_eq_true, forall_const, implies_true, not_true_eq_false, false_implies, cV, popS, isS]
  unfold popS isS at q
  refine wpB_mon (fun o h' z => ?_) q
  cases o with
  | inr x => exact z
  | inl y => cases y with
    | none => exact b_Md_does_92 z
    | some y => exact z
end
