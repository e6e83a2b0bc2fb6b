/-! C: a number joins the trace -/
set_option maxRecDepth 20000
def TCK (h : ah) (C : Nat) : Prop := hl h (hR h f_Machine_trace (C + 32)) = 64 ∨ hl h (hR h f_Machine_trace (C + 32)) = 4096 ∨ hl h (hR h f_Machine_trace (C + 32)) = 100000
/-- v has joined the trace, which had p numbers -/
def NTE (h : ah) (C : Nat) (X : X3) (p : Nat) (v : Int) (h' : ah) (X' : X3) : Prop := AC h' C ∧ FC h' C ∧ (∃ z s, Fr (LCC ++ [f_Machine_trace]) [] z s h h') ∧ GRB h C h' ∧ (TCK h' C ∧ p + 1 ≤ hl h' (hR h' f_Machine_trace (C + 32))) ∧ X' 32 f_Machine_traceSize 0 = ((p + 1 : Nat) : Int) ∧ (∀ i, i < p → X' 32 f_Machine_trace i = X 32 f_Machine_trace i) ∧ X' 32 f_Machine_trace p = v ∧ (∀ o f i, [f_Machine_trace, f_Machine_traceSize].elem f = false → X' o f i = X o f i)
section
variable {ρ : Nat → Nat} {d : Nat} {Q : QT} {h h1 h' : ah} {C k n m o c x y z s f i j p r a : Nat} {X X' X1 : X3} {Y : Y3} {v w : Int}
theorem r_note33 (G : AC h C) (F : FC h C) (e : X 32 f_Machine_traceSize 0 = (p : Int)) (hp : p < hl h (hR h f_Machine_trace (C + 32))) (hp2 : p ≤ 100000) (q : Q (Sum.inl none) (cc h C (u3 (u3 X 32 f_Machine_trace p v) 32 f_Machine_traceSize 0 ((p + 1 : Nat) : Int)) Y)) : wpB PGm ρ d m_Machine_note 33 [(0, vR (C + 32)), (1, vI v)] [] (cc h C X Y) Q := by
  have b0 : 0 ≤ (p : Int) := by omega
  have b2 : (p : Int) < (hl h (hR h f_Machine_trace (C + 32)) : Int) := by omega
  have f2 := F
  unfold FC at f2
  have f1 := trivial
  have ht : isT 62 := Or.inl rfl
  refine b_Machine_note_33 ?_
  simp (decide := true) (disch := first | decide | omega) only [ccI, ccR, ccIt ht, ccRo, ccK, ccl, ccA G, ccAt G ht, ccB G, ccBt G ht, cc_sI, cc_sR, cc_sIt ht, cc_sA G, cc_sAt G ht, cc_sB G, cc_sBt G ht, f1, f2, u3_f, u3_s, KCt G ht, KC G, w32_aa, w32_ss, w32_p1, w32_m1, Int.toNat_natCast, true_and, and_true, false_and, and_false, or_false, false_or, ne_eq, not_false_eq_true, forall_const, implies_true, not_true_eq_false, false_implies, e]
  exact ⟨⟨b0, b2⟩, q⟩
theorem NTE.one (G : AC h C) (F : FC h C) (e : TCK h C) (hp : p < hl h (hR h f_Machine_trace (C + 32))) : NTE h C X p v h (u3 (u3 X 32 f_Machine_trace p v) 32 f_Machine_traceSize 0 ((p + 1 : Nat) : Int)) := by
  refine ⟨G, F, ⟨0, 0, Fr.r0⟩, GRB.rf, ⟨e, hp⟩, u3_s, fun i hi => ?_, ?_, fun o f i hf => ?_⟩
  · rw [u3_f (by decide), u3_e, if_neg (fun c => by have := c.2.2; omega)]
  · rw [u3_f (by decide), u3_s]
  · rw [u3_f (by rintro rfl; revert hf; decide), u3_f (by rintro rfl; revert hf; decide)]
theorem r_note (G : AC h C) (F : FC h C) (e : X 32 f_Machine_traceSize 0 = (p : Int)) (pl : TCK h C) (hlt : p ≤ hl h (hR h f_Machine_trace (C + 32))) (hp : p < 100000) (hd : 10 ≤ d) (q : ∀ h' X', NTE h C X p v h' X' → Q (Sum.inl none) (cc h' C X' Y)) : wpB PGm ρ (d + 1) m_Machine_note 0 [(0, vR (C + 32)), (1, vI v)] [] (cc h C X Y) Q := by
  by_cases hlp : p = hl h (hR h f_Machine_trace (C + 32))
  · have hn' : ∃ n : Nat, 2 * p ≤ n ∧ n ≤ 100000 ∧ (n = 4096 ∨ n = 100000) ∧ ∀ (H : ah) (Q : QT), Q (Sum.inl (some (vI (n : Int)))) H → wpB PGm ρ d m_LT_larger 0 [(0, vI (p : Int)), (1, vI 100000)] [] H Q := by
      rcases pl with w | w | w
      · refine ⟨4096, by omega, by omega, Or.inl rfl, fun H Q q => b_LT_larger_0 ⟨fun z => by omega, fun _ => ⟨fun z => by omega, fun _ => q⟩⟩⟩
      · refine ⟨100000, by omega, by omega, Or.inr rfl, fun H Q q => b_LT_larger_0 ⟨fun _ => q, fun z => by omega⟩⟩
      · omega
    obtain ⟨n, n1, n2, n3, n4⟩ := hn'
    have p1 : 1 ≤ p := by rcases pl with w | w | w <;> omega
    obtain ⟨h1, g1, G1, F1, R1, L1, Z1⟩ := cc_grow (X := X) (Y := Y) (f := f_Machine_trace) (o := 32) (n := n) (k := 1) G F (by decide) (by decide) (by unfold DJ; rfl) (KC G).2.2.2.2.2.2.1.symm
    rw [← hlp] at g1
    have pl1 : TCK h1 C := by unfold TCK; rw [L1]; omega
    have x1 : trX X 32 f_Machine_trace p n 32 f_Machine_traceSize 0 = (p : Int) := by
      show (if 32 = 32 ∧ f_Machine_traceSize = f_Machine_trace then _ else X 32 f_Machine_traceSize 0) = _
      rw [if_neg (fun c => absurd c.2 (by decide))]; exact e
    have A := NTE.one (X := trX X 32 f_Machine_trace p n) (v := v) G1 F1 pl1 (by omega : p < hl h1 (hR h1 f_Machine_trace (C + 32)))
    have g4 : wpB PGm ρ (d + 1) m_Machine_note 33 [(0, vR (C + 32)), (1, vI v)] [] (cc h1 C (trX X 32 f_Machine_trace p n) Y) Q := by
      refine r_note33 G1 F1 x1 (by omega) (by omega) (q _ _ ?_)
      obtain ⟨a1, a2, ⟨z, s, a3⟩, a4, a5, a6, a7, a8, a9⟩ := A
      refine ⟨a1, a2, ⟨_, _, frP R1 (by decide) (M := [f_Machine_trace]) (by decide)⟩, GRB.grow G F (by decide) R1 (by decide) L1 (by omega) (by omega) (by decide), a5, a6, fun i hi => ?_, a8, fun o f i hf => ?_⟩
      · rw [a7 i hi]
        show (if 32 = 32 ∧ f_Machine_trace = f_Machine_trace then _ else _) = _
        rw [if_pos ⟨rfl, rfl⟩, if_pos ⟨hi, by omega⟩]
      · rw [a9 o f i hf]
        show (if o = 32 ∧ f = f_Machine_trace then _ else _) = _
        rw [if_neg (by rintro ⟨-, rfl⟩; revert hf; decide)]
    have hk1 : hK (hcp (cc h C X Y) 1 (hR h f_Machine_trace (C + 32)) n) (C + 32) = k_Machine := hcp_K (by have := G.1; show C + 32 < hz h; omega) F.1.1
    have b1 : 0 ≤ (n : Int) ∧ (n : Int) ≤ 67108864 := by omega
    have hd1 : 10 ≤ d + 1 := by omega
    have el : hl h (hR h f_Machine_trace (C + 32)) = p := hlp.symm
    clear q A hlp R1 L1 Z1 n1 n2 n3 pl pl1
    have f2 := F
    unfold FC at f2
    have f1 := trivial
    have ht : isT 62 := Or.inl rfl
    refine b_Machine_note_0 hd1 ?_
    simp (decide := true) (disch := first | decide | omega) only [ccI, ccR, ccIt ht, ccRo, ccK, ccl, ccA G, ccAt G ht, ccB G, ccBt G ht, cc_sI, cc_sR, cc_sIt ht, cc_sA G, cc_sAt G ht, cc_sB G, cc_sBt G ht, f1, f2, u3_f, u3_s, KCt G ht, KC G, w32_aa, w32_ss, w32_p1, w32_m1, Int.toNat_natCast, true_and, and_true, false_and, and_false, or_false, false_or, ne_eq, not_false_eq_true, forall_const, implies_true, not_true_eq_false, false_implies, e, el]
    refine n4 _ _ ?_
    simp (decide := true) (disch := first | decide | omega) only [ccI, ccR, ccIt ht, ccRo, ccK, ccl, ccA G, ccAt G ht, ccB G, ccBt G ht, cc_sI, cc_sR, cc_sIt ht, cc_sA G, cc_sAt G ht, cc_sB G, cc_sBt G ht, f1, f2, u3_f, u3_s, KCt G ht, KC G, w32_aa, w32_ss, w32_p1, w32_m1, Int.toNat_natCast, true_and, and_true, false_and, and_false, or_false, false_or, ne_eq, not_false_eq_true, forall_const, implies_true, not_true_eq_false, false_implies, cI, ccz, g1, hk1, b1]
    exact g4
  · have hp1 : p < hl h (hR h f_Machine_trace (C + 32)) := by omega
    have g := r_note33 (ρ := ρ) (d := d + 1) (Q := Q) (v := v) (Y := Y) G F e hp1 (by omega) (q _ _ (NTE.one G F pl hp1))
    have ne : ((p : Int) = (hl h (hR h f_Machine_trace (C + 32)) : Int)) = False := eq_false (by omega)
    have hd1 : 10 ≤ d + 1 := by omega
    clear q
    have f2 := F
    unfold FC at f2
    have f1 := trivial
    have ht : isT 62 := Or.inl rfl
    refine b_Machine_note_0 hd1 ?_
    simp (decide := true) (disch := first | decide | omega) only [ccI, ccR, ccIt ht, ccRo, ccK, ccl, ccA G, ccAt G ht, ccB G, ccBt G ht, cc_sI, cc_sR, cc_sIt ht, cc_sA G, cc_sAt G ht, cc_sB G, cc_sBt G ht, f1, f2, u3_f, u3_s, KCt G ht, KC G, w32_aa, w32_ss, w32_p1, w32_m1, Int.toNat_natCast, true_and, and_true, false_and, and_false, or_false, false_or, ne_eq, not_false_eq_true, forall_const, implies_true, not_true_eq_false, false_implies, e, ne]
    exact g
end
