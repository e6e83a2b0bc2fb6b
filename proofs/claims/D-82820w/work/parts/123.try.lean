/-! TRY -/
set_option maxRecDepth 20000
section
variable {ρ : Nat → Nat} {P : ah → Nat → Prop} {d : Nat} {Q : QT} {Γ Γ' : GH} {h h' : ah} {C ho : Nat} {X X' : X3} {Y Y' : Y3} {S S' : SS} {N t o n c r f i j k m z s l : Nat} {L : List Nat} {Pp : List (Nat × Nat)} {ty v x y op b : Int}
theorem CT.grow (H : CT Γ h C X Y S N t o n c r) (h56 : ∀ i, hB h' (C + 56) i = hB h (C + 56) i) (h51 : ∀ i, hB h' (C + 51) i = hB h (C + 51) i) (eX : ∀ f i, L6.elem f = true → (LXT.elem f = true → i < r) → X' o f i = X o f i) (hl' : ∃ l : Nat, hl h' (hR h' f_Task_tryCall (C + o)) = l ∧ hl h' (hR h' f_Task_tryTo (C + o)) = l ∧ hl h' (hR h' f_Task_trySize (C + o)) = l ∧ r ≤ l ∧ 16 ≤ l ∧ l ≤ 20000) : CT Γ h' C X' Y S N t o n c r := by
  have e0 : ∀ f i, (L6.elem f && !(LXT.elem f)) = true → X' o f i = X o f i := fun f i q => by
    simp only [Bool.and_eq_true, Bool.not_eq_true'] at q
    exact eX f i q.1 (fun w => by rw [q.2] at w; cases w)
  obtain ⟨a0, ⟨a1, a2⟩, ⟨b1, b2⟩, ⟨c1, c2⟩, ⟨d1, d2⟩, e5, e6, e7, e8, e9, -⟩ := H
  refine ⟨a0, ⟨by rw [e0 _ _ (by decide)]; exact a1, a2⟩, ⟨by rw [e0 _ _ (by decide)]; exact b1, b2⟩, ⟨by rw [e0 _ _ (by decide)]; exact c1, c2⟩, ⟨by rw [e0 _ _ (by decide)]; exact d1, d2⟩, fun i hi => by rw [e0 _ _ (by decide), e0 _ _ (by decide)]; exact e5 i hi, fun i hi => ?_, e7, fun k hk => ?_, fun z => by rw [e0 _ _ (by decide), e0 _ _ (by decide)]; exact e9 z, hl'⟩
  · obtain ⟨⟨i1, i2, i3⟩, ⟨i4, i5, i6⟩, ⟨i7, i8, i9⟩, i10, i14, i15, i16⟩ := e6 i hi
    refine ⟨⟨i1, i2, by rw [h56]; exact i3⟩, ⟨i4, by rw [e0 _ _ (by decide)]; exact i5, i6⟩, ⟨i7, by rw [e0 _ _ (by decide)]; exact i8, i9⟩, i10, by rw [e0 _ _ (by decide), e0 _ _ (by decide)]; exact i14, ?_, i16⟩
    rcases i15 with q | ⟨q1, q2, q3, q4⟩
    · exact Or.inl q
    · exact Or.inr ⟨q1, q2, q3, by rw [h51]; exact q4⟩
  · obtain ⟨j, a, q1, q2, q3, q4, q5, q6, q7, q8, q9, q10, q11, q12⟩ := e8 k hk
    exact ⟨j, a, q1, q2, by rw [eX _ _ (by decide) (fun _ => hk)]; exact q3, q4, by rw [eX _ _ (by decide) (fun _ => hk)]; exact q5, q6, by rw [eX _ _ (by decide) (fun _ => hk)]; exact q7, q8, q9, q10, q11, q12⟩
def adX (X : X3) (o r c n : Nat) (a : Int) : X3 := u3 (u3 (u3 (u3 X o f_Task_tryCall r (c : Int)) o f_Task_tryTo r a) o f_Task_trySize r (n : Int)) o f_Task_tries 0 ((r + 1 : Nat) : Int)
theorem r_addTry63 (G : AC h C) (F : FC h C) (ht : isT o) (l1 : r < hl h (hR h f_Task_tryCall (C + o))) (l2 : r < hl h (hR h f_Task_tryTo (C + o))) (l3 : r < hl h (hR h f_Task_trySize (C + o))) (hr : r ≤ 20000) (e1 : X o f_Task_tries 0 = (r : Int)) (e2 : X o f_Task_calls 0 = (c : Int)) (e3 : X o f_Task_size 0 = (n : Int)) {a : Int} (q : Q (Sum.inl none) (cc h C (adX X o r c n a) Y)) : wpB PGm ρ d m_Task_addTry 63 [(0, vR (C + o)), (1, vI a)] [] (cc h C X Y) Q := by
  have f1 := F.t ht
  unfold FCt at f1
  have f2 := trivial
  refine b_Task_addTry_63 ?_
  simp (decide := true) (disch := first | decide | omega) only [ccI, ccR, ccIt ht, ccRo, ccK, ccl, ccA G, ccAt G ht, ccB G, ccBt G ht, cc_sI, cc_sR, cc_sIt ht, cc_sA G, cc_sAt G ht, cc_sB G, cc_sBt G ht, f1, f2, u3_f, u3_s, KCt G ht, KC G, w32_aa, w32_ss, w32_p1, w32_m1, Int.toNat_natCast, true_and, and_true, false_and, and_false, or_false, false_or, ne_eq, not_false_eq_true, forall_const, implies_true, not_true_eq_false, false_implies, e1, e2, e3]
  exact ⟨by omega, by omega, by omega, q⟩
theorem trX_o {l n a g i : Nat} (hq : ¬ (a = o ∧ g = f ∧ l ≤ i)) (hn : l ≤ n) : trX X o f l n a g i = X a g i := by
  unfold trX
  by_cases q : a = o ∧ g = f
  · rw [if_pos q, if_pos ⟨by omega, by omega⟩, q.1, q.2]
  · rw [if_neg q]
/-- a try more: the rows may grow first -/
theorem r_addTry (G : AC h C) (F : FC h C) (ht : isT o) (l1 : hl h (hR h f_Task_tryCall (C + o)) = l) (l2 : hl h (hR h f_Task_tryTo (C + o)) = l) (l3 : hl h (hR h f_Task_trySize (C + o)) = l) (hll : r ≤ l ∧ 16 ≤ l ∧ l ≤ 20000) (hr : r < 10000) (e1 : X o f_Task_tries 0 = (r : Int)) (e2 : X o f_Task_calls 0 = (c : Int)) (e3 : X o f_Task_size 0 = (n : Int)) (a : Int) : ∃ h' Xg z s, AC h' C ∧ FC h' C ∧ Fr (LCC ++ [f_Task_tryCall, f_Task_tryTo, f_Task_trySize]) [] z s h h' ∧ (∃ l' : Nat, hl h' (hR h' f_Task_tryCall (C + o)) = l' ∧ hl h' (hR h' f_Task_tryTo (C + o)) = l' ∧ hl h' (hR h' f_Task_trySize (C + o)) = l' ∧ r + 1 ≤ l' ∧ 16 ≤ l' ∧ l' ≤ 20000) ∧ (∀ a g i, ¬ (a = o ∧ LXT.elem g = true ∧ r ≤ i) → Xg a g i = X a g i) ∧ (∀ o', isT o' → o' ≠ o → ∀ f, [f_Task_tryCall, f_Task_tryTo, f_Task_trySize].elem f = true → hl h' (hR h' f (C + o')) = hl h (hR h f (C + o'))) ∧ GRB h C h' ∧ ∀ (d : Nat) (Q : QT), 10 ≤ d → Q (Sum.inl none) (cc h' C (adX Xg o r c n a) Y) → wpB PGm ρ d m_Task_addTry 0 [(0, vR (C + o)), (1, vI a)] [] (cc h C X Y) Q := by
  have f1 := F.t ht
  unfold FCt at f1
  have f2 := trivial
  by_cases hrl : r = l
  · -- the rows grow
    subst hrl
    have inT1 : ∀ {o}, isT o → inA arC f_Task_tryCall o = true := fun q => by rcases q with rfl | rfl <;> decide
    have inT2 : ∀ {o}, isT o → inA arC f_Task_tryTo o = true := fun q => by rcases q with rfl | rfl <;> decide
    have inT3 : ∀ {o}, isT o → inA arC f_Task_trySize o = true := fun q => by rcases q with rfl | rfl <;> decide
    have ho : o ≤ 101 := by rcases ht with rfl | rfl <;> omega
    have kt := KCt G ht
    have lenK : ∀ {h h1 : ah} {f g o o' z s : Nat}, AC h C → Fr LCC [(f, C + o)] z s h h1 → inA arC g o' = true → LCC.elem g = false → (g ≠ f ∨ o' ≠ o) → o' ≤ 101 → hR h1 g (C + o') = hR h g (C + o') ∧ hl h1 (hR h1 g (C + o')) = hl h (hR h g (C + o')) := by
      intro h h1 f g o o' z s G R e lc ne ho'
      obtain ⟨k, m⟩ := inA_mem e
      have o1 := ownA' m
      simp only at o1
      have g1 := G.1
      have k1 : arC.all (fun q => Nat.blt q.2.2 100) = true := by decide
      have k2 := List.all_eq_true.mp k1 _ m
      have nw : ¬ okW LCC [(f, C + o)] g (C + o') := by
        rintro (q | q)
        · have : LCC.elem g = true := by simpa using q
          rw [this] at lc; cases lc
        · simp at q
          rcases ne with w | w
          · exact w q.1
          · exact w (by omega)
      have eR := R.R (x := C + o') (by omega) (own5 o1.1) nw
      refine ⟨eR, ?_⟩
      rw [eR, R.la (G.2.1.1 _ _ (by omega) o1.1)]
      rw [(G.2.2.2.1 _ m).2]
      exact Nat.le_of_ble_eq_true k2
    obtain ⟨h1, g1, G1, F1, R1, L1', Z1⟩ := cc_grow (X := X) (Y := Y) (f := f_Task_tryCall) (o := o) (n := 2 * r) (k := 1) G F (inT1 ht) ho (by unfold DJ; rfl) kt.2.2.2.2.2.2.2.2.2.1.symm
    rw [l1] at g1
    have kt1 := KCt G1 ht
    obtain ⟨h2, g2, G2, F2, R2, L2', Z2⟩ := cc_grow (X := trX X o f_Task_tryCall r (2 * r)) (Y := Y) (f := f_Task_tryTo) (o := o) (n := 2 * r) (k := 1) G1 F1 (inT2 ht) ho (by unfold DJ; rfl) kt1.2.2.2.2.2.2.2.2.2.2.1.symm
    have c1 := lenK G R1 (inT2 ht) (by decide) (Or.inl (by decide)) ho
    rw [c1.2, l2] at g2
    have kt2 := KCt G2 ht
    obtain ⟨h3, g3, G3, F3, R3, L3', Z3⟩ := cc_grow (X := trX (trX X o f_Task_tryCall r (2 * r)) o f_Task_tryTo r (2 * r)) (Y := Y) (f := f_Task_trySize) (o := o) (n := 2 * r) (k := 1) G2 F2 (inT3 ht) ho (by unfold DJ; rfl) kt2.2.2.2.2.2.2.2.2.2.2.2.symm
    have c2 := lenK G1 R2 (inT3 ht) (by decide) (Or.inl (by decide)) ho
    have c2' := lenK G R1 (inT3 ht) (by decide) (Or.inl (by decide)) ho
    rw [c2.2, c2'.2, l3] at g3
    -- lengths at the end
    have m1 : hl h3 (hR h3 f_Task_tryCall (C + o)) = 2 * r := by
      rw [(lenK G2 R3 (inT1 ht) (by decide) (Or.inl (by decide)) ho).2, (lenK G1 R2 (inT1 ht) (by decide) (Or.inl (by decide)) ho).2]; exact L1'
    have m2 : hl h3 (hR h3 f_Task_tryTo (C + o)) = 2 * r := by
      rw [(lenK G2 R3 (inT2 ht) (by decide) (Or.inl (by decide)) ho).2]; exact L2'
    have mo : ∀ a g i, ¬ (a = o ∧ LXT.elem g = true ∧ r ≤ i) → trX (trX (trX X o f_Task_tryCall r (2 * r)) o f_Task_tryTo r (2 * r)) o f_Task_trySize r (2 * r) a g i = X a g i := by
      intro a g i hq
      rw [trX_o (fun z => hq ⟨z.1, by rw [z.2.1]; decide, by omega⟩) (by omega), trX_o (fun z => hq ⟨z.1, by rw [z.2.1]; decide, by omega⟩) (by omega), trX_o (fun z => hq ⟨z.1, by rw [z.2.1]; decide, by omega⟩) (by omega)]
    have en : ∀ f, [f_Task_tryCall, f_Task_tryTo, f_Task_trySize].elem f = true → ∀ {z s h h'}, Fr LCC [(f, C + o)] z s h h' → Fr (LCC ++ [f_Task_tryCall, f_Task_tryTo, f_Task_trySize]) [] z s h h' := by
      intro f hf z s h h' R
      refine ⟨R.1, R.2.1, fun g a ha h5 hg => R.2.2.1 g a ha h5 (fun c => hg ?_), fun x h0 hx hp hm => R.2.2.2.1 x h0 hx (by simp; intro c; exfalso; rw [← c] at hf; revert hf; decide) (fun g a ha hg e c => hm g a ha hg e ?_), R.2.2.2.2⟩
      · rcases c with c | c
        · exact Or.inl (List.mem_append_left _ c)
        · simp at c; exact Or.inl (List.mem_append_right _ (by rw [c.1]; simpa using hf))
      · rcases c with c | c
        · rcases c with c | c
          · exact Or.inl (Or.inl (List.mem_append_left _ c))
          · simp at c; exact Or.inl (Or.inl (List.mem_append_right _ (by rw [c.1]; simpa using hf)))
        · rcases c with c | c
          · exact Or.inr (Or.inl (List.mem_append_left _ c))
          · simp at c; exact Or.inr (Or.inl (List.mem_append_right _ (by rw [c.1]; simpa using hf)))
    refine ⟨h3, _, _, _, G3, F3, ((en _ (by decide) R1).trans (en _ (by decide) R2)).trans (en _ (by decide) R3), ⟨2 * r, m1, m2, L3', by omega, by omega, by omega⟩, mo, fun o' ht' ne f hf => ?_, ((GRB.grow G F (inT1 ht) R1 (by decide) L1' (by omega) (by omega) (by decide)).tr (GRB.grow G1 F1 (inT2 ht) R2 (by decide) L2' (by rw [c1.2]; omega) (by rw [c1.2]; omega) (by decide))).tr (GRB.grow G2 F2 (inT3 ht) R3 (by decide) L3' (by rw [c2.2, c2'.2]; omega) (by rw [c2.2, c2'.2]; omega) (by decide)), fun d Q hd q => ?_⟩
    · have hi : inA arC f o' = true := by
        have : f = f_Task_tryCall ∨ f = f_Task_tryTo ∨ f = f_Task_trySize := by simpa using hf
        rcases this with rfl | rfl | rfl
        · exact inT1 ht'
        · exact inT2 ht'
        · exact inT3 ht'
      have hlc : LCC.elem f = false := by
        have : f = f_Task_tryCall ∨ f = f_Task_tryTo ∨ f = f_Task_trySize := by simpa using hf
        rcases this with rfl | rfl | rfl <;> decide
      have ho' : o' ≤ 101 := by rcases ht' with rfl | rfl <;> omega
      rw [(lenK G2 R3 hi hlc (Or.inr ne) ho').2, (lenK G1 R2 hi hlc (Or.inr ne) ho').2, (lenK G R1 hi hlc (Or.inr ne) ho').2]
    · have g4 : wpB PGm ρ d m_Task_addTry 63 [(0, vR (C + o)), (1, vI a)] [] (cc h3 C (trX (trX (trX X o f_Task_tryCall r (2 * r)) o f_Task_tryTo r (2 * r)) o f_Task_trySize r (2 * r)) Y) Q := by
        refine r_addTry63 (r := r) (c := c) (n := n) G3 F3 ht (by omega) (by omega) (by omega) (by omega) ?_ ?_ ?_ q
        · rw [mo _ _ _ (fun z => absurd z.2.1 (by decide))]; exact e1
        · rw [mo _ _ _ (fun z => absurd z.2.1 (by decide))]; exact e2
        · rw [mo _ _ _ (fun z => absurd z.2.1 (by decide))]; exact e3
      have w1 : w32 (2 * (r : Int)) = ((2 * r : Nat) : Int) := by rw [w32_of (by omega) (by omega)]; omega
      have t1 : trX X o f_Task_tryCall r (2 * r) o f_Task_tries 0 = (r : Int) := by rw [trX_o (fun z => absurd z.2.1 (by decide)) (by omega)]; exact e1
      have t2 : trX (trX X o f_Task_tryCall r (2 * r)) o f_Task_tryTo r (2 * r) o f_Task_tries 0 = (r : Int) := by rw [trX_o (fun z => absurd z.2.1 (by decide)) (by omega)]; exact t1
      have f11 := F1.t ht
      unfold FCt at f11
      have f12 := F2.t ht
      unfold FCt at f12
      clear en mo m1 m2 lenK q R1 R2 R3 F3 G3 c1 c2 c2' L1' L2' L3'
      have hkc : ∀ {hh : ah} {x m : Nat}, C + o < hz hh → hK hh (C + o) = k_Task → hK (hcp hh 1 x m) (C + o) = k_Task := fun {hh x m} q w => by
        show (if C + o = hz hh then 1 else hK hh (C + o)) = k_Task
        rw [if_neg (by omega)]; exact w
      have hk1 : hK (hcp (cc h C X Y) 1 (hR h f_Task_tryCall (C + o)) (2 * r)) (C + o) = k_Task := hkc (by have := G.1; show C + o < hz h; omega) f1.1
      have hk2 : hK (hcp (cc h1 C (trX X o f_Task_tryCall r (2 * r)) Y) 1 (hR h1 f_Task_tryTo (C + o)) (2 * r)) (C + o) = k_Task := hkc (by have := G1.1; show C + o < hz h1; omega) f11.1
      have hk3 : hK (hcp (cc h2 C (trX (trX X o f_Task_tryCall r (2 * r)) o f_Task_tryTo r (2 * r)) Y) 1 (hR h2 f_Task_trySize (C + o)) (2 * r)) (C + o) = k_Task := hkc (by have := G2.1; show C + o < hz h2; omega) f12.1
      have b1 : (0 ≤ ((2 * r : Nat) : Int) ∧ ((2 * r : Nat) : Int) ≤ 67108864) := by omega
      refine b_Task_addTry_0 hd ?_
      simp (decide := true) (disch := first | decide | omega) only [ccI, ccR, ccIt ht, ccRo, ccK, ccl, ccA G, ccAt G ht, ccB G, ccBt G ht, cc_sI, cc_sR, cc_sIt ht, cc_sA G, cc_sAt G ht, cc_sB G, cc_sBt G ht, f1, f2, u3_f, u3_s, KCt G ht, KC G, w32_aa, w32_ss, w32_p1, w32_m1, Int.toNat_natCast, true_and, and_true, false_and, and_false, or_false, false_or, ne_eq, not_false_eq_true, forall_const, implies_true, not_true_eq_false, false_implies, e1, l1, w1, ccz, g1, g2, g3, hk1, hk2, hk3, f11, f12, kt1, kt2, t1, t2, b1, eq_self]
      exact g4
  · exact ⟨h, X, 0, 0, G, F, Fr.r0, ⟨l, l1, l2, l3, by omega, hll.2⟩, fun _ _ _ _ => rfl, fun _ _ _ _ _ => rfl, GRB.rf, fun d Q hd q => by
      refine b_Task_addTry_0 hd ?_
      simp (decide := true) (disch := first | decide | omega) only [ccI, ccR, ccIt ht, ccRo, ccK, ccl, ccA G, ccAt G ht, ccB G, ccBt G ht, cc_sI, cc_sR, cc_sIt ht, cc_sA G, cc_sAt G ht, cc_sB G, cc_sBt G ht, f1, f2, u3_f, u3_s, KCt G ht, KC G, w32_aa, w32_ss, w32_p1, w32_m1, Int.toNat_natCast, true_and, and_true, false_and, and_false, or_false, false_or, ne_eq, not_false_eq_true, forall_const, implies_true, not_true_eq_false, false_implies, e1, l1]
      exact ⟨fun _ => r_addTry63 G F ht (by omega) (by omega) (by omega) (by omega) e1 e2 e3 q, fun z => by omega⟩⟩
end
