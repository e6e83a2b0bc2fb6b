/-! C: two values are joined to a text -/
set_option maxRecDepth 20000
def jsz (t : Int) (bs : List Int) : Nat := if t = 3 then bs.length else 0
section
variable {ρ : Nat → Nat} {d : Nat} {Q : QT} {h h1 h' h2 : ah} {C k n m o c x y z s f i j p r a mn us l am ab u1 u2 : Nat} {X X' X1 X2 : X3} {Y : Y3} {L : List Nat} {P : List (Nat × Nat)} {v w ty : Int} {bs cs : List Int}
theorem r_join0 (I : IX h C X Y o n c) (hx : x ≤ 2000) (hy : y ≤ 2000) (q1 : jnO (X o f_Task_tags x) (X o f_Task_tags y) → wpB PGm ρ d m_Machine_join 57 [(0, vR (C + 32)), (1, vI (x : Int)), (2, vI (y : Int))] [vI 1] (cc h C X Y) Q) (q2 : ¬ jnO (X o f_Task_tags x) (X o f_Task_tags y) → wpB PGm ρ d m_Machine_join 57 [(0, vR (C + 32)), (1, vI (x : Int)), (2, vI (y : Int))] [vI 0] (cc h C X Y) Q) : wpB PGm ρ d m_Machine_join 0 [(0, vR (C + 32)), (1, vI (x : Int)), (2, vI (y : Int))] [] (cc h C X Y) Q := by
  obtain ⟨G, F, ht, e0, hn, hc1, hc2⟩ := I
  have f1 := F.t ht
  unfold FCt at f1
  have f2 := F
  unfold FC at f2
  obtain ⟨e1, e2, e3⟩ := e0
  have b1 : 0 ≤ (x : Int) ∧ (x : Int) < ((2001 : Nat) : Int) := by omega
  have b2 : 0 ≤ (y : Int) ∧ (y : Int) < ((2001 : Nat) : Int) := by omega
  unfold jnO at q1 q2
  generalize hA1 : X o f_Task_tags x = A1 at *
  generalize hA2 : X o f_Task_tags y = A2 at *
  have g : A1 = 3 ∨ A2 = 3 → wpB PGm ρ d m_Machine_join 26 [(0, vR (C + 32)), (1, vI (x : Int)), (2, vI (y : Int))] [] (cc h C X Y) Q := fun w => by
    have p1 : 3 < A1 → wpB PGm ρ d m_Machine_join 57 [(0, vR (C + 32)), (1, vI (x : Int)), (2, vI (y : Int))] [vI 0] (cc h C X Y) Q := fun z => q2 (fun c => by omega)
    have p2 : 3 < A2 → wpB PGm ρ d m_Machine_join 57 [(0, vR (C + 32)), (1, vI (x : Int)), (2, vI (y : Int))] [vI 0] (cc h C X Y) Q := fun z => q2 (fun c => by omega)
    have p3 : A1 ≤ 3 → A2 ≤ 3 → wpB PGm ρ d m_Machine_join 57 [(0, vR (C + 32)), (1, vI (x : Int)), (2, vI (y : Int))] [vI 1] (cc h C X Y) Q := fun z z2 => q1 ⟨w, z, z2⟩
    clear q1 q2 w hn hc1 hc2 hx hy
    refine b_Machine_join_26 ?_
    simp (decide := true) (disch := first | decide | omega) only [ccI, ccR, ccIt ht, ccRo, ccK, ccl, ccA G, ccAt G ht, ccB G, ccBt G ht, cc_sI, cc_sR, cc_sIt ht, cc_sA G, cc_sAt G ht, cc_sB G, cc_sBt G ht, f1, f2, u3_f, u3_s, KCt G ht, KC G, w32_aa, w32_ss, w32_p1, w32_m1, Int.toNat_natCast, true_and, and_true, false_and, and_false, or_false, false_or, ne_eq, not_false_eq_true, forall_const, implies_true, not_true_eq_false, false_implies, e1, hA1, hA2]
    exact ⟨b1, p1, fun z => ⟨b2, p2, fun z2 => p3 z z2⟩⟩
  have p0 : ¬ A1 = 3 → ¬ A2 = 3 → wpB PGm ρ d m_Machine_join 57 [(0, vR (C + 32)), (1, vI (x : Int)), (2, vI (y : Int))] [vI 0] (cc h C X Y) Q := fun z z2 => q2 (fun c => c.1.elim z z2)
  clear q1 q2 hn hc1 hc2 hx hy
  refine b_Machine_join_0 ?_
  simp (decide := true) (disch := first | decide | omega) only [ccI, ccR, ccIt ht, ccRo, ccK, ccl, ccA G, ccAt G ht, ccB G, ccBt G ht, cc_sI, cc_sR, cc_sIt ht, cc_sA G, cc_sAt G ht, cc_sB G, cc_sBt G ht, f1, f2, u3_f, u3_s, KCt G ht, KC G, w32_aa, w32_ss, w32_p1, w32_m1, Int.toNat_natCast, true_and, and_true, false_and, and_false, or_false, false_or, ne_eq, not_false_eq_true, forall_const, implies_true, not_true_eq_false, false_implies, e1, hA1, hA2]
  exact ⟨b1, fun z => g (Or.inl z), fun z => ⟨b2, fun z2 => p0 z z2, fun z2 => g (Or.inr z2)⟩⟩
theorem r_join57e (G : AC h C) (F : FC h C) (q : Q (Sum.inr (C + 33)) (cc h C (erX X 1) Y)) {l1 l2 : Int} : wpB PGm ρ (d + 1) m_Machine_join 57 [(0, vR (C + 32)), (1, vI l1), (2, vI l2)] [vI 0] (cc h C X Y) Q := by
  have g := r_sigQ (ρ := ρ) (d := d) (v := 1) (Y := Y) G F q
  refine b_Machine_join_57 ⟨fun z => absurd rfl z, fun _ => ?_⟩
  clear q
  have f2 := F
  unfold FC at f2
  simp (decide := true) only [ccR, ccRo, ccK, f2, true_and]
  exact g
/-- how long the texts are -/
theorem r_join57 (I : IX h C X Y o n c) (hx : x ≤ 2000) (hy : y ≤ 2000) (A : CVB h C X (X o f_Task_tags x) (X o f_Task_words x) bs) (B : CVB h C X (X o f_Task_tags y) (X o f_Task_words y) cs) (q : wpB PGm ρ (d + 1) m_Machine_join 141 [(0, vR (C + 32)), (1, vI (x : Int)), (2, vI (y : Int))] [vI (jsz (X o f_Task_tags y) cs : Int), vI (jsz (X o f_Task_tags x) bs : Int)] (cc h C X Y) Q) : wpB PGm ρ (d + 1) m_Machine_join 57 [(0, vR (C + 32)), (1, vI (x : Int)), (2, vI (y : Int))] [vI 1] (cc h C X Y) Q := by
  obtain ⟨G, F, ht, e0, hn, hc1, hc2⟩ := I
  have f1 := F.t ht
  unfold FCt at f1
  have f2 := F
  unfold FC at f2
  obtain ⟨e1, e2, e3⟩ := e0
  have b1 : 0 ≤ (x : Int) ∧ (x : Int) < ((2001 : Nat) : Int) := by omega
  have b2 : 0 ≤ (y : Int) ∧ (y : Int) < ((2001 : Nat) : Int) := by omega
  have A' := A.2
  have B' := B.2
  clear A B hn hc1 hc2 hx hy
  have g : wpB PGm ρ (d + 1) m_Machine_join 106 [(0, vR (C + 32)), (1, vI (x : Int)), (2, vI (y : Int))] [vI (jsz (X o f_Task_tags x) bs : Int)] (cc h C X Y) Q := by
    clear A'
    generalize (jsz (X o f_Task_tags x) bs : Int) = us at *
    rcases B' with ⟨t3, x', a, a2, a3, a4, a5, a6, a7, a8, a9, a10⟩ | ⟨n3, -⟩
    · have w1 : w32 (X o f_Task_words y) = (x' : Int) := by rw [a2]; exact w32_of (by omega) (by omega)
      have c1 : 0 ≤ (x' : Int) ∧ (x' : Int) < (hl h (hR h f_Texts_size (C + 46)) : Int) := by omega
      unfold jsz at q
      rw [if_pos t3] at q
      clear a2 a3 a4 a5 a7 a8 a9 a10
      refine b_Machine_join_106 ?_
      simp (decide := true) only [ccI, ccR, ccRo, ccK, ccl, ccA G, ccAt G ht, KC G, KCt G ht, f1, f2, e1, t3, w1, a6, Int.toNat_natCast, true_and, and_true, not_true_eq_false, false_implies, forall_const]
      exact ⟨b2, b2, c1, q⟩
    · unfold jsz at q
      rw [if_neg n3] at q
      refine b_Machine_join_106 ?_
      simp (decide := true) only [ccI, ccR, ccRo, ccK, ccl, ccA G, ccAt G ht, KC G, KCt G ht, f1, f2, e1, n3, Int.toNat_natCast, true_and, and_true, not_false_eq_true, false_implies, forall_const]
      exact ⟨b2, q⟩
  clear q B'
  rcases A' with ⟨t3, x', a, a2, a3, a4, a5, a6, a7, a8, a9, a10⟩ | ⟨n3, -⟩
  · have w1 : w32 (X o f_Task_words x) = (x' : Int) := by rw [a2]; exact w32_of (by omega) (by omega)
    have c1 : 0 ≤ (x' : Int) ∧ (x' : Int) < (hl h (hR h f_Texts_size (C + 46)) : Int) := by omega
    unfold jsz at g
    rw [if_pos t3] at g
    clear a2 a3 a4 a5 a7 a8 a9 a10
    refine b_Machine_join_57 ⟨fun _ => ?_, fun z => absurd z (by decide)⟩
    simp (decide := true) only [ccI, ccR, ccRo, ccK, ccl, ccA G, ccAt G ht, KC G, KCt G ht, f1, f2, e1, t3, w1, a6, Int.toNat_natCast, true_and, and_true, not_true_eq_false, false_implies, forall_const]
    exact ⟨b1, b1, c1, g⟩
  · unfold jsz at g
    rw [if_neg n3] at g
    refine b_Machine_join_57 ⟨fun _ => ?_, fun z => absurd z (by decide)⟩
    simp (decide := true) only [ccI, ccR, ccRo, ccK, ccl, ccA G, ccAt G ht, KC G, KCt G ht, f1, f2, e1, n3, Int.toNat_natCast, true_and, and_true, not_false_eq_true, false_implies, forall_const]
    exact ⟨b1, g⟩
end
