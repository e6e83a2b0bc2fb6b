/-! C: operators of two values -/
set_option maxRecDepth 20000
section
variable {ρ : Nat → Nat} {d : Nat} {h h' : ah} {Q : QT} {C f g o n c i j x y k m : Nat} {op a b v w ty : Int} {X : X3} {Y : Y3}
theorem r_sigQ (G : AC h C) (F : FC h C) (q : Q (Sum.inr (C + 33)) (cc h C (erX X v) Y)) : wpB PGm ρ d m_Signal_of 0 [(0, vR (C + 33)), (1, vI v)] [] (cc h C X Y) (cR (fun x18 h13 => hK h13 x18 ≠ 0 ∧ Q (Sum.inr x18) h13) (fun e h' => hK h' e ≠ 0 ∧ Q (Sum.inr e) h')) := by
  refine r_sig G F ⟨?_, q⟩
  show hK h (C + 33) ≠ 0
  rw [F.1.2.1]; decide
/-- the answer of an operator at a place -/
theorem r_ans397 (I : IX h C X Y o n c) (hx : x ≤ 2000) (hv : -128 ≤ ty ∧ ty ≤ 127) (q : Q (Sum.inl none) (cc h C (ansX X o x c ty v) Y)) : wpB PGm ρ (d + 2) m_Machine_operate 397 [] [vL v, vI ty, vI (x : Int), vR (C + 32)] (cc h C X Y) Q := by
  obtain ⟨G, F, ht, e0, hn, hc1, hc2⟩ := I
  exact b_Machine_operate_397 ⟨F.1.1, r_answer G F ht e0.1 e0.2.2 hx ⟨hc1, hc2⟩ hv q⟩
theorem r_ans269 (I : IX h C X Y o n c) (hx : x ≤ 2000) (hv : -128 ≤ ty ∧ ty ≤ 127) (q : Q (Sum.inl none) (cc h C (ansX X o x c ty v) Y)) : wpB PGm ρ (d + 2) m_Machine_operate 269 [] [vL v, vI ty, vI (x : Int), vR (C + 32)] (cc h C X Y) Q := by
  obtain ⟨G, F, ht, e0, hn, hc1, hc2⟩ := I
  exact b_Machine_operate_269 ⟨F.1.1, r_answer G F ht e0.1 e0.2.2 hx ⟨hc1, hc2⟩ hv q⟩
theorem r_ans95 (I : IX h C X Y o n c) (hx : x ≤ 2000) (hv : -128 ≤ ty ∧ ty ≤ 127) (q : Q (Sum.inl none) (cc h C (ansX X o x c ty v) Y)) : wpB PGm ρ (d + 2) m_Machine_operate 95 [] [vL v, vI ty, vI (x : Int), vR (C + 32)] (cc h C X Y) Q := by
  obtain ⟨G, F, ht, e0, hn, hc1, hc2⟩ := I
  exact b_Machine_operate_95 ⟨F.1.1, r_answer G F ht e0.1 e0.2.2 hx ⟨hc1, hc2⟩ hv q⟩
theorem r_op291 (I : IX h C X Y o n c) (hx : x ≤ 2000) (ho : op = 7 ∨ op = 8 ∨ op = 9 ∨ op = 10 ∨ op = 11) {s : Int} (q1 : s ≠ 0 → ¬ ((op = 10 ∨ op = 11) ∧ w = 0) → Q (Sum.inl none) (cc h C (ansX X o x c 2 (arN op v w)) Y)) (q2 : s ≠ 0 → (op = 10 ∨ op = 11) → w = 0 → Q (Sum.inr (C + 33)) (cc h C (erX X 2) Y)) (q3 : s = 0 → Q (Sum.inr (C + 33)) (cc h C (erX X 1) Y)) : wpB PGm ρ (d + 2) m_Machine_operate 291 [(0, vR (C + 32)), (1, vI op), (2, vI (x : Int)), (4, vL v), (6, vL w), (8, vI s)] [] (cc h C X Y) Q := by
  have F := I.2.1
  have G := I.1
  have kS : hK (cc h C X Y) (hR (cc h C X Y) f_Machine_signal (C + 32)) = k_Signal := by
    rw [ccRo (by decide), F.2.1.1]; exact F.1.2.1
  have eS : hR (cc h C X Y) f_Machine_signal (C + 32) = C + 33 := by rw [ccRo (by decide), F.2.1.1]
  have g333 : s ≠ 0 → ¬ ((op = 10 ∨ op = 11) ∧ w = 0) → wpB PGm ρ (d + 2) m_Machine_operate 333 [(0, vR (C + 32)), (1, vI op), (2, vI (x : Int)), (4, vL v), (6, vL w)] [] (cc h C X Y) Q := by
    intro k1 nz
    have g : ∀ u : Int, u = arN op v w → wpB PGm ρ (d + 2) m_Machine_operate 397 [] [vL u, vI 2, vI (x : Int), vR (C + 32)] (cc h C X Y) Q := fun u hu => by subst hu; exact r_ans397 I hx (by decide) (q1 k1 nz)
    clear q1 q2 q3
    refine b_Machine_operate_333 ⟨fun n7 => ⟨fun n8 => ⟨fun n9 => ⟨fun n10 => ⟨?_, g _ ?_⟩, fun e10 => ⟨?_, g _ ?_⟩⟩, fun e9 => g _ ?_⟩, fun e8 => g _ ?_⟩, fun e7 => g _ ?_⟩
    · intro c; exact nz ⟨by omega, c⟩
    · unfold arN; rw [if_neg n7, if_neg n8, if_neg n9, if_neg n10]
    · intro c; exact nz ⟨Or.inl e10, c⟩
    · unfold arN; rw [if_neg n7, if_neg n8, if_neg n9, if_pos e10]
    · unfold arN; rw [if_neg n7, if_neg n8, if_pos e9]
    · unfold arN; rw [if_neg n7, if_pos e8]
    · unfold arN; rw [if_pos e7]
  have g317 : s ≠ 0 → (op = 10 ∨ op = 11) → wpB PGm ρ (d + 2) m_Machine_operate 317 [(0, vR (C + 32)), (1, vI op), (2, vI (x : Int)), (4, vL v), (6, vL w)] [] (cc h C X Y) Q := by
    intro k1 k2
    refine b_Machine_operate_317 ⟨fun z => g333 k1 (fun c => z (by rw [lc_z]; exact c.2)), fun z => ⟨F.1.1, kS, ?_⟩⟩
    rw [lc_z] at z
    rw [eS]
    exact r_sigQ G F (q2 k1 k2 z)
  refine b_Machine_operate_291 ⟨fun z => ⟨fun z2 => g317 z (Or.inl z2), fun z2 => ⟨fun z3 => g333 z (fun c => c.1.elim z2 z3), fun z3 => g317 z (Or.inr z3)⟩⟩, fun z => ⟨F.1.1, kS, ?_⟩⟩
  rw [eS]
  exact r_sigQ G F (q3 z)
theorem r_op185 (I : IX h C X Y o n c) (hx : x ≤ 2000) (ho : op = 16 ∨ op = 17 ∨ op = 18 ∨ op = 19) (q1 : cmO op v → Q (Sum.inl none) (cc h C (ansX X o x c 1 1) Y)) (q0 : ¬ cmO op v → Q (Sum.inl none) (cc h C (ansX X o x c 1 0) Y)) : wpB PGm ρ (d + 2) m_Machine_operate 185 [(0, vR (C + 32)), (1, vI op), (2, vI (x : Int))] [vI v] (cc h C X Y) Q := by
  have g1 : cmO op v → wpB PGm ρ (d + 2) m_Machine_operate 254 [(0, vR (C + 32)), (2, vI (x : Int))] [vI 1] (cc h C X Y) Q := fun z => b_Machine_operate_254 ⟨fun c => absurd c (by decide), fun _ => r_ans269 I hx (by decide) (q1 z)⟩
  have g0 : ¬ cmO op v → wpB PGm ρ (d + 2) m_Machine_operate 254 [(0, vR (C + 32)), (2, vI (x : Int))] [vI 0] (cc h C X Y) Q := fun z => b_Machine_operate_254 ⟨fun _ => r_ans269 I hx (by decide) (q0 z), fun c => absurd rfl c⟩
  unfold cmO at g1 g0
  clear q1 q0 I
  exact b_Machine_operate_185 ⟨fun n16 => ⟨fun n17 => ⟨fun n18 => ⟨fun z => g0 (by omega), fun z => g1 (by omega)⟩, fun e18 => ⟨fun z => g0 (by omega), fun z => g1 (by omega)⟩⟩, fun e17 => ⟨fun z => g0 (by omega), fun z => g1 (by omega)⟩⟩, fun e16 => ⟨fun z => g0 (by omega), fun z => g1 (by omega)⟩⟩
/-- less, more -/
theorem r_op136 (I : IX h C X Y o n c) (hd : 8 ≤ d) (hx : x ≤ 2000) (ho : op = 16 ∨ op = 17 ∨ op = 18 ∨ op = 19) {s u : Int} (q0 : s = 0 → u = 0 → Q (Sum.inr (C + 33)) (cc h C (erX X 1) Y)) (q1 : s ≠ 0 → wpB PGm ρ (d + 2) m_Machine_operate 185 [(0, vR (C + 32)), (1, vI op), (2, vI (x : Int))] [vI (if v < w then -1 else if v = w then 0 else 1)] (cc h C X Y) Q) (q2 : s = 0 → u ≠ 0 → ∃ z : Int, (∀ Q' : QT, Q' (Sum.inl (some (vI z))) (cc h C X Y) → wpB PGm ρ (d + 1) m_Texts_compare 0 [(0, vR (C + 46)), (1, vI (w32 v)), (2, vI (w32 w))] [] (cc h C X Y) Q') ∧ wpB PGm ρ (d + 2) m_Machine_operate 185 [(0, vR (C + 32)), (1, vI op), (2, vI (x : Int))] [vI z] (cc h C X Y) Q) : wpB PGm ρ (d + 2) m_Machine_operate 136 [(0, vR (C + 32)), (1, vI op), (2, vI (x : Int)), (4, vL v), (6, vL w), (8, vI s)] [vI u] (cc h C X Y) Q := by
  have F := I.2.1
  have G := I.1
  have eS : hR (cc h C X Y) f_Machine_signal (C + 32) = C + 33 := by rw [ccRo (by decide), F.2.1.1]
  have eX : hR (cc h C X Y) f_Machine_texts (C + 32) = C + 46 := by rw [ccRo (by decide), F.2.1.2.2.2.1]
  have g157 : (s = 0 → u ≠ 0) → wpB PGm ρ (d + 2) m_Machine_operate 157 [(0, vR (C + 32)), (1, vI op), (2, vI (x : Int)), (4, vL v), (6, vL w), (8, vI s)] [] (cc h C X Y) Q := by
    intro k
    refine b_Machine_operate_157 (by omega) ⟨fun z => ⟨F.1.1, ?_, ?_⟩, fun z => q1 z⟩
    · rw [eX]; exact F.1.2.2.2.2.1
    · rw [eX]
      obtain ⟨y, k1, k2⟩ := q2 z (k z)
      exact k1 _ k2
  refine b_Machine_operate_136 ⟨fun z => g157 (fun c => absurd c z), fun z => ⟨fun z2 => g157 (fun _ => z2), fun z2 => ⟨F.1.1, ?_, ?_⟩⟩⟩
  · rw [eS]; exact F.1.2.1
  · rw [eS]; exact r_sigQ G F (q0 z z2)
theorem r_op67 (I : IX h C X Y o n c) (hx : x ≤ 2000) (ho : op = 14 ∨ op = 15) {same : Prop} (q1 : same → Q (Sum.inl none) (cc h C (ansX X o x c 1 (if op = 14 then 1 else 0)) Y)) (q0 : ¬ same → Q (Sum.inl none) (cc h C (ansX X o x c 1 (if op = 14 then 0 else 1)) Y)) (k : ∀ Q' : QT, (same → Q' (Sum.inl (some (vI 1))) (cc h C X Y)) → (¬ same → Q' (Sum.inl (some (vI 0))) (cc h C X Y)) → wpB PGm ρ (d + 1) m_Machine_isSame 0 [(0, vR (C + 32)), (1, vI (x : Int)), (2, vI (y : Int))] [] (cc h C X Y) Q') : wpB PGm ρ (d + 2) m_Machine_operate 67 [(0, vR (C + 32)), (1, vI op), (2, vI (x : Int)), (3, vI (y : Int))] [] (cc h C X Y) Q := by
  have F := I.2.1
  have g95 : ∀ v, (same → v = if op = 14 then 1 else 0) → (¬ same → v = if op = 14 then 0 else 1) → wpB PGm ρ (d + 2) m_Machine_operate 95 [] [vL v, vI 1, vI (x : Int), vR (C + 32)] (cc h C X Y) Q := by
    intro v h1 h2
    by_cases z : same
    · rw [h1 z]; exact r_ans95 I hx (by decide) (q1 z)
    · rw [h2 z]; exact r_ans95 I hx (by decide) (q0 z)
  refine b_Machine_operate_67 ⟨F.1.1, k _ (fun z => ?_) (fun z => ?_)⟩
  · refine ⟨fun z2 => b_Machine_operate_87 ⟨fun _ => g95 _ (fun _ => ?_) (fun c => absurd z c), fun c => absurd c (by decide)⟩, fun z2 => b_Machine_operate_87 ⟨fun c => absurd rfl c, fun _ => g95 _ (fun _ => ?_) (fun c => absurd z c)⟩⟩
    · rw [if_neg z2]
    · rw [if_pos z2]
  · refine ⟨fun z2 => b_Machine_operate_87 ⟨fun c => absurd rfl c, fun _ => g95 _ (fun c => absurd c z) (fun _ => ?_)⟩, fun z2 => b_Machine_operate_87 ⟨fun _ => g95 _ (fun c => absurd c z) (fun _ => ?_), fun c => absurd c (by decide)⟩⟩
    · rw [if_neg z2]
    · rw [if_pos z2]
/-- whether two values are the same -/
theorem r_isSame (I : IX h C X Y o n c) (hd : 9 ≤ d) (hx : x ≤ 2000) (hy : y ≤ 2000) (q1 : ¬ (X o f_Task_tags x = 3 ∧ X o f_Task_tags y = 3) → (X o f_Task_tags x = X o f_Task_tags y ∧ (X o f_Task_tags x = 0 ∨ X o f_Task_words x = X o f_Task_words y)) → Q (Sum.inl (some (vI 1))) (cc h C X Y)) (q0 : ¬ (X o f_Task_tags x = 3 ∧ X o f_Task_tags y = 3) → ¬ (X o f_Task_tags x = X o f_Task_tags y ∧ (X o f_Task_tags x = 0 ∨ X o f_Task_words x = X o f_Task_words y)) → Q (Sum.inl (some (vI 0))) (cc h C X Y)) (q2 : X o f_Task_tags x = 3 → X o f_Task_tags y = 3 → ∃ z : Int, (∀ Q' : QT, Q' (Sum.inl (some (vI z))) (cc h C X Y) → wpB PGm ρ d m_Texts_compare 0 [(0, vR (C + 46)), (1, vI (w32 (X o f_Task_words x))), (2, vI (w32 (X o f_Task_words y)))] [] (cc h C X Y) Q') ∧ (z = 0 → Q (Sum.inl (some (vI 1))) (cc h C X Y)) ∧ (z ≠ 0 → Q (Sum.inl (some (vI 0))) (cc h C X Y))) : wpB PGm ρ (d + 1) m_Machine_isSame 0 [(0, vR (C + 32)), (1, vI (x : Int)), (2, vI (y : Int))] [] (cc h C X Y) Q := by
  obtain ⟨G, F, ht, e0, hn, hc1, hc2⟩ := I
  have f1 := F.t ht
  unfold FCt at f1
  have f2 := F
  unfold FC at f2
  obtain ⟨e1, e2, e3⟩ := e0
  refine b_Machine_isSame_0 ?_
  have b2 : (0 ≤ (x : Int) ∧ (x : Int) < ((2001 : Nat) : Int)) ∧ (0 ≤ (y : Int) ∧ (y : Int) < ((2001 : Nat) : Int)) := by omega
  have g0 := q0
  have g1 := q1
  have g2 := q2
  clear q1 q0 q2
  simp (decide := true) (disch := first | decide | omega) only [ccI, ccR, ccIt ht, ccRo, ccK, ccl, ccA G, ccAt G ht, ccB G, ccBt G ht, cc_sI, cc_sR, cc_sIt ht, cc_sA G, cc_sAt G ht, cc_sB G, cc_sBt G ht, f1, f2, u3_f, u3_s, KCt G ht, KC G, w32_aa, w32_ss, w32_p1, w32_m1, Int.toNat_natCast, true_and, and_true, false_and, and_false, or_false, false_or, ne_eq, not_false_eq_true, forall_const, implies_true, not_true_eq_false, false_implies, e1, lc_z]
  refine ⟨b2.1, b2.2, fun z => ⟨fun z3 => ⟨fun z0 => b_Machine_isSame_92 (g1 (fun c => z3 c.1) ⟨z, Or.inl z0⟩), fun z0 => ⟨b2.1, b2.2, fun zw => g0 (fun c => z3 c.1) (fun c => c.2.elim z0 zw), fun zw => b_Machine_isSame_92 (g1 (fun c => z3 c.1) ⟨z, Or.inr zw⟩)⟩⟩, fun z3 => ⟨b2.1, b2.2, ?_⟩⟩, fun z => g0 (fun c => z (c.1.trans c.2.symm)) (fun c => z c.1)⟩
  obtain ⟨u, k1, k2, k3⟩ := g2 z3 (z.symm.trans z3)
  exact k1 _ ⟨fun y => k3 y, fun y => k2 y⟩
/-- the front of an operator -/
theorem r_op0 (I : IX h C X Y o n c) (hx : x ≤ 2000) (hy : y ≤ 2000) {s : Int} (hs : (X o f_Task_tags x = 2 ∧ X o f_Task_tags y = 2 ∧ s = 1) ∨ (¬ (X o f_Task_tags x = 2 ∧ X o f_Task_tags y = 2) ∧ s = 0)) (q : wpB PGm ρ (d + 1) m_Machine_operate 53 [(0, vR (C + 32)), (1, vI op), (2, vI (x : Int)), (3, vI (y : Int)), (4, vL (X o f_Task_words x)), (6, vL (X o f_Task_words y))] [vI s] (cc h C X Y) Q) : wpB PGm ρ (d + 1) m_Machine_operate 0 [(0, vR (C + 32)), (1, vI op), (2, vI (x : Int)), (3, vI (y : Int))] [] (cc h C X Y) Q := by
  obtain ⟨G, F, ht, e0, hn, hc1, hc2⟩ := I
  have f1 := F.t ht
  unfold FCt at f1
  have f2 := F
  unfold FC at f2
  obtain ⟨e1, e2, e3⟩ := e0
  have b2 : (0 ≤ (x : Int) ∧ (x : Int) < ((2001 : Nat) : Int)) ∧ (0 ≤ (y : Int) ∧ (y : Int) < ((2001 : Nat) : Int)) := by omega
  have g := q
  have gs := hs
  clear q hs
  refine b_Machine_operate_0 ?_
  simp (decide := true) (disch := first | decide | omega) only [ccI, ccR, ccIt ht, ccRo, ccK, ccl, ccA G, ccAt G ht, ccB G, ccBt G ht, cc_sI, cc_sR, cc_sIt ht, cc_sA G, cc_sAt G ht, cc_sB G, cc_sBt G ht, f1, f2, u3_f, u3_s, KCt G ht, KC G, w32_aa, w32_ss, w32_p1, w32_m1, Int.toNat_natCast, true_and, and_true, false_and, and_false, or_false, false_or, ne_eq, not_false_eq_true, forall_const, implies_true, not_true_eq_false, false_implies, e1]
  refine ⟨b2.1, b2.2, b2.1, fun z => ?_, fun z => ⟨b2.2, fun z2 => ?_, fun z2 => ?_⟩⟩
  · rcases gs with ⟨c, -⟩ | ⟨-, c⟩
    · exact absurd c z
    · rw [c] at g; exact g
  · rcases gs with ⟨-, c, -⟩ | ⟨-, c⟩
    · exact absurd c z2
    · rw [c] at g; exact g
  · rcases gs with ⟨-, -, c⟩ | ⟨c, -⟩
    · rw [c] at g; exact g
    · exact absurd ⟨z, z2⟩ c
theorem r_op53 (I : IX h C X Y o n c) (hx : x ≤ 2000) (hy : y ≤ 2000) {s : Int} (q1 : op = 14 ∨ op = 15 → wpB PGm ρ (d + 2) m_Machine_operate 67 [(0, vR (C + 32)), (1, vI op), (2, vI (x : Int)), (3, vI (y : Int))] [] (cc h C X Y) Q) (q2 : 16 ≤ op → ∀ u : Int, (X o f_Task_tags x = 3 ∧ X o f_Task_tags y = 3 ∧ u = 1) ∨ (¬ (X o f_Task_tags x = 3 ∧ X o f_Task_tags y = 3) ∧ u = 0) → wpB PGm ρ (d + 2) m_Machine_operate 136 [(0, vR (C + 32)), (1, vI op), (2, vI (x : Int)), (4, vL v), (6, vL w), (8, vI s)] [vI u] (cc h C X Y) Q) (q3 : op < 14 → ¬ (op = 7 ∧ s = 0) → wpB PGm ρ (d + 2) m_Machine_operate 291 [(0, vR (C + 32)), (1, vI op), (2, vI (x : Int)), (4, vL v), (6, vL w), (8, vI s)] [] (cc h C X Y) Q) (q4 : op = 7 → s = 0 → wpB PGm ρ (d + 1) m_Machine_join 0 [(0, vR (C + 32)), (1, vI (x : Int)), (2, vI (y : Int))] [] (cc h C X Y) (cV (fun h23 => Q (Sum.inl none) h23) (fun e h' => hK h' e ≠ 0 ∧ Q (Sum.inr e) h'))) : wpB PGm ρ (d + 2) m_Machine_operate 53 [(0, vR (C + 32)), (1, vI op), (2, vI (x : Int)), (3, vI (y : Int)), (4, vL v), (6, vL w)] [vI s] (cc h C X Y) Q := by
  obtain ⟨G, F, ht, e0, hn, hc1, hc2⟩ := I
  have f1 := F.t ht
  unfold FCt at f1
  have f2 := F
  unfold FC at f2
  obtain ⟨e1, e2, e3⟩ := e0
  have b2 : (0 ≤ (x : Int) ∧ (x : Int) < ((2001 : Nat) : Int)) ∧ (0 ≤ (y : Int) ∧ (y : Int) < ((2001 : Nat) : Int)) := by omega
  refine b_Machine_operate_53 ⟨fun z => q1 (Or.inl z), fun z => ⟨fun z2 => ⟨fun z3 => ⟨fun z4 => q3 (by omega) (fun c => z4 c.1), fun z4 => ⟨fun z5 => q3 (by omega) (fun c => z5 c.2), fun z5 => ⟨F.1.1, q4 z4 z5⟩⟩⟩, fun z3 => ?_⟩, fun z2 => q1 (Or.inr z2)⟩⟩
  have g := q2 z3
  clear q1 q2 q3 q4 z z2 z3
  simp (decide := true) (disch := first | decide | omega) only [ccI, ccR, ccIt ht, ccRo, ccK, ccl, ccA G, ccAt G ht, ccB G, ccBt G ht, cc_sI, cc_sR, cc_sIt ht, cc_sA G, cc_sAt G ht, cc_sB G, cc_sBt G ht, f1, f2, u3_f, u3_s, KCt G ht, KC G, w32_aa, w32_ss, w32_p1, w32_m1, Int.toNat_natCast, true_and, and_true, false_and, and_false, or_false, false_or, ne_eq, not_false_eq_true, forall_const, implies_true, not_true_eq_false, false_implies, e1]
  exact ⟨b2.1, fun z => g 0 (Or.inr ⟨fun c => z c.1, rfl⟩), fun z => ⟨b2.2, fun z2 => g 0 (Or.inr ⟨fun c => z2 c.2, rfl⟩), fun z2 => g 1 (Or.inl ⟨z, z2, rfl⟩)⟩⟩
theorem r_opI (I : IX h C X Y o n c) (hn2 : 2 ≤ n) (ho : (7 ≤ op ∧ op ≤ 11) ∨ (14 ≤ op ∧ op ≤ 19)) (q : wpB PGm ρ (d + 19) m_Machine_operate 0 [(0, vR (C + 32)), (1, vI op), (2, vI ((n - 1 - 1 : Nat) : Int)), (3, vI ((n - 1 : Nat) : Int))] [] (cc h C X Y) (cV (fun h3 => Q (Sum.inl none) h3) (fun e h' => hK h' e ≠ 0 ∧ Q (Sum.inr e) h'))) : wpB PGm ρ (d + 20) m_Machine_instruct 0 [(0, vR (C + 32)), (1, vI op), (2, vI a), (3, vI b)] [] (cc h C X Y) Q := by
  obtain ⟨G, F, ht, ⟨e1, e2, e3⟩, hn, hc1, hc2⟩ := I
  have g : wpB PGm ρ (d + 20) m_Machine_instruct 848 [(0, vR (C + 32)), (1, vI op), (4, vI ((n - 1 : Nat) : Int))] [] (cc h C X Y) Q := by
    refine b_Machine_instruct_848 ⟨F.1.1, ?_⟩
    rw [w32_m1 (by omega)]
    exact q
  have eT : hR (cc h C X Y) f_Machine_t (C + 32) = C + o := by rw [ccR (by decide), e1]
  have el : w32 (hI (cc h C X Y) f_Task_size (hR (cc h C X Y) f_Machine_t (C + 32)) - 1) = ((n - 1 : Nat) : Int) := by
    rw [eT, ccIt ht (by decide), e2, w32_m1 (by omega)]
  refine b_Machine_instruct_0 (by omega) ⟨F.1.1, ?_, ?_⟩
  · rw [eT]; exact (F.t ht).1
  · rw [el]
    clear q e1 e2 e3 hn hc1 hc2 hn2 el eT
    exact ⟨fun z => by omega, fun n0 => ⟨fun z => by omega, fun n1 => ⟨fun z => by omega, fun n2 => ⟨fun z => by omega, fun n3 => ⟨fun z => by omega, fun n4 => ⟨fun z => by omega, fun n5 => ⟨fun z => by omega, fun n6 => ⟨fun z => g, fun n7 => ⟨fun z => g, fun n8 => ⟨fun z => g, fun n9 => ⟨fun z => g, fun n10 => ⟨fun z => g, fun n11 => ⟨fun z => by omega, fun n12 => ⟨fun z => by omega, fun n13 => ⟨fun z => g, fun n14 => ⟨fun z => g, fun n15 => ⟨fun z => g, fun n16 => ⟨fun z => g, fun n17 => ⟨fun z => g, fun n18 => ⟨fun z => g, fun n19 => ⟨fun z => by omega, fun n20 => ⟨fun z => by omega, fun n21 => ⟨fun z => by omega, fun n22 => ⟨fun z => by omega, fun n23 => ⟨fun z => by omega, fun n24 => ⟨fun z => by omega, fun n25 => ⟨fun z => by omega, fun n26 => ⟨fun z => by omega, fun n27 => ⟨fun z => by omega, fun n28 => ⟨fun z => by omega, fun n29 => ⟨fun z => by omega, fun n30 => ⟨fun z => by omega, fun n31 => ⟨fun z => by omega, fun n32 => ⟨fun z => by omega, fun n33 => g⟩⟩⟩⟩⟩⟩⟩⟩⟩⟩⟩⟩⟩⟩⟩⟩⟩⟩⟩⟩⟩⟩⟩⟩⟩⟩⟩⟩⟩⟩⟩⟩⟩⟩
end
