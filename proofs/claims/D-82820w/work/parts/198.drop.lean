/-! the builtin drop: C's front -/
set_option maxRecDepth 20000
section
variable {ρ : Nat → Nat} {P : ah → Nat → Prop} {d : Nat} {Q : QT} {Γ Γ' : GH} {h h0 h1 h' : ah} {C ho T : Nat} {X X' X1 X2 : X3} {Y Y' : Y3} {S S' S1 S2 : SS} {N t o n c r f i j k m z s n' pu po tn w sn sm l1 s0 nn p0 kk kx : Nat} {ty v x y op a b p : Int} {L : List Nat} {ws : List (List Int)} {l : List Int}
theorem r_DROP (HC : CORE Γ h C ho X Y S N) (NM : NMR h C S ws) (I : IX h C X Y o n c) (n2 : 2 ≤ n) (c3 : hl h (C + 51) = tn) (c6 : tn ≤ 8000) (V1 : X o f_Task_tags (n - 2) = 4 ∨ X o f_Task_tags (n - 2) = 5 → (0 ≤ X o f_Task_words (n - 2) ∧ X o f_Task_words (n - 2) < (tn : Int) ∧ hK h (hB h (C + 51) (X o f_Task_words (n - 2)).toNat) ∈ [244, 245]) ∧ hB h (C + 51) (X o f_Task_words (n - 2)).toNat ≠ 0) (V2 : X o f_Task_tags (n - 1) = 3 → CTX h C X (X o f_Task_words (n - 1)) l) (q1 : (X o f_Task_tags (n - 2) = 4 ∨ X o f_Task_tags (n - 2) = 5) → X o f_Task_tags (n - 1) = 3 → ∀ v, FWI ws l v → ∀ K : QT, (∀ h3 X3 B, AC h3 C → FC h3 C → X3 o f_Task_calls 0 = X o f_Task_calls 0 → (B = 0 ∨ B = 1) → Q (Sum.inl none) (cc h3 C (ansX X3 o (n - 2) c 1 B) Y) → K (Sum.inl (some (vI B))) (cc h3 C X3 Y)) → (∀ h', hK h' (C + 33) ≠ 0 → Q (Sum.inr (C + 33)) h' → K (Sum.inr (C + 33)) h') → wpB PGm ρ (d + 57) m_Heap_drop 0 [(0, vR (C + 50)), (1, vR (obA h C (X o f_Task_tags (n - 2)) (X o f_Task_words (n - 2)))), (2, vI v)] [] (cc h C X Y) K) (q0 : ¬ ((X o f_Task_tags (n - 2) = 4 ∨ X o f_Task_tags (n - 2) = 5) ∧ X o f_Task_tags (n - 1) = 3) → Q (Sum.inr (C + 33)) (cc h C (erX X 12) Y)) : wpB PGm ρ (d + 60) m_Machine_instruct 0 [(0, vR (C + 32)), (1, vI 28), (2, vI 4), (3, vI b)] [] (cc h C X Y) Q := by
  obtain ⟨G, F, ht, ⟨e1, e2, e3⟩, hn, hc1, hc2⟩ := I
  have kS : hK h (C + 33) ≠ 0 := by rw [F.1.2.1]; decide
  have x1 : n - 2 ≤ 2000000000 := by omega
  have eqn : n - 2 + 1 = n - 1 := by omega
  have w1 : w32 ((n : Int) - ((2 : Nat) : Int)) = ((n - 2 : Nat) : Int) := by
    have e : (n : Int) - ((2 : Nat) : Int) = ((n - 2 : Nat) : Int) := by omega
    rw [e]; exact w32_of (by omega) (by omega)
  have b1 : 0 ≤ ((n - 2 : Nat) : Int) ∧ ((n - 2 : Nat) : Int) < ((2001 : Nat) : Int) := by omega
  have b2 : 0 ≤ ((n - 1 : Nat) : Int) ∧ ((n - 1 : Nat) : Int) < ((2001 : Nat) : Int) := by omega
  have hn2' : n - 2 ≤ 2000 := by omega
  have es : hR (cc h C X Y) f_Machine_signal (C + 32) = C + 33 := by rw [ccRo (by decide)]; exact F.2.1.1
  refine r_BLT (w := 2) (d := d + 40) ⟨G, F, ht, ⟨e1, e2, e3⟩, hn, hc1, hc2⟩ n2 (Or.inl ⟨Or.inr (Or.inl rfl), rfl⟩) (b_Machine_builtin_27 ?_)
  have w2 : w32 (((n - 2 : Nat) : Int) + 1) = ((n - 1 : Nat) : Int) := by rw [w32_s x1, eqn]
  -- the answers
  have ans : ∀ h3 X3 (B : Int), AC h3 C → FC h3 C → X3 o f_Task_calls 0 = X o f_Task_calls 0 → (B = 0 ∨ B = 1) → Q (Sum.inl none) (cc h3 C (ansX X3 o (n - 2) c 1 B) Y) → wpB PGm ρ (d + 58) m_Machine_property_2 115 [(0, vR (C + 32)), (2, vI ((n - 2 : Nat) : Int))] [vI B] (cc h3 C X3 Y) (cV (fun h3 => cV (fun h3 => Q (Sum.inl none) h3) (fun e h' => hK h' e ≠ 0 ∧ Q (Sum.inr e) h') (Sum.inl none) h3) (fun e6 h5 => hK h5 e6 ≠ 0 ∧ cV (fun h3 => Q (Sum.inl none) h3) (fun e h' => hK h' e ≠ 0 ∧ Q (Sum.inr e) h') (Sum.inr e6) h5)) := fun h3 X3 B G3 F3 ec hB qq => by
    rcases hB with rfl | rfl
    · exact b_Machine_property_2_115 ⟨fun _ => b_Machine_property_2_130 ⟨F3.1.1, r_answer (d := d + 56) (n := n - 2) (c := c) G3 F3 ht e1 (by rw [ec]; exact e3) hn2' ⟨hc1, hc2⟩ (by decide) qq⟩, fun z => absurd rfl z⟩
    · exact b_Machine_property_2_115 ⟨fun z => absurd z (by decide), fun _ => b_Machine_property_2_130 ⟨F3.1.1, r_answer (d := d + 56) (n := n - 2) (c := c) G3 F3 ht e1 (by rw [ec]; exact e3) hn2' ⟨hc1, hc2⟩ (by decide) qq⟩⟩
  have eqc : X o f_Task_calls 0 = X o f_Task_calls 0 := rfl
  generalize hx : X o f_Task_tags (n - 2) = x at *
  generalize hy : X o f_Task_words (n - 2) = y at *
  generalize hx2 : X o f_Task_tags (n - 1) = x2 at *
  generalize hy2 : X o f_Task_words (n - 1) = y2 at *
  have f1 := F.t ht
  unfold FCt at f1
  have f2 := F
  unfold FC at f2
  clear n2 hn
  have z1 : obA h C x y = 0 ↔ ¬ (x = 4 ∨ x = 5) := ⟨fun e c => by
    have : obA h C x y = hB h (C + 51) y.toNat := if_pos c
    exact (V1 c).2 (by rw [← this]; exact e), fun e => if_neg e⟩
  have g19 : ¬ ((x = 4 ∨ x = 5) ∧ x2 = 3) → wpB PGm ρ (d + 57 + 1) m_Machine_property_2 19 [(0, vR (C + 32))] [] (cc h C X Y) (cV (fun h3 => cV (fun h3 => Q (Sum.inl none) h3) (fun e h' => hK h' e ≠ 0 ∧ Q (Sum.inr e) h') (Sum.inl none) h3) (fun e6 h5 => hK h5 e6 ≠ 0 ∧ cV (fun h3 => Q (Sum.inl none) h3) (fun e h' => hK h' e ≠ 0 ∧ Q (Sum.inr e) h') (Sum.inr e6) h5)) := fun z => by
    refine b_Machine_property_2_19 ⟨F.1.1, ?_⟩
    rw [es]
    exact ⟨F.1.2.1, r_sigQ G F ⟨kS, kS, q0 z⟩⟩
  simp (decide := true) only [ccI, ccR, ccRo, ccK, ccl, ccA G, ccAt G ht, KC G, KCt G ht, f1, f2, e1, w1, hx, hy, Int.toNat_natCast, true_and, and_true, false_implies, forall_const]
  refine ⟨b1, b1, r_objectOf G F (by omega) c3 c6 (fun c => (V1 c).1) (b_Machine_builtin_268 ⟨fun z => absurd rfl z, fun _ => b_Machine_builtin_282 ⟨F.1.1, b_Machine_property_2_0 ⟨fun c => g19 (fun e => z1.mp c e.1), fun c => ?_⟩⟩⟩)⟩
  have za : x = 4 ∨ x = 5 := Classical.byContradiction fun e => c (z1.mpr e)
  have eN : hR h f_Machine_names (C + 32) = C + 34 := F.2.1.2.1
  have kN : hK h (C + 34) = k_Words := F.1.2.2.1
  simp (decide := true) only [ccI, ccR, ccRo, ccK, ccl, ccA G, ccAt G ht, KC G, KCt G ht, f1, f2, e1, w2, hx2, hy2, Int.toNat_natCast, true_and, and_true, forall_const, false_implies]
  refine ⟨b2, fun z3 => ?_, fun z3 => g19 (fun e => z3 e.2)⟩
  obtain ⟨xx, bb, y1, y2', y3, y4, y5, y6, y7, y8, y9⟩ := V2 z3
  have g3 := q1 za z3
  have w3 : w32 (xx : Int) = (xx : Int) := w32_of (by omega) (by omega)
  have d1 : 0 ≤ (xx : Int) ∧ (xx : Int) < (hl h (hR h f_Texts_from (C + 46)) : Int) := ⟨Int.natCast_nonneg xx, Int.ofNat_lt.mpr y4⟩
  have d2 : 0 ≤ (xx : Int) ∧ (xx : Int) < (hl h (hR h f_Texts_size (C + 46)) : Int) := ⟨Int.natCast_nonneg xx, Int.ofNat_lt.mpr y3⟩
  have kB : hK h (hR h f_Texts_bytes (C + 46)) ∈ [3, 4, 13] := by rw [(G.2.2.2.1 (f_Texts_bytes, 46, 3) (by decide)).2]; decide
  have rw' : RW (cc h C X Y) (hR h f_Texts_bytes (C + 46)) bb l := ⟨y7, fun i hi => by rw [ccA G (by decide)]; exact y9 i hi⟩
  have fin : wpB PGm ρ (d + 57) m_Words_find 0 [(0, vR (C + 34)), (1, vR (hR h f_Texts_bytes (C + 46))), (2, vI (bb : Int)), (3, vI (l.length : Int))] [] (cc h C X Y) (cI (fun x22 h17 => hK h17 (C + 32) = k_Machine ∧ hK h17 (hR h17 f_Machine_heap (C + 32)) = k_Heap ∧ wpB PGm ρ (d + 57) m_Heap_drop 0 [(0, vR (hR h17 f_Machine_heap (C + 32))), (1, vR (obA h C x y)), (2, vI x22)] [] h17 (cI (fun x50 h45 => wpB PGm ρ (d + 58) m_Machine_property_2 115 [(0, vR (C + 32)), (2, vI ((n - 2 : Nat) : Int))] [vI x50] h45 (cV (fun h3 => cV (fun h3 => Q (Sum.inl none) h3) (fun e h' => hK h' e ≠ 0 ∧ Q (Sum.inr e) h') (Sum.inl none) h3) (fun e6 h5 => hK h5 e6 ≠ 0 ∧ cV (fun h3 => Q (Sum.inl none) h3) (fun e h' => hK h' e ≠ 0 ∧ Q (Sum.inr e) h') (Sum.inr e6) h5))) (fun e48 h47 => hK h47 e48 ≠ 0 ∧ cV (fun h3 => cV (fun h3 => Q (Sum.inl none) h3) (fun e h' => hK h' e ≠ 0 ∧ Q (Sum.inr e) h') (Sum.inl none) h3) (fun e6 h5 => hK h5 e6 ≠ 0 ∧ cV (fun h3 => Q (Sum.inl none) h3) (fun e h' => hK h' e ≠ 0 ∧ Q (Sum.inr e) h') (Sum.inr e6) h5) (Sum.inr e48) h47))) (fun e20 h19 => hK h19 e20 ≠ 0 ∧ cV (fun h3 => cV (fun h3 => Q (Sum.inl none) h3) (fun e h' => hK h' e ≠ 0 ∧ Q (Sum.inr e) h') (Sum.inl none) h3) (fun e6 h5 => hK h5 e6 ≠ 0 ∧ cV (fun h3 => Q (Sum.inl none) h3) (fun e h' => hK h' e ≠ 0 ∧ Q (Sum.inr e) h') (Sum.inr e6) h5) (Sum.inr e20) h19)) := by
    refine r_findName (d := d + 56) G NM kB rw' y8 (fun v hv => ⟨F.1.1, ?_⟩)
    have eH : hR (cc h C X Y) f_Machine_heap (C + 32) = C + 50 := by rw [ccRo (by decide)]; exact F.2.1.2.2.2.2.1
    rw [eH]
    exact ⟨F.1.2.2.2.2.2.1, g3 v hv _ (fun h3 X3 B G3 F3 ec hB qq => ans h3 X3 B G3 F3 ec hB qq) (fun h' kS' qq => ⟨kS', kS', kS', qq⟩)⟩
  clear g3 q1 q0 ans g19 V1 V2
  subst y1
  simp (decide := true) only [ccA G, w3, y5, y6, Int.toNat_natCast, true_and, and_true]
  exact ⟨b2, d1, d2, fin⟩
end
