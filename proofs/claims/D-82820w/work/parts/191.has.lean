/-! the builtin has -/
set_option maxRecDepth 20000
section
variable {ρ : Nat → Nat} {P : ah → Nat → Prop} {d : Nat} {Q : QT} {Γ Γ' : GH} {h h0 h1 h' : ah} {C ho T : Nat} {X X' X1 X2 : X3} {Y Y' : Y3} {S S' S1 S2 : SS} {N t o n c r f i j k m z s n' pu po tn w sn sm l1 s0 nn p0 kk kx : Nat} {ty v x y op a b p : Int} {L : List Nat} {ws : List (List Int)} {l : List Int}
theorem hld_v (HC : CORE Γ h C ho X Y S N) : ∀ {j : Nat} {p u : Int}, PVL S p → HLD S v j p u → (u = -1 ∨ PVL S u) := by
  obtain ⟨tn, sn, sm, c1, c2, c5, c6', c3, c4, c6, c7, c8, U, m1, m2, m3, m4⟩ := HC.shp
  have wf := prS_wf c1 c7 c8
  intro j
  induction j with
  | zero => intro p u _ hu; exact Or.inl hu.2
  | succ j ih =>
    intro p u hp hu
    rcases hu with ⟨-, e⟩ | ⟨p0, ⟨-, e⟩ | ⟨-, e⟩⟩
    · exact Or.inl e
    · rw [e]; exact Or.inr hp
    · exact ih (PVL.of wf p0 hp) e
/-- C: a text, for finding -/
def CTX (h : ah) (C : Nat) (X : X3) (y : Int) (l : List Int) : Prop := ∃ x b : Nat, y = (x : Int) ∧ x ≤ 1000000 ∧ x < hl h (hR h f_Texts_size (C + 46)) ∧ x < hl h (hR h f_Texts_from (C + 46)) ∧ X 46 f_Texts_from x = (b : Int) ∧ X 46 f_Texts_size x = (l.length : Int) ∧ b + l.length ≤ hl h (hR h f_Texts_bytes (C + 46)) ∧ b + l.length ≤ 1000000 ∧ ∀ i, i < l.length → X 46 f_Texts_bytes (b + i) = l.getD i 0
theorem r_HAS (HC : CORE Γ h C ho X Y S N) (NM : NMR h C S ws) (I : IX h C X Y o n c) (n2 : 2 ≤ n) (c3 : hl h (C + 51) = tn) (c6 : tn ≤ 8000) (V1 : X o f_Task_tags (n - 2) = 4 ∨ X o f_Task_tags (n - 2) = 5 → (0 ≤ X o f_Task_words (n - 2) ∧ X o f_Task_words (n - 2) < (tn : Int) ∧ hK h (hB h (C + 51) (X o f_Task_words (n - 2)).toNat) ∈ [244, 245]) ∧ hB h (C + 51) (X o f_Task_words (n - 2)).toNat ≠ 0 ∧ obA h C (X o f_Task_tags (n - 2)) (X o f_Task_words (n - 2)) = prA h C p ∧ PVL S p) (V2 : X o f_Task_tags (n - 1) = 3 → CTX h C X (X o f_Task_words (n - 1)) l) (q1 : (X o f_Task_tags (n - 2) = 4 ∨ X o f_Task_tags (n - 2) = 5) → X o f_Task_tags (n - 1) = 3 → ∀ v, FWI ws l v → (v < 0 → Q (Sum.inl none) (cc h C (ansX X o (n - 2) c 1 0) Y)) ∧ (0 ≤ v → ∀ j u, pcS S j p < 0 → HLD S v j p u → (u = -1 ∨ PVL S u) → Q (Sum.inl none) (cc h C (ansX X o (n - 2) c 1 (if u < 0 then 0 else 1)) Y))) (q0 : ¬ ((X o f_Task_tags (n - 2) = 4 ∨ X o f_Task_tags (n - 2) = 5) ∧ X o f_Task_tags (n - 1) = 3) → Q (Sum.inr (C + 33)) (cc h C (erX X 12) Y)) : wpB PGm ρ (d + 60) m_Machine_instruct 0 [(0, vR (C + 32)), (1, vI 28), (2, vI 5), (3, vI b)] [] (cc h C X Y) Q := by
  obtain ⟨G, F, ht, ⟨e1, e2, e3⟩, hn, hc1, hc2⟩ := I
  have kS : hK h (C + 33) ≠ 0 := by rw [F.1.2.1]; decide
  have x1 : n - 2 ≤ 2000000000 := by omega
  have eqn : n - 2 + 1 = n - 1 := by omega
  have w1 : w32 ((n : Int) - ((2 : Nat) : Int)) = ((n - 2 : Nat) : Int) := by
    have e : (n : Int) - ((2 : Nat) : Int) = ((n - 2 : Nat) : Int) := by omega
    rw [e]; exact w32_of (by omega) (by omega)
  have b1 : 0 ≤ ((n - 2 : Nat) : Int) ∧ ((n - 2 : Nat) : Int) < ((2001 : Nat) : Int) := by omega
  have b2 : 0 ≤ ((n - 1 : Nat) : Int) ∧ ((n - 1 : Nat) : Int) < ((2001 : Nat) : Int) := by omega
  have hn2' : n - 2 ≤ 2000 := by omega
  have es : hR (cc h C X Y) f_Machine_signal (C + 32) = C + 33 := by rw [ccRo (by decide)]; exact F.2.1.1
  refine r_BLT (w := 2) (d := d + 40) ⟨G, F, ht, ⟨e1, e2, e3⟩, hn, hc1, hc2⟩ n2 (Or.inl ⟨Or.inr (Or.inr rfl), rfl⟩) (b_Machine_builtin_27 ?_)
  have w2 : w32 (((n - 2 : Nat) : Int) + 1) = ((n - 1 : Nat) : Int) := by rw [w32_s x1, eqn]
  -- the answers
  have ans : ∀ (B : Int), (B = 0 ∨ B = 1) → Q (Sum.inl none) (cc h C (ansX X o (n - 2) c 1 B) Y) → wpB PGm ρ (d + 58) m_Machine_property_2 115 [(0, vR (C + 32)), (2, vI ((n - 2 : Nat) : Int))] [vI B] (cc h C X Y) (cV (fun h3 => cV (fun h3 => Q (Sum.inl none) h3) (fun e h' => hK h' e ≠ 0 ∧ Q (Sum.inr e) h') (Sum.inl none) h3) (fun e6 h5 => hK h5 e6 ≠ 0 ∧ cV (fun h3 => Q (Sum.inl none) h3) (fun e h' => hK h' e ≠ 0 ∧ Q (Sum.inr e) h') (Sum.inr e6) h5)) := fun B hB qq => by
    rcases hB with rfl | rfl
    · exact b_Machine_property_2_115 ⟨fun _ => b_Machine_property_2_130 ⟨F.1.1, r_answer (d := d + 56) (n := n - 2) (c := c) G F ht e1 e3 hn2' ⟨hc1, hc2⟩ (by decide) qq⟩, fun z => absurd rfl z⟩
    · exact b_Machine_property_2_115 ⟨fun z => absurd z (by decide), fun _ => b_Machine_property_2_130 ⟨F.1.1, r_answer (d := d + 56) (n := n - 2) (c := c) G F ht e1 e3 hn2' ⟨hc1, hc2⟩ (by decide) qq⟩⟩
  generalize hx : X o f_Task_tags (n - 2) = x at *
  generalize hy : X o f_Task_words (n - 2) = y at *
  generalize hx2 : X o f_Task_tags (n - 1) = x2 at *
  generalize hy2 : X o f_Task_words (n - 1) = y2 at *
  have f1 := F.t ht
  unfold FCt at f1
  have f2 := F
  unfold FC at f2
  clear n2 hn
  have z1 : obA h C x y = 0 ↔ ¬ (x = 4 ∨ x = 5) := ⟨fun e c => by
    have : obA h C x y = hB h (C + 51) y.toNat := if_pos c
    exact (V1 c).2.1 (by rw [← this]; exact e), fun e => if_neg e⟩
  have g19 : ¬ ((x = 4 ∨ x = 5) ∧ x2 = 3) → wpB PGm ρ (d + 57 + 1) m_Machine_property_2 19 [(0, vR (C + 32))] [] (cc h C X Y) (cV (fun h3 => cV (fun h3 => Q (Sum.inl none) h3) (fun e h' => hK h' e ≠ 0 ∧ Q (Sum.inr e) h') (Sum.inl none) h3) (fun e6 h5 => hK h5 e6 ≠ 0 ∧ cV (fun h3 => Q (Sum.inl none) h3) (fun e h' => hK h' e ≠ 0 ∧ Q (Sum.inr e) h') (Sum.inr e6) h5)) := fun z => by
    refine b_Machine_property_2_19 ⟨F.1.1, ?_⟩
    rw [es]
    exact ⟨F.1.2.1, r_sigQ G F ⟨kS, kS, q0 z⟩⟩
  simp (decide := true) only [ccI, ccR, ccRo, ccK, ccl, ccA G, ccAt G ht, KC G, KCt G ht, f1, f2, e1, w1, hx, hy, Int.toNat_natCast, true_and, and_true, false_implies, forall_const]
  refine ⟨b1, b1, r_objectOf G F (by omega) c3 c6 (fun c => (V1 c).1) (b_Machine_builtin_268 ⟨fun _ => b_Machine_builtin_282 ⟨F.1.1, b_Machine_property_2_0 ⟨fun c => g19 (fun e => z1.mp c e.1), fun c => ?_⟩⟩, fun z => absurd z (by decide)⟩)⟩
  have za : x = 4 ∨ x = 5 := Classical.byContradiction fun e => c (z1.mpr e)
  have eN : hR h f_Machine_names (C + 32) = C + 34 := F.2.1.2.1
  have kN : hK h (C + 34) = k_Words := F.1.2.2.1
  simp (decide := true) only [ccI, ccR, ccRo, ccK, ccl, ccA G, ccAt G ht, KC G, KCt G ht, f1, f2, e1, w2, hx2, hy2, Int.toNat_natCast, true_and, and_true, forall_const, false_implies]
  refine ⟨b2, fun z3 => ?_, fun z3 => g19 (fun e => z3 e.2)⟩
  obtain ⟨xx, bb, y1, y2', y3, y4, y5, y6, y7, y8, y9⟩ := V2 z3
  have g3 := q1 za z3
  have w3 : w32 (xx : Int) = (xx : Int) := w32_of (by omega) (by omega)
  have d1 : 0 ≤ (xx : Int) ∧ (xx : Int) < (hl h (hR h f_Texts_from (C + 46)) : Int) := ⟨Int.natCast_nonneg xx, Int.ofNat_lt.mpr y4⟩
  have d2 : 0 ≤ (xx : Int) ∧ (xx : Int) < (hl h (hR h f_Texts_size (C + 46)) : Int) := ⟨Int.natCast_nonneg xx, Int.ofNat_lt.mpr y3⟩
  obtain ⟨v1, v2, v3, v4⟩ := V1 za
  have kB : hK h (hR h f_Texts_bytes (C + 46)) ∈ [3, 4, 13] := by rw [(G.2.2.2.1 (f_Texts_bytes, 46, 3) (by decide)).2]; decide
  have rw' : RW (cc h C X Y) (hR h f_Texts_bytes (C + 46)) bb l := ⟨y7, fun i hi => by rw [ccA G (by decide)]; exact y9 i hi⟩
  have fin : wpB PGm ρ (d + 57) m_Words_find 0 [(0, vR (C + 34)), (1, vR (hR h f_Texts_bytes (C + 46))), (2, vI (bb : Int)), (3, vI (l.length : Int))] [] (cc h C X Y) (cI (fun x22 h17 => ((x22 < 0 → wpB PGm ρ (d + 58) m_Machine_property_2 115 [(0, vR (C + 32)), (2, vI ((n - 2 : Nat) : Int))] [vI 0] h17 (cV (fun h3 => cV (fun h3 => Q (Sum.inl none) h3) (fun e h' => hK h' e ≠ 0 ∧ Q (Sum.inr e) h') (Sum.inl none) h3) (fun e6 h5 => hK h5 e6 ≠ 0 ∧ cV (fun h3 => Q (Sum.inl none) h3) (fun e h' => hK h' e ≠ 0 ∧ Q (Sum.inr e) h') (Sum.inr e6) h5))) ∧ (0 ≤ x22 → wpB PGm ρ (d + 57) m_Heap_holder 0 [(0, vR (obA h C x y)), (1, vI x22)] [] h17 (cR (fun x36 h31 => ((x36 = 0 → wpB PGm ρ (d + 58) m_Machine_property_2 115 [(0, vR (C + 32)), (2, vI ((n - 2 : Nat) : Int))] [vI 0] h31 (cV (fun h3 => cV (fun h3 => Q (Sum.inl none) h3) (fun e h' => hK h' e ≠ 0 ∧ Q (Sum.inr e) h') (Sum.inl none) h3) (fun e6 h5 => hK h5 e6 ≠ 0 ∧ cV (fun h3 => Q (Sum.inl none) h3) (fun e h' => hK h' e ≠ 0 ∧ Q (Sum.inr e) h') (Sum.inr e6) h5))) ∧ (¬ x36 = 0 → wpB PGm ρ (d + 58) m_Machine_property_2 115 [(0, vR (C + 32)), (2, vI ((n - 2 : Nat) : Int))] [vI 1] h31 (cV (fun h3 => cV (fun h3 => Q (Sum.inl none) h3) (fun e h' => hK h' e ≠ 0 ∧ Q (Sum.inr e) h') (Sum.inl none) h3) (fun e6 h5 => hK h5 e6 ≠ 0 ∧ cV (fun h3 => Q (Sum.inl none) h3) (fun e h' => hK h' e ≠ 0 ∧ Q (Sum.inr e) h') (Sum.inr e6) h5))))) (fun e34 h33 => hK h33 e34 ≠ 0 ∧ cV (fun h3 => cV (fun h3 => Q (Sum.inl none) h3) (fun e h' => hK h' e ≠ 0 ∧ Q (Sum.inr e) h') (Sum.inl none) h3) (fun e6 h5 => hK h5 e6 ≠ 0 ∧ cV (fun h3 => Q (Sum.inl none) h3) (fun e h' => hK h' e ≠ 0 ∧ Q (Sum.inr e) h') (Sum.inr e6) h5) (Sum.inr e34) h33))))) (fun e20 h19 => hK h19 e20 ≠ 0 ∧ cV (fun h3 => cV (fun h3 => Q (Sum.inl none) h3) (fun e h' => hK h' e ≠ 0 ∧ Q (Sum.inr e) h') (Sum.inl none) h3) (fun e6 h5 => hK h5 e6 ≠ 0 ∧ cV (fun h3 => Q (Sum.inl none) h3) (fun e h' => hK h' e ≠ 0 ∧ Q (Sum.inr e) h') (Sum.inr e6) h5) (Sum.inr e20) h19)) := by
    refine r_findName (d := d + 56) G NM kB rw' y8 (fun v hv => ⟨fun z => ans 0 (Or.inl rfl) ((g3 v hv).1 z), fun z => ?_⟩)
    rw [v3]
    refine r_holder (d := d + 56) HC v4 (fun j u hj hu => ⟨fun uz => ans 0 (Or.inl rfl) ?_, fun uz => ans 1 (Or.inr rfl) ?_⟩)
    · have um := hld_v HC v4 hu
      have g := (g3 v hv).2 z j u hj hu um
      have u0 : u < 0 := by
        rcases um with e | ⟨e⟩ | ⟨e1, e2, e3⟩
        · omega
        · omega
        · exfalso
          have : prA h C u = hB h (C + 51) u.toNat := if_neg (by omega)
          rw [this] at uz
          exact (HC.sth (k := u.toNat) (by omega) e3).choose_spec.choose_spec.choose_spec.2.2.2.2.2.2.2.2.2.2.2.2 uz
      rw [if_pos u0] at g; exact g
    · have um := hld_v HC v4 hu
      have g := (g3 v hv).2 z j u hj hu um
      have u0 : ¬ u < 0 := fun c => uz (if_pos c)
      rw [if_neg u0] at g; exact g
  clear g3 q1 q0 ans g19 V1 V2
  subst y1
  simp (decide := true) only [ccA G, w3, y5, y6, Int.toNat_natCast, true_and, and_true]
  exact ⟨b2, d1, d2, fin⟩
end
