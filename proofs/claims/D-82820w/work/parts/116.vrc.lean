/-! variables of calls of both -/
set_option maxRecDepth 20000
def VC1 (Γ : GH) (h : ah) (S : SS) (N k : Nat) : Prop := (hK h (gva Γ k) = k_Variables ∧ gva Γ k < hz h ∧ gva Γ k ≠ 0) ∧ (gcf Γ k : Int) < S f_Md_functions 0 ∧ (0 ≤ S f_Md_variablesOf (gcf Γ k) ∧ S f_Md_variablesOf (gcf Γ k) ≤ 60) ∧
  (0 ≤ S f_Md_variablesFrom k ∧ S f_Md_variablesFrom k + S f_Md_variablesOf (gcf Γ k) ≤ S f_Md_variables 0) ∧
  ((gou Γ (gcf Γ k) = gcf Γ k ∧ S f_Md_around k = -1 ∧ hR h f_Variables_around (gva Γ k) = 0) ∨ (gou Γ (gcf Γ k) ≠ gcf Γ k ∧ 0 ≤ S f_Md_around k ∧ S f_Md_around k < (k : Int) ∧ gcf Γ (S f_Md_around k).toNat = gou Γ (gcf Γ k) ∧ hR h f_Variables_around (gva Γ k) = gva Γ (S f_Md_around k).toNat)) ∧
  (hR h f_Variables_tags (gva Γ k) ≠ 0 ∧ hK h (hR h f_Variables_tags (gva Γ k)) = 3 ∧ hR h f_Variables_words (gva Γ k) ≠ 0 ∧ hK h (hR h f_Variables_words (gva Γ k)) = 2 ∧ (hl h (hR h f_Variables_tags (gva Γ k)) : Int) = S f_Md_variablesOf (gcf Γ k) ∧ (hl h (hR h f_Variables_words (gva Γ k)) : Int) = S f_Md_variablesOf (gcf Γ k)) ∧
  ∀ j : Nat, (j : Int) < S f_Md_variablesOf (gcf Γ k) → VR Γ S N (hA h (hR h f_Variables_tags (gva Γ k)) j) (hA h (hR h f_Variables_words (gva Γ k)) j) (S f_Md_variableTypes ((S f_Md_variablesFrom k).toNat + j)) (S f_Md_variableValue ((S f_Md_variablesFrom k).toNat + j))
def VRC (Γ : GH) (h : ah) (S : SS) (N : Nat) : Prop := ∃ kn vn : Nat, S f_Md_calls 0 = (kn : Int) ∧ kn ≤ 8000 ∧ S f_Md_variables 0 = (vn : Int) ∧ vn ≤ 60000 ∧ (∀ k, k < kn → VC1 Γ h S N k) ∧ (∀ k k', k < kn → k' < kn → gva Γ k = gva Γ k' → k = k') ∧ (∀ k k', k < k' → k' < kn → S f_Md_variablesFrom k + S f_Md_variablesOf (gcf Γ k) ≤ S f_Md_variablesFrom k')
def LVS : List Nat := [f_Md_calls, f_Md_variables, f_Md_variablesFrom, f_Md_variablesOf, f_Md_around, f_Md_variableTypes, f_Md_variableValue]
def LVH : List Nat := [f_Variables_around, f_Variables_tags, f_Variables_words]
def LVH1 : List Nat := [f_Variables_tags + 1, f_Variables_words + 1]
section
variable {ρ : Nat → Nat} {d : Nat} {Q : QT} {Γ Γ' : GH} {h h' : ah} {C : Nat} {X X' : X3} {Y Y' : Y3} {S S' : SS} {N t o n c r f i j k m z s : Nat} {L : List Nat} {P : List (Nat × Nat)} {ty v x y : Int}
theorem VRC.ext (H : VRC Γ h S N) (G : INJ h) (g : GRO Γ Γ' h h' C S S') (e : EXS LVS S S') (fr : Fr L P z s h h') (d1 : DJ LVH L P) (d2 : DJ LVH1 L P) (p0 : ∀ y, (0, y) ∉ P) : VRC Γ' h' S' N := by
  obtain ⟨kn, vn, a1, a2, a3, a4, a5, a6, a7⟩ := H
  have gv : ∀ k, k < kn → gva Γ' k = gva Γ k ∧ gcf Γ' k = gcf Γ k := fun k hk => g.2.1.2 k (by omega)
  refine ⟨kn, vn, by rw [e _ (by decide)]; exact a1, a2, by rw [e _ (by decide)]; exact a3, a4, fun k hk => ?_, fun k k' hk hk' q => ?_, fun k k' hk hk' => ?_⟩
  · obtain ⟨⟨b1, b2, b3⟩, b4, b5, b6, b7, ⟨b8, b9, b10, b11, b12, b13⟩, b14⟩ := a5 k hk
    obtain ⟨v1, v2⟩ := gv k hk
    obtain ⟨-, -, -, -, u5⟩ := g.1.2 _ b4
    have oT : own f_Variables_tags := by unfold own; decide
    have oW : own f_Variables_words := by unfold own; decide
    have eT := fr.R b2 (own5 oT) (d1.w (f := f_Variables_tags) (by decide))
    have eW := fr.R b2 (own5 oW) (d1.w (f := f_Variables_words) (by decide))
    have eA := fr.R b2 (show 5 ≤ f_Variables_around by decide) (d1.w (f := f_Variables_around) (by decide))
    have sT := fr.ar G oT b2 rfl b8 (fun c => c.elim (d1.w (by decide)) (d2.w (by decide))) (p0 _)
    have sW := fr.ar G oW b2 rfl b10 (fun c => c.elim (d1.w (by decide)) (d2.w (by decide))) (p0 _)
    have lT := G.1 _ _ b2 oT
    have lW := G.1 _ _ b2 oW
    unfold VC1
    rw [v1, v2, u5, eT, eW, eA, sT.1, sW.1, fr.K b2, fr.K lT, fr.K lW, e _ (show LVS.elem f_Md_variablesOf = true by decide), e _ (show LVS.elem f_Md_variablesFrom = true by decide), e _ (show LVS.elem f_Md_variables = true by decide), e _ (show LVS.elem f_Md_around = true by decide)]
    refine ⟨⟨b1, fr.lt b2, b3⟩, by have := g.1.1; omega, b5, b6, ?_, ⟨b8, b9, b10, b11, b12, b13⟩, fun j hj => ?_⟩
    · rcases b7 with q | ⟨q1, q2, q3, q4, q5⟩
      · exact Or.inl q
      · obtain ⟨w1, w2⟩ := gv (S f_Md_around k).toNat (by omega)
        exact Or.inr ⟨q1, q2, q3, by rw [w2]; exact q4, by rw [w1]; exact q5⟩
    · rw [sT.2.1, sW.2.1, e _ (show LVS.elem f_Md_variableTypes = true by decide), e _ (show LVS.elem f_Md_variableValue = true by decide)]
      exact g.vr (b14 j hj)
  · rw [(gv k hk).1, (gv k' hk').1] at q; exact a6 k k' hk hk' q
  · rw [(gv k (by omega)).2, e _ (by decide), e _ (by decide), e _ (by decide)]; exact a7 k k' hk hk'
/-- the call that is some calls further out -/
theorem VRC.up (H : VRC Γ h S N) {k0 a : Nat} (hk : (k0 : Int) < S f_Md_calls 0) (hn : ∀ j, j < a → gou Γ (goN Γ j (gcf Γ k0)) ≠ goN Γ j (gcf Γ k0)) : ∀ j, j ≤ a → (upN S j k0 : Int) < S f_Md_calls 0 ∧ gcf Γ (upN S j k0) = goN Γ j (gcf Γ k0) ∧ (j < a → 0 ≤ S f_Md_around (upN S j k0) ∧ hR h f_Variables_around (gva Γ (upN S j k0)) = gva Γ (upN S (j + 1) k0)) := by
  obtain ⟨kn, vn, a1, a2, a3, a4, a5, a6, a7⟩ := H
  intro j
  induction j with
  | zero =>
    intro _
    refine ⟨hk, rfl, fun z => ?_⟩
    obtain ⟨-, -, -, -, b7, -⟩ := a5 k0 (by omega)
    rcases b7 with ⟨q, -⟩ | ⟨q1, q2, q3, q4, q5⟩
    · exact absurd q (hn 0 z)
    · exact ⟨q2, q5⟩
  | succ j ih =>
    intro hj
    obtain ⟨i1, i2, i3⟩ := ih (by omega)
    obtain ⟨-, -, -, -, b7, -⟩ := a5 (upN S j k0) (by omega)
    have e1 : upN S (j + 1) k0 = (S f_Md_around (upN S j k0)).toNat := rfl
    rcases b7 with ⟨q, -⟩ | ⟨q1, q2, q3, q4, q5⟩
    · rw [i2] at q; exact absurd q (hn j (by omega))
    · have e2 : gcf Γ (upN S (j + 1) k0) = goN Γ (j + 1) (gcf Γ k0) := by
        rw [e1, q4, i2]; rfl
      have e3 : (upN S (j + 1) k0 : Int) < S f_Md_calls 0 := by rw [e1]; omega
      refine ⟨e3, e2, fun z => ?_⟩
      obtain ⟨-, -, -, -, b7, -⟩ := a5 (upN S (j + 1) k0) (by omega)
      rcases b7 with ⟨q, -⟩ | ⟨w1, w2, w3, w4, w5⟩
      · rw [e2] at q; exact absurd q (hn (j + 1) z)
      · exact ⟨w2, w5⟩
theorem r_around (G : AC h C) (F : FC h C) (ht : isT o) (e : Y 32 f_Machine_t 0 = C + o) (e3 : X o f_Task_calls 0 = (c : Int)) (hc : 1 ≤ c ∧ c ≤ 200) {a : Nat} {w : Nat → Nat} (ha : a ≤ 1000) (h0 : Y o f_Task_variables (c - 1) = w 0) (hw : ∀ j, j < a → hK h (w j) = k_Variables ∧ hR h f_Variables_around (w j) = w (j + 1)) (q : Q (Sum.inl (some (vR (w a)))) (cc h C X Y)) : wpB PGm ρ d m_Machine_around 0 [(0, vR (C + 32)), (1, vI (a : Int))] [] (cc h C X Y) Q := by
  have f1 := F.t ht
  unfold FCt at f1
  have f2 := F
  unfold FC at f2
  have lp : ∀ m j, a - j < m → j ≤ a → wpB PGm ρ d m_Machine_around 20 [(1, vI (a : Int)), (2, vR (w j)), (3, vI (j : Int))] [] (cc h C X Y) Q := by
    intro m
    induction m with
    | zero => intro j hm; omega
    | succ m ih =>
      intro j hm hj
      refine b_Machine_around_20 ⟨fun z => ?_, fun z => ?_⟩
      · have : j = a := by omega
        subst this; exact q
      · obtain ⟨k1, k2⟩ := hw j (by omega)
        rw [ccK, ccRo (by decide), k2, w32_s (by omega)]
        exact ⟨k1, ih (j + 1) (by omega) (by omega)⟩
  refine b_Machine_around_0 ?_
  simp (decide := true) (disch := first | decide | omega) only [ccI, ccR, ccIt ht, ccRo, ccK, ccl, ccA G, ccAt G ht, ccB G, ccBt G ht, cc_sI, cc_sR, cc_sIt ht, cc_sA G, cc_sAt G ht, cc_sB G, cc_sBt G ht, f1, f2, u3_f, u3_s, KCt G ht, KC G, w32_aa, w32_ss, w32_p1, w32_m1, Int.toNat_natCast, true_and, and_true, false_and, and_false, or_false, false_or, ne_eq, not_false_eq_true, forall_const, implies_true, not_true_eq_false, false_implies, e, e3, h0]
  exact ⟨by omega, lp _ 0 (Nat.lt_succ_self _) (Nat.zero_le _)⟩
end
