/-! what is known grows -/
set_option maxRecDepth 20000
/-- texts of sources stay -/
def SRC (S S' : SS) : Prop := (∀ x, x < 4000 → S' f_Md_textFrom x = S f_Md_textFrom x ∧ S' f_Md_textLength x = S f_Md_textLength x) ∧ ∀ j, j < 69632 → S' f_Md_textSigns j = S f_Md_textSigns j
def GRO (Γ Γ' : GH) (h h' : ah) (C : Nat) (S S' : SS) : Prop :=
  (S f_Md_functions 0 ≤ S' f_Md_functions 0 ∧ ∀ i : Nat, (i : Int) < S f_Md_functions 0 → S' f_Md_codeSize i = S f_Md_codeSize i ∧ hB h' (C + 56) i = hB h (C + 56) i ∧ ghs Γ' i = ghs Γ i ∧ gtd Γ' i = gtd Γ i ∧ gou Γ' i = gou Γ i) ∧
  (S f_Md_calls 0 ≤ S' f_Md_calls 0 ∧ ∀ i : Nat, (i : Int) < S f_Md_calls 0 → gva Γ' i = gva Γ i ∧ gcf Γ' i = gcf Γ i) ∧
  (S f_Md_things 0 ≤ S' f_Md_things 0 ∧ ∀ i : Nat, (i : Int) < S f_Md_things 0 → S' f_Md_thingKind i = S f_Md_thingKind i ∧ hB h' (C + 51) i = hB h (C + 51) i) ∧
  (S f_Md_sourceTexts 0 ≤ S' f_Md_sourceTexts 0 ∧ S f_Md_madeTexts 0 ≤ S' f_Md_madeTexts 0 ∧ (∀ i, txO S i → gtn Γ' i = gtn Γ i) ∧ SRC S S')
def tkQ (t f i : Nat) : Prop := (L1.elem f = true ∧ i = t) ∨ (L2.elem f = true ∧ i / 2100 = t) ∨ (L3.elem f = true ∧ i / 200 = t) ∨ (L4.elem f = true ∧ i / 10000 = t)
section
variable {Γ Γ' Γ2 : GH} {h h' h2 : ah} {C : Nat} {X X' : X3} {Y Y' : Y3} {S S' S2 : SS} {N t o n c r i j k m : Nat} {ty v x y : Int}
theorem GRO.rf : GRO Γ Γ h h C S S := ⟨⟨Int.le_refl _, fun _ _ => ⟨rfl, rfl, rfl, rfl, rfl⟩⟩, ⟨Int.le_refl _, fun _ _ => ⟨rfl, rfl⟩⟩, ⟨Int.le_refl _, fun _ _ => ⟨rfl, rfl⟩⟩, ⟨Int.le_refl _, Int.le_refl _, fun _ _ => rfl, fun _ _ => ⟨rfl, rfl⟩, fun _ _ => rfl⟩⟩
theorem GRO.nst (ns : NSt t S S') : GRO Γ Γ h h C S S' := by
  refine ⟨⟨?_, fun i _ => ⟨?_, rfl, rfl, rfl, rfl⟩⟩, ⟨?_, fun _ _ => ⟨rfl, rfl⟩⟩, ⟨?_, fun _ _ => ⟨?_, rfl⟩⟩, ?_, ?_, fun _ _ => rfl, fun _ _ => ⟨ns.g (by decide), ns.g (by decide)⟩, fun _ _ => ns.g (by decide)⟩
  · rw [ns.g (by decide)]; exact Int.le_refl _
  · rw [ns.g (by decide)]
  · rw [ns.g (by decide)]; exact Int.le_refl _
  · rw [ns.g (by decide)]; exact Int.le_refl _
  · rw [ns.g (by decide)]
  · rw [ns.g (by decide)]; exact Int.le_refl _
  · rw [ns.g (by decide)]; exact Int.le_refl _
theorem GRO.tx (g : GRO Γ Γ' h h' C S S') (k : txO S i) : txO S' i := by
  obtain ⟨-, -, -, a, b, -⟩ := g
  unfold txO at k ⊢
  omega
theorem GRO.vo (g : GRO Γ Γ' h h' C S S') (V : VO S N ty v) : VO S' N ty v := by
  have tx := fun i => g.tx (i := i)
  obtain ⟨-, -, ⟨a, b⟩, -⟩ := g
  rcases V with V | V | V | ⟨V1, V2, V3⟩ | ⟨V1, V2, V3, V4, V5⟩ | V
  · exact Or.inl V
  · exact Or.inr (Or.inl V)
  · exact Or.inr (Or.inr (Or.inl V))
  · exact Or.inr (Or.inr (Or.inr (Or.inl ⟨V1, V2, tx _ V3⟩)))
  · exact Or.inr (Or.inr (Or.inr (Or.inr (Or.inl ⟨V1, V2, V3, by omega, by rw [(b v.toNat (by omega)).1]; exact V5⟩))))
  · exact Or.inr (Or.inr (Or.inr (Or.inr (Or.inr V))))
theorem GRO.vr (g : GRO Γ Γ' h h' C S S') (V : VR Γ S N x y ty v) : VR Γ' S' N x y ty v := by
  obtain ⟨a, b, c⟩ := V
  refine ⟨a, ?_, g.vo c⟩
  rw [b]
  unfold cw
  split
  · next e =>
    subst e
    rcases c with c | c | c | ⟨-, -, c⟩ | c | c
    · omega
    · omega
    · omega
    · rw [g.2.2.2.2.2.1 _ c]
    · omega
    · omega
  · rfl
theorem GRO.tr (a : GRO Γ Γ' h h' C S S') (b : GRO Γ' Γ2 h' h2 C S' S2) : GRO Γ Γ2 h h2 C S S2 := by
  have tx := fun i => a.tx (i := i)
  obtain ⟨⟨a1, a2⟩, ⟨a3, a4⟩, ⟨a5, a6⟩, a7, a8, a9, a10⟩ := a
  obtain ⟨⟨b1, b2⟩, ⟨b3, b4⟩, ⟨b5, b6⟩, b7, b8, b9, b10⟩ := b
  refine ⟨⟨by omega, fun i hi => ?_⟩, ⟨by omega, fun i hi => ?_⟩, ⟨by omega, fun i hi => ?_⟩, by omega, by omega, fun i hi => (b9 i (tx i hi)).trans (a9 i hi), fun x hx => ⟨(b10.1 x hx).1.trans (a10.1 x hx).1, (b10.1 x hx).2.trans (a10.1 x hx).2⟩, fun j hj => (b10.2 j hj).trans (a10.2 j hj)⟩
  · obtain ⟨c1, c2, c3, c4, c5⟩ := a2 i hi
    obtain ⟨d1, d2, d3, d4, d5⟩ := b2 i (by omega)
    exact ⟨d1.trans c1, d2.trans c2, d3.trans c3, d4.trans c4, d5.trans c5⟩
  · obtain ⟨c1, c2⟩ := a4 i hi
    obtain ⟨d1, d2⟩ := b4 i (by omega)
    exact ⟨d1.trans c1, d2.trans c2⟩
  · obtain ⟨c1, c2⟩ := a6 i hi
    obtain ⟨d1, d2⟩ := b6 i (by omega)
    exact ⟨d1.trans c1, d2.trans c2⟩
/-- a task whose rows are not touched -/
theorem CT.ext (H : CT Γ h C X Y S N t o n c r) (g : GRO Γ Γ' h h' C S S') (eS : ∀ f i, tkQ t f i → S' f i = S f i) (eX : ∀ f, L6.elem f = true → ∀ i, X' o f i = X o f i) (eY : ∀ f, L7.elem f = true → ∀ i, Y' o f i = Y o f i) (l1 : hl h' (hR h' f_Task_tryCall (C + o)) = hl h (hR h f_Task_tryCall (C + o))) (l2 : hl h' (hR h' f_Task_tryTo (C + o)) = hl h (hR h f_Task_tryTo (C + o))) (l3 : hl h' (hR h' f_Task_trySize (C + o)) = hl h (hR h f_Task_trySize (C + o))) : CT Γ' h' C X' Y' S' N t o n c r := by
  obtain ⟨a0, ⟨a1, a2, a3, a4, a5⟩, ⟨b1, b2, b3⟩, ⟨c1, c2, c3⟩, ⟨d1, d2⟩, e5, e6, ⟨g1, g2, g3⟩, e8, e9, l, m1, m2, m3, m4, m5, m6⟩ := H
  have h1 : ∀ f, L1.elem f = true → S' f t = S f t := fun f hf => eS f t (Or.inl ⟨hf, rfl⟩)
  have h2 : ∀ f, L2.elem f = true → ∀ i, i < n → S' f (2100 * t + i) = S f (2100 * t + i) := fun f hf i hi => eS f _ (Or.inr (Or.inl ⟨hf, by omega⟩))
  have h3 : ∀ f, L3.elem f = true → ∀ i, i < 200 → S' f (200 * t + i) = S f (200 * t + i) := fun f hf i hi => eS f _ (Or.inr (Or.inr (Or.inl ⟨hf, by omega⟩)))
  have h4 : ∀ f, L4.elem f = true → ∀ i, i < 10000 → S' f (10000 * t + i) = S f (10000 * t + i) := fun f hf i hi => eS f _ (Or.inr (Or.inr (Or.inr ⟨hf, by omega⟩)))
  have fe : ∀ i, i < 200 → fsS S' t i = fsS S t i := fun i hi => by unfold fsS; rw [h3 _ (by decide) i hi]
  have pe : ∀ i, i < 200 → psS S' t i = psS S t i := fun i hi => by unfold psS; rw [h3 _ (by decide) i hi]
  have be : ∀ i, i < 200 → bsS S' t i = bsS S t i := fun i hi => by unfold bsS; rw [h3 _ (by decide) i hi]
  have qe : ∀ i, i < 200 → qsS S' t i = qsS S t i := fun i hi => by unfold qsS; rw [h3 _ (by decide) i hi]
  have ke : ∀ i, i < 200 → ksS S' t i = ksS S t i := fun i hi => by unfold ksS; rw [h3 _ (by decide) i hi]
  have hr : r ≤ 10000 := by
    by_cases z : c = 0
    · by_cases q : 0 < r
      · obtain ⟨j, _, _, q2, -⟩ := e8 0 q; omega
      · omega
    · have hq : ∀ i, i < c → qsS S t i ≤ 50 * i := by
        intro i
        induction i with
        | zero => intro _; rw [Nat.mul_eq_zero] at g3; omega
        | succ i ih =>
          intro hi
          have := ih (by omega)
          obtain ⟨-, q1, q2⟩ := g1 i (by omega)
          rw [if_neg (by omega)] at q1
          omega
      obtain ⟨-, q1, q2⟩ := g1 (c - 1) (by omega)
      rw [if_pos (by omega)] at q1
      have := hq (c - 1) (by omega)
      omega
  refine ⟨a0, ⟨?_, ?_, ?_, ?_, ?_⟩, ⟨?_, ?_, b3⟩, ⟨?_, ?_, c3⟩, ⟨?_, ?_⟩, fun i hi => ?_, fun i hi => ?_, ⟨fun i hi => ?_, ?_, ?_⟩, fun k hk => ?_, ?_, l, by rw [l1]; exact m1, by rw [l2]; exact m2, by rw [l3]; exact m3, m4, m5, m6⟩
  · rw [eX _ (by decide), h1 _ (by decide)]; exact a1
  · rw [h1 _ (by decide)]; exact a2
  · rw [h1 _ (by decide)]; exact a3
  · rw [h1 _ (by decide)]; exact a4
  · rw [h1 _ (by decide)]; exact a5
  · rw [eX _ (by decide)]; exact b1
  · rw [h1 _ (by decide)]; exact b2
  · rw [eX _ (by decide)]; exact c1
  · rw [h1 _ (by decide)]; exact c2
  · rw [eX _ (by decide)]; exact d1
  · rw [h1 _ (by decide)]; exact d2
  · rw [eX _ (by decide), eX _ (by decide), h2 _ (by decide) i hi, h2 _ (by decide) i hi]
    exact g.vr (e5 i hi)
  · obtain ⟨⟨i1, i2, i3⟩, ⟨i4, i5, i6⟩, ⟨i7, i8, i9⟩, ⟨i10, i11, i12, i13⟩, i14, i15, i16⟩ := e6 i hi
    have i200 : i < 200 := by omega
    obtain ⟨k1, k2, k3, k4, -⟩ := g.1.2 _ i2
    obtain ⟨k5, k6⟩ := g.2.1.2 _ i11
    unfold FR1
    rw [fe i i200, pe i i200, be i i200, qe i i200, ke i i200, h3 _ (show L3.elem f_Md_frameFunction = true by decide) i i200, h3 _ (show L3.elem f_Md_frameAt = true by decide) i i200, h3 _ (show L3.elem f_Md_frameBase = true by decide) i i200, h3 _ (show L3.elem f_Md_frameAround = true by decide) i i200, h3 _ (show L3.elem f_Md_thisType = true by decide) i i200, h3 _ (show L3.elem f_Md_thisValue = true by decide) i i200, h3 _ (show L3.elem f_Md_frameNew = true by decide) i i200, h3 _ (show L3.elem f_Md_frameTries = true by decide) i i200, eX _ (show L6.elem f_Task_next = true by decide), eX _ (show L6.elem f_Task_base = true by decide), eX _ (show L6.elem f_Task_thisTag = true by decide), eX _ (show L6.elem f_Task_thisWord = true by decide), eY _ (show L7.elem f_Task_code = true by decide), eY _ (show L7.elem f_Task_variables = true by decide), eY _ (show L7.elem f_Task_made = true by decide), k1, k2, k5, k6]
    refine ⟨⟨i1, by have := g.1.1; omega, i3⟩, ⟨i4, i5, i6⟩, ⟨i7, i8, i9⟩, ⟨i10, by have := g.2.1.1; omega, i12, i13⟩, g.vr i14, ?_, i16⟩
    rcases i15 with i15 | ⟨j1, j2, j3, j4⟩
    · exact Or.inl i15
    · obtain ⟨k7, k8⟩ := g.2.2.1.2 (S f_Md_frameNew (200 * t + i)).toNat (by omega)
      exact Or.inr ⟨j1, by have := g.2.2.1.1; omega, by rw [k7]; exact j3, by rw [k8]; exact j4⟩
  · obtain ⟨j1, j2, j3⟩ := g1 i hi
    have i2 := (e6 i hi).1.2.1
    obtain ⟨-, -, k3, k4, -⟩ := g.1.2 _ i2
    rw [fe i (by omega), pe i (by omega), be i (by omega), qe i (by omega), k3, k4]
    by_cases z : i + 1 = c
    · rw [if_pos z, if_pos z]
      rw [if_pos z] at j1 j2
      exact ⟨j1, j2, j3.1, fun y => by omega⟩
    · rw [if_neg z, if_neg z, be (i + 1) (by omega), qe (i + 1) (by omega)]
      rw [if_neg z] at j1 j2
      exact ⟨j1, j2, j3⟩
  · by_cases z : c = 0
    · rw [z]; rfl
    · rw [be 0 (by omega)]; exact g2
  · by_cases z : c = 0
    · rw [z]; rfl
    · rw [qe 0 (by omega)]; exact g3
  · obtain ⟨j, a, q1, q2, q3, q4, q5, q6, q7, q8, q9, q10, q11, q12⟩ := e8 k hk
    have i2 := (e6 j q2).1.2.1
    obtain ⟨k1, -, k3, k4, -⟩ := g.1.2 _ i2
    refine ⟨j, a, ?_, q2, ?_, ?_, ?_, ?_, ?_, ?_, ?_, ?_, ?_, ?_⟩
    · rw [h4 _ (by decide) k (by omega)]; exact q1
    · rw [eX _ (by decide)]; exact q3
    · rw [h4 _ (by decide) k (by omega)]; exact q4
    · rw [eX _ (by decide)]; exact q5
    · rw [h4 _ (by decide) k (by omega), be j (by omega)]; exact q6
    · rw [eX _ (by decide), be j (by omega)]; exact q7
    · rw [fe j (by omega), k1]; exact q8
    · rw [fe j (by omega), k3]; exact q9
    · rw [qe j (by omega)]; exact q10
    · rw [fe j (by omega), qe j (by omega), k4]; exact q11
    · by_cases z : j + 1 = c
      · rw [if_pos z] at q12 ⊢; exact q12
      · rw [if_neg z] at q12 ⊢; rw [qe (j + 1) (by omega)]; exact q12
  · rw [h1 _ (show L1.elem f_Md_state = true by decide), h1 _ (show L1.elem f_Md_resultType = true by decide), h1 _ (show L1.elem f_Md_resultValue = true by decide), eX _ (by decide), eX _ (by decide)]
    exact fun z => g.vr (e9 z)
end
