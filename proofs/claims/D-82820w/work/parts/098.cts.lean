/-! a step within a call -/
set_option maxRecDepth 20000
def EXS (L : List Nat) (S S' : SS) : Prop := ∀ f, L.elem f = true → ∀ i, S' f i = S f i
def EXX (L : List Nat) (X X' : X3) : Prop := ∀ f, L.elem f = true → ∀ o i, X' o f i = X o f i
section
variable {L : List Nat} {S S' S2 : SS} {X X' X2 : X3} {g i o : Nat} {v : Int}
theorem EXS.rf : EXS L S S := fun _ _ _ => rfl
theorem EXS.u (e : L.elem g = false) (H : EXS L S S') : EXS L S (u2 S' g i v) := fun f hf j => by
  rw [u2_f (fun c => by rw [c, e] at hf; cases hf)]; exact H f hf j
theorem EXX.rf : EXX L X X := fun _ _ _ _ => rfl
theorem EXX.u (e : L.elem g = false) (H : EXX L X X') : EXX L X (u3 X' o g i v) := fun f hf a j => by
  rw [u3_f (fun c => by rw [c, e] at hf; cases hf)]; exact H f hf a j
end
def LSF : List Nat := [f_Md_frameFunction, f_Md_frameBase, f_Md_frameTries, f_Md_frameAround, f_Md_thisType, f_Md_thisValue, f_Md_frameNew, f_Md_state, f_Md_frames]
def LXF : List Nat := [f_Task_base, f_Task_thisTag, f_Task_thisWord, f_Task_state, f_Task_calls]
def LST : List Nat := [f_Md_tryAt, f_Md_tryHeight, f_Md_tryFrame]
def LXT : List Nat := [f_Task_tryCall, f_Task_tryTo, f_Task_trySize]
section
variable {Γ : GH} {h h' : ah} {C : Nat} {X X' : X3} {Y Y' : Y3} {S S' : SS} {N t o n c r i j k m p' n' r' : Nat} {ty v x y : Int}
theorem fs_e (e : EXS LSF S S') : fsS S' t i = fsS S t i := by unfold fsS; rw [e _ (by decide)]
theorem bs_e (e : EXS LSF S S') : bsS S' t i = bsS S t i := by unfold bsS; rw [e _ (by decide)]
theorem qs_e (e : EXS LSF S S') : qsS S' t i = qsS S t i := by unfold qsS; rw [e _ (by decide)]
theorem ks_e (e : EXS LSF S S') : ksS S' t i = ksS S t i := by unfold ksS; rw [e _ (by decide)]
theorem TR1.ext (H : TR1 Γ X S o t c r k) (e : EXS LSF S S') (e2 : EXS LST S S') (e3 : EXX LXT X X') (e4 : ∀ i, S' f_Md_codeSize i = S f_Md_codeSize i) (hk : k < r') : TR1 Γ X' S' o t c r' k := by
  obtain ⟨j, a, a1, a2, a3, a4, a5, a6, a7, a8, a9, a10, a11, a12⟩ := H
  refine ⟨j, a, ?_, a2, ?_, ?_, ?_, ?_, ?_, ?_, ?_, ?_, ?_, ?_⟩
  · rw [e2 _ (by decide)]; exact a1
  · rw [e3 _ (by decide)]; exact a3
  · rw [e2 _ (by decide)]; exact a4
  · rw [e3 _ (by decide)]; exact a5
  · rw [e2 _ (by decide), bs_e e]; exact a6
  · rw [e3 _ (by decide), bs_e e]; exact a7
  · rw [e4, fs_e e]; exact a8
  · rw [fs_e e]; exact a9
  · rw [qs_e e]; exact a10
  · rw [fs_e e, qs_e e]; exact a11
  · rw [qs_e e]
    split
    · exact hk
    · next z => rw [if_neg z] at a12; exact a12
/-- the top call goes on at p', with n' values and r' tries -/
theorem CT.step (H : CT Γ h C X Y S N t o n c r) (hc : 1 ≤ c) (ns : NSt t S S') (e : EXS LSF S S') (e1 : EXX LXF X X') (z1 : X' o f_Task_size 0 = (n' : Int)) (z2 : S' f_Md_height t = (n' : Int)) (z3 : n' ≤ 2000) (z4 : X' o f_Task_tries 0 = (r' : Int)) (z5 : S' f_Md_tries t = (r' : Int)) (pl : PIL Γ X' S' N o t n')
    (x1 : ∀ i, X' o f_Task_next i = if i = c - 1 then (p' : Int) else X o f_Task_next i) (x2 : ∀ i, S' f_Md_frameAt i = if i = 200 * t + (c - 1) then (p' : Int) else S f_Md_frameAt i)
    (y1 : n' = bsS S t (c - 1) + ghs Γ (fsS S t (c - 1)) p') (y2 : r' = qsS S t (c - 1) + gtd Γ (fsS S t (c - 1)) p') (y3 : gtd Γ (fsS S t (c - 1)) p' ≤ 50) (y4 : (p' : Int) < S f_Md_codeSize (fsS S t (c - 1)))
    (tr : ∀ k, k < r' → TR1 Γ X' S' o t c r' k) (hr : r' ≤ r ∨ (r' ≤ hl h (hR h f_Task_tryCall (C + o)))) : CT Γ h C X' Y S' N t o n' c r' := by
  obtain ⟨a0, ⟨a1, a2, a3, a4, a5⟩, ⟨b1, b2, b3⟩, ⟨c1, c2, c3⟩, ⟨d1, d2⟩, e5, e6, ⟨g1, g2, g3⟩, e8, e9, l, l1, l2, l3, l4, l5, l6⟩ := H
  have est : S' f_Md_state t = S f_Md_state t := e _ (by decide) _
  have run : S f_Md_state t = 1 ∨ S f_Md_state t = 4 := Classical.byContradiction fun q => by have := (a5 q).2.1; omega
  have pse : ∀ i, psS S' t i = if i = c - 1 then p' else psS S t i := by
    intro i; unfold psS; rw [x2]
    by_cases q : i = c - 1
    · rw [if_pos (by omega), if_pos q]; omega
    · rw [if_neg (by omega), if_neg q]
  refine ⟨a0, ⟨?_, ?_, ?_, ?_, ?_⟩, ⟨z1, z2, z3⟩, ⟨?_, ?_, c3⟩, ⟨z4, z5⟩, pl, fun i hi => ?_, ⟨fun i hi => ?_, ?_, ?_⟩, tr, ?_, l, l1, l2, l3, ?_, l5, l6⟩
  · rw [e1 _ (by decide), est]; exact a1
  · rw [est]; exact a2
  · rw [est]; exact a3
  · intro _; exact hc
  · rw [est]; intro q; exact absurd run q
  · rw [e1 _ (by decide)]; exact c1
  · rw [e _ (by decide)]; exact c2
  · obtain ⟨⟨i1, i2, i3⟩, ⟨i4, i5, i6⟩, ⟨i7, i8, i9⟩, ⟨i10, i11, i12, i13⟩, i14, i15, i16⟩ := e6 i hi
    unfold FR1
    rw [fs_e e, bs_e e, qs_e e, ks_e e, pse i, e _ (show LSF.elem f_Md_frameFunction = true by decide), e _ (show LSF.elem f_Md_frameBase = true by decide), e _ (show LSF.elem f_Md_frameAround = true by decide), e _ (show LSF.elem f_Md_thisType = true by decide), e _ (show LSF.elem f_Md_thisValue = true by decide), e _ (show LSF.elem f_Md_frameNew = true by decide), e _ (show LSF.elem f_Md_frameTries = true by decide), e1 _ (show LXF.elem f_Task_base = true by decide), e1 _ (show LXF.elem f_Task_thisTag = true by decide), e1 _ (show LXF.elem f_Task_thisWord = true by decide), ns.g (f := f_Md_functions) (by decide), ns.g (f := f_Md_codeSize) (by decide), ns.g (f := f_Md_calls) (by decide), ns.g (f := f_Md_things) (by decide), ns.g (f := f_Md_thingKind) (by decide), x1 i, x2 (200 * t + i)]
    refine ⟨⟨i1, i2, i3⟩, ?_, ⟨i7, i8, i9⟩, ⟨i10, i11, i12, i13⟩, ns.vr i14, i15, i16⟩
    by_cases q : i = c - 1
    · rw [if_pos (by omega), if_pos q, if_pos q]
      subst q
      exact ⟨rfl, rfl, y4⟩
    · rw [if_neg (by omega), if_neg q, if_neg q]
      exact ⟨i4, i5, i6⟩
  · obtain ⟨j1, j2, j3⟩ := g1 i hi
    rw [fs_e e, bs_e e, qs_e e, bs_e e, qs_e e, pse i]
    by_cases q : i = c - 1
    · subst q
      have q : c - 1 + 1 = c := by omega
      simp only [if_pos q, if_true]
      exact ⟨y1, y2, y3, fun z => by omega⟩
    · have q2 : ¬ i + 1 = c := by omega
      simp only [if_neg q2, if_neg q] at j1 j2 ⊢
      exact ⟨j1, j2, j3⟩
  · rw [bs_e e]; exact g2
  · rw [qs_e e]; exact g3
  · rw [est]; intro q; omega
  · rcases hr with hr | hr
    · omega
    · omega
/-- the tries stay -/
theorem CT.tr (H : CT Γ h C X Y S N t o n c r) (ns : NSt t S S') (e : EXS LSF S S') (e2 : EXS LST S S') (e3 : EXX LXT X X') (hr : r' ≤ r) : ∀ k, k < r' → TR1 Γ X' S' o t c r' k := fun k hk => (H.2.2.2.2.2.2.2.2.1 k (by omega)).ext e e2 e3 (fun i => ns.g (by decide)) hk
end
