/-! a task ends, or goes on in an earlier call -/
set_option maxRecDepth 20000
def LSG : List Nat := [f_Md_frameFunction, f_Md_frameBase, f_Md_frameTries, f_Md_frameAround, f_Md_thisType, f_Md_thisValue, f_Md_frameNew, f_Md_state]
def LXG : List Nat := [f_Task_base, f_Task_thisTag, f_Task_thisWord, f_Task_state]
section
variable {Γ : GH} {h h' : ah} {C : Nat} {X X' X1 : X3} {Y Y' : Y3} {S S' S1 : SS} {N t o n c r i j k m p' n' r' c' : Nat} {ty v x y s : Int}
theorem fs_g (e : EXS LSG S S') : fsS S' t i = fsS S t i := by unfold fsS; rw [e _ (by decide)]
theorem bs_g (e : EXS LSG S S') : bsS S' t i = bsS S t i := by unfold bsS; rw [e _ (by decide)]
theorem qs_g (e : EXS LSG S S') : qsS S' t i = qsS S t i := by unfold qsS; rw [e _ (by decide)]
theorem ks_g (e : EXS LSG S S') : ksS S' t i = ksS S t i := by unfold ksS; rw [e _ (by decide)]
theorem fin_ns (ns : NSt t S S1) : NSt t S (finS S1 t s ty v) := by
  unfold finS
  exact NSt.u (tk1 (by decide)) (NSt.u (tk1 (by decide)) (NSt.u (tk1 (by decide)) (NSt.u (tk1 (by decide)) (NSt.u (tk1 (by decide)) (NSt.u (tk1 (by decide)) ns)))))
theorem end_nx (nx : NXo o X X1) : NXo o X (endX X1 o s ty v) := by
  unfold endX
  exact NXo.u (by decide) (NXo.u (by decide) (NXo.u (by decide) (NXo.u (by decide) (NXo.u (by decide) (NXo.u (by decide) nx)))))
/-- the end -/
theorem CT.finish (H : CT Γ h C X Y S N t o n c r) (ns : NSt t S S1) (V : VR Γ S N x y ty v) (hs : s = 2 ∨ s = 3) : CT Γ h C (endX X1 o s x y) Y (finS S1 t s ty v) N t o 0 0 0 := by
  have ns2 := fin_ns (s := s) (ty := ty) (v := v) ns
  obtain ⟨a0, -, -, -, -, -, -, -, -, -, l, m1, m2, m3, m4, m5, m6⟩ := H
  have s1 : finS S1 t s ty v f_Md_state t = s := by unfold finS; rw [u2_f (by decide), u2_f (by decide), u2_f (by decide), u2_f (by decide), u2_f (by decide), u2_s]
  refine ⟨a0, ⟨?_, ?_, ?_, ?_, ?_⟩, ⟨?_, ?_, by omega⟩, ⟨?_, ?_, by omega⟩, ⟨?_, ?_⟩, fun i hi => by omega, fun i hi => by omega, ⟨fun i hi => by omega, rfl, rfl⟩, fun k hk => by omega, fun _ => ?_, l, m1, m2, m3, by omega, m5, m6⟩
  · rw [s1]; unfold endX; rw [u3_f (by decide), u3_f (by decide), u3_f (by decide), u3_f (by decide), u3_f (by decide), u3_s]
  · rw [s1]; omega
  · rw [s1]; omega
  · rw [s1]; omega
  · intro _; exact ⟨rfl, rfl, rfl⟩
  · unfold endX; rw [u3_f (by decide), u3_s]; rfl
  · unfold finS; rw [u2_f (by decide), u2_s]; rfl
  · unfold endX; rw [u3_f (by decide), u3_f (by decide), u3_s]; rfl
  · unfold finS; rw [u2_f (by decide), u2_f (by decide), u2_s]; rfl
  · unfold endX; rw [u3_s]; rfl
  · unfold finS; rw [u2_s]; rfl
  · have e1 : finS S1 t s ty v f_Md_resultType t = ty := by unfold finS; rw [u2_f (by decide), u2_f (by decide), u2_f (by decide), u2_f (by decide), u2_s]
    have e2 : finS S1 t s ty v f_Md_resultValue t = v := by unfold finS; rw [u2_f (by decide), u2_f (by decide), u2_f (by decide), u2_s]
    have e3 : endX X1 o s x y o f_Task_tag 0 = x := by unfold endX; rw [u3_f (by decide), u3_f (by decide), u3_f (by decide), u3_f (by decide), u3_s]
    have e4 : endX X1 o s x y o f_Task_word 0 = y := by unfold endX; rw [u3_f (by decide), u3_f (by decide), u3_f (by decide), u3_s]
    rw [e1, e2, e3, e4]
    exact ns2.vr V
/-- tries of a call come behind those of the calls below -/
theorem STA.mono (H : STA Γ S t n c r) : ∀ {i j : Nat}, i ≤ j → j < c → qsS S t i ≤ qsS S t j := by
  intro i j hij
  induction j with
  | zero => intro _; have : i = 0 := by omega
            rw [this]; exact Nat.le_refl _
  | succ j ih =>
    intro hj
    by_cases e : i = j + 1
    · rw [e]; exact Nat.le_refl _
    · have a := ih (by omega) (by omega)
      obtain ⟨-, b, -⟩ := H.1 j (by omega)
      rw [if_neg (by omega)] at b
      omega
/-- the task goes on in call c' - 1 at p' -/
theorem CT.cut (H : CT Γ h C X Y S N t o n c r) (hc' : 1 ≤ c' ∧ c' ≤ c) (ns : NSt t S S') (e : EXS LSG S S') (e1 : EXX LXG X X') (z0 : X' o f_Task_calls 0 = (c' : Int)) (z0' : S' f_Md_frames t = (c' : Int)) (z1 : X' o f_Task_size 0 = (n' : Int)) (z2 : S' f_Md_height t = (n' : Int)) (z3 : n' ≤ 2000) (z4 : X' o f_Task_tries 0 = (r' : Int)) (z5 : S' f_Md_tries t = (r' : Int)) (pl : PIL Γ X' S' N o t n')
    (x1 : ∀ i, X' o f_Task_next i = if i = c' - 1 then (p' : Int) else X o f_Task_next i) (x2 : ∀ i, S' f_Md_frameAt i = if i = 200 * t + (c' - 1) then (p' : Int) else S f_Md_frameAt i)
    (y1 : n' = bsS S t (c' - 1) + ghs Γ (fsS S t (c' - 1)) p') (y2 : r' = qsS S t (c' - 1) + gtd Γ (fsS S t (c' - 1)) p') (y3 : gtd Γ (fsS S t (c' - 1)) p' ≤ 50) (y4 : (p' : Int) < S f_Md_codeSize (fsS S t (c' - 1)))
    (e2 : EXS LST S S') (e3 : EXX LXT X X') (hr : r' ≤ r) (hcut : c' = c ∨ r' ≤ qsS S t c') : CT Γ h C X' Y S' N t o n' c' r' := by
  have STAm := H.2.2.2.2.2.2.2.1
  obtain ⟨a0, ⟨a1, a2, a3, a4, a5⟩, ⟨b1, b2, b3⟩, ⟨c1, c2, c3⟩, ⟨d1, d2⟩, e5, e6, ⟨g1, g2, g3⟩, e8, e9, l, l1, l2, l3, l4, l5, l6⟩ := H
  have est : S' f_Md_state t = S f_Md_state t := e _ (by decide) _
  have run : S f_Md_state t = 1 ∨ S f_Md_state t = 4 := Classical.byContradiction fun q => by have := (a5 q).2.1; omega
  have pse : ∀ i, psS S' t i = if i = c' - 1 then p' else psS S t i := by
    intro i; unfold psS; rw [x2]
    by_cases q : i = c' - 1
    · rw [if_pos (by omega), if_pos q]; omega
    · rw [if_neg (by omega), if_neg q]
  refine ⟨a0, ⟨?_, ?_, ?_, ?_, ?_⟩, ⟨z1, z2, z3⟩, ⟨z0, z0', by omega⟩, ⟨z4, z5⟩, pl, fun i hi => ?_, ⟨fun i hi => ?_, ?_, ?_⟩, fun k hk => ?_, ?_, l, l1, l2, l3, by omega, l5, l6⟩
  · rw [e1 _ (by decide), est]; exact a1
  · rw [est]; exact a2
  · rw [est]; exact a3
  · intro _; exact hc'.1
  · rw [est]; intro q; exact absurd run q
  · obtain ⟨⟨i1, i2, i3⟩, ⟨i4, i5, i6⟩, ⟨i7, i8, i9⟩, ⟨i10, i11, i12, i13⟩, i14, i15, i16⟩ := e6 i (by omega)
    unfold FR1
    rw [fs_g e, bs_g e, qs_g e, ks_g e, pse i, e _ (show LSG.elem f_Md_frameFunction = true by decide), e _ (show LSG.elem f_Md_frameBase = true by decide), e _ (show LSG.elem f_Md_frameAround = true by decide), e _ (show LSG.elem f_Md_thisType = true by decide), e _ (show LSG.elem f_Md_thisValue = true by decide), e _ (show LSG.elem f_Md_frameNew = true by decide), e _ (show LSG.elem f_Md_frameTries = true by decide), e1 _ (show LXG.elem f_Task_base = true by decide), e1 _ (show LXG.elem f_Task_thisTag = true by decide), e1 _ (show LXG.elem f_Task_thisWord = true by decide), ns.g (f := f_Md_functions) (by decide), ns.g (f := f_Md_codeSize) (by decide), ns.g (f := f_Md_calls) (by decide), ns.g (f := f_Md_things) (by decide), ns.g (f := f_Md_thingKind) (by decide), x1 i, x2 (200 * t + i)]
    refine ⟨⟨i1, i2, i3⟩, ?_, ⟨i7, i8, i9⟩, ⟨i10, i11, i12, i13⟩, ns.vr i14, i15, i16⟩
    by_cases q : i = c' - 1
    · rw [if_pos (by omega), if_pos q, if_pos q]
      subst q
      exact ⟨rfl, rfl, y4⟩
    · rw [if_neg (by omega), if_neg q, if_neg q]
      exact ⟨i4, i5, i6⟩
  · obtain ⟨j1, j2, j3⟩ := g1 i (by omega)
    rw [fs_g e, bs_g e, qs_g e, bs_g e, qs_g e, pse i]
    by_cases q : i = c' - 1
    · subst q
      have q : c' - 1 + 1 = c' := by omega
      simp only [if_pos q, if_true]
      exact ⟨y1, y2, y3, fun z => by omega⟩
    · have q2 : ¬ i + 1 = c' := by omega
      have q3 : ¬ i + 1 = c := by omega
      simp only [if_neg q2, if_neg q]
      simp only [if_neg q3] at j1 j2
      exact ⟨j1, j2, j3.1, fun z => j3.2 (by omega)⟩
  · rw [bs_g e, show bsS S t 0 * c' = 0 from by rw [Nat.mul_eq_zero] at g2 ⊢; omega]
  · rw [qs_g e, show qsS S t 0 * c' = 0 from by rw [Nat.mul_eq_zero] at g3 ⊢; omega]
  · obtain ⟨j, a, q1, q2, q3, q4, q5, q6, q7, q8, q9, q10, q11, q12⟩ := e8 k (by omega)
    have jl : j < c' := by
      rcases hcut with z | z
      · omega
      · by_cases w : j < c'
        · exact w
        · have := STAm.mono (i := c') (j := j) (by omega) q2
          omega
    refine ⟨j, a, ?_, jl, ?_, ?_, ?_, ?_, ?_, ?_, ?_, ?_, ?_, ?_⟩
    · rw [e2 _ (by decide)]; exact q1
    · rw [e3 _ (by decide)]; exact q3
    · rw [e2 _ (by decide)]; exact q4
    · rw [e3 _ (by decide)]; exact q5
    · rw [e2 _ (by decide), bs_g e]; exact q6
    · rw [e3 _ (by decide), bs_g e]; exact q7
    · rw [ns.g (by decide), fs_g e]; exact q8
    · rw [fs_g e]; exact q9
    · rw [qs_g e]; exact q10
    · rw [fs_g e, qs_g e]; exact q11
    · rw [qs_g e]
      by_cases w : j + 1 = c'
      · rw [if_pos w]; exact hk
      · rw [if_neg w]
        rw [if_neg (by omega)] at q12
        exact q12
  · rw [est]; intro q; omega
/-- how many tries there are -/
theorem CT.r_le (H : CT Γ h C X Y S N t o n c r) : r ≤ 50 * c := by
  obtain ⟨a0, ⟨a1, a2, a3, a4, a5⟩, -, ⟨c1, c2, c3⟩, -, -, -, ⟨g1, g2, g3⟩, e8, -⟩ := H
  by_cases z : c = 0
  · by_cases q : 0 < r
    · obtain ⟨j, _, _, q2, -⟩ := e8 0 q; omega
    · omega
  · have hq : ∀ i, i < c → qsS S t i ≤ 50 * i := by
      intro i
      induction i with
      | zero => intro _; rw [Nat.mul_eq_zero] at g3; omega
      | succ i ih =>
        intro hi
        have := ih (by omega)
        obtain ⟨-, q1, q2⟩ := g1 i (by omega)
        rw [if_neg (by omega)] at q1
        omega
    obtain ⟨-, q1, q2⟩ := g1 (c - 1) (by omega)
    rw [if_pos (by omega)] at q1
    have := hq (c - 1) (by omega)
    omega
end
