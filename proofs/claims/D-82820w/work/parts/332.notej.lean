/-! a number joins the trace, on both sides -/
set_option maxRecDepth 20000
def tr1 (S : SS) (w : Nat) (v : Int) : SS := u2 (u2 S f_Md_trace w v) f_Md_traced 0 ((w + 1 : Nat) : Int)
section
variable {ρ : Nat → Nat} {d : Nat} {Q : QT} {Γ : GH} {h h1 h' : ah} {C ho N k n m o c x y z s f i j p r a w : Nat} {S : SS} {X X' X1 : X3} {Y : Y3} {v v2 : Int}
theorem tr1_2 : tr1 (tr1 S w v) (w + 1) v2 = trS S w v v2 := by
  unfold tr1 trS
  funext f i
  simp only [u2_e]
  by_cases w1 : f = f_Md_traced
  · subst w1
    by_cases w2 : i = 0
    · simp (decide := true) [w2]; omega
    · simp (decide := true) [w2]
  · simp (decide := true) [w1]
theorem CORE.nte (H : CORE Γ h C ho X Y S N) (ew : X 32 f_Machine_traceSize 0 = (w : Int)) (A : NTE h C X w v h' X') (rm : w + 1 ≤ 100000) : ∃ z s, (CORE Γ h' C ho X' Y (tr1 S w v) N ∧ ∀ {t o n c r : Nat}, CT Γ h C X Y S N t o n c r → CT Γ h' C X' Y (tr1 S w v) N t o n c r) ∧ GRO Γ Γ h h' C S (tr1 S w v) ∧ BND h C S h' (tr1 S w v) 0 0 ∧ Fr LHc [] z s h h' := by
  obtain ⟨G', F', ⟨z, s, fr⟩, gb, ⟨el, l2⟩, y1, y2, y3, x2⟩ := A
  have H0 := H
  obtain ⟨⟨G, F⟩, -, -, -, q2, q3, q4, q5, q6, q7, q8⟩ := H0
  have o0 : ∀ f i, [f_Md_trace, f_Md_traced].elem f = false → tr1 S w v f i = S f i := fun f i hf => by
    unfold tr1
    rw [u2_f (by rintro rfl; exact absurd hf (by decide)), u2_f (by rintro rfl; exact absurd hf (by decide))]
  have x0 : ∀ o f i, [f_Machine_trace, f_Machine_traceSize].elem f = false → X' o f i = X o f i := x2
  have g : GRO Γ Γ h h' C S (tr1 S w v) := GRO.fr (exs_of o0 (by decide)) G F fr (by unfold DJ; decide) (by simp)
  have dT : ∀ o, isT o → ∀ f, [f_Task_tryCall, f_Task_tryTo, f_Task_trySize].elem f = true → hl h' (hR h' f (C + o)) = hl h (hR h f (C + o)) := by
    intro o ho f hf
    have : f = f_Task_tryCall ∨ f = f_Task_tryTo ∨ f = f_Task_trySize := by simpa using hf
    rcases ho with rfl | rfl <;> rcases this with rfl | rfl | rfl <;> exact ac_len G fr (by decide) (by unfold DJ; decide)
  have k5 : OUT h' C X' (tr1 S w v) := by
    obtain ⟨⟨w0, lo, a1, a2, a3, a4, a5, a6, a7⟩, ⟨w', lo', b1, b2, b3, b4, b5, b6, b7⟩, pl⟩ := q5
    have e0 : w' = w := by omega
    subst e0
    refine ⟨⟨w0, lo, by rw [x0 _ _ _ (by decide)]; exact a1, by rw [o0 _ _ (by decide)]; exact a2, a3, by rw [ac_len G fr (by decide) (by unfold DJ; decide)]; exact a4, a5, a6, fun i hi => by rw [x0 _ _ _ (by decide), o0 _ _ (by decide)]; exact a7 i hi⟩, ⟨w' + 1, _, y1, by unfold tr1; rw [u2_s], rm, rfl, l2, el, fun i hi => ?_⟩, by rw [ac_len G fr (by decide) (by unfold DJ; decide)]; exact pl⟩
    unfold tr1
    rw [u2_f (by decide), u2_e]
    by_cases c1 : i = w'
    · rw [if_pos ⟨rfl, c1⟩, c1]; exact y3
    · rw [if_neg (fun c => c1 c.2), y2 i (by omega)]; exact b7 i (by omega)
  refine ⟨z, s, H.gs G' F' fr g (exs_of o0 (by decide)) (exx_of x0 (by decide)) dT (exs_of o0 (by decide)) (Int.le_of_eq (o0 _ _ (by decide)).symm) (by unfold DJ; decide) (by unfold DJ; decide) (by unfold DJ; decide) (q2.ext g (exs_of o0 (by decide)) (exx_of x0 (by decide)) (ac_len G fr (by decide) (by unfold DJ; decide)) (ac_len G fr (by decide) (by unfold DJ; decide)) (ac_len G fr (by decide) (by unfold DJ; decide))) (q3.ext (C := C) G.2.1 g (exs_of o0 (by decide)) fr (by unfold DJ; decide) (by unfold DJ; decide) (by simp)) (q4.ext g (exs_of o0 (by decide)) (exx_of x0 (by decide)) (ac_len G fr (by decide) (by unfold DJ; decide)) (ac_len G fr (by decide) (by unfold DJ; decide)) (ac_len G fr (by decide) (by unfold DJ; decide))) k5 (q6.ext (exs_of o0 (by decide)) (exx_of x0 (by decide))) (q7.ext G F g (exs_of o0 (by decide)) fr (by unfold DJ; decide) (by unfold DJ; decide) (by simp) (fun i _ => q8.eq G.2.1 fr (by unfold DJ; decide) (by simp) i)), g, (gb S _ (q7.thk G) (exs_of o0 (by decide))).1, fr.mono (fun f hf => ?_) (fun q hq => by cases hq)⟩
  have e : (LCC ++ [f_Machine_trace]).all (fun f => LHc.elem f) = true := by decide
  simpa using List.all_eq_true.mp e f hf
end
