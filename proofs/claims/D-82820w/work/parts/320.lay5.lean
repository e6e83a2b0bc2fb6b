/-! the machine as a layout becomes known -/
set_option maxRecDepth 20000
/-- static values of both -/
def HSV (Γ : GH) (h : ah) (ho : Nat) (S : SS) (g : HG) (N : Nat) : Prop := ∀ c, c < N → (hR h f_HostType_words (hB h (ho + 2) c) ≠ 0 ∧ hK h (hR h f_HostType_words (hB h (ho + 2) c)) = 2 ∧ hl h (hR h f_HostType_words (hB h (ho + 2) c)) = (g.1 4 c).toNat) ∧ (hR h f_HostType_tags (hB h (ho + 2) c) ≠ 0 ∧ hK h (hR h f_HostType_tags (hB h (ho + 2) c)) = 3 ∧ hl h (hR h f_HostType_tags (hB h (ho + 2) c)) = (g.1 4 c).toNat) ∧ ∀ j, j < (g.1 4 c).toNat → VR Γ S N (hA h (hR h f_HostType_tags (hB h (ho + 2) c)) j) (hA h (hR h f_HostType_words (hB h (ho + 2) c)) j) (S f_Md_staticType ((g.1 3 c).toNat + j)) (S f_Md_staticValue ((g.1 3 c).toNat + j))
/-- how many layouts are known -/
def lyc (h : ah) (ho : Nat) : Nat → Nat
  | 0 => 0
  | n + 1 => lyc h ho n + (if hR h f_HostType_layout (hB h (ho + 2) n) = 0 then 0 else 1)
def LLC : List Nat := LCC ++ [f_HostType_layout]
section
variable {ρ : Nat → Nat} {d : Nat} {Q : QT} {Γ Γ' : GH} {h h' h1 h2 H : ah} {C ho k i j N M a z s r f o c t n mn m0 rr : Nat} {g : HG} {v w hd ty κ x y : Int} {S S' S1 : SS} {X X' X1 X2 : X3} {Y Y' Y1 Y2 : Y3} {hw : List (List Int)}
theorem CORE.lay (HC : CORE Γ h C ho X Y S N) (R : Fr LLC [] z s h H) : (CORE Γ H C ho X Y S N ∧ ∀ {t o n c r' : Nat}, CT Γ h C X Y S N t o n c r' → CT Γ H C X Y S N t o n c r') ∧ GRO Γ Γ h H C S S ∧ BND h C S H S z s := by
  have HC0 := HC
  obtain ⟨⟨G, F⟩, -, -, -, q2', q3, q4, q5, q6, q7, q8⟩ := HC0
  have p0 : ∀ y, (0, y) ∉ ([] : List (Nat × Nat)) := fun y c => by simp at c
  have g : GRO Γ Γ h H C S S := GRO.fr EXS.rf G F R (by unfold DJ; rfl) p0
  exact ⟨HC.mv (S' := S) (X' := X) R g EXS.rf EXX.rf p0 (by unfold DJ; rfl) (by unfold DJ; rfl) (by unfold DJ; rfl) (by unfold DJ; rfl) EXS.rf (Int.le_refl _) (q2'.ext g EXS.rf EXX.rf (ac_len G R (by decide) (by unfold DJ; rfl)) (ac_len G R (by decide) (by unfold DJ; rfl)) (ac_len G R (by decide) (by unfold DJ; rfl))) (q3.ext (C := C) G.2.1 g EXS.rf R (by unfold DJ; rfl) (by unfold DJ; rfl) p0) (q4.ext g EXS.rf EXX.rf (ac_len G R (by decide) (by unfold DJ; rfl)) (ac_len G R (by decide) (by unfold DJ; rfl)) (ac_len G R (by decide) (by unfold DJ; rfl))) (q5.ext EXS.rf EXX.rf (ac_len G R (by decide) (by unfold DJ; rfl)) (ac_len G R (by decide) (by unfold DJ; rfl)) (ac_len G R (by decide) (by unfold DJ; rfl))) (q6.ext EXS.rf EXX.rf) (q7.ext G F g EXS.rf R (by unfold DJ; rfl) (by unfold DJ; rfl) p0 (fun i _ => q8.eq G.2.1 R (by unfold DJ; rfl) p0 i)) (by unfold DJ; rfl), g, BND.fr G F (q7.thk G) EXS.rf R (by unfold DJ; rfl) (by unfold DJ; rfl) p0⟩
end
