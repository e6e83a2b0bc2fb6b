/-! a static value is written, on both sides -/
set_option maxRecDepth 20000
def stwS (S : SS) (m : Nat) (ty v : Int) : SS := u2 (u2 S f_Md_staticType m ty) f_Md_staticValue m v
section
variable {ρ : Nat → Nat} {d : Nat} {Q : QT} {Γ Γ' : GH} {h h' h1 h2 H : ah} {C ho k i j N M a z s r f o c t n m m0 rr l0 l2 : Nat} {g : HG} {v w hd ty κ x y : Int} {S S' S1 : SS} {X X' X1 X2 : X3} {Y Y' Y1 Y2 : Y3} {hw : List (List Int)}
theorem stwS_off : OFF [f_Md_staticType, f_Md_staticValue] S (stwS S m ty v) := by
  unfold stwS
  exact (OFF.rf.u (by decide)).u (by decide)
theorem CORE.stw (HC : CORE Γ h C ho X Y S N) (U : HUS ρ Γ h ho S g N M hw) (hc : c < N) (hj : j < (g.1 4 c).toNat) (dis : ∀ c' : Nat, c' < N → ∀ k : Nat, (k : Int) < g.1 4 c' → (g.1 3 c').toNat + k = (g.1 3 c).toNat + j → c' = c ∧ k = j) (V : VR Γ S N x y ty v) : (CORE Γ (stwH h (hB h (ho + 2) c) j x y) C ho X Y (stwS S ((g.1 3 c).toNat + j) ty v) N ∧ ∀ {t o n c' r' : Nat}, CT Γ h C X Y S N t o n c' r' → CT Γ (stwH h (hB h (ho + 2) c) j x y) C X Y (stwS S ((g.1 3 c).toNat + j) ty v) N t o n c' r') ∧ GRO Γ Γ h (stwH h (hB h (ho + 2) c) j x y) C S (stwS S ((g.1 3 c).toNat + j) ty v) ∧ BND h C S (stwH h (hB h (ho + 2) c) j x y) (stwS S ((g.1 3 c).toNat + j) ty v) 0 0 ∧ Fr [f_HostType_words + 1, f_HostType_tags + 1] [] 0 0 h (stwH h (hB h (ho + 2) c) j x y) ∧ HUS ρ Γ (stwH h (hB h (ho + 2) c) j x y) ho (stwS S ((g.1 3 c).toNat + j) ty v) g N M hw ∧ lyc (stwH h (hB h (ho + 2) c) j x y) ho N = lyc h ho N := by
  have ij := HC.1.1.2.1
  obtain ⟨H0, VV, LM, W, l4⟩ := U
  obtain ⟨⟨y1, ad, y0⟩, -⟩ := H0.tp hc
  obtain ⟨⟨a1, a2, a3⟩, ⟨b1, b2, b3⟩, v1⟩ := VV c hc
  have oW : own f_HostType_words := by unfold own; decide
  have oT : own f_HostType_tags := by unfold own; decide
  have ne : hR h f_HostType_words (hB h (ho + 2) c) ≠ hR h f_HostType_tags (hB h (ho + 2) c) := fun e => absurd (ij.2.1 _ _ _ _ ad ad oW oT e a1).1 (by decide)
  have fr : Fr [f_HostType_words + 1, f_HostType_tags + 1] [] 0 0 h (stwH h (hB h (ho + 2) c) j x y) := by
    unfold stwH
    exact Fr.wA (Or.inr (Or.inr (Or.inr ⟨f_HostType_words, _, ad, oW, rfl, Or.inr (Or.inl (by simp))⟩))) (Fr.wA (Or.inr (Or.inr (Or.inr ⟨f_HostType_tags, _, ad, oT, rfl, Or.inr (Or.inl (by simp))⟩))) Fr.r0)
  have H1 := H0.stw (x := x) (y := y) ij hc a1 b1 hj dis
  have of : OFF [f_Md_staticType, f_Md_staticValue] S (stwS S ((g.1 3 c).toNat + j) ty v) := stwS_off
  obtain ⟨K, gg, bb⟩ := HC.fzz (h' := stwH h (hB h (ho + 2) c) j x y) (X' := X) (Y' := Y) (S' := stwS S ((g.1 3 c).toNat + j) ty v) fr (by unfold DJ; decide +kernel) (fun y c => by simp at c) (of.ex (by decide)) (Int.le_of_eq (of _ _ (by decide)).symm) EXX.rf (fun _ _ _ _ => rfl)
  have st : ∀ i, stwS S ((g.1 3 c).toNat + j) ty v f_Md_staticType i = if i = (g.1 3 c).toNat + j then ty else S f_Md_staticType i := fun i => by
    unfold stwS
    rw [u2_f (by decide), u2_e]
    by_cases w : i = (g.1 3 c).toNat + j
    · rw [if_pos ⟨rfl, w⟩, if_pos w]
    · rw [if_neg (fun e => w e.2), if_neg w]
  have sv : ∀ i, stwS S ((g.1 3 c).toNat + j) ty v f_Md_staticValue i = if i = (g.1 3 c).toNat + j then v else S f_Md_staticValue i := fun i => by
    unfold stwS
    rw [u2_e]
    by_cases w : i = (g.1 3 c).toNat + j
    · rw [if_pos ⟨rfl, w⟩, if_pos w]
    · rw [if_neg (fun e => w e.2), if_neg w, u2_f (by decide)]
  refine ⟨K, gg, bb (of.ex (by decide)), fr, ⟨H1, fun c' hc' => ?_, fun c' hc' => ?_, W, l4⟩, lyc_e (fun _ _ => rfl)⟩
  · obtain ⟨⟨e1, e2, e3⟩, ⟨f1, f2, f3⟩, v2⟩ := VV c' hc'
    obtain ⟨⟨-, adi, -⟩, -⟩ := H0.tp hc'
    refine ⟨⟨e1, e2, e3⟩, ⟨f1, f2, f3⟩, fun k hk => ?_⟩
    rw [st, sv]
    by_cases wc : c' = c ∧ k = j
    · obtain ⟨rfl, rfl⟩ := wc
      rw [if_pos rfl, if_pos rfl]
      have w1 : hA (stwH h (hB h (ho + 2) c') k x y) (hR h f_HostType_tags (hB h (ho + 2) c')) k = x := by
        unfold stwH; rw [A_Ane (fun e => ne e.symm), A_A]
      have w2 : hA (stwH h (hB h (ho + 2) c') k x y) (hR h f_HostType_words (hB h (ho + 2) c')) k = y := by
        unfold stwH; rw [A_A]
      show VR Γ _ N (hA (stwH h (hB h (ho + 2) c') k x y) (hR h f_HostType_tags (hB h (ho + 2) c')) k) (hA (stwH h (hB h (ho + 2) c') k x y) (hR h f_HostType_words (hB h (ho + 2) c')) k) ty v
      rw [w1, w2]
      exact gg.vr V
    · have ni : ¬ (g.1 3 c').toNat + k = (g.1 3 c).toNat + j := fun e => wc (dis c' hc' k (by omega) e)
      rw [if_neg ni, if_neg ni]
      have w1 : hA (stwH h (hB h (ho + 2) c) j x y) (hR h f_HostType_tags (hB h (ho + 2) c')) k = hA h (hR h f_HostType_tags (hB h (ho + 2) c')) k := by
        unfold stwH
        have t1 : hR h f_HostType_tags (hB h (ho + 2) c') ≠ hR h f_HostType_words (hB h (ho + 2) c) := fun e => absurd (ij.2.1 _ _ _ _ adi ad oT oW e f1).1 (by decide)
        rw [A_Ane t1]
        by_cases q : k = j
        · have nc : hB h (ho + 2) c' ≠ hB h (ho + 2) c := fun e => wc ⟨H0.tad c' c hc' hc e, q⟩
          exact A_Ane (fun e => nc (ij.2.1 _ _ _ _ adi ad oT oT e f1).2)
        · exact A_Ane' q
      have w2 : hA (stwH h (hB h (ho + 2) c) j x y) (hR h f_HostType_words (hB h (ho + 2) c')) k = hA h (hR h f_HostType_words (hB h (ho + 2) c')) k := by
        unfold stwH
        have t1 : hR h f_HostType_words (hB h (ho + 2) c') ≠ hR h f_HostType_tags (hB h (ho + 2) c) := fun e => absurd (ij.2.1 _ _ _ _ adi ad oW oT e e1).1 (by decide)
        by_cases q : k = j
        · have nc : hB h (ho + 2) c' ≠ hB h (ho + 2) c := fun e => wc ⟨H0.tad c' c hc' hc e, q⟩
          rw [A_Ane (fun e => nc (ij.2.1 _ _ _ _ adi ad oW oW e e1).2)]
          exact A_Ane t1
        · rw [A_Ane' q]
          exact A_Ane t1
      show VR Γ _ N (hA (stwH h (hB h (ho + 2) c) j x y) (hR h f_HostType_tags (hB h (ho + 2) c')) k) (hA (stwH h (hB h (ho + 2) c) j x y) (hR h f_HostType_words (hB h (ho + 2) c')) k) _ _
      rw [w1, w2]
      exact gg.vr (v2 k hk)
  · rcases LM c' hc' with e | ⟨⟨a1, a2, a3, a4⟩, a5, a6⟩
    · exact Or.inl e
    · exact Or.inr ⟨⟨a1, a2, a3, a4⟩, a5, a6⟩
end
