/-! a field was set: what follows -/
set_option maxRecDepth 20000
section
variable {ρ : Nat → Nat} {d : Nat} {Q : QT} {Γ Γ' : GH} {h h' h1 h2 H : ah} {C ho k i j N M a z s r f o c t n m mn m0 rr l0 l2 : Nat} {g : HG} {v w hd ty κ x y : Int} {S S' S1 S2 S3 : SS} {X X' X1 X2 : X3} {Y Y' Y1 Y2 : Y3} {hw : List (List Int)} {e : Option Int}
theorem fwS_off : OFF [f_Md_slotType, f_Md_slotValue, f_Md_staticType, f_Md_staticValue] S (fwS g S k m i ty v) := by
  unfold fwS
  split
  · exact (OFF.rf.u (by decide)).u (by decide)
  · exact (OFF.rf.u (by decide)).u (by decide)
theorem fwS_lfd (o1 : OFF LFD S S1) : OFF LFD (fwS g S k m i ty v) (fwS g S1 k m i ty v) := fun f j hf => by
  have e1 : slS S1 k i = slS S k i := slS_e (o1.ex (by decide)) i
  have e2 := o1 f j hf
  unfold fwS
  by_cases c : g.1 7 m = 0
  · rw [if_pos c, if_pos c, e1, u2_e, u2_e, u2_e, u2_e, e2]
  · rw [if_neg c, if_neg c, u2_e, u2_e, u2_e, u2_e, e2]
theorem SWR.lfd (A : SWR ρ Γ h C ho X Y S g N M hw S2 H) (o : OFF LFD S2 S3) : SWR ρ Γ h C ho X Y S g N M hw S3 H := by
  obtain ⟨el, z, s, ⟨a1, a2⟩, a3, a4, a5, a6, a7⟩ := A
  obtain ⟨⟨b1, b2⟩, b3, b4⟩ := a1.fzz (L := []) (Pp := []) (h' := H) (X' := X) (Y' := Y) (S' := S3) Fr.r0 (by unfold DJ; decide +kernel) (fun y c => by simp at c) (o.ex (by decide)) (Int.le_of_eq (o _ _ (by decide)).symm) EXX.rf (fun _ _ _ _ => rfl)
  obtain ⟨u1, u2⟩ := a6.mv (C := C) a1.1.1.2.1 b3 (Fr.r0 (L := []) (P := [])) (by unfold DJ; decide) (by unfold DJ; decide) (o.ex (by decide))
  exact ⟨el, z, s, ⟨b1, fun K => b2 (a2 K)⟩, a3.tr b3, (a4.tr (b4 (o.ex (by decide)))).le (by omega) (by omega), a5, u1, a7⟩
theorem RLH.mk2 (A : SWR ρ Γ h C ho X Y S g N M hw S2 H) (o2 : OFF (LSc ++ [f_Md_staticType, f_Md_staticValue]) S S2) (R : RLC Γ H C ho X Y S2 N e S' h' X' Y') : RLH ρ Γ h C ho X Y S g N M hw e S' h' X' Y' := by
  obtain ⟨el, z, s, ⟨a1, -⟩, a3, a4, a5, a6, a7⟩ := A
  obtain ⟨Γ', z', s', b1, b2, b3, b4, b5, b6, b7, b8⟩ := R
  obtain ⟨u1, u2⟩ := a6.mv (C := C) a1.1.1.2.1 b2 b6 (by unfold DJ; decide +kernel) (by unfold DJ; decide +kernel) (fun f hf i => b3 f i (by
    have : f = f_Md_staticType ∨ f = f_Md_staticValue := by simpa using hf
    rcases this with rfl | rfl <;> decide))
  refine ⟨Γ', el, z + z', s + s', b1, a3.tr b2, fun f i hf => (b3 f i ?_).trans (o2 f i hf), b4, b5, a5.trans (b6.mono (fun f q => by unfold LHO; exact List.mem_append_left _ q) (fun q hq => hq)), (a4.tr b7).le (by omega) (by omega), b8, u1, by omega⟩
  cases w : LSc.elem f with
  | false => rfl
  | true =>
    have : (LSc ++ [f_Md_staticType, f_Md_staticValue]).elem f = true := by
      simp only [List.elem_eq_mem, decide_eq_true_eq, List.mem_append] at w ⊢
      exact Or.inl w
    rw [this] at hf; cases hf
/-- the answer after a field was set -/
theorem PFX.swr (P : PFX Γ h C ho X Y S N t o n c r s a κ mn m0 rr) (A : SWR ρ Γ h C ho X Y S g N M hw S2 H) (o2 : OFF (LFD ++ [f_Md_slotType, f_Md_slotValue, f_Md_staticType, f_Md_staticValue]) S S2) (V : VR Γ S2 N x y ty v) : RLH ρ Γ h C ho X Y S g N M hw none (gvS S2 t m0 c (psS S t (c - 1)) ty v) H (ansX X o m0 c x y) Y ∧ IX H C X Y o n c := by
  have hm := P.2.2.2.2.1
  obtain ⟨el, z, s', ⟨a1, a2⟩, a3, a4, a5, a6, a7⟩ := id A
  have CT2 := a2 P.2.1.2.2.1
  have e0 := o2.ex (L' := LTK ++ [f_Md_t, f_Md_p0, f_Md_f0, f_Md_top, f_Md_after, f_Md_codeSize]) (by decide)
  have H2 := P.2.1.mv a1 CT2 e0
  have ef : fsS S2 t (c - 1) = fsS S t (c - 1) := by unfold fsS; rw [e0 _ (by decide)]
  have ep : psS S2 t (c - 1) = psS S t (c - 1) := by unfold psS; rw [e0 _ (by decide)]
  have nx := P.2.2.2.1
  have nx2 : NXT Γ S2 (fsS S2 t (c - 1)) (psS S2 t (c - 1)) 0 (esK κ mn) 0 0 := by
    rw [ef, ep]; unfold NXT at nx ⊢; rw [e0 _ (by decide)]; exact nx
  have RL := RLC.ans (m := m0) H2 nx2 a1 CT2 GRO.rf EXS.rf (fun _ _ _ => rfl) (fun _ _ _ _ => rfl) (Fr.r0 (L := LHc) (P := [])) (BND.rf.le (by decide) (by decide)) V (by omega) (by omega)
  rw [ep] at RL
  exact ⟨RLH.mk2 A (o2.le (by decide)) RL, H2.ix⟩
end
