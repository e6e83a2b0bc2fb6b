/-! the host stays as the machine goes on -/
set_option maxRecDepth 20000
def LHU : List Nat := [f_Host_types, f_Host_types + 1, f_Host_members, f_Host_members + 1, f_HostType_words, f_HostType_words + 1, f_HostType_tags, f_HostType_tags + 1, f_HostType_layout]
def LHO : List Nat := LHc ++ [f_HostType_layout, f_HostType_words + 1, f_HostType_tags + 1]
/-- how both stand after something was done at the host -/
def RLH (ρ : Nat → Nat) (Γ : GH) (h : ah) (C ho : Nat) (X : X3) (Y : Y3) (S : SS) (g : HG) (N M : Nat) (hw : List (List Int)) (e : Option Int) (S' : SS) (h' : ah) (X' : X3) (Y' : Y3) : Prop := ∃ (Γ' : GH) (el z s : Nat), CORE Γ' h' C ho X' Y' S' N ∧ GRO Γ Γ' h h' C S S' ∧ OFF (LSc ++ [f_Md_staticType, f_Md_staticValue]) S S' ∧ NXc X X' ∧ NYc Y Y' ∧ Fr LHO [] z s h h' ∧ BND h C S h' S' ((1 + el : Nat) : Int) ((8 + 400 * el : Nat) : Int) ∧ ER e X' S' ∧ HUS ρ Γ' h' ho S' g N M hw ∧ lyc h' ho N = lyc h ho N + el
section
variable {ρ : Nat → Nat} {d : Nat} {Q : QT} {Γ Γ' : GH} {h h' h1 h2 H : ah} {C ho k i j N M a z s r f o c t n mn m m0 rr l0 l2 : Nat} {g : HG} {v w hd ty κ x y : Int} {S S' S1 : SS} {X X' X1 X2 : X3} {Y Y' Y1 Y2 : Y3} {hw : List (List Int)} {ls L : List Nat} {e : Option Int}
theorem HUS.mv (U : HUS ρ Γ h ho S g N M hw) (ij : INJ h) (g1 : GRO Γ Γ' h h' C S S') (fr : Fr L [] z s h h') (dj : DJ fhcm L []) (dd : DJ LHU L []) (es : EXS [f_Md_staticType, f_Md_staticValue] S S') : HUS ρ Γ' h' ho S' g N M hw ∧ lyc h' ho N = lyc h ho N := by
  obtain ⟨H0, V, LM, W, l4⟩ := U
  have hh := H0.hh
  have H1 : HCX ρ h' ho g N M hw := H0.fr fr dj (fun y c => by simp at c)
  have s2 := fr.ar ij (f := f_Host_types) (x := ho) (y := ho + 2) (by unfold own; decide) hh.2.1 hh.2.2.1 (by omega) (fun c => c.elim (dd.w (by decide)) (dd.w (by decide))) (by simp)
  have s3 := fr.ar ij (f := f_Host_members) (x := ho) (y := ho + 3) (by unfold own; decide) hh.2.1 hh.2.2.2.1 (by omega) (fun c => c.elim (dd.w (by decide)) (dd.w (by decide))) (by simp)
  have rl : ∀ c, c < N → hR h' f_HostType_layout (hB h' (ho + 2) c) = hR h f_HostType_layout (hB h (ho + 2) c) := fun c hc => by
    obtain ⟨⟨y1, y1', y0⟩, -⟩ := H0.tp hc
    rw [s2.2.2, fr.R y1' (by decide) (dd.w (by decide))]
  refine ⟨⟨H1, fun c hc => ?_, fun c hc => ?_, W, l4⟩, lyc_e rl⟩
  · obtain ⟨⟨y1, y1', y0⟩, -⟩ := H0.tp hc
    obtain ⟨⟨a1, a2, a3⟩, ⟨b1, b2, b3⟩, v1⟩ := V c hc
    have rW := fr.R y1' (f := f_HostType_words) (by decide) (dd.w (by decide))
    have rT := fr.R y1' (f := f_HostType_tags) (by decide) (dd.w (by decide))
    have sW := fr.ar ij (f := f_HostType_words) (by unfold own; decide) y1' rfl a1 (fun c => c.elim (dd.w (by decide)) (dd.w (by decide))) (by simp)
    have sT := fr.ar ij (f := f_HostType_tags) (by unfold own; decide) y1' rfl b1 (fun c => c.elim (dd.w (by decide)) (dd.w (by decide))) (by simp)
    have zW := ij.1 _ _ y1' (show own f_HostType_words by unfold own; decide)
    have zT := ij.1 _ _ y1' (show own f_HostType_tags by unfold own; decide)
    rw [s2.2.2, rW, rT, fr.K zW, fr.K zT, sW.1, sT.1]
    refine ⟨⟨a1, a2, a3⟩, ⟨b1, b2, b3⟩, fun j hj => ?_⟩
    rw [sW.2.1, sT.2.1, es _ (by decide), es _ (by decide)]
    exact g1.vr (v1 j hj)
  · rw [rl c hc]
    rcases LM c hc with e | ⟨⟨a1, a2, a3, a4⟩, a5, a6⟩
    · exact Or.inl e
    · have sa := fr.ar0 (y := hR h f_HostType_layout (hB h (ho + 2) c)) a3 a2 (by simp) a4
      refine Or.inr ⟨⟨by rw [fr.K a3]; exact a1, a2, fr.lt a3, ?_⟩, by rw [sa.1]; exact a5, fun i hi => by rw [sa.2.2, s3.2.2]; exact a6 i hi⟩
      exact UNO.fr a4 a3 a2 fr
/-- a layout may have become known, then an instruction's end -/
theorem RLH.mk (A : LYR ρ Γ h C ho X Y S g N M hw H) (R : RLC Γ H C ho X Y S N e S' h' X' Y') : RLH ρ Γ h C ho X Y S g N M hw e S' h' X' Y' := by
  obtain ⟨el, z, s, ⟨a1, -⟩, a3, a4, a5, a6, a7⟩ := A
  obtain ⟨Γ', z', s', b1, b2, b3, b4, b5, b6, b7, b8⟩ := R
  obtain ⟨u1, u2⟩ := a6.mv (C := C) a1.1.1.2.1 b2 b6 (by unfold DJ; decide +kernel) (by unfold DJ; decide +kernel) (fun f hf i => b3 f i (by
    have : f = f_Md_staticType ∨ f = f_Md_staticValue := by simpa using hf
    rcases this with rfl | rfl <;> decide))
  have l1 : LLC.all (fun f => LHO.elem f) = true := by decide
  refine ⟨Γ', el, z + z', s + s', b1, a3.tr b2, fun f i hf => b3 f i ?_, b4, b5, (a5.mono (fun f q => by simpa using List.all_eq_true.mp l1 f q) (fun q hq => hq)).trans (b6.mono (fun f q => by unfold LHO; exact List.mem_append_left _ q) (fun q hq => hq)), (a4.tr b7).le (by omega) (by omega), b8, u1, by omega⟩
  cases w : LSc.elem f with
  | false => rfl
  | true =>
    have : (LSc ++ [f_Md_staticType, f_Md_staticValue]).elem f = true := by
      simp only [List.elem_eq_mem, decide_eq_true_eq, List.mem_append] at w ⊢
      exact Or.inl w
    rw [this] at hf; cases hf
theorem PFX.lay (P : PFX Γ h C ho X Y S N t o n c r s a κ mn m0 rr) (A : LYR ρ Γ h C ho X Y S g N M hw H) : PFX Γ H C ho X Y S N t o n c r s a κ mn m0 rr := by
  obtain ⟨el, z, s', ⟨a1, a2⟩, a3, a4, a5, a6, a7⟩ := A
  obtain ⟨p1, p2, p3, p4, p5, p6, p7, ⟨p8, p9, p10, p11⟩⟩ := P
  exact ⟨a1, p2.mv a1 (a2 p2.2.2.1) EXS.rf, p3, p4, p5, p6, p7, ⟨by rw [a5.K p9]; exact p8, a5.lt p9, by rw [a5.I p9 (by decide) (nokW (by decide) rfl)]; exact p10, by rw [a5.I p9 (by decide) (nokW (by decide) rfl)]; exact p11⟩⟩
/-- what is to be shown of something done at the host -/
def PFH (ρ : Nat → Nat) (g : HG) (N M : Nat) (hw : List (List Int)) (Γ : GH) (h : ah) (C ho : Nat) (X : X3) (Y : Y3) (S : SS) (s : Nat) (Q : QT) : Prop := ∀ e S' h' X' Y', TAC ρ g N M s S (eT e) S' → RLH ρ Γ h C ho X Y S g N M hw e S' h' X' Y' → Q (oE e (C + 33)) (cc h' C X' Y')
end
