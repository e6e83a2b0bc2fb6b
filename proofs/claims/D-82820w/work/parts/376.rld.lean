set_option maxRecDepth 20000
section
variable {ρ : Nat → Nat} {Γ Γ' : GH} {h h' h1 h2 : ah} {C ho N M z s : Nat} {g : HG} {S S' S1 S2 : SS} {X X' X2 : X3} {Y Y' Y2 : Y3} {L : List Nat} {Pp : List (Nat × Nat)} {ws hw : List (List Int)} {e : Option Int}
theorem CORE.hz57 (HC : CORE Γ h C ho X Y S N) : C + 57 < hz h := by
  have := HC.1.1.1
  omega
/-- a member's work, or any other, leaves what goes by the core -/
theorem EXT.rld (H : EXT ρ Γ h C ho X Y S g N M hw ws) (HC : CORE Γ h C ho X Y S N) (R : RLD ρ Γ h C ho X Y S g N M hw e S' h' X' Y') : ∃ (Γ' : GH) (el z s : Nat), CORE Γ' h' C ho X' Y' S' N ∧ EXT ρ Γ' h' C ho X' Y' S' g N M hw ws ∧ GRO Γ Γ' h h' C S S' ∧ OFF (LSc ++ [f_Md_staticType, f_Md_staticValue]) S S' ∧ NXc X X' ∧ NYc Y Y' ∧ Fr LHD [] z s h h' ∧ BND h C S h' S' ((1 + el : Nat) : Int) ((8 + 400 * el : Nat) : Int) ∧ ER e X' S' ∧ lyc h' ho N = lyc h ho N + el := by
  obtain ⟨Γ', el, z, s, c1, g1, o1, x1, y1, fr, bd, er, U, ly, MM⟩ := R
  refine ⟨Γ', el, z, s, c1, ?_, g1, o1, x1, y1, fr, bd, er, ly⟩
  obtain ⟨E0, ⟨NM, SN⟩, SI, EV, LK⟩ := H
  have p0 : ∀ y, (0, y) ∉ ([] : List (Nat × Nat)) := fun y c => by cases c
  have HX := E0.1.1.1
  have G := HC.1.1
  have ij := G.2.1
  have es := fun {K : List Nat} (q : K.all (fun f => !((LSc ++ [f_Md_staticType, f_Md_staticValue]).elem f)) = true) => o1.ex (L' := K) q
  have ex : ∀ f, LXc.elem f = false → ∀ o i, X' o f i = X o f i := fun f hf o i => x1 o f i hf
  have ey : ∀ f, LYc.elem f = false → ∀ o i, Y' o f i = Y o f i := fun f hf o i => y1 o f i hf
  have K : EKP h C ho S N M h' S' := EKP.gro HX G g1 bd.2.2.2 fr (by unfold DJ; decide +kernel) p0
  refine ⟨E0.mv U MM fr p0 bd.2.2.2.1 ⟨by rw [ey _ (by decide)]; exact E0.2.1.1, by rw [ey _ (by decide)]; exact E0.2.1.2⟩ (fun i hi => ?_) (fun f hf o i => ex f ?_ o i) ?_ (es (K := [f_Md_wrong]) (by decide +kernel) _ (by decide) _), ⟨NM.fr fr (by unfold DJ; decide +kernel) p0 (es (by decide +kernel)), SN.ex (es (by decide +kernel))⟩, SI.ext ij HC.1.2 HC.hz57 K fr (by unfold DJ; decide +kernel) p0 (es (by decide +kernel)) (ey _ (by decide) _ _), EV.chg HC.bef bd.2.2.2.1 (es (by decide +kernel)), LK.mv HX ij fr (by unfold DJ; decide +kernel) p0 (es (by decide +kernel)) (fun f hf o i => ex f ?_ o i) (fun b => ey _ (by decide) _ _)⟩
  · rw [ex _ (by decide), es (K := [f_Md_asked]) (by decide +kernel) _ (by decide)]
    exact E0.2.2.2.2.2.1 i hi
  · have : f = f_Machine_marks := by simpa using hf
    subst this; decide
  · rw [ex _ (by decide)]
    exact E0.2.2.2.2.2.2.2.1
  · have : f = f_Lookup_kept ∨ f = f_Lookup_allKept ∨ f = f_Lookup_workedOut := by simpa using hf
    rcases this with rfl | rfl | rfl <;> decide
/-- a look leaves what goes by the core -/
theorem EXT.lok (H : EXT ρ Γ h C ho X Y S g N M hw ws) (HC : CORE Γ h C ho X Y S N) (W : HWF g N M) (A : LOK Γ h C ho X Y S N h2 X2 Y2 S2) (K : LKE g hw ws h2 ho X2 Y2 S2 N M) (isx : X2 53 f_Found_isText 0 = X 53 f_Found_isText 0) : EXT ρ Γ h2 C ho X2 Y2 S2 g N M hw ws ∧ lyc h2 ho N = lyc h ho N := by
  obtain ⟨⟨c1, c2⟩, g1, bd, ⟨z, s, fr⟩, o1, x1, y1, as⟩ := A
  obtain ⟨E0, ⟨NM, SN⟩, SI, EV, LK⟩ := H
  have p0 := PMN0 (ho := ho)
  have HX := E0.1.1.1
  have G := HC.1.1
  have ij := G.2.1
  have es := fun {K : List Nat} (q : K.all (fun f => !(LKS.elem f)) = true) => o1.ex (L' := K) q
  have KP : EKP h C ho S N M h2 S2 := EKP.gro HX G g1 bd.2.2.2 fr (djH (by decide +kernel)) p0
  have HX2 : HCX ρ h2 ho g N M hw := HX.fr fr (djH (by decide +kernel)) p0
  obtain ⟨U2, ly⟩ := E0.1.1.mvp ij g1 fr HX2 (djH (by decide +kernel)) p0 (es (by decide +kernel))
  have M2 := E0.1.2.mvp E0.1.1 W ij fr (djH (by decide +kernel)) p0
  refine ⟨⟨E0.mv U2 M2 fr p0 bd.2.2.2.1 ⟨by rw [y1 _ _ _ (by decide)]; exact E0.2.1.1, by rw [y1 _ _ _ (by decide)]; exact E0.2.1.2⟩ (as E0.2.2.2.2.2.1) (fun f hf o i => x1 o f i ?_) ?_ (es (K := [f_Md_wrong]) (by decide +kernel) _ (by decide) _), ⟨NM.fr fr (djH (by decide +kernel)) p0 (es (by decide +kernel)), SN.ex (es (by decide +kernel))⟩, SI.ext ij HC.1.2 HC.hz57 KP fr (djH (by decide +kernel)) p0 (es (by decide +kernel)) (y1 _ _ _ (by decide)), EV.chg HC.bef bd.2.2.2.1 (es (by decide +kernel)), K⟩, ly⟩
  · have : f = f_Machine_marks := by simpa using hf
    subst this; decide
  · rw [isx]
    exact E0.2.2.2.2.2.2.2.1
end
