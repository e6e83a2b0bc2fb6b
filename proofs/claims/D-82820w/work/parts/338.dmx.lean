/-! a member does its work: what changes at first -/
set_option maxRecDepth 20000
def LHD : List Nat := LHO ++ LKN
def LSV4 : List Nat := [f_Md_slotType, f_Md_slotValue, f_Md_staticType, f_Md_staticValue]
/-- the relation after a member's work: RLH with what is kept of methods -/
def RLD (ρ : Nat → Nat) (Γ : GH) (h : ah) (C ho : Nat) (X : X3) (Y : Y3) (S : SS) (g : HG) (N M : Nat) (hw : List (List Int)) (e : Option Int) (S' : SS) (h' : ah) (X' : X3) (Y' : Y3) : Prop := ∃ (Γ' : GH) (el z s : Nat), CORE Γ' h' C ho X' Y' S' N ∧ GRO Γ Γ' h h' C S S' ∧ OFF (LSc ++ [f_Md_staticType, f_Md_staticValue]) S S' ∧ NXc X X' ∧ NYc Y Y' ∧ Fr LHD [] z s h h' ∧ BND h C S h' S' ((1 + el : Nat) : Int) ((8 + 400 * el : Nat) : Int) ∧ ER e X' S' ∧ HUS ρ Γ' h' ho S' g N M hw ∧ lyc h' ho N = lyc h ho N + el ∧ MMO h' ho g M
/-- a method may have become known, a layout too, a field may have been set -/
def DMX (ρ : Nat → Nat) (Γ : GH) (h : ah) (C ho : Nat) (X : X3) (Y : Y3) (S : SS) (g : HG) (N M : Nat) (hw : List (List Int)) (S2 : SS) (H : ah) (X2 : X3) : Prop := ∃ e z s : Nat, (CORE Γ H C ho X2 Y S2 N ∧ ∀ {t o n c r' : Nat}, CT Γ h C X Y S N t o n c r' → CT Γ H C X2 Y S2 N t o n c r') ∧ GRO Γ Γ h H C S S2 ∧ BND h C S H S2 (e : Int) ((400 * e : Nat) : Int) ∧ Fr LHD [] z s h H ∧ HUS ρ Γ H ho S2 g N M hw ∧ lyc H ho N = lyc h ho N + e ∧ MMO H ho g M ∧ NXc X X2 ∧ OFF LSV4 S S2
/-- what is to be shown of a member's work -/
def PFD (ρ : Nat → Nat) (g : HG) (N M : Nat) (hw : List (List Int)) (Γ : GH) (h : ah) (C ho : Nat) (X : X3) (Y : Y3) (S : SS) (s : Nat) (Q : QT) : Prop := ∀ e S' h' X' Y', TAC ρ g N M s S (eT e) S' → RLD ρ Γ h C ho X Y S g N M hw e S' h' X' Y' → Q (oE e (C + 33)) (cc h' C X' Y')
section
variable {ρ : Nat → Nat} {d : Nat} {Q : QT} {Γ Γ' : GH} {h h' h1 h2 H H1 : ah} {C ho k i j N M a z s r f o c t n m mn m0 rr l0 l2 : Nat} {g : HG} {v w hd ty κ x y : Int} {S S' S1 S2 S3 : SS} {X X' X1 X2 : X3} {Y Y' Y1 Y2 : Y3} {hw : List (List Int)} {e : Option Int} {L : List Nat}
theorem HUS.wf (U : HUS ρ Γ h ho S g N M hw) (W : HWF g N M) : ∀ m f, m < M → kwO g m = some f → f < M := fun m f hm e => (kwO_lt W (U.1.me hm).2.2.2.2.2.2.1.2.1 e).1
theorem MMO.mv (K : MMO h ho g M) (U : HUS ρ Γ h ho S g N M hw) (W : HWF g N M) (ij : INJ h) (fr : Fr L [] z s h h') (dd : DJ (LKN ++ [f_Host_members, f_Host_members + 1]) L []) : MMO h' ho g M := by
  have hh := U.1.hh
  have s3 := fr.ar ij (f := f_Host_members) (x := ho) (y := ho + 3) (by unfold own; decide) hh.2.1 hh.2.2.2.1 (by omega) (fun c => c.elim (dd.w (by decide)) (dd.w (by decide))) (by simp)
  exact K.fr U.1 fr ij (fun a => ⟨dd.w (by decide), dd.w (by decide), dd.w (by decide)⟩) (fun j _ => s3.2.2 j) (U.wf W)
theorem RLD.of (R : RLH ρ Γ h C ho X Y S g N M hw e S' h' X' Y') (K : MMO h ho g M) (U : HUS ρ Γ h ho S g N M hw) (W : HWF g N M) (ij : INJ h) : RLD ρ Γ h C ho X Y S g N M hw e S' h' X' Y' := by
  obtain ⟨Γ', el, z, s, a1, a2, a3, a4, a5, a6, a7, a8, a9, a10⟩ := R
  exact ⟨Γ', el, z, s, a1, a2, a3, a4, a5, a6.mono (fun f q => by unfold LHD; exact List.mem_append_left _ q) (fun _ q => q), a7, a8, a9, a10, K.mv U W ij a6 (by unfold DJ; decide +kernel)⟩
theorem DMX.rf (HC : CORE Γ h C ho X Y S N) (U : HUS ρ Γ h ho S g N M hw) (K : MMO h ho g M) : DMX ρ Γ h C ho X Y S g N M hw S h X := ⟨0, 0, 0, ⟨HC, fun K => K⟩, GRO.rf, BND.rf, Fr.r0, U, rfl, K, fun _ _ _ _ => rfl, OFF.rf⟩
theorem DMX.know (HC : CORE Γ h C ho X Y S N) (U : HUS ρ Γ h ho S g N M hw) (K : KNW h ho g M m H) (ex : ∀ o f i, f ≠ f_Machine_small → X' o f i = X o f i) : DMX ρ Γ h C ho X Y S g N M hw S H X' := by
  obtain ⟨⟨z, s, fr, rfl, rfl⟩, eb, MM, -⟩ := K
  obtain ⟨M1, g1, bd⟩ := HC.fzz (L := LKN) (Pp := []) (h' := H) (X' := X') (Y' := Y) (S' := S) fr (by unfold DJ; decide +kernel) (fun y c => by simp at c) EXS.rf (Int.le_refl _) (fun f hf o i => ex o f i (by rintro rfl; exact absurd hf (by decide +kernel))) (fun _ _ _ _ => rfl)
  obtain ⟨u1, u2⟩ := U.mv (C := C) HC.1.1.2.1 g1 fr (by unfold DJ; decide +kernel) (by unfold DJ; decide +kernel) EXS.rf
  exact ⟨0, 0, 0, M1, g1, bd EXS.rf, fr.mono (fun f q => by unfold LHD; exact List.mem_append_right _ q) (fun _ q => q), u1, u2, MM, fun o f i hf => ex o f i (by rintro rfl; exact absurd hf (by decide +kernel)), OFF.rf⟩
theorem DMX.lyr (A : DMX ρ Γ h C ho X Y S g N M hw S2 H X2) (W : HWF g N M) (B : LYR ρ Γ H C ho X2 Y S2 g N M hw H1) : DMX ρ Γ h C ho X Y S g N M hw S2 H1 X2 := by
  obtain ⟨e, z, s, ⟨a1, a2⟩, a3, a4, a5, a6, a7, a8, a9, a10⟩ := A
  obtain ⟨e', z', s', ⟨b1, b2⟩, b3, b4, b5, b6, b7⟩ := B
  have l1 : LLC.all (fun f => LHD.elem f) = true := by decide
  exact ⟨e + e', z + z', s + s', ⟨b1, fun K => b2 (a2 K)⟩, a3.tr b3, (a4.tr b4).le (by omega) (by omega), a5.trans (b5.mono (fun f q => by simpa using List.all_eq_true.mp l1 f q) (fun _ q => q)), b6, by omega, a8.mv a6 W a1.1.1.2.1 b5 (by unfold DJ; decide +kernel), a9, a10⟩
theorem DMX.swr (A : DMX ρ Γ h C ho X Y S g N M hw S2 H X2) (W : HWF g N M) (B : SWR ρ Γ H C ho X2 Y S2 g N M hw S3 H1) (o3 : OFF LSV4 S2 S3) : DMX ρ Γ h C ho X Y S g N M hw S3 H1 X2 := by
  obtain ⟨e, z, s, ⟨a1, a2⟩, a3, a4, a5, a6, a7, a8, a9, a10⟩ := A
  obtain ⟨e', z', s', ⟨b1, b2⟩, b3, b4, b5, b6, b7⟩ := B
  exact ⟨e + e', z + z', s + s', ⟨b1, fun K => b2 (a2 K)⟩, a3.tr b3, (a4.tr b4).le (by omega) (by omega), a5.trans (b5.mono (fun f q => by unfold LHD; exact List.mem_append_left _ q) (fun _ q => q)), b6, by omega, a8.mv a6 W a1.1.1.2.1 b5 (by unfold DJ; decide +kernel), a9, a10.tr o3⟩
theorem PFX.dmx (P : PFX Γ h C ho X Y S N t o n c r s a κ mn m0 rr) (A : DMX ρ Γ h C ho X Y S g N M hw S2 H X2) : PFX Γ H C ho X2 Y S2 N t o n c r s a κ mn m0 rr ∧ psS S2 t (c - 1) = psS S t (c - 1) := by
  obtain ⟨el, z, s', ⟨a1, a2⟩, a3, a4, a5, a6, a7, a8, a9, a10⟩ := A
  obtain ⟨p1, p2, p3, p4, p5, p6, p7, ⟨p8, p9, p10, p11⟩⟩ := P
  have e0 := a10.ex (L' := LTK ++ [f_Md_t, f_Md_p0, f_Md_f0, f_Md_top, f_Md_after, f_Md_codeSize]) (by decide)
  have ef : fsS S2 t (c - 1) = fsS S t (c - 1) := by unfold fsS; rw [e0 _ (by decide)]
  have ep : psS S2 t (c - 1) = psS S t (c - 1) := by unfold psS; rw [e0 _ (by decide)]
  have nx2 : NXT Γ S2 (fsS S2 t (c - 1)) (psS S2 t (c - 1)) 0 (esK κ mn) 0 0 := by
    rw [ef, ep]; unfold NXT at p4 ⊢; rw [e0 _ (by decide)]; exact p4
  have p2' := p2.mv a1 (a2 p2.2.2.1) e0
  have ee : ∀ f, LSV4.elem f = false → ∀ i, S2 f i = S f i := fun f hf i => a10 f i hf
  refine ⟨⟨a1, p2', ?_, nx2, p5, ?_, ?_, ⟨by rw [a5.K p9]; exact p8, a5.lt p9, by rw [a5.I p9 (by decide) (nokW (by decide) rfl)]; exact p10, by rw [a5.I p9 (by decide) (nokW (by decide) rfl)]; exact p11⟩⟩, ep⟩
  · rw [ep]
    exact GFR.ex p3 (a10.ex (by decide))
  · rw [ee _ (by decide), ee _ (by decide), ee _ (by decide)]; exact p6
  · rw [ee _ (by decide), ee _ (by decide), ee _ (by decide), ee _ (by decide)]; exact p7
theorem RLD.mk (A : DMX ρ Γ h C ho X Y S g N M hw S2 H X2) (W : HWF g N M) (R : RLC Γ H C ho X2 Y S2 N e S' h' X' Y') : RLD ρ Γ h C ho X Y S g N M hw e S' h' X' Y' := by
  obtain ⟨el, z, s, ⟨a1, -⟩, a3, a4, a5, a6, a7, a8, a9, a10⟩ := A
  obtain ⟨Γ', z', s', b1, b2, b3, b4, b5, b6, b7, b8⟩ := R
  obtain ⟨u1, u2⟩ := a6.mv (C := C) a1.1.1.2.1 b2 b6 (by unfold DJ; decide +kernel) (by unfold DJ; decide +kernel) (fun f hf i => b3 f i (by
    have : f = f_Md_staticType ∨ f = f_Md_staticValue := by simpa using hf
    rcases this with rfl | rfl <;> decide))
  have o2 : OFF (LSc ++ [f_Md_staticType, f_Md_staticValue]) S S2 := a10.le (by decide)
  refine ⟨Γ', el, z + z', s + s', b1, a3.tr b2, fun f i hf => (b3 f i ?_).trans (o2 f i hf), fun o f i hf => (b4 o f i hf).trans (a9 o f i hf), b5, a5.trans (b6.mono (fun f q => by unfold LHD LHO; exact List.mem_append_left _ (List.mem_append_left _ q)) (fun q hq => hq)), (a4.tr b7).le (by omega) (by omega), b8, u1, by omega, a8.mv a6 W a1.1.1.2.1 b6 (by unfold DJ; decide +kernel)⟩
  cases w : LSc.elem f with
  | false => rfl
  | true =>
    have : (LSc ++ [f_Md_staticType, f_Md_staticValue]).elem f = true := by
      simp only [List.elem_eq_mem, decide_eq_true_eq, List.mem_append] at w ⊢
      exact Or.inl w
    rw [this] at hf; cases hf
end
