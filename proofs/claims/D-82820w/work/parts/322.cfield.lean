/-! C: a field's value is read -/
set_option maxRecDepth 20000
/-- the host as the machine uses it -/
def HUS (ρ : Nat → Nat) (Γ : GH) (h : ah) (ho : Nat) (S : SS) (g : HG) (N M : Nat) (hw : List (List Int)) : Prop := HCX ρ h ho g N M hw ∧ HSV Γ h ho S g N ∧ LYM h ho g N ∧ (HGW g N ∧ HMW g N M) ∧ ∀ c, c < N → (layG g c).length ≤ 400 ∧ ∀ j, j < (layG g c).length → (layG g c).getD j 0 < M
/-- a layout may have become known -/
def LYR (ρ : Nat → Nat) (Γ : GH) (h : ah) (C ho : Nat) (X : X3) (Y : Y3) (S : SS) (g : HG) (N M : Nat) (hw : List (List Int)) (H : ah) : Prop := ∃ e z s : Nat, (CORE Γ H C ho X Y S N ∧ ∀ {t o n c r' : Nat}, CT Γ h C X Y S N t o n c r' → CT Γ H C X Y S N t o n c r') ∧ GRO Γ Γ h H C S S ∧ BND h C S H S (e : Int) ((400 * e : Nat) : Int) ∧ Fr LLC [] z s h H ∧ HUS ρ Γ H ho S g N M hw ∧ lyc H ho N = lyc h ho N + e
section
variable {ρ : Nat → Nat} {d : Nat} {Q : QT} {Γ Γ' : GH} {h h' h1 h2 H : ah} {C ho k i j N M a z s r f o c t n mn m m0 rr l0 : Nat} {g : HG} {v w hd ty κ x y : Int} {S S' S1 : SS} {X X' X1 X2 : X3} {Y Y' Y1 Y2 : Y3} {hw : List (List Int)} {ls : List Nat} {F : Int → ah → Prop} {E : Nat → ah → Prop}
theorem HSV.mv (V : HSV Γ h ho S g N) (H0 : HCX ρ h ho g N M hw) (ij : INJ h) (g1 : GRO Γ Γ' h h' C S S') (fr : Fr LLC [] z s h h') (e : EXS [f_Md_staticType, f_Md_staticValue] S S') : HSV Γ' h' ho S' g N := fun c hc => by
  have hh := H0.hh
  obtain ⟨⟨y1, y1', y0⟩, -⟩ := H0.tp hc
  obtain ⟨⟨a1, a2, a3⟩, ⟨b1, b2, b3⟩, v1⟩ := V c hc
  have nw : ∀ f, LLC.elem f = false → ∀ x, ¬ okW LLC [] f x := fun f hf x => by
    rintro (c | c)
    · have : LLC.elem f = true := by simpa using c
      rw [this] at hf; cases hf
    · cases c
  have s2 := fr.ar ij (f := f_Host_types) (x := ho) (y := ho + 2) (by unfold own; decide) hh.2.1 hh.2.2.1 (by omega) (fun c => c.elim (nw _ (by decide) _) (nw _ (by decide) _)) (by simp)
  have rW := fr.R y1' (f := f_HostType_words) (by decide) (nw _ (by decide) _)
  have rT := fr.R y1' (f := f_HostType_tags) (by decide) (nw _ (by decide) _)
  have sW := fr.ar ij (f := f_HostType_words) (by unfold own; decide) y1' rfl a1 (fun c => c.elim (nw _ (by decide) _) (nw _ (by decide) _)) (by simp)
  have sT := fr.ar ij (f := f_HostType_tags) (by unfold own; decide) y1' rfl b1 (fun c => c.elim (nw _ (by decide) _) (nw _ (by decide) _)) (by simp)
  have zW := ij.1 _ _ y1' (show own f_HostType_words by unfold own; decide)
  have zT := ij.1 _ _ y1' (show own f_HostType_tags by unfold own; decide)
  rw [s2.2.2, rW, rT, fr.K zW, fr.K zT, sW.1, sT.1]
  refine ⟨⟨a1, a2, a3⟩, ⟨b1, b2, b3⟩, fun j hj => ?_⟩
  rw [sW.2.1, sT.2.1, e _ (by decide), e _ (by decide)]
  exact g1.vr (v1 j hj)
theorem r_plc (HC : CORE Γ h C ho X Y S N) (U : HUS ρ Γ h ho S g N M hw) (hc : c < N) (hm : m < M) (P : PLC g c m i) (q : ∀ H, LYR ρ Γ h C ho X Y S g N M hw H → F (i : Int) (cc H C X Y)) : wpB PGm ρ (d + 12) m_HostType_place 0 [(0, vR (hB h (ho + 2) c)), (1, vR (hB h (ho + 3) m))] [] (cc h C X Y) (cI F E) := by
  have G := HC.1.1
  have F0 := HC.1.2
  obtain ⟨H0, V, LM, ⟨W, W2⟩, l4⟩ := U
  have hh := H0.hh
  obtain ⟨b2, b3⟩ := H0.ccB (X := X) (Y := Y) G
  have HX := H0.ccx (X := X) (Y := Y) G
  have LX := LM.ccx (X := X) (Y := Y) H0 G
  have ijc : INJ (cc h C X Y) := cc_INJ G.2.1
  rw [← b2, ← b3]
  refine c_place W W2 HX LX ijc hc (l4 c hc).2 hm P (fun h' a J ea A => ?_)
  have LM' : LYM h' ho g N := J.lym HX LX ijc hc (by rw [ea]; exact A)
  have e2 : ∀ j, hB h' (ho + 2) j = hB h (ho + 2) j := fun j => by
    rw [(J.old _ hh.2.2.2.2.2.1.2.2).2.2.2.2.2.1, b2]
  have rl : ∀ x, hR (cc h C X Y) f_HostType_layout x = hR h f_HostType_layout x := fun x => ccRo (by decide)
  have fin : ∀ (e z s : Nat), AC h' C → cc h' C X Y = h' → Fr LLC [] z s h h' → (z : Int) ≤ e → (s : Int) ≤ ((400 * e : Nat) : Int) → lyc h' ho N = lyc h ho N + e → F (i : Int) h' := fun e z s G2 E2 R z1 s1 ly => by
    obtain ⟨M1, g1, bd⟩ := HC.lay R
    have HX' : HCX ρ h' ho g N M hw := H0.fr R (by unfold DJ; decide) (fun y c => by simp at c)
    have r := q h' ⟨e, z, s, M1, g1, bd.le z1 s1, R, ⟨HX', V.mv H0 G.2.1 g1 R EXS.rf, LM', ⟨W, W2⟩, l4⟩, ly⟩
    rw [E2] at r
    exact r
  rcases J with rfl | ⟨w0, H, AA, eh⟩
  · have fr0 : Fr ([] : List Nat) [] 0 0 (cc h C X Y) (cc h C X Y) := Fr.r0
    obtain ⟨G2, F2, E2, R2⟩ := mat G F0 fr0 (by unfold DJ; decide)
    refine fin 0 0 0 G2 E2 (R2.mono (fun f hf => by unfold LLC; simp only [List.append_nil] at hf; exact List.mem_append_left _ hf) (fun _ q => q)) (by omega) (by omega) (lyc_e (fun j _ => by rw [b2, rl]))
  · have J2 : LYJ (cc h C X Y) ho g c h' := Or.inr ⟨w0, H, AA, eh⟩
    obtain ⟨G2, F2, E2, R2⟩ := mat G F0 J2.fr (by unfold DJ; decide)
    have w : hR h f_HostType_layout (hB h (ho + 2) c) = 0 := by rw [rl, b2] at w0; exact w0
    · have ne0 : hR h' f_HostType_layout (hB h' (ho + 2) c) ≠ 0 := by
        rw [e2, ← b2, ea]; exact A.1.2.1
      have l4c := (l4 c hc).1
      refine fin 1 _ _ G2 E2 R2 (by omega) (by omega) (lyc_1 hc (fun j hj hne => ?_) w ne0)
      obtain ⟨⟨-, y1', -⟩, -⟩ := H0.tp hj
      have ne : hB h (ho + 2) j ≠ hB (cc h C X Y) (ho + 2) c := fun e => by
        rw [b2] at e
        exact hne (H0.tad j c hj hc e)
      rw [e2, (J2.old _ y1').2.2.2.2.2.2 _ ne, rl]
end
