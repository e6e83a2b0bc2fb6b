set_option maxRecDepth 20000
section
variable {ρ : Nat → Nat} {d : Nat} {Q : QT} {Γ Γ' Γ1 Γ2 : GH} {h h' h1 h2 : ah} {C ho N M z s t o n c r a mn m0 rr i : Nat} {g : HG} {S S' S1 S2 : SS} {X X' X1 X2 : X3} {Y Y' Y1 Y2 : Y3} {ws hw : List (List Int)} {L : List Int} {κ ty v el nm w0 x x' : Int} {e : ENT}
/-- what is known of a site as it is at work -/
def SWK (ρ : Nat → Nat) (Γ : GH) (h : ah) (C ho : Nat) (X : X3) (Y : Y3) (S : SS) (g : HG) (N M : Nat) (hw ws : List (List Int)) (t o n c r s a : Nat) (κ : Int) (mn m0 rr : Nat) (ty v el nm : Int) (L : List Int) : Prop := PFX Γ h C ho X Y S N t o n c r s a κ mn m0 rr ∧ EXT ρ Γ h C ho X Y S g N M hw ws ∧ hB h (C + 57) s = a ∧ (s : Int) < S f_Md_sites 0 ∧ FDA h C ho X Y S κ ty v el nm rr mn ∧ (S f_Md_siteName s = nm ∧ S f_Md_elementName 0 = el ∧ (¬ (κ = 2 ∨ κ = 3) → el = -1) ∧ L = LTW ws κ nm) ∧ (S f_Md_pileType rr = ty ∧ S f_Md_pileValue rr = v ∧ (0 ≤ ty ∧ ty ≤ 8)) ∧ bsS S t (c - 1) ≤ m0 ∧ S f_Md_changes 0 + 1 ≤ 1000000
theorem SWK.swh (K : SWK ρ Γ h C ho X Y S g N M hw ws t o n c r s a κ mn m0 rr ty v el nm L) : SWH h C ho X Y S N M g ws κ ty v el nm rr mn s a L := by
  obtain ⟨P, E, ea0, hs, A, ⟨en, ee, hel, eL⟩, ⟨gt, gv, hty⟩, hb, hc⟩ := K
  have HC := P.1
  obtain ⟨s4, sk, sm, ses, hκ, m8⟩ := P.2.2.2.2.2.1
  obtain ⟨ge1, ge2⟩ := P.2.2.2.2.2.2.1
  have SA := SIE.at E.2.2.1 hs
  rw [ea0] at SA
  obtain ⟨⟨ka, az, an0⟩, ⟨ak, anm, aop⟩, -, -, -, l4⟩ := SA
  have V := P.pl (i := 0) (Nat.zero_le _)
  rw [Nat.add_zero, Nat.add_zero, gt, gv] at V
  obtain ⟨v1, v2, v3, v4⟩ := vl_rng HC V.2.2
  refine ⟨A, hκ, ⟨s4, sk, sm, en, m8⟩, ⟨by omega, by omega, ee⟩, ⟨ka, az, by omega, by omega, by omega⟩, E.1.2.2.2.2.2.2.2.1, fun z => ?_, fun z => ?_, fun z => ?_⟩
  · obtain ⟨q, q1, q2, q3, q4⟩ := E.2.1.2.nmt E.2.1.1 hs (by rw [sk]; exact z)
    refine ⟨q, by omega, q2, ?_, ?_, ?_⟩
    · rw [eL]; unfold LTW; rw [if_pos z]; rw [← en, q1, Int.toNat_natCast]
    · have e1 : L = ws.getD q [] := by rw [eL]; unfold LTW; rw [if_pos z]; rw [← en, q1, Int.toNat_natCast]
      rw [e1]; exact q3
    · have e1 : L = ws.getD q [] := by rw [eL]; unfold LTW; rw [if_pos z]; rw [← en, q1, Int.toNat_natCast]
      rw [e1]; exact q4
  · obtain ⟨u1, u2, u3, -⟩ := v1 z
    have := v4 (by omega)
    exact ⟨v.toNat, by omega, by omega, by omega, u3⟩
  · have m0' := E.2.1.2.1 s hs
    rw [sk, sm] at m0'
    have le : (if κ = 1 then 1 else mn) ≤ esK κ mn := by
      unfold esK
      repeat' split
      all_goals omega
    have vb : 0 ≤ v ∧ v < 8000 := by
      obtain ⟨-, -, O⟩ := V
      unfold VO at O
      have hN : N ≤ 60 := by
        have := E.1.1.1.1.hh
        obtain ⟨g', -, b1, b2, b3, b4, b5⟩ := E.1.1.1.1
        exact b5.2.2.2.1
      rcases z with z | z
      · have := v4 (by omega)
        omega
      · omega
    refine ⟨P.pvs le, vb, (gdG S ty v).toNat, by have := v3 z; omega, by have := v3 z; omega, fun z7 => ?_⟩
    obtain ⟨-, -, O⟩ := V
    unfold VO at O
    have O' : 0 ≤ v ∧ v < S f_Md_things 0 ∧ S f_Md_thingKind v.toNat = 7 := by omega
    obtain ⟨c0, -, c2, -, c4⟩ := INL.of HC E.1.2.2.2.1.1 E.1.2.2.2.1.2 v.toNat (by omega) O'.2.2
    unfold gdG
    rw [if_pos z7, c2, Int.toNat_natCast]
    exact c4
end
