set_option maxRecDepth 20000
section
variable {ρ : Nat → Nat} {d : Nat} {Q : QT} {Γ Γ' Γ1 Γ2 : GH} {h h' h1 h2 : ah} {C ho N M z s t o n c r a mn m0 rr i b E f k p : Nat} {g : HG} {S S' S1 S2 : SS} {X X' X1 X2 : X3} {Y Y' Y1 Y2 : Y3} {ws ws' hw : List (List Int)} {L : List Int} {κ ty v el nm w0 x x' bb : Int} {l : List Int}
/-- how many values C takes for a site -/
theorem r_opnd (ka : hK h a = k_Site) (ek : hI h f_Site_kind a = κ) (eo : hI h f_Site_operands a = (mn : Int)) (hκ : 0 ≤ κ ∧ κ ≤ 6) (m8 : mn ≤ 8) (q : Q (Sum.inl (some (vI ((esK κ mn + 1 : Nat) : Int)))) (cc h C X Y)) : wpB PGm ρ d m_Machine_operandsOf 0 [(0, vR a)] [] (cc h C X Y) Q := by
  have i1 : hI (cc h C X Y) f_Site_kind a = κ := (ccIo (by decide)).trans ek
  have i2 : hI (cc h C X Y) f_Site_operands a = (mn : Int) := (ccIo (by decide)).trans eo
  refine b_Machine_operandsOf_0 ⟨ka, ?_⟩
  rw [i1, i2]
  unfold esK at q
  refine ⟨fun k0 => ⟨fun k1 => ?_, fun k1 => ⟨fun k2 => ⟨fun k3 => ?_, fun k3 => ?_⟩, fun k2 => ?_⟩⟩, fun k0 => ?_⟩
  · rw [if_neg k0, if_neg (by omega), if_pos (by omega)] at q; exact q
  · rw [if_neg k0, if_neg k3, if_neg (by omega)] at q
    rw [w32_of (by omega) (by omega)]
    exact q
  · rw [if_neg k0, if_pos k3] at q; exact q
  · rw [if_neg k0, if_neg (by omega), if_pos (by omega)] at q; exact q
  · rw [if_pos k0] at q; exact q
theorem PFX.of (HC : CORE Γ h C ho X Y S N) (H : OPH Γ h C X Y S N t o n c r) (D : DF S t n c f p k 27 (s : Int) bb) (nx : NXT Γ S (fsS S t (c - 1)) (psS S t (c - 1)) 0 (esK κ mn) 0 0) (hm : m0 + 1 + esK κ mn = n) (s4 : s < 4000) (sk : S f_Md_siteKind s = κ) (sm : S f_Md_siteMany s = (mn : Int)) (hκ : 0 ≤ κ ∧ κ ≤ 6) (m8 : mn ≤ 8) (M1 : CORE Γ h1 C ho X1 Y1 S1 N) (K1 : CT Γ h1 C X1 Y1 S1 N t o n c r) (yt : Y1 32 f_Machine_t 0 = Y 32 f_Machine_t 0) (e : EXS (LTK ++ [f_Md_t, f_Md_p0, f_Md_f0, f_Md_top, f_Md_after, f_Md_codeSize, f_Md_siteKind, f_Md_siteMany]) S S1) (er : S1 f_Md_r 0 = ((2100 * t + m0 : Nat) : Int)) (ees : S1 f_Md_es 0 = (esK κ mn : Int)) (eg1 : S1 f_Md_goesType 0 = S f_Md_pileType (2100 * t + m0)) (eg2 : S1 f_Md_goesValue 0 = S f_Md_pileValue (2100 * t + m0)) (si : hK h1 a = k_Site ∧ a < hz h1 ∧ hI h1 f_Site_kind a = κ ∧ hI h1 f_Site_operands a = (mn : Int)) : PFX Γ h1 C ho X1 Y1 S1 N t o n c r s a κ mn m0 (2100 * t + m0) := by
  have e1 := fun {K : List Nat} (q : K.all (fun f => (LTK ++ [f_Md_t, f_Md_p0, f_Md_f0, f_Md_top, f_Md_after, f_Md_codeSize, f_Md_siteKind, f_Md_siteMany]).elem f) = true) => e.le (L' := K) q
  have ef : fsS S1 t (c - 1) = fsS S t (c - 1) := by unfold fsS; rw [e _ (by decide)]
  have ep : psS S1 t (c - 1) = psS S t (c - 1) := by unfold psS; rw [e _ (by decide)]
  have O1 := M1.oph2 K1 H (e1 (by decide)) yt
  obtain ⟨F, ⟨d1, d2, d3, d4, d5, d6⟩, -⟩ := D
  obtain ⟨t1, t2, t3, t4, t5⟩ := O1.2.2.2.2.2.2
  have F1 : TF S1 t n c := by
    unfold TF at F ⊢
    rw [e _ (by decide), e _ (by decide), e _ (by decide), e _ (by decide), e _ (by decide)]
    exact F
  refine ⟨M1, O1, ⟨F1, d1, er, rfl, by omega, d2, t4, t5, d3, d4⟩, ?_, hm, ⟨s4, by rw [e _ (by decide)]; exact sk, by rw [e _ (by decide)]; exact sm, ees, hκ, m8⟩, ⟨by rw [eg1, e _ (by decide)], by rw [eg2, e _ (by decide)]⟩, si⟩
  rw [ef, ep]
  unfold NXT at nx ⊢
  rw [e _ (by decide)]
  exact nx
end
