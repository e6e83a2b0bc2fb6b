set_option maxRecDepth 20000
section
variable {ρ : Nat → Nat} {d : Nat} {Q : QT} {Γ Γ' Γ1 Γ2 : GH} {h h' h1 h2 : ah} {C ho N M z s t o n c r a mn m0 rr : Nat} {g : HG} {S S' S1 S2 : SS} {X X' X1 X2 : X3} {Y Y' Y1 Y2 : Y3} {ws hw : List (List Int)} {L : List Int} {e : Option Int} {κ ty v el nm : Int}
theorem STG.rld (H : EXT ρ Γ h C ho X Y S g N M hw ws) (HC : CORE Γ h C ho X Y S N) (R : RLD ρ Γ h C ho X Y S g N M hw e S' h' X' Y') : (∃ Γ', STG ρ Γ h C ho X Y S g N M hw ws Γ' h' X' Y' S' ws 1 8) ∧ ER e X' S' := by
  obtain ⟨Γ', el, z, s, c1, E1, g1, o1, x1, y1, fr, bd, er, ly⟩ := EXT.rld H HC R
  have wn := wn_fr HC.1.1 fr (nokW (by decide +kernel) rfl) (nokW (by decide +kernel) rfl) H.2.1.1.kk.1 H.2.1.1.kk.2
  refine ⟨⟨Γ', c1, E1, g1, o1.le (by decide +kernel), fun o f i hf => x1 o f i ?_, fun o f i hf => y1 o f i ?_, ⟨z, s, fr.mono (fun f hf => ?_) (fun q hq => by cases hq)⟩, ?_⟩, er⟩
  · cases q : LXc.elem f with
    | false => rfl
    | true =>
      have : LXc.all (fun f => LXs.elem f) = true := by decide +kernel
      rw [List.all_eq_true.mp this f (by simpa using q)] at hf; cases hf
  · cases q : LYc.elem f with
    | false => rfl
    | true =>
      have : LYc.all (fun f => LYs.elem f) = true := by decide +kernel
      rw [List.all_eq_true.mp this f (by simpa using q)] at hf; cases hf
  · have : LHD.all (fun f => LHs.elem f) = true := by decide +kernel
    simpa using List.all_eq_true.mp this f hf
  · obtain ⟨b1, b2, b3, -⟩ := bd
    obtain ⟨w1, w2⟩ := wn
    unfold BNA
    rw [w1, w2, ly]
    exact ⟨by omega, by omega, by omega⟩
/-- what was found is done -/
theorem iv_acts (P : PFX Γ h C ho X Y S N t o n c r s a κ mn m0 rr) (E : EXT ρ Γ h C ho X Y S g N M hw ws) (O : HSF g N M) (F : FND g h C ho X Y S M κ nm L mn ty v el rr) (hty : 3 ≤ ty ∧ ty ≤ 8) (gt : S f_Md_pileType rr = ty) (gv : S f_Md_pileValue rr = v) (hb : bsS S t (c - 1) ≤ m0) (hc : S f_Md_changes 0 + 1 ≤ 1000000) (en : S f_Md_siteName s = nm) (ee : S f_Md_elementName 0 = el)
    (q : ∀ e Γ' S' h' X' Y', TIV ρ g N M s 308 [] S (eT e) S' → STG ρ Γ h C ho X Y S g N M hw ws Γ' h' X' Y' S' ws 1 8 → ER e X' S' → Q (oE e (C + 33)) (cc h' C X' Y')) : wpB PGm ρ (d + 41) m_Machine_invoke 97 [(0, vR (C + 32)), (1, vR a), (2, vI (m0 : Int))] [] (cc h C X Y) Q := by
  have HC := P.1
  refine b_Machine_invoke_97 (d := d + 40) ⟨HC.1.2.1.1, ?_⟩
  have E0 := E.1
  refine j_perf (d := d) P E.2.1.1 E0.1.1 E0.1.2 E0.2.1 E0.2.2.1 O (INL.of HC E0.2.2.2.1.1 E0.2.2.2.1.2) E0.2.2.2.1.2 E0.2.2.2.2.2.2.1 F hty gt gv hb hc en ee (fun e S' h' X' Y' T R => ?_)
  obtain ⟨⟨Γ', A⟩, er⟩ := STG.rld E HC R
  have := q e Γ' S' h' X' Y' (TIV.acts (by cases e with | none => exact Or.inr rfl | some v => exact Or.inl rfl) T) A er
  exact oE_pK (fun v _ => kSg A.1.1.2) this
end
