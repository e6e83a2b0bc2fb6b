set_option maxRecDepth 20000
section
variable {ρ : Nat → Nat} {d : Nat} {Q : QT} {Γ Γ' Γ1 Γ2 : GH} {h h' h1 h2 : ah} {C ho N M z s t o n c r a mn m0 rr i b : Nat} {g : HG} {S S' S1 S2 : SS} {X X' X1 X2 : X3} {Y Y' Y1 Y2 : Y3} {ws hw : List (List Int)} {L : List Int} {κ ty v el nm w0 x x' : Int} {e : ENT}
/-- an entry was hit: what it says is done -/
theorem iv_told (K : SWK ρ Γ h C ho X Y S g N M hw ws t o n c r s a κ mn m0 rr ty v el nm L) (O : HSF g N M) (b0 : hK h b = k_Entry) (EN : ENO g h C ho S N M κ nm mn b e) (EV : ENV g S κ nm L mn e) (ST : STE S κ e 0) (GD : GDE S κ ty v el rr e)
    (q : ∀ S2 e' Γ' S' h' X' Y', TLK ρ g N M s 0 S (some none) S2 → OFF (LFO ++ LHK) S S2 → S2 f_Md_foundHolder 0 = e f_Md_holder → S2 f_Md_foundWhich 0 = e f_Md_which → S2 f_Md_foundShape 0 = e f_Md_toShape → S2 f_Md_foundLinker 0 = e f_Md_linker → TIV ρ g N M s 308 [] S2 (eT e') S' → STG ρ Γ h C ho X Y S g N M hw ws Γ' h' X' Y' S' ws 1 8 → ER e' X' S' → Q (oE e' (C + 33)) (cc h' C X' Y')) :
    wpB PGm ρ (d + 80) m_Entry_tellTo 0 [(0, vR b), (1, vR (C + 53))] [] (cc h C X Y) (cV (fun h70 => wpB PGm ρ (d + 81) m_Machine_invoke 97 [(0, vR (C + 32)), (1, vR a), (2, vI (m0 : Int))] [] h70 Q) (fun e73 h72 => hK h72 e73 ≠ 0 ∧ Q (Sum.inr e73) h72)) := by
  have Z := K.swh
  obtain ⟨P, E, ea0, hs, A, ⟨en, ee, hel, eL⟩, ⟨gt, gv, hty⟩, hb, hc⟩ := K
  have HC := P.1
  have W := O.1
  obtain ⟨s4, sk, sm, ses, hκ, m8⟩ := P.2.2.2.2.2.1
  obtain ⟨S2, TL, o2, f1, f2, f3, f4⟩ := hit_tlk (ρ := ρ) HC W Z hty EV ST GD EN.2.2.1.1.1
  have l3 : 3 ≤ ty := by
    rcases GD with ⟨g1, -⟩ | ⟨-, g2, -⟩
    · omega
    · have := EN.2.2.1.1.1
      rw [g2] at this
      unfold gdL at this
      repeat' split at this
      all_goals omega
  refine r_tell (d := d + 80) HC.1.2.1.2.2.2.2.2.2.1 b0 ?_
  have a1 : OFX LX0 X (tlX h X b) := by unfold tlX; exact (OFX.rf.u (by decide)).u (by decide)
  have a2 : OFX LY0 Y (tlY h Y b) := by unfold tlY; exact ((OFX.rf.u (by decide)).u (by decide)).u (by decide)
  obtain ⟨SG, cm⟩ := STG.scr E HC W a1 a2 (o2.le (by decide +kernel)) (by unfold tlX; rw [u3_f (by decide), u3_f (by decide)]; exact E.1.2.2.2.2.2.2.2.1)
  have es := fun {K : List Nat} (q : K.all (fun f => !((LFO ++ LHK).elem f)) = true) => o2.ex (L' := K) q
  have w1 := es (K := [f_Md_siteKind, f_Md_siteMany, f_Md_siteName, f_Md_elementName, f_Md_pileType, f_Md_pileValue, f_Md_changes, f_Md_frameBase]) (by decide +kernel)
  have P2 := P.mvg SG.1 (cm P.2.1.2.2.1) (es (by decide +kernel)) (a2 _ _ _ (by decide)) ⟨P.2.2.2.2.2.2.2.1, P.2.2.2.2.2.2.2.2.1, rfl, rfl⟩
  have FD : FDO g h C ho (tlX h X b) (tlY h Y b) S2 M κ mn e := by
    obtain ⟨y1, y2, y3, y4⟩ := EN.fdo (X := X) (Y := Y)
    refine ⟨y1, y2, fun z => ?_, y4⟩
    obtain ⟨z1, z2, z3, z4, z5⟩ := y3 z
    refine ⟨z1, z2, ?_, z4, by rw [es (K := [f_Md_shapes]) (by decide +kernel) _ (by decide)]; exact z5⟩
    unfold PVL at z3 ⊢
    rw [es (K := [f_Md_things]) (by decide +kernel) _ (by decide), es (K := [f_Md_thingKind]) (by decide +kernel) _ (by decide)]
    exact z3
  have FN : FND g h C ho (tlX h X b) (tlY h Y b) S2 M κ nm L mn ty v el rr := ⟨e, EV.chg HC.bef (CHG.ex (es (by decide +kernel))), FD, ⟨f4, f2, f1, f3⟩, STE.e (es (by decide +kernel)) ST, (GDE.e (es (by decide +kernel))).mpr GD⟩
  refine iv_acts (d := d + 40) P2 SG.2.1 O FN ⟨l3, hty.2⟩ (by rw [w1 _ (by decide)]; exact gt) (by rw [w1 _ (by decide)]; exact gv) ?_ (by rw [w1 _ (by decide)]; exact hc) (by rw [w1 _ (by decide)]; exact en) (by rw [w1 _ (by decide)]; exact ee) (fun e' Γ' S' h' X' Y' T ST' er => ?_)
  · unfold bsS at hb ⊢
    rw [w1 _ (by decide)]
    exact hb
  · exact q S2 e' Γ' S' h' X' Y' TL o2 f1 f2 f3 f4 T ((SG.tr ST').le (by omega) (by omega)) er
/-- a site at work, from the hit on -/
theorem iv_mid (K : SWK ρ Γ h C ho X Y S g N M hw ws t o n c r s a κ mn m0 rr ty v el nm L) (O : HSF g N M)
    (q : ∀ e Γ' S' h' X' Y', TIV ρ g N M s 138 [(2, vI κ), (4, vI (-1)), (5, vI 0)] S (eT e) S' → STG ρ Γ h C ho X Y S g N M hw ws Γ' h' X' Y' S' ws 3 31 → ER e X' S' → Q (oE e (C + 33)) (cc h' C X' Y')) :
    hK (cc h C X Y) (C + 32) = k_Machine ∧ hK (cc h C X Y) a = k_Site ∧ wpB PGm ρ (d + 80) m_Site_hit 0 [(0, vR a), (1, vR (hR (cc h C X Y) f_Machine_found (C + 32))), (2, vR (hR (cc h C X Y) f_Machine_spare (C + 32)))] [] (cc h C X Y) (cR (fun x27 h22 => ((x27 = 0 → hK h22 (C + 32) = k_Machine ∧ hK h22 (hR h22 f_Machine_found (C + 32)) = k_Found ∧ ((0 ≤ (hI h22 f_Found_linker (hR h22 f_Machine_found (C + 32))) → hK h22 (hR h22 f_Machine_lookup (C + 32)) = k_Lookup ∧ wpB PGm ρ (d + 80) m_Lookup_look 0 [(0, vR (hR h22 f_Machine_lookup (C + 32))), (1, vR a), (2, vR (hR h22 f_Machine_found (C + 32)))] [] h22 (cV (fun h42 => hK h42 (C + 32) = k_Machine ∧ hK h42 (hR h42 f_Machine_heap (C + 32)) = k_Heap ∧ hK h42 a = k_Site ∧ wpB PGm ρ (d + 80) m_Site_link 0 [(0, vR a), (1, vR (hR h42 f_Machine_found (C + 32))), (2, vI (hI h42 f_Heap_ticks (hR h42 f_Machine_heap (C + 32)))), (3, vR (hR h42 f_Machine_spare (C + 32)))] [] h42 (cV (fun h53 => wpB PGm ρ (d + 81) m_Machine_invoke 97 [(0, vR (C + 32)), (1, vR a), (2, vI (m0 : Int))] [] h53 Q) (fun e56 h55 => hK h55 e56 ≠ 0 ∧ Q (Sum.inr e56) h55))) (fun e45 h44 => hK h44 e45 ≠ 0 ∧ Q (Sum.inr e45) h44))) ∧ ((hI h22 f_Found_linker (hR h22 f_Machine_found (C + 32))) < 0 → hK h22 (hR h22 f_Machine_signal (C + 32)) = k_Signal ∧ wpB PGm ρ (d + 80) m_Signal_of 0 [(0, vR (hR h22 f_Machine_signal (C + 32))), (1, vI 3)] [] h22 (cR (fun x65 h60 => hK h60 x65 ≠ 0 ∧ Q (Sum.inr x65) h60) (fun e63 h62 => hK h62 e63 ≠ 0 ∧ Q (Sum.inr e63) h62))))) ∧ (¬ x27 = 0 → hK h22 (C + 32) = k_Machine ∧ hK h22 x27 = k_Entry ∧ wpB PGm ρ (d + 80) m_Entry_tellTo 0 [(0, vR x27), (1, vR (hR h22 f_Machine_found (C + 32)))] [] h22 (cV (fun h70 => wpB PGm ρ (d + 81) m_Machine_invoke 97 [(0, vR (C + 32)), (1, vR a), (2, vI (m0 : Int))] [] h70 Q) (fun e73 h72 => hK h72 e73 ≠ 0 ∧ Q (Sum.inr e73) h72))))) (fun e25 h24 => hK h24 e25 ≠ 0 ∧ Q (Sum.inr e25) h24)) := by
  have HC := K.1.1
  have fld : ∀ {h1 : ah} {Y1 : Y3}, FC h1 C → hR (cc h1 C X Y1) f_Machine_found (C + 32) = C + 53 ∧ hR (cc h1 C X Y1) f_Machine_spare (C + 32) = C + 55 ∧ hR (cc h1 C X Y1) f_Machine_lookup (C + 32) = C + 98 ∧ hR (cc h1 C X Y1) f_Machine_signal (C + 32) = C + 33 := fun {h1 Y1} F => ⟨by rw [ccRo (by decide)]; exact F.2.1.2.2.2.2.2.1, by rw [ccRo (by decide)]; exact F.2.1.2.2.2.2.2.2.1, by rw [ccRo (by decide)]; exact F.2.1.2.2.2.2.2.2.2.2.2.2.2.1, by rw [ccRo (by decide)]; exact F.2.1.1⟩
  refine ⟨HC.1.2.1.1, K.1.2.2.2.2.2.2.2.1, ?_⟩
  rw [(fld HC.1.2).1, (fld HC.1.2).2.1]
  refine iv_hit (d := d + 78) K O (fun Γ1 h1 Y1 S1 T K1 ST => ?_) (fun Γ1 h1 Y1 S1 a1 e1 n0 k0 K1 ST EN EV SE GD T => ?_)
  · have M1 := K1.1.1
    have F1 := M1.1.2
    obtain ⟨r1, r2, r3, r4⟩ := fld (Y1 := Y1) F1
    refine ⟨fun _ => ⟨F1.1.1, ?_⟩, fun c => absurd rfl c⟩
    rw [r1, r3, r4]
    have il : hI (cc h1 C X Y1) f_Found_linker (C + 53) = X 53 f_Found_linker 0 := ccI (by decide)
    rw [il]
    have R := iv_miss (d := d) K1 O (fun e Γ' S' h' X' Y' T' ST' er => q e Γ' S' h' X' Y' (T _ _ T') ((ST.tr ST').le (by omega) (by omega)) er)
    exact ⟨F1.1.2.2.2.2.2.2.1, fun c => ⟨F1.1.2.2.2.2.2.2.2.2, R.1 c⟩, fun c => ⟨F1.1.2.1, R.2 c⟩⟩
  · have M1 := K1.1.1
    have F1 := M1.1.2
    obtain ⟨r1, r2, r3, r4⟩ := fld (Y1 := Y1) F1
    refine ⟨fun c => absurd c n0, fun _ => ⟨F1.1.1, k0, ?_⟩⟩
    rw [r1]
    exact iv_told (d := d) K1 O k0 EN EV SE GD (fun S2 e' Γ' S' h' X' Y' TL o2 f1 f2 f3 f4 T' ST' er => q e' Γ' S' h' X' Y' (T S2 _ _ TL o2 f1 f2 f3 f4 T') ((ST.tr ST').le (by omega) (by omega)) er)
end
