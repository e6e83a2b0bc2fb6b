set_option maxRecDepth 20000
section
variable {ρ : Nat → Nat} {d : Nat} {Q : QT} {Γ Γ' Γ1 Γ2 : GH} {h h' h1 h2 : ah} {C ho N M z s t o n c r a mn m0 rr i : Nat} {g : HG} {S S' S1 S2 : SS} {X X' X1 X2 : X3} {Y Y' Y1 Y2 : Y3} {ws hw : List (List Int)} {L : List Int} {κ ty v el nm w0 : Int} {e : ENT}
def LSF2 : List Nat := LNF ++ LSJ ++ [f_Site_megamorphic]
/-- only sites change -/
theorem STG.sit (E : EXT ρ Γ h C ho X Y S g N M hw ws) (HC : CORE Γ h C ho X Y S N) (W : HWF g N M) (fr : Fr LSF2 [] z s h h2) (o2 : OFF (LRW ++ LSI) S S2) (y2 : ∀ o f i, f ≠ f_Spare_free → Y2 o f i = Y o f i) (SI : SIE g h2 C ho Y2 S2 N M) (EV : EVS g S2 ws) : STG ρ Γ h C ho X Y S g N M hw ws Γ h2 X Y2 S2 ws z s ∧ ∀ {t o n c r : Nat}, CT Γ h C X Y S N t o n c r → CT Γ h2 C X Y2 S2 N t o n c r := by
  have p0 : ∀ y, (0, y) ∉ ([] : List (Nat × Nat)) := fun y c => by cases c
  have es := fun {K : List Nat} (q : K.all (fun f => !((LRW ++ LSI).elem f)) = true) => o2.ex (L' := K) q
  obtain ⟨⟨c1, c2⟩, g1, bd⟩ := HC.fzz (L := LSF2) (Pp := []) (X' := X) (Y' := Y2) (S' := S2) fr (by unfold DJ; decide +kernel) p0 (es (by decide +kernel)) (Int.le_of_eq (es (K := [f_Md_names]) (by decide +kernel) _ (by decide) _).symm) EXX.rf (fun o f hf i => y2 o f i (by rintro rfl; exact absurd hf (by decide)))
  have bd := bd (es (by decide +kernel))
  obtain ⟨E0, ⟨NM, SN⟩, -, -, LK⟩ := E
  have G := HC.1.1
  have ij := G.2.1
  have HX := E0.1.1.1
  have HX2 : HCX ρ h2 ho g N M hw := HX.fr fr (by unfold DJ; decide +kernel) p0
  obtain ⟨U2, ly⟩ := E0.1.1.mvp ij g1 fr HX2 (by unfold DJ; decide +kernel) p0 (es (by decide +kernel))
  have M2 := E0.1.2.mvp E0.1.1 W ij fr (by unfold DJ; decide +kernel) p0
  have wn := wn_fr G fr (nokW (by decide +kernel) rfl) (nokW (by decide +kernel) rfl) NM.kk.1 NM.kk.2
  refine ⟨⟨c1, ⟨E0.mv U2 M2 fr p0 bd.2.2.2.1 ⟨by rw [y2 _ _ _ (by decide)]; exact E0.2.1.1, by rw [y2 _ _ _ (by decide)]; exact E0.2.1.2⟩ (fun i hi => ?_) EXX.rf E0.2.2.2.2.2.2.2.1 (es (K := [f_Md_wrong]) (by decide +kernel) _ (by decide) _), ⟨NM.fr fr (by unfold DJ; decide +kernel) p0 (es (by decide +kernel)), SN.ex (es (by decide +kernel))⟩, SI, EV, LK.mv HX ij fr (by unfold DJ; decide +kernel) p0 (es (by decide +kernel)) EXX.rf (fun b => y2 _ _ _ (by decide))⟩, g1, o2.le (by decide +kernel), OFX.rf, fun o f i hf => y2 o f i (by rintro rfl; exact absurd hf (by decide)), ⟨z, s, fr.mono (fun f hf => ?_) (fun q hq => by cases hq)⟩, BNA.of bd wn ly⟩, fun K => c2 K⟩
  · rw [es (K := [f_Md_asked]) (by decide +kernel) _ (by decide)]
    exact E0.2.2.2.2.2.1 i hi
  · have : LSF2.all (fun f => LHs.elem f) = true := by decide +kernel
    simpa using List.all_eq_true.mp this f hf
/-- the guard of an entry that was just made holds -/
theorem GDE.new (F : FDL X S κ mn ty v el e) (hty : 3 ≤ ty ∧ ty ≤ 8) (hm : mn ≤ 8) (gs : ¬ e f_Md_guardMany = 0 → ∀ i, i < opC κ mn → gtA (e f_Md_guardTypes) i = tyT S (S f_Md_pileType (rr + 1 + i)) (S f_Md_pileValue (rr + 1 + i))) : GDE S κ ty v el rr e := by
  obtain ⟨a1, a2, a3, a4, a5, a6⟩ := F
  by_cases q : ty = 4 ∨ ty = 5
  · rw [if_pos q] at a1
    obtain ⟨b1, b2, b3, b4⟩ := a4 q
    refine Or.inl ⟨q, a1, ?_⟩
    by_cases k : κ = 4 ∨ κ = 6
    · exact Or.inl ⟨k, (b3 k).1, (b3 k).2.symm⟩
    · exact Or.inr ⟨k, (b4 k).symm, a3⟩
  · rw [if_neg q] at a1
    refine Or.inr ⟨q, a1, ?_⟩
    by_cases p : ty = 3 ∨ ty = 6
    · obtain ⟨b1, b2, b3⟩ := a5 p
      refine ⟨?_, fun k hk => by omega⟩
      rw [b1]
      unfold gdG
      rw [if_neg (show ¬ ty = 7 by omega), if_neg (show ¬ ty = 8 by omega)]
    · obtain ⟨b1, b2⟩ := a6 (by omega)
      refine ⟨b1, fun k hk => ?_⟩
      rcases b2 with ⟨b2, b3⟩ | ⟨b2, b3⟩
      · omega
      · exact gs (by omega) k (by omega)
theorem gt_lt (pv : PVS S N rr n) (hN : N ≤ 60) : ∀ i, i < n → 0 ≤ (tsT S rr n).getD i 0 ∧ (tsT S rr n).getD i 0 < 128 := fun i hi => by
  rw [tsT_ge2 hi]
  have := tyT_b (pv.2.2.2 i hi).1 (pv.2.2.2 i hi).2
  omega
theorem gtS_lt (pv : PVS S N rr n) (hN : N ≤ 60) (hn : n ≤ 8) : 0 ≤ gtS S rr (n : Int) ∧ gtS S rr (n : Int) < 2 ^ 56 := by
  have B := gt_lt pv hN
  have := gtW_lt ((tsT S rr n).map Int.toNat) (fun t ht => by
    rw [List.mem_map] at ht
    obtain ⟨x, hx, rfl⟩ := ht
    obtain ⟨i, hi, e⟩ := List.mem_iff_getElem.mp hx
    have hn : i < n := by unfold tsT at hi; simpa using hi
    have b := B i hn
    have e2 : (tsT S rr n).getD i 0 = x := by rw [← e]; simp [List.getD, List.getElem?_eq_getElem hi]
    rw [e2] at b
    omega)
  have l : ((tsT S rr n).map Int.toNat).length = n := by unfold tsT; simp
  rw [l] at this
  unfold gtS
  rw [Int.toNat_natCast]
  refine ⟨Int.natCast_nonneg _, ?_⟩
  have p : (2 : Nat) ^ (7 * n) ≤ 2 ^ 56 := Nat.pow_le_pow_right (by decide) (by omega)
  have : gtW ((tsT S rr n).map Int.toNat) < 2 ^ 56 := by omega
  exact_mod_cast this
/-- what was found, with sites changed -/
theorem FDO.ext (F : FDO g h C ho X Y S M κ mn e) (K : EKP h C ho S N M h2 S2) (y2 : ∀ o f i, f ≠ f_Spare_free → Y2 o f i = Y o f i) : FDO g h2 C ho X Y2 S2 M κ mn e := by
  obtain ⟨a1, a2, a3, a4, a5⟩ := F
  refine ⟨a1, a2, fun z => ?_, fun z => ?_, fun z => by rw [y2 _ _ _ (by decide), y2 _ _ _ (by decide)]; exact a5.1 z, fun z => by rw [y2 _ _ _ (by decide)]; exact a5.2 z⟩
  · obtain ⟨b1, b2, b3, b4, b5⟩ := a3 z
    refine ⟨b1, by rw [y2 _ _ _ (by decide), K.pra b3]; exact b2, K.pvl b3, ?_, by have := K.2.2.2.2.2.2.1; omega⟩
    rw [y2 _ _ _ (by decide), b4]
    unfold crA
    by_cases q : e f_Md_toShape < 0
    · rw [if_pos q, if_pos q]
    · rw [if_neg q, if_neg q, K.2.1 _ (by omega)]
  · obtain ⟨b1, b2⟩ := a4 z
    exact ⟨b1, by rw [y2 _ _ _ (by decide), b2, K.2.2.2.2.1 _ (by omega)]⟩
theorem nwE_o (o2 : OFF (LRW ++ LSI) S S2) : nwE S2 w0 = nwE S w0 := by
  have e := o2.ex (L' := [f_Md_foundLinker, f_Md_foundGuard, f_Md_elementName, f_Md_foundHolder, f_Md_foundWhich, f_Md_foundShape, f_Md_changes, f_Md_foundMany]) (by decide +kernel)
  funext f
  unfold nwE
  rw [e _ (by decide), e _ (by decide), e _ (by decide), e _ (by decide), e _ (by decide), e _ (by decide), e _ (by decide), e _ (by decide)]
end
