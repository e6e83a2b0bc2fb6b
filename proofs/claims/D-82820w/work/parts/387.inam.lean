set_option maxRecDepth 20000
section
variable {ρ : Nat → Nat} {d : Nat} {Q : QT} {Γ Γ' Γ1 Γ2 : GH} {h h' h1 h2 : ah} {C ho N M z s t o n c r a mn m0 rr i b E : Nat} {g : HG} {S S' S1 S2 : SS} {X X' X1 X2 : X3} {Y Y' Y1 Y2 : Y3} {ws hw : List (List Int)} {L : List Int} {LL : List Nat} {Pp : List (Nat × Nat)} {κ ty v el nm w0 x x' : Int} {l : List Int}
theorem WZ_fr (G : AC h C) (F : FC h C) (T : THK h C (S f_Md_things 0).toNat) (es : EXS LPO S S') (fr : Fr LL Pp z s h h') (d1 : DJ (arC.map (fun q => q.1)) LL Pp) (d2 : DJ LPH LL Pp) (p0 : ∀ y, (0, y) ∉ Pp) : WZ h' C S' = WZ h C S ∧ WS h' C S' = WS h C S := by
  have g1 := G.1
  obtain ⟨e1, e2, e3, e4, e5, e6, e7⟩ := pE es
  have a1 := fun φ => sumA_e (φ := φ) (lnA_fr G fr d1)
  obtain ⟨c1, c2, c3, c4, c5⟩ := cpL_fr G F fr (d2.sub' (by decide)) p0
  have s51 : ∀ i, hB h' (C + 51) i = hB h (C + 51) i := (fr.ar G.2.1 (f := f_Heap_things) (by unfold own; decide) (x := C + 50) (by omega) F.2.2.1.2.1 (by omega) (fun c => c.elim (d2.w (by decide)) (d2.w (by decide))) (p0 _)).2.2
  have c6 := cpT_fr T (fun k _ => s51 k) fr (d2.sub' (by decide))
  have c8 := mcp_fr G F fr (d2.sub' (by decide)) p0
  unfold WZ WS cpL
  rw [e1, e2, e3, e4, e5, e7, a1, a1, c1, c2, c3, c4, c5, c6, c8]
  exact ⟨rfl, rfl⟩
/-- a name joins the names, and what is asked is written down -/
theorem STG.nam (E : EXT ρ Γ h C ho X Y S g N M hw ws) (HC : CORE Γ h C ho X Y S N) (W : HWF g N M) (fr : Fr LCC (WP (C + 34)) z s h h1) (NM1 : NMR h1 C S2 (ws ++ [l])) (z1 : hz h1 + WNZ h1 C ≤ hz h + WNZ h C) (z2 : hs h1 + WNS h1 C ≤ hs h + WNS h C) (x : OFX LX0 X X') (y : OFX LY0 Y Y') (o : OFF (LIV ++ LNA) S S2) (hn : S f_Md_names 0 ≤ S2 f_Md_names 0) (it : X' 53 f_Found_isText 0 = 0 ∨ X' 53 f_Found_isText 0 = 1) : STG ρ Γ h C ho X Y S g N M hw ws Γ h1 X' Y' S2 (ws ++ [l]) 0 0 ∧ (∀ {t o n c r : Nat}, CT Γ h C X Y S N t o n c r → CT Γ h1 C X' Y' S2 N t o n c r) ∧ EKP h C ho S N M h1 S2 ∧ hB h1 (C + 57) = hB h (C + 57) := by
  have p0 : ∀ y, (0, y) ∉ WP (C + 34) := nP0 rfl
  have es := fun {K : List Nat} (q : K.all (fun f => !((LIV ++ LNA).elem f)) = true) => o.ex (L' := K) q
  have ex := fun {K : List Nat} (q : K.all (fun f => !(LX0.elem f)) = true) => x.exx (L' := K) q
  obtain ⟨⟨c1, c2⟩, g1, bd⟩ := HC.fzz (L := LCC) (Pp := WP (C + 34)) (X' := X') (Y' := Y') (S' := S2) fr (by unfold DJ; rfl) p0 (es (by decide +kernel)) hn (ex (by decide +kernel)) (fun o f hf i => y o f i (by
    have : L7.all (fun f => !(LY0.elem f)) = true := by decide
    simpa using List.all_eq_true.mp this f (by simpa using hf)))
  have cg : CHG S S2 := CHG.ex (es (by decide +kernel))
  obtain ⟨E0, ⟨NM, SN⟩, SI, EV, LK⟩ := E
  have G := HC.1.1
  have F := HC.1.2
  have ij := G.2.1
  have HX := E0.1.1.1
  have HX1 : HCX ρ h1 ho g N M hw := HX.frw E0.2.2.2.2.1 fr
  obtain ⟨U2, ly⟩ := E0.1.1.mvp ij g1 fr HX1 (by unfold DJ; rfl) p0 (es (by decide +kernel))
  have M2 := E0.1.2.mvp E0.1.1 W ij fr (by unfold DJ; rfl) p0
  have K : EKP h C ho S N M h1 S2 := EKP.fr HX G F fr (by unfold DJ; rfl) p0 (es (by decide +kernel))
  have q7 := HC.2.2.2.2.2.2.2.2.2.1
  have wz := WZ_fr (S' := S2) G F (q7.thk G) (es (by decide +kernel)) fr (by unfold DJ; rfl) (by unfold DJ; rfl) p0
  have EV2 := (EV.chg HC.bef cg (es (by decide +kernel))).app (l := l) (SN.ex (es (by decide +kernel))).snw
  refine ⟨⟨c1, ⟨E0.mv U2 M2 fr p0 cg ⟨by rw [y _ _ _ (by decide)]; exact E0.2.1.1, by rw [y _ _ _ (by decide)]; exact E0.2.1.2⟩ (fun i hi => ?_) (ex (by decide +kernel)) it (es (K := [f_Md_wrong]) (by decide +kernel) _ (by decide) _), ⟨NM1, (SN.ex (es (by decide +kernel))).app⟩, SI.ext ij F HC.hz57 K fr (by unfold DJ; rfl) p0 (es (by decide +kernel)) (y _ _ _ (by decide)), EV2, (LK.mv HX ij fr (by unfold DJ; rfl) p0 (es (by decide +kernel)) (ex (by decide +kernel)) (fun b => y _ _ _ (by decide))).app⟩, g1, o.le (by decide +kernel), x.le (by decide +kernel), y.le (by decide +kernel), ⟨z, s, fr.mono (fun f hf => ?_) (fun q hq => ?_)⟩, ?_⟩, fun K => c2 K, K, ?_⟩
  · rw [es (K := [f_Md_asked]) (by decide +kernel) _ (by decide), ex (K := [f_Lookup_asked]) (by decide +kernel) _ (by decide)]
    exact E0.2.2.2.2.2.1 i hi
  · have : LCC.all (fun f => LHs.elem f) = true := by decide +kernel
    simpa using List.all_eq_true.mp this f hf
  · unfold PSs
    exact List.mem_append_right _ hq
  · unfold BNA
    rw [wz.1, wz.2, ly, es (K := [f_Md_changes]) (by decide +kernel) _ (by decide)]
    exact ⟨by omega, by omega, by omega⟩
  · funext i
    have gz := G.1
    exact (fr.ar ij (f := f_Machine_sites) (by unfold own; decide) (x := C + 32) (by omega) F.2.1.2.2.2.2.2.2.2.2.1 (by omega) (fun c => c.elim ((show DJ [f_Machine_sites] LCC (WP (C + 34)) by unfold DJ; rfl).w (by decide)) ((show DJ [f_Machine_sites + 1] LCC (WP (C + 34)) by unfold DJ; rfl).w (by decide))) (p0 _)).2.2 i
end
