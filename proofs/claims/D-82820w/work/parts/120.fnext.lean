/-! code and texts that are not touched -/
set_option maxRecDepth 20000
def LCH : List Nat := [f_Code_number, f_Code_unit, f_Code_parameters, f_Code_variables, f_Code_size, f_Code_firstSite, f_Code_sites, f_Code_rows, f_Machine_functions]
def LCH1 : List Nat := [f_Code_rows + 1, f_Machine_functions + 1]
def LXS : List Nat := [f_Md_textFrom, f_Md_textLength, f_Md_textSigns, f_Md_sourceBytes, f_Md_madeBytes, f_Md_madeTexts, f_Md_allTexts, f_Md_allBytes, f_Md_sourceTexts]
def LXX : List Nat := [f_Texts_many, f_Texts_used, f_Texts_made, f_Texts_bytesMade, f_Texts_from, f_Texts_size, f_Texts_bytes]
section
variable {ρ : Nat → Nat} {d : Nat} {Q : QT} {Γ Γ' : GH} {h h' : ah} {C ho : Nat} {X X' : X3} {Y Y' : Y3} {S S' : SS} {N t o n c r f i j k m z s : Nat} {L : List Nat} {P : List (Nat × Nat)} {ty v x y op a b : Int}
theorem OPT.ext (H : OPT Γ S f j op a b) (e1 : ghs Γ' f = ghs Γ f) (e2 : gtd Γ' f = gtd Γ f) (e3 : ∀ i, goN Γ' i f = goN Γ i f) (e4 : ∀ i, gou Γ' (goN Γ i f) = gou Γ (goN Γ i f)) (e5 : ∀ i : Nat, (i : Int) < S f_Md_functions 0 → gou Γ' i = gou Γ i) (es : EXS LFN S S') (hn : S f_Md_names 0 ≤ S' f_Md_names 0) : OPT Γ' S' f j op a b := by
  have x1 := es f_Md_codeSize (by decide)
  have x2 := es f_Md_sourceTexts (by decide)
  have x3 := es f_Md_variablesOf (by decide)
  have x4 := es f_Md_functions (by decide)
  have x5 := es f_Md_sites (by decide)
  have x6 := es f_Md_siteKind (by decide)
  have x7 := es f_Md_siteMany (by decide)
  have nx : ∀ {p m p2 m2 : Nat}, NXT Γ S f j p m p2 m2 → NXT Γ' S' f j p m p2 m2 := fun q => by unfold NXT at q ⊢; rw [e1, e2, x1]; exact q
  have jm : ∀ {a : Int} {A D : Nat}, JMP Γ S f a A D → JMP Γ' S' f a A D := fun q => by unfold JMP at q ⊢; rw [e1, e2, x1]; exact q
  have va : VAR Γ S f a b → VAR Γ' S' f a b := fun ⟨q1, q2, q3, q4, q5⟩ => ⟨q1, q2, q3, by rw [e3, x3]; exact q4, fun i hi => by rw [e3, e4]; exact q5 i hi⟩
  have es' : ∀ s, esS S' s = esS S s := fun s => by unfold esS; rw [x6, x7]
  obtain ⟨h0, o0, o1, o2, o3, o4, o5, o6, o7, o12, o20, o21, o22, o24, o25, o26, o27, o28, o29, o31, o32, o33⟩ := H
  refine ⟨h0, fun q => ?_, fun q => ⟨nx (o1 q).1, va (o1 q).2⟩, fun q => ?_, fun q => ⟨nx (o3 q).1, (o3 q).2.1, by have := (o3 q).2.2; omega⟩, fun q => ?_, fun q => ?_, fun q => ?_, fun q => ?_, fun q => ?_, fun q => ?_, fun q => ?_, fun q => ?_, fun q => ?_, fun q => ?_, fun q => nx (o26 q), fun q => ?_, fun q => ?_, fun q => ?_, fun q => ?_, fun q => ?_, fun q => nx (o33 q)⟩
  · obtain ⟨b1, b2, b3, b4, b5⟩ := o0 q; exact ⟨nx b1, b2, b3, b4, fun z => by rw [x2]; exact b5 z⟩
  · obtain ⟨b1, b2, b3⟩ := o2 q; exact ⟨by rw [e1]; exact b1, nx b2, va b3⟩
  · obtain ⟨b1, b2, b3, b4⟩ := o4 q; exact ⟨by rw [e1]; exact b1, nx b2, b3, by omega⟩
  · obtain ⟨b1, b2⟩ := o5 q; exact ⟨by rw [e1]; exact b1, nx b2⟩
  · obtain ⟨b1, b2⟩ := o6 q; exact ⟨by rw [e1]; exact b1, nx b2⟩
  · obtain ⟨b1, b2⟩ := o7 q; exact ⟨by rw [e1]; exact b1, nx b2⟩
  · obtain ⟨b1, b2⟩ := o12 q; exact ⟨by rw [e1]; exact b1, nx b2⟩
  · rw [e1, e2]; exact jm (o20 q)
  · obtain ⟨b1, b2, b3⟩ := o21 q; exact ⟨by rw [e1]; exact b1, nx b2, by rw [e1, e2]; exact jm b3⟩
  · obtain ⟨b1, b2, b3⟩ := o22 q; exact ⟨by rw [e1]; exact b1, nx b2, by rw [e1, e2]; exact jm b3⟩
  · obtain ⟨b1, b2, b3, b4, b5⟩ := o24 q; exact ⟨nx b1, b2, by rw [x4]; exact b3, by rw [e5 _ (by omega)]; exact b4, b5⟩
  · obtain ⟨b1, b2, b3⟩ := o25 q; exact ⟨b1, by rw [e1]; exact b2, nx b3⟩
  · obtain ⟨b1, b2, b3, b4⟩ := o27 q; exact ⟨b1, by rw [x5]; exact b2, by rw [es', e1]; exact b3, by rw [es']; exact nx b4⟩
  · obtain ⟨b1, b2, b3, b4⟩ := o28 q; exact ⟨b1, b2, by rw [e1]; exact b3, nx b4⟩
  · rw [e1]; exact o29 q
  · obtain ⟨b1, b2, b3, b4⟩ := o31 q; exact ⟨by rw [e1]; exact b1, by rw [e2]; exact b2, nx b3, by rw [e2]; exact jm b4⟩
  · obtain ⟨b1, b2⟩ := o32 q; exact ⟨by rw [e2]; exact b1, nx b2⟩
theorem FNC.ext (H : FNC Γ h C S) (G : AC h C) (F : FC h C) (g : GRO Γ Γ' h h' C S S') (es : EXS LFN S S') (hn : S f_Md_names 0 ≤ S' f_Md_names 0) (fr : Fr L P z s h h') (d1 : DJ LCH L P) (d2 : DJ LCH1 L P) (p0 : ∀ y, (0, y) ∉ P) : FNC Γ' h' C S' := by
  obtain ⟨fn, a1, a2, a3, a4⟩ := H
  have g1 := G.1
  have oF : own f_Machine_functions := by unfold own; decide
  have oR : own f_Code_rows := by unfold own; decide
  have s56 : sameArr h h' (C + 56) := fr.ar G.2.1 oF (x := C + 32) (by omega) F.2.1.2.2.2.2.2.2.2.1 (by omega) (fun c => c.elim (d1.w (by decide)) (d2.w (by decide))) (p0 _)
  have gl : ∀ i, i < fn → ∀ j, goN Γ j i < fn ∧ goN Γ' j i = goN Γ j i := by
    intro i hi j
    induction j with
    | zero => exact ⟨hi, rfl⟩
    | succ j ih =>
      obtain ⟨i1, i2⟩ := ih
      have u := (a4 _ i1).2.2.2.2.2.2.2.2.2.1.1
      refine ⟨?_, ?_⟩
      · show gou Γ (goN Γ j i) < fn; omega
      · show gou Γ' (goN Γ' j i) = gou Γ (goN Γ j i)
        rw [i2, (g.1.2 (goN Γ j i) (by omega)).2.2.2.2]
  refine ⟨fn, by rw [es _ (by decide)]; exact a1, a2, by rw [s56.1]; exact a3, fun i hi => ?_⟩
  obtain ⟨⟨b1, b2, b3⟩, b4, b5, b6, b7, b8, b9, b10, b11, b12, ⟨b13, b14⟩, k, z, c1, c2, c3, c4, c5, c6, c7, c8⟩ := a4 i hi
  obtain ⟨-, -, w3, w4, w5⟩ := g.1.2 i (by omega)
  rw [s56.2.2]
  have rI : ∀ f, LCH.elem f = true → 5 ≤ f → hI h' f (hB h (C + 56) i) = hI h f (hB h (C + 56) i) := fun f hf h5 => fr.I b2 h5 (d1.w hf)
  have rR := fr.R b2 (own5 oR) (d1.w (f := f_Code_rows) (by decide))
  have sR := fr.ar G.2.1 oR b2 rfl b13 (fun c => c.elim (d1.w (by decide)) (d2.w (by decide))) (p0 _)
  unfold FN1
  rw [rI f_Code_number (by decide) (by decide), rI f_Code_unit (by decide) (by decide), rI f_Code_parameters (by decide) (by decide), rI f_Code_variables (by decide) (by decide), rI f_Code_size (by decide) (by decide), rI f_Code_firstSite (by decide) (by decide), rI f_Code_sites (by decide) (by decide), rR, fr.K b2, fr.K (G.2.1.1 _ _ b2 oR), sR.1, w3, w4, w5, es _ (show LFN.elem f_Md_unitOf = true by decide), es _ (show LFN.elem f_Md_parametersOf = true by decide), es _ (show LFN.elem f_Md_variablesOf = true by decide), es _ (show LFN.elem f_Md_codeSize = true by decide), es _ (show LFN.elem f_Md_siteFrom = true by decide), es _ (show LFN.elem f_Md_siteCount = true by decide), es _ (show LFN.elem f_Md_codeFrom = true by decide)]
  refine ⟨⟨b1, fr.lt b2, b3⟩, b4, b5, b6, b7, b8, b9, b10, b11, b12, ⟨b13, b14⟩, k, z, c1, c2, c3, c4, c5, c6, c7, fun j hj => ?_⟩
  obtain ⟨q1, q2, q3, q4⟩ := c8 j hj
  rw [sR.2.1, sR.2.1, sR.2.1, es _ (show LFN.elem f_Md_codeOp = true by decide), es _ (show LFN.elem f_Md_codeA = true by decide), es _ (show LFN.elem f_Md_codeB = true by decide)]
  exact ⟨q1, q2, q3, q4.ext w3 w4 (fun n => (gl i hi n).2) (fun n => (g.1.2 (goN Γ n i) (by have := (gl i hi n).1; omega)).2.2.2.2) (fun n hn => (g.1.2 n hn).2.2.2.2) es hn⟩
theorem TXC.ext (H : TXC Γ h C X S) (g : GRO Γ Γ' h h' C S S') (es : EXS LXS S S') (ex : EXX LXX X X') (l1 : hl h' (hR h' f_Texts_from (C + 46)) = hl h (hR h f_Texts_from (C + 46))) (l2 : hl h' (hR h' f_Texts_size (C + 46)) = hl h (hR h f_Texts_size (C + 46))) (l3 : hl h' (hR h' f_Texts_bytes (C + 46)) = hl h (hR h f_Texts_bytes (C + 46))) : TXC Γ' h' C X' S' := by
  obtain ⟨mn, us, sb, mb, tm, am, ab, A, B, D, E, K, M, Z⟩ := H
  refine ⟨mn, us, sb, mb, tm, am, ab, ?_, ?_, D, ?_, ?_, M, fun x hx => ?_⟩
  · rw [ex _ (by decide), ex _ (by decide), ex _ (by decide), ex _ (by decide)]; exact A
  · rw [es _ (by decide), es _ (by decide), es _ (by decide), es _ (by decide), es _ (by decide)]; exact B
  · rw [es _ (by decide)]; exact E
  · rw [l1, l2, l3]; exact K
  · have hx' : txO S x := by unfold txO at hx ⊢; rw [es _ (by decide), es _ (by decide)] at hx; exact hx
    obtain ⟨p, q, r, p1, p2, p3, p4, p5, p6, p7, p8⟩ := Z x hx'
    refine ⟨p, q, r, ?_, ?_, ?_, ?_, ?_, p6, fun i hi => ?_, p8⟩
    · rw [es _ (by decide)]; exact p1
    · rw [es _ (by decide)]; exact p2
    · rw [g.2.2.2.2.2.1 x hx', ex _ (by decide)]; exact p3
    · rw [g.2.2.2.2.2.1 x hx', ex _ (by decide)]; exact p4
    · rw [g.2.2.2.2.2.1 x hx']; exact p5
    · rw [ex _ (by decide), es _ (by decide)]; exact p7 i hi
end
