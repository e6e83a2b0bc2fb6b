set_option maxRecDepth 20000
section
variable {ρ : Nat → Nat} {Γ Γ' Γ1 Γ2 : GH} {h h' h1 h2 : ah} {C ho N M z s t o n c r a mn m0 rr : Nat} {g : HG} {S S' S1 S2 : SS} {X X' X1 X2 : X3} {Y Y' Y1 Y2 : Y3} {L : List Nat} {Pp : List (Nat × Nat)} {ws ws1 ws2 hw : List (List Int)} {e : Option Int} {κ kz ks kz2 ks2 : Int}
/-- rows that a step may change -/
def LSs : List Nat := LSc ++ [f_Md_staticType, f_Md_staticValue, f_Md_asked] ++ LNA ++ LRW ++ LSI ++ LCH3
def LXs : List Nat := LXc ++ [f_Found_isText, f_Lookup_workedOut, f_Lookup_kept, f_Lookup_allKept, f_Lookup_asked]
def LYs : List Nat := LYc ++ [f_Lookup_choices, f_Spare_free]
def LHs : List Nat := LHD ++ LNF ++ LSJ ++ [f_Site_megamorphic]
def PSs (C ho : Nat) : List (Nat × Nat) := PMN ho ++ WP (C + 34)
/-- what a step takes of the room -/
def BNA (h : ah) (C ho N : Nat) (S : SS) (h' : ah) (S' : SS) (kz ks : Int) : Prop := ((hz h' : Int) - WZ h' C S' + (WNZ h' C : Int) - (lyc h' ho N : Int) ≤ (hz h : Int) - WZ h C S + (WNZ h C : Int) - (lyc h ho N : Int) + kz) ∧ ((hs h' : Int) - WS h' C S' + (WNS h' C : Int) - 400 * (lyc h' ho N : Int) ≤ (hs h : Int) - WS h C S + (WNS h C : Int) - 400 * (lyc h ho N : Int) + ks) ∧ S' f_Md_changes 0 - (lyc h' ho N : Int) ≤ S f_Md_changes 0 - (lyc h ho N : Int) + kz
/-- from one state to the next -/
def STG (ρ : Nat → Nat) (Γ : GH) (h : ah) (C ho : Nat) (X : X3) (Y : Y3) (S : SS) (g : HG) (N M : Nat) (hw ws : List (List Int)) (Γ' : GH) (h' : ah) (X' : X3) (Y' : Y3) (S' : SS) (ws' : List (List Int)) (kz ks : Int) : Prop := CORE Γ' h' C ho X' Y' S' N ∧ EXT ρ Γ' h' C ho X' Y' S' g N M hw ws' ∧ GRO Γ Γ' h h' C S S' ∧ OFF LSs S S' ∧ OFX LXs X X' ∧ OFX LYs Y Y' ∧ (∃ z s, Fr LHs (PSs C ho) z s h h') ∧ BNA h C ho N S h' S' kz ks
theorem BNA.tr (a : BNA h C ho N S h1 S1 kz ks) (b : BNA h1 C ho N S1 h2 S2 kz2 ks2) : BNA h C ho N S h2 S2 (kz + kz2) (ks + ks2) := by
  obtain ⟨a1, a2, a3⟩ := a
  obtain ⟨b1, b2, b3⟩ := b
  exact ⟨by omega, by omega, by omega⟩
theorem BNA.le (a : BNA h C ho N S h1 S1 kz ks) (q1 : kz ≤ kz2) (q2 : ks ≤ ks2) : BNA h C ho N S h1 S1 kz2 ks2 := by
  obtain ⟨a1, a2, a3⟩ := a
  exact ⟨by omega, by omega, by omega⟩
theorem STG.tr (A : STG ρ Γ h C ho X Y S g N M hw ws Γ1 h1 X1 Y1 S1 ws1 kz ks) (B : STG ρ Γ1 h1 C ho X1 Y1 S1 g N M hw ws1 Γ2 h2 X2 Y2 S2 ws2 kz2 ks2) : STG ρ Γ h C ho X Y S g N M hw ws Γ2 h2 X2 Y2 S2 ws2 (kz + kz2) (ks + ks2) := by
  obtain ⟨-, -, a3, a4, a5, a6, ⟨z, s, a7⟩, a8⟩ := A
  obtain ⟨b1, b2, b3, b4, b5, b6, ⟨z2, s2, b7⟩, b8⟩ := B
  exact ⟨b1, b2, a3.tr b3, a4.tr b4, a5.tr b5, a6.tr b6, ⟨_, _, a7.trans b7⟩, a8.tr b8⟩
theorem STG.le (A : STG ρ Γ h C ho X Y S g N M hw ws Γ1 h1 X1 Y1 S1 ws1 kz ks) (q1 : kz ≤ kz2) (q2 : ks ≤ ks2) : STG ρ Γ h C ho X Y S g N M hw ws Γ1 h1 X1 Y1 S1 ws1 kz2 ks2 := by
  obtain ⟨a1, a2, a3, a4, a5, a6, a7, a8⟩ := A
  exact ⟨a1, a2, a3, a4, a5, a6, a7, a8.le q1 q2⟩
/-- the room for names stays -/
theorem wn_fr (G : AC h C) (fr : Fr L Pp z s h h') (n1 : ¬ okW L Pp f_Words_from (C + 34)) (n2 : ¬ okW L Pp f_Words_bytes (C + 34)) (k1 : hK h (hR h f_Words_from (C + 34)) < 100) (k2 : hK h (hR h f_Words_bytes (C + 34)) < 100) : WNZ h' C = WNZ h C ∧ WNS h' C = WNS h C := by
  have gz := G.1
  have w1 := fr.R (x := C + 34) (f := f_Words_from) (by omega) (by decide) n1
  have w2 := fr.R (x := C + 34) (f := f_Words_bytes) (by omega) (by decide) n2
  have z1 := G.2.1.1 f_Words_from (C + 34) (by omega) (by unfold own; decide)
  have z2 := G.2.1.1 f_Words_bytes (C + 34) (by omega) (by unfold own; decide)
  unfold WNZ WNS wpz wps
  rw [w1, w2, fr.la z1 k1, fr.la z2 k2]
  exact ⟨rfl, rfl⟩
theorem NMR.kk (H : NMR h C S ws) : hK h (hR h f_Words_from (C + 34)) < 100 ∧ hK h (hR h f_Words_bytes (C + 34)) < 100 := by
  obtain ⟨⟨by_, fr, sz, nx, hd, W⟩, -⟩ := H
  obtain ⟨-, ⟨e1, e2, -⟩, ⟨w1, w2, -⟩, -⟩ := id W
  exact ⟨by rw [e2]; omega, by rw [e1]; omega⟩
theorem BNA.of (bd : BND h C S h' S' kz ks) (wn : WNZ h' C = WNZ h C ∧ WNS h' C = WNS h C) (ly : lyc h' ho N = lyc h ho N) : BNA h C ho N S h' S' kz ks := by
  obtain ⟨b1, b2, b3, -⟩ := bd
  obtain ⟨w1, w2⟩ := wn
  unfold BNA
  rw [w1, w2, ly]
  exact ⟨by omega, by omega, by omega⟩
theorem CORE.oph2 (M1 : CORE Γ' h1 C ho X1 Y1 S1 N) (K1 : CT Γ' h1 C X1 Y1 S1 N t o n c r) (H : OPH Γ h C X Y S N t o n c r) (e0 : EXS (LTK ++ [f_Md_t, f_Md_p0, f_Md_f0, f_Md_top, f_Md_after, f_Md_codeSize]) S S1) (yt : Y1 32 f_Machine_t 0 = Y 32 f_Machine_t 0) : OPH Γ' h1 C X1 Y1 S1 N t o n c r := by
  have w : ∀ f, (LTK ++ [f_Md_t, f_Md_p0, f_Md_f0, f_Md_top, f_Md_after, f_Md_codeSize]).elem f = true → ∀ i, S1 f i = S f i := e0
  have ep : psS S1 t (c - 1) = psS S t (c - 1) := by unfold psS; rw [w _ (by decide)]
  have aT : AT S1 t c := by
    obtain ⟨t1, t2, t3, t4, t5⟩ := H.2.2.2.2.2.2
    exact ⟨by rw [w _ (by decide)]; exact t1, by rw [w _ (by decide)]; exact t2, by rw [w _ (by decide)]; exact t3, by rw [w _ (by decide)]; exact t4, by rw [w _ (by decide), ep]; exact t5⟩
  exact M1.oph K1 H.2.2.2.1 (by rw [yt]; exact H.2.2.2.2.2.1) aT
/-- rows that go by a site's work -/
def LPF : List Nat := LTK ++ LGF ++ [f_Md_codeSize, f_Md_siteKind, f_Md_siteMany, f_Md_es, f_Md_goesType, f_Md_goesValue]
theorem PFX.mvg (P : PFX Γ h C ho X Y S N t o n c r s a κ mn m0 rr) (M1 : CORE Γ h1 C ho X1 Y1 S1 N) (K1 : CT Γ h1 C X1 Y1 S1 N t o n c r) (e : EXS LPF S S1) (yt : Y1 32 f_Machine_t 0 = Y 32 f_Machine_t 0) (si : hK h1 a = k_Site ∧ a < hz h1 ∧ hI h1 f_Site_kind a = hI h f_Site_kind a ∧ hI h1 f_Site_operands a = hI h f_Site_operands a) : PFX Γ h1 C ho X1 Y1 S1 N t o n c r s a κ mn m0 rr := by
  obtain ⟨p1, p2, p3, p4, p5, p6, p7, ⟨p8, p9, p10, p11⟩⟩ := P
  have e1 := fun {K : List Nat} (q : K.all (fun f => LPF.elem f) = true) => e.le (L' := K) q
  have ef : fsS S1 t (c - 1) = fsS S t (c - 1) := by unfold fsS; rw [e _ (by decide)]
  have ep : psS S1 t (c - 1) = psS S t (c - 1) := by unfold psS; rw [e _ (by decide)]
  refine ⟨M1, M1.oph2 K1 p2 (e1 (by decide)) yt, ?_, ?_, p5, ?_, ?_, ⟨si.1, si.2.1, si.2.2.1.trans p10, si.2.2.2.trans p11⟩⟩
  · rw [ep]
    exact GFR.ex p3 (e1 (by decide))
  · rw [ef, ep]; unfold NXT at p4 ⊢; rw [e _ (by decide)]; exact p4
  · rw [e _ (by decide), e _ (by decide), e _ (by decide)]; exact p6
  · rw [e _ (by decide), e _ (by decide), e _ (by decide), e _ (by decide)]; exact p7
end
