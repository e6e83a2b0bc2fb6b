set_option maxRecDepth 20000
section
variable {ρ : Nat → Nat} {d : Nat} {Q : QT} {Γ Γ' Γ1 Γ2 : GH} {h h' h1 h2 : ah} {C ho N M z s t o n c r a mn m0 rr i b E f k p : Nat} {g : HG} {S S' S1 S2 : SS} {X X' X1 X2 : X3} {Y Y' Y1 Y2 : Y3} {ws ws' hw : List (List Int)} {L : List Int} {κ ty v el nm w0 x x' bb : Int} {l : List Int}
theorem AXJ.ofx (A : AXJ X X1) : OFX LX0 X X1 := OFX.le (L := LFX) (fun o f i hf => A o f i hf) (by decide)
theorem AYJ.ofx (A : AYJ Y Y1) : OFX LY0 Y Y1 := OFX.le (L := LFY) (fun o f i hf => A o f i hf) (by decide)
/-- an instruction of a site, by both -/
theorem j_inv (HC : CORE Γ h C ho X Y S N) (H : OPH Γ h C X Y S N t o n c r) (E : EXT ρ Γ h C ho X Y S g N M hw ws) (O : HSF g N M) (D : DF S t n c (fsS S t (c - 1)) (psS S t (c - 1)) k 27 (s : Int) bb) (OT : OPT Γ S (fsS S t (c - 1)) (psS S t (c - 1)) 27 (s : Int) bb) (hnb : n = bsS S t (c - 1) + ghs Γ (fsS S t (c - 1)) (psS S t (c - 1))) (hc : S f_Md_changes 0 + 1 ≤ 1000000)
    (q : ∀ e Γ' S' h' X' Y' ws', TRN ρ (PTO ρ g N M) S (eT e) S' → STG ρ Γ h C ho X Y S g N M hw ws Γ' h' X' Y' S' ws' 3 31 → ER e X' S' → Q (oE e (C + 33)) (cc h' C X' Y')) :
    wpB PGm ρ (d + 81) m_Machine_invoke 0 [(0, vR (C + 32)), (1, vR (hB h (C + 57) s))] [] (cc h C X Y) Q := by
  have G := HC.1.1
  have F := HC.1.2
  have W := O.1
  obtain ⟨-, hs, es1, nx⟩ := OT.2.2.2.2.2.2.2.2.2.2.2.2.2.2.2.2.1 rfl
  rw [Int.toNat_natCast] at es1 nx
  obtain ⟨⟨ka, az, an0⟩, ⟨ak, anm, aop⟩, hκ, hmn, ⟨s4, -⟩, -⟩ := SIE.at E.2.2.1 hs
  have ⟨mn, sm⟩ : ∃ mn : Nat, S f_Md_siteMany s = (mn : Int) := ⟨(S f_Md_siteMany s).toNat, by omega⟩
  have m8 : mn ≤ 8 := by omega
  generalize sk : S f_Md_siteKind s = κ at *
  have eEs : esS S s = esK κ mn := by unfold esS esK; rw [sk, sm, Int.toNat_natCast]
  rw [eEs] at es1 nx
  generalize ea0 : hB h (C + 57) s = a at *
  have I := H.ix
  obtain ⟨-, -, ht, ⟨e1, e2, e3⟩, hn, hc1, hc2⟩ := I
  have ⟨m0, hm⟩ : ∃ m0 : Nat, m0 + 1 + esK κ mn = n := ⟨n - 1 - esK κ mn, by omega⟩
  have rrl : 2100 * t + m0 + 1 + esK κ mn ≤ 4200 := by have := D.2.1; omega
  have eT : hR (cc h C X Y) f_Machine_t (C + 32) = C + o := by rw [ccR (by decide), e1]
  have kT : hK (cc h C X Y) (C + o) = k_Task := (F.t ht).1
  have eS : hI (cc h C X Y) f_Task_size (C + o) = (n : Int) := by rw [ccIt ht (by decide), e2]
  have NM := E.2.1.1
  have wn : S f_Md_names 0 = (ws.length : Int) := NM.2.2.1
  have io : OFF LIV S (ivS S (esK κ mn) (2100 * t + m0)) := ivS_off
  have ig := ivS_g (S := S) (E := esK κ mn) (rr := 2100 * t + m0)
  have iw := fun {K : List Nat} (q : K.all (fun f => !(LIV.elem f)) = true) => io.ex (L' := K) q
  have Z : SIQ S t n c s mn (esK κ mn) (2100 * t + m0) κ := ⟨s4, D.1, D.2.1.1, D.2.1.2.1, sk, sm, hκ, rfl, by omega, by omega⟩
  have pty : 0 ≤ S f_Md_pileType (2100 * t + m0) ∧ S f_Md_pileType (2100 * t + m0) ≤ 8 := by
    have V := (H.pl (i := m0) (by omega)).2.2
    unfold VO at V
    omega
  generalize hrr : 2100 * t + m0 = rr at *
  generalize hS1 : ivS S (esK κ mn) rr = S1 at *
  have NM1 : NMR h C S1 ws := NM.exs (iw (by decide +kernel))
  have V := (H.pl (i := m0) (by omega)).2.2
  rw [hrr] at V
  obtain ⟨v1, v2, v3, v4⟩ := vl_rng HC V
  -- from what is asked on
  have go : ∀ (X1 : X3) (Y1 : Y3) (h1 : ah) (S2 : SS) (ws1 : List (List Int)) (el : Int), STG ρ Γ h C ho X Y S g N M hw ws Γ h1 X1 Y1 S2 ws1 0 0 → (∀ {t o n c r : Nat}, CT Γ h C X Y S N t o n c r → CT Γ h1 C X1 Y1 S2 N t o n c r) → OFX LY0 Y Y1 → OFF (LIV ++ LNA) S S2 → (∀ f, [f_Md_es, f_Md_r, f_Md_goesType, f_Md_goesValue].elem f = true → ∀ i, S2 f i = S1 f i) → S2 f_Md_elementName 0 = el → (¬ (κ = 2 ∨ κ = 3) → el = -1) → hB h1 (C + 57) s = a → FDA h1 C ho X1 Y1 S2 κ (S f_Md_pileType rr) (S f_Md_pileValue rr) el (S f_Md_siteName s) rr mn → (∀ e S', TIV ρ g N M s 138 [(2, vI κ), (4, vI (-1)), (5, vI 0)] S2 e S' → TIV ρ g N M s 0 [] S e S') → SWK ρ Γ h1 C ho X1 Y1 S2 g N M hw ws1 t o n c r s a κ mn m0 rr (S f_Md_pileType rr) (S f_Md_pileValue rr) el (S f_Md_siteName s) (LTW ws1 κ (S f_Md_siteName s)) := fun X1 Y1 h1 S2 ws1 el ST cm y2 o2 w2 eel hel eB A T => by
    have es := fun {K : List Nat} (q : K.all (fun f => !((LIV ++ LNA).elem f)) = true) => o2.ex (L' := K) q
    have w := es (K := LTK ++ [f_Md_t, f_Md_p0, f_Md_f0, f_Md_top, f_Md_after, f_Md_codeSize, f_Md_siteKind, f_Md_siteMany, f_Md_sites, f_Md_siteName, f_Md_changes]) (by decide +kernel)
    have hs2 : (s : Int) < S2 f_Md_sites 0 := by rw [w _ (by decide)]; exact hs
    have SA := SIE.at ST.2.1.2.2.1 hs2
    rw [eB] at SA
    obtain ⟨⟨ka2, az2, -⟩, ⟨ak2, anm2, aop2⟩, -⟩ := SA
    have P := PFX.of (κ := κ) (mn := mn) (m0 := m0) (a := a) HC H D nx hm s4 sk sm hκ m8 ST.1 (cm H.2.2.1) (y2 _ _ _ (by decide)) (es (by decide +kernel)) (by rw [w2 _ (by decide), hrr]; exact ig.2.1) (by rw [w2 _ (by decide)]; exact ig.1) (by rw [w2 _ (by decide), hrr]; exact ig.2.2.1) (by rw [w2 _ (by decide), hrr]; exact ig.2.2.2.1) ⟨ka2, az2, by rw [ak2, w _ (by decide)]; exact sk, by rw [aop2, w _ (by decide)]; exact sm⟩
    rw [hrr] at P
    refine ⟨P, ST.2.1, eB, hs2, A, ⟨by rw [w _ (by decide)], eel, hel, rfl⟩, ⟨w _ (by decide) _, w _ (by decide) _, pty⟩, ?_, by rw [w _ (by decide)]; exact hc⟩
    unfold bsS
    rw [w _ (by decide)]
    unfold bsS at hnb
    omega
  have fin : ∀ (X1 : X3) (Y1 : Y3) (h1 : ah) (S2 : SS) (ws1 : List (List Int)) (el : Int), STG ρ Γ h C ho X Y S g N M hw ws Γ h1 X1 Y1 S2 ws1 0 0 → (∀ e S', TIV ρ g N M s 138 [(2, vI κ), (4, vI (-1)), (5, vI 0)] S2 e S' → TIV ρ g N M s 0 [] S e S') → SWK ρ Γ h1 C ho X1 Y1 S2 g N M hw ws1 t o n c r s a κ mn m0 rr (S f_Md_pileType rr) (S f_Md_pileValue rr) el (S f_Md_siteName s) (LTW ws1 κ (S f_Md_siteName s)) → _ := fun X1 Y1 h1 S2 ws1 el ST T K => iv_mid (d := d) (Q := Q) K O (fun e Γ' S' h' X' Y' T' ST' er => q e Γ' S' h' X' Y' ws1 (TRN.site (by cases e with | none => exact Or.inr rfl | some v => exact Or.inl rfl) D (T _ _ T')) ((ST.tr ST').le (by omega) (by omega)) er)
  have KI : ∀ S2 : SS, EXS [f_Md_things, f_Md_shapes, f_Md_functions, f_Md_thingKind] S S2 → EKP h C ho S N M h S2 := fun S2 e => ⟨fun _ _ => rfl, fun _ _ => rfl, fun _ _ => rfl, fun _ _ => rfl, fun _ _ => rfl, Int.le_of_eq (e _ (by decide) _).symm, Int.le_of_eq (e _ (by decide) _).symm, Int.le_of_eq (e _ (by decide) _).symm, fun k _ => e _ (by decide) k⟩
  refine b_Machine_invoke_0 (d := d + 80) ⟨F.1.1, ?_, ?_⟩
  · rw [eT]; exact kT
  refine r_opnd (κ := κ) (mn := mn) ka (by rw [ak]) (by rw [aop]; exact sm) hκ m8 ⟨F.1.1, ?_⟩
  have wm : w32 ((n : Int) - ((esK κ mn + 1 : Nat) : Int)) = (m0 : Int) := by rw [w32_of (by omega) (by omega)]; omega
  rw [eT, eS, wm]
  refine r_ask (d := d + 59) (S1 := S1) (t := t) (rr := rr) HC E.1.1.1.1 E.1.2.1.1 NM H.ix (fun i hi => H.pl hi) hrr.symm rfl rfl ka (by rw [ak]) anm (by rw [aop]; exact sm) m8 hκ hm E.1.2.2.2.2.2.2.2.1 (iw (by decide +kernel)) (fun nk X1 Y1 ax ay A it => ?_) (fun k1 k2 el X1 Y1 NE elr ax ay A it => ?_) (fun k1 k2 l h1 X1 Y1 NE NM2 G1 F1 fr z1 z2 ax ay A it => ?_) (fun k1 k2 NE X1 Y1 ax ay it => ?_)
  · obtain ⟨ST, cm⟩ := STG.scr (S' := S1) E HC W ax.ofx ay.ofx (io.le (by decide +kernel)) it
    have T : ∀ e S', TIV ρ g N M s 138 [(2, vI κ), (4, vI (-1)), (5, vI 0)] S1 e S' → TIV ρ g N M s 0 [] S e S' := fun e S' T => TIV.plain Z nk (by rw [hS1]; exact T)
    exact fin X1 Y1 h S1 ws (-1) ST T (go X1 Y1 h S1 ws (-1) ST (fun K => cm K) ay.ofx (io.le (by decide +kernel)) (fun _ _ _ => rfl) ig.2.2.2.2 (fun _ => rfl) ea0 (A.mv (KI S1 (iw (by decide +kernel))) (fun z => ⟨(v1 z).2.2.2.1, (v1 z).2.2.2.2⟩) v2 v3 EXX.rf (fun _ _ _ _ => rfl) (iw (by decide +kernel))) T)
  · have o2 : OFF LIV S (u2 S1 f_Md_elementName 0 el) := io.u (by decide)
    have iw2 := fun {K : List Nat} (q : K.all (fun f => !(LIV.elem f)) = true) => o2.ex (L' := K) q
    obtain ⟨ST, cm⟩ := STG.scr (S' := u2 S1 f_Md_elementName 0 el) E HC W ax.ofx ay.ofx (o2.le (by decide +kernel)) it
    have T : ∀ e S', TIV ρ g N M s 138 [(2, vI κ), (4, vI (-1)), (5, vI 0)] (u2 S1 f_Md_elementName 0 el) e S' → TIV ρ g N M s 0 [] S e S' := fun e S' T => TIV.named Z k1 k2 (by rw [hS1]; exact NM1) (fun i h1 h2 => ?_) (by rw [hS1]; exact NE) T
    · exact fin X1 Y1 h _ ws el ST T (go X1 Y1 h _ ws el ST (fun K => cm K) ay.ofx (o2.le (by decide +kernel)) (fun f hf i => u2_f (by rintro rfl; exact absurd hf (by decide))) u2_s (fun z => absurd k1 z) ea0 (A.mv (KI _ (iw2 (by decide +kernel))) (fun z => ⟨(v1 z).2.2.2.1, (v1 z).2.2.2.2⟩) v2 v3 EXX.rf (fun _ _ _ _ => rfl) (iw2 (by decide +kernel))) T)
    · obtain ⟨lg, -, -, -, -, -, gl⟩ := HC.2.2.2.2.2.2.1
      exact (gl i h2).2.2.2 (by rw [wn]; omega)
  · have o1 : OFF LNA S1 (naS S1 ws.length l) := naS_off
    have o2 : OFF (LIV ++ LNA) S (u2 (naS S1 ws.length l) f_Md_elementName 0 (ws.length : Int)) := ((io.le (by decide +kernel)).tr (o1.le (by decide +kernel))).u (by decide)
    have nn : naS S1 ws.length l f_Md_names 0 = ((ws.length + 1 : Nat) : Int) := by unfold naS; rw [u2_s]
    obtain ⟨ST, cm, KP, eB⟩ := STG.nam (S2 := u2 (naS S1 ws.length l) f_Md_elementName 0 (ws.length : Int)) E HC W fr (NM2.exs (fun f hf i => u2_f (by rintro rfl; exact absurd hf (by decide)))) z1 z2 ax.ofx ay.ofx o2 (by rw [u2_f (by decide), nn, wn]; omega) it
    have iw2 := fun {K : List Nat} (q : K.all (fun f => !((LIV ++ LNA).elem f)) = true) => o2.ex (L' := K) q
    have T : ∀ e S', TIV ρ g N M s 138 [(2, vI κ), (4, vI (-1)), (5, vI 0)] (u2 (naS S1 ws.length l) f_Md_elementName 0 (ws.length : Int)) e S' → TIV ρ g N M s 0 [] S e S' := fun e S' T => TIV.named Z k1 k2 (by rw [hS1]; exact NM1) (fun i h1 h2 => ?_) (by rw [hS1]; exact NE) T
    · exact fin X1 Y1 h1 _ _ (ws.length : Int) ST T (go X1 Y1 h1 _ _ (ws.length : Int) ST (fun K => cm K) ay.ofx o2 (fun f hf i => by
        rw [u2_f (by rintro rfl; exact absurd hf (by decide))]
        exact o1 f i (by
          have : [f_Md_es, f_Md_r, f_Md_goesType, f_Md_goesValue].all (fun f => !(LNA.elem f)) = true := by decide
          simpa using List.all_eq_true.mp this f (by simpa using hf))) u2_s (fun z => absurd k1 z) (by rw [eB]; exact ea0) (A.mv KP (fun z => ⟨(v1 z).2.2.2.1, (v1 z).2.2.2.2⟩) v2 v3 EXX.rf (fun _ _ _ _ => rfl) (iw2 (by decide +kernel))) T)
    · obtain ⟨lg, -, -, -, -, -, gl⟩ := HC.2.2.2.2.2.2.1
      exact (gl i h2).2.2.2 (by rw [wn]; omega)
  · obtain ⟨ST, cm⟩ := STG.scr (S' := S1) (X' := X1) (Y' := Y1) E HC W ax.ofx ay.ofx (io.le (by decide +kernel)) it
    have ST2 := ST.tr (STG.err (x := 0) (x' := 99) ST.2.1 ST.1 W)
    refine ⟨kSg ST2.1.1.2, q (some 0) Γ _ _ _ _ ws (TRN.site (Or.inl rfl) D ?_) (ST2.le (by omega) (by omega)) (er_of (H.fc.off io (by decide)) (Or.inl ⟨rfl, rfl⟩))⟩
    have := TIV.nonames (ρ := ρ) (g := g) (N := N) (M := M) Z k1 k2 (by rw [hS1]; exact NM1) (by rw [hS1]; exact NE)
    rw [hS1] at this
    exact this
end
