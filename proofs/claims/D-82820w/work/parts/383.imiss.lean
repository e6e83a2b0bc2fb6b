set_option maxRecDepth 20000
section
variable {ρ : Nat → Nat} {d : Nat} {Q : QT} {Γ Γ' Γ1 Γ2 : GH} {h h' h1 h2 : ah} {C ho N M z s t o n c r a mn m0 rr i : Nat} {g : HG} {S S' S1 S2 : SS} {X X' X1 X2 : X3} {Y Y' Y1 Y2 : Y3} {ws hw : List (List Int)} {L : List Int} {κ ty v el nm w0 x x' : Int} {e : ENT}
theorem STG.lok (H : EXT ρ Γ h C ho X Y S g N M hw ws) (HC : CORE Γ h C ho X Y S N) (W : HWF g N M) (A : LOK Γ h C ho X Y S N h2 X2 Y2 S2) (K : LKE g hw ws h2 ho X2 Y2 S2 N M) : STG ρ Γ h C ho X Y S g N M hw ws Γ h2 X2 Y2 S2 ws 0 0 := by
  obtain ⟨E2, ly⟩ := H.lok HC W A K (A.2.2.2.2.2.1 _ _ _ (by decide))
  obtain ⟨⟨c1, c2⟩, g1, bd, ⟨z, s, fr⟩, o1, x1, y1, as⟩ := A
  have wn := wn_fr HC.1.1 fr ((djH (K := [f_Words_from]) (by decide +kernel)).w (by decide)) ((djH (K := [f_Words_bytes]) (by decide +kernel)).w (by decide)) H.2.1.1.kk.1 H.2.1.1.kk.2
  have x2 : OFX LKXx X X2 := x1
  have y2 : OFX LKYx Y Y2 := y1
  refine ⟨c1, E2, g1, o1.le (by decide +kernel), x2.le (by decide +kernel), y2.le (by decide +kernel), ⟨z, s, fr.mono (fun f hf => ?_) (fun q hq => ?_)⟩, BNA.of bd wn ly⟩
  · have : LHc.all (fun f => LHs.elem f) = true := by decide +kernel
    simpa using List.all_eq_true.mp this f hf
  · unfold PSs
    exact List.mem_append_left _ hq
theorem CORE.tk (HC : CORE Γ h C ho X Y S N) : X 50 f_Heap_ticks 0 = S f_Md_changes 0 := by
  obtain ⟨mk, rm, sm, tk, ck, sk, vk, hk, gk, -, -, -, -, -, -, ⟨g1, g2, -⟩⟩ := HC.2.2.2.2.2.2.2.2.1
  rw [g1, g2]
/-- no entry was hit -/
theorem iv_miss (K : SWK ρ Γ h C ho X Y S g N M hw ws t o n c r s a κ mn m0 rr ty v el nm L) (O : HSF g N M)
    (q : ∀ e Γ' S' h' X' Y', TIV ρ g N M s 263 [(4, vI (-1))] S (eT e) S' → STG ρ Γ h C ho X Y S g N M hw ws Γ' h' X' Y' S' ws 3 31 → ER e X' S' → Q (oE e (C + 33)) (cc h' C X' Y')) :
    (0 ≤ X 53 f_Found_linker 0 → wpB PGm ρ (d + 80) m_Lookup_look 0 [(0, vR (C + 98)), (1, vR a), (2, vR (C + 53))] [] (cc h C X Y) (cV (fun h42 => hK h42 (C + 32) = k_Machine ∧ hK h42 (hR h42 f_Machine_heap (C + 32)) = k_Heap ∧ hK h42 a = k_Site ∧ wpB PGm ρ (d + 80) m_Site_link 0 [(0, vR a), (1, vR (hR h42 f_Machine_found (C + 32))), (2, vI (hI h42 f_Heap_ticks (hR h42 f_Machine_heap (C + 32)))), (3, vR (hR h42 f_Machine_spare (C + 32)))] [] h42 (cV (fun h53 => wpB PGm ρ (d + 81) m_Machine_invoke 97 [(0, vR (C + 32)), (1, vR a), (2, vI (m0 : Int))] [] h53 Q) (fun e56 h55 => hK h55 e56 ≠ 0 ∧ Q (Sum.inr e56) h55))) (fun e45 h44 => hK h44 e45 ≠ 0 ∧ Q (Sum.inr e45) h44))) ∧ (X 53 f_Found_linker 0 < 0 → wpB PGm ρ (d + 80) m_Signal_of 0 [(0, vR (C + 33)), (1, vI 3)] [] (cc h C X Y) (cR (fun x65 h60 => hK h60 x65 ≠ 0 ∧ Q (Sum.inr x65) h60) (fun e63 h62 => hK h62 e63 ≠ 0 ∧ Q (Sum.inr e63) h62))) := by
  have Z := K.swh
  obtain ⟨P, E, ea0, hs, A, ⟨en, ee, hel, eL⟩, ⟨gt, gv, hty⟩, hb, hc⟩ := K
  have HC := P.1
  have G := HC.1.1
  have F := HC.1.2
  have W := O.1
  obtain ⟨s4, sk, sm, ses, hκ, m8⟩ := P.2.2.2.2.2.1
  obtain ⟨ge1, ge2⟩ := P.2.2.2.2.2.2.1
  have V := P.pl (i := 0) (Nat.zero_le _)
  rw [Nat.add_zero, Nat.add_zero, gt, gv] at V
  obtain ⟨v1, v2, v3, v4⟩ := vl_rng HC V.2.2
  have li : X 53 f_Found_linker 0 = if ty = 4 ∨ ty = 5 then 0 else gdL ty := A.1
  refine ⟨fun l0 => ?_, fun l0 => ?_⟩
  · have t3 : 3 ≤ ty := by
      rw [li] at l0
      unfold gdL at l0
      repeat' split at l0
      all_goals omega
    obtain ⟨kn, ac, CK, CV, ca, LK, c8⟩ := E.2.2.2.2
    refine j_look (d := d + 4) HC E.2.1.1 E.1.2.2.1 E.1.1.1.1 E.1.2.1.2 E.1.2.2.2.2.1 W O.2.1 LK c8 Z ⟨t3, hty.2⟩ (fun h2 X2 Y2 S2 kn2 ac2 CK2 CV2 ca2 TL LO K2 FH => ?_) (fun x x' h2 X2 Y2 S2 kn2 ac2 CK2 CV2 ca2 TL LO K2 xx => ?_)
    · have ST := STG.lok E HC W LO ⟨kn2, ac2, CK2, CV2, ca2, K2.1, K2.2⟩
      have M2 := ST.1
      have E2 := ST.2.1
      obtain ⟨⟨c1, c2⟩, g1, bd, ⟨z, s', fr⟩, o1, x1, y1, as⟩ := LO
      have es := fun {K : List Nat} (q : K.all (fun f => !(LKS.elem f)) = true) => o1.ex (L' := K) q
      have eB : hB h2 (C + 57) s = a := by
        have gz := G.1
        rw [(fr.ar G.2.1 (f := f_Machine_sites) (by unfold own; decide) (x := C + 32) (by omega) F.2.1.2.2.2.2.2.2.2.2.1 (by omega) (fun c => c.elim ((djH (K := [f_Machine_sites]) (by decide +kernel)).w (by decide)) ((djH (K := [f_Machine_sites + 1]) (by decide +kernel)).w (by decide))) (PMN0 _)).2.2]
        exact ea0
      have hs2 : (s : Int) < S2 f_Md_sites 0 := by rw [es (K := [f_Md_sites]) (by decide +kernel) _ (by decide)]; exact hs
      have SA := SIE.at E2.2.2.1 hs2
      rw [eB] at SA
      obtain ⟨⟨ka, az, an0⟩, ⟨ak, anm, aop⟩, -⟩ := SA
      have w1 := es (K := [f_Md_siteKind, f_Md_siteMany, f_Md_siteName, f_Md_elementName, f_Md_pileType, f_Md_pileValue]) (by decide +kernel)
      have P2 := P.mvg M2 (c2 P.2.1.2.2.1) (es (by decide +kernel)) (y1 _ _ _ (by decide)) ⟨ka, az, by rw [ak, w1 _ (by decide), sk]; exact P.2.2.2.2.2.2.2.2.2.1.symm, by rw [aop, w1 _ (by decide), sm]; exact P.2.2.2.2.2.2.2.2.2.2.symm⟩
      have KP : EKP h C ho S N M h2 S2 := EKP.gro E.1.1.1.1 G g1 bd.2.2.2 fr (djH (by decide +kernel)) PMN0
      have x2 : OFX LKXx X X2 := x1
      have A2 := A.mv KP (fun z => ⟨(v1 z).2.2.2.1, (v1 z).2.2.2.2⟩) v2 v3 (x2.exx (by decide)) (fun o f i hf => y1 o f i (by rcases hf with rfl | rfl | rfl <;> decide)) (es (by decide +kernel))
      have rh : hR (cc h2 C X2 Y2) f_Machine_heap (C + 32) = C + 50 := by rw [ccRo (by decide)]; exact M2.1.2.2.1.2.2.2.2.1
      have rf : hR (cc h2 C X2 Y2) f_Machine_found (C + 32) = C + 53 := by rw [ccRo (by decide)]; exact M2.1.2.2.1.2.2.2.2.2.1
      have rs : hR (cc h2 C X2 Y2) f_Machine_spare (C + 32) = C + 55 := by rw [ccRo (by decide)]; exact M2.1.2.2.1.2.2.2.2.2.2.1
      have tk : hI (cc h2 C X2 Y2) f_Heap_ticks (C + 50) = S2 f_Md_changes 0 := by rw [ccI (by decide)]; exact M2.tk
      refine ⟨M2.1.2.1.1, ?_⟩
      rw [rh, rf, rs, tk]
      refine ⟨M2.1.2.1.2.2.2.2.2.1, ka, ?_⟩
      refine j_link (d := d + 67) P2 E2 W eB hs2 A2 FH ⟨t3, hty.2⟩ hel (by rw [w1 _ (by decide)]; exact en) eL (by rw [w1 _ (by decide)]; exact gt) (by rw [w1 _ (by decide)]; exact gv) (fun Y3 h3 S3 T3 o3 y3 cm3 eB3 ST3 FN3 => ?_)
      have M3 := ST3.1
      have E3 := ST3.2.1
      have es3 := fun {K : List Nat} (q : K.all (fun f => !((LRW ++ LSI).elem f)) = true) => o3.ex (L' := K) q
      have hs3 : (s : Int) < S3 f_Md_sites 0 := by rw [es3 (K := [f_Md_sites]) (by decide +kernel) _ (by decide)]; exact hs2
      have SA := SIE.at E3.2.2.1 hs3
      rw [eB3] at SA
      obtain ⟨⟨ka3, az3, -⟩, ⟨ak3, anm3, aop3⟩, -⟩ := SA
      have w3 := es3 (K := [f_Md_siteKind, f_Md_siteMany, f_Md_siteName, f_Md_elementName, f_Md_pileType, f_Md_pileValue]) (by decide +kernel)
      have P3 := P2.mvg M3 (cm3 P2.2.1.2.2.1) (es3 (by decide +kernel)) (y3 _ _ _ (by decide)) ⟨ka3, az3, by rw [ak3, w3 _ (by decide), ak], by rw [aop3, w3 _ (by decide), aop]⟩
      have bb : bsS S3 t (c - 1) ≤ m0 := by
        have : bsS S3 t (c - 1) = bsS S t (c - 1) := by
          unfold bsS
          rw [es3 (K := [f_Md_frameBase]) (by decide +kernel) _ (by decide), es (K := [f_Md_frameBase]) (by decide +kernel) _ (by decide)]
        rw [this]; exact hb
      refine iv_acts (d := d + 40) P3 E3 O FN3 ⟨t3, hty.2⟩ (by rw [w3 _ (by decide), w1 _ (by decide)]; exact gt) (by rw [w3 _ (by decide), w1 _ (by decide)]; exact gv) bb ?_ (by rw [w3 _ (by decide), w1 _ (by decide)]; exact en) (by rw [w3 _ (by decide), w1 _ (by decide)]; exact ee) (fun e Γ' S' h' X' Y' T ST' er => ?_)
      · rw [es3 (K := [f_Md_changes]) (by decide +kernel) _ (by decide), es (K := [f_Md_changes]) (by decide +kernel) _ (by decide)]
        exact hc
      · exact q e Γ' S' h' X' Y' (T3 _ _ _ TL T) (((ST.tr ST3).tr ST').le (by omega) (by omega)) er
    · have ST := STG.lok E HC W LO ⟨kn2, ac2, CK2, CV2, ca2, K2.1, K2.2⟩
      have ST2 := ST.tr (STG.err (x := x) (x' := x') ST.2.1 ST.1 W)
      exact ⟨kSg ST2.1.1.2, q (some x) Γ _ _ _ _ (TIV.err TL) (ST2.le (by omega) (by omega)) (er_of (P.2.1.fc.off LO.2.2.2.2.1 (by decide +kernel)) xx)⟩
  · have t3 : ty < 3 := by
      rw [li] at l0
      unfold gdL at l0
      repeat' split at l0
      all_goals omega
    have ST := STG.scr (X' := X) (Y' := Y) (S' := lk0 S) E HC W OFX.rf OFX.rf (lk0_off.le (by decide +kernel)) E.1.2.2.2.2.2.2.2.1
    have ST2 := ST.1.tr (STG.err (x := 3) (x' := 3) ST.1.2.1 ST.1.1 W)
    have := q (some 3) Γ _ _ _ _ (TIV.err (TLK.low s4 sk (by rw [ge1]; exact gt) ⟨hty.1, t3⟩ (Or.inr rfl))) (ST2.le (by omega) (by omega)) (er_of (P.2.1.fc.off lk0_off (by decide)) (Or.inr ⟨by decide, rfl⟩))
    exact r_sigQ G F this
end
