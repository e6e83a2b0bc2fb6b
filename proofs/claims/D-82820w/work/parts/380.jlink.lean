set_option maxRecDepth 20000
section
variable {ρ : Nat → Nat} {d : Nat} {Q : QT} {Γ Γ' Γ1 Γ2 : GH} {h h' h1 h2 : ah} {C ho N M z s t o n c r a mn m0 rr i : Nat} {g : HG} {S S' S1 S2 : SS} {X X' X1 X2 : X3} {Y Y' Y1 Y2 : Y3} {ws hw : List (List Int)} {L : List Int} {κ ty v el nm w0 : Int} {e : ENT}
theorem SIE.at (H : SIE g h C ho Y S N M) (hs : (s : Int) < S f_Md_sites 0) : (hK h (hB h (C + 57) s) = k_Site ∧ hB h (C + 57) s < hz h ∧ hB h (C + 57) s ≠ 0) ∧ (hI h f_Site_kind (hB h (C + 57) s) = S f_Md_siteKind s ∧ hI h f_Site_name (hB h (C + 57) s) = S f_Md_siteName s ∧ hI h f_Site_operands (hB h (C + 57) s) = S f_Md_siteMany s) ∧ (0 ≤ S f_Md_siteKind s ∧ S f_Md_siteKind s ≤ 6) ∧ (0 ≤ S f_Md_siteMany s ∧ S f_Md_siteMany s ≤ 8) ∧ (s < 4000 ∧ S f_Md_sites 0 ≤ 4000) ∧ ∀ s : Nat, (s : Int) < S f_Md_sites 0 → S f_Md_entries s ≤ 4 := by
  obtain ⟨ea, sp, ⟨b1, b2, b3⟩, H1, -⟩ := H
  obtain ⟨c1, ⟨-, c2, c3, c4, -⟩, -, ⟨-, c5, c6⟩, -⟩ := H1 s hs
  refine ⟨c1, ⟨c2, c3, c4⟩, c5, c6, ⟨by omega, b2⟩, fun s hs => ?_⟩
  obtain ⟨-, -, -, -, l4, e4, -⟩ := H1 s hs
  omega
/-- what is known of a value that a site goes to -/
theorem vl_rng (HC : CORE Γ h C ho X Y S N) (V : VO S N ty v) : (ty = 4 ∨ ty = 5 → 0 ≤ v ∧ v < S f_Md_things 0 ∧ S f_Md_thingKind v.toNat = ty ∧ 0 ≤ S f_Md_thingShape v.toNat ∧ S f_Md_thingShape v.toNat < S f_Md_shapes 0) ∧ (ty = 5 → 0 ≤ S f_Md_thingFunction v.toNat ∧ S f_Md_thingFunction v.toNat < S f_Md_functions 0) ∧ (ty = 7 ∨ ty = 8 → 0 ≤ gdG S ty v ∧ gdG S ty v < (N : Int)) ∧ (ty = 4 ∨ ty = 5 ∨ ty = 7 → v < 8000) := by
  have ts := fun {k : Nat} => HC.tsh (k := k)
  obtain ⟨-, -, -, -, -, -, -, -, -, q7, -⟩ := HC
  obtain ⟨tn, sn, c1, c2, c3, c4, c5, c6, c6', c7, c8, c9, c10⟩ := q7
  unfold VO at V
  refine ⟨fun q => ?_, fun q => ?_, fun q => ?_, fun q => by omega⟩
  · have V' : 0 ≤ v ∧ v < S f_Md_things 0 ∧ S f_Md_thingKind v.toNat = ty := by omega
    have := ts (k := v.toNat) (by omega) (by omega)
    exact ⟨V'.1, V'.2.1, V'.2.2, this.1, this.2⟩
  · have V' : 0 ≤ v ∧ v < S f_Md_things 0 ∧ S f_Md_thingKind v.toNat = ty := by omega
    have T := (c7 v.toNat (by omega)).p.1.2.2.2.1
    rcases T with ⟨T, -⟩ | ⟨-, T1, T2, -⟩
    · omega
    · exact ⟨T1, T2⟩
  · unfold gdG
    rcases q with q | q
    · have V' : 0 ≤ v ∧ v < S f_Md_things 0 ∧ S f_Md_thingKind v.toNat = ty := by omega
      have T := (c7 v.toNat (by omega)).p.1.2.2.2.2
      rw [if_pos q]
      omega
    · rw [if_neg (by omega), if_pos q]
      omega
theorem es_opC (hκ : 0 ≤ κ ∧ κ ≤ 6) : opC κ mn ≤ esK κ mn ∧ (if κ = 1 then 1 else mn) ≤ (if κ = 0 ∨ κ = 2 ∨ κ = 3 then (if κ = 1 then 1 else mn) else esK κ mn) := by
  unfold opC esK
  constructor
  · repeat' split
    all_goals omega
  · repeat' split
    all_goals omega
/-- a site links what a look has found -/
theorem j_link (P : PFX Γ h C ho X Y S N t o n c r s a κ mn m0 rr) (E : EXT ρ Γ h C ho X Y S g N M hw ws) (W : HWF g N M) (ea0 : hB h (C + 57) s = a) (hs : (s : Int) < S f_Md_sites 0) (A : FDA h C ho X Y S κ ty v el nm rr mn) (FH : LFH g h C ho X Y S M κ mn ty v el nm L rr) (hty : 3 ≤ ty ∧ ty ≤ 8) (hel : ¬ (κ = 2 ∨ κ = 3) → el = -1) (en : S f_Md_siteName s = nm) (eL : L = LTW ws κ nm) (gt : S f_Md_pileType rr = ty) (gv : S f_Md_pileValue rr = v)
    (q : ∀ Y2 h2 S2, (∀ S0 e S', TLK ρ g N M s 1 S0 (some none) S → TIV ρ g N M s 308 [] S2 e S' → TIV ρ g N M s 263 [(4, vI (-1))] S0 e S') → OFF (LRW ++ LSI) S S2 → (∀ o f i, f ≠ f_Spare_free → Y2 o f i = Y o f i) → (∀ {t o n c r : Nat}, CT Γ h C X Y S N t o n c r → CT Γ h2 C X Y2 S2 N t o n c r) → hB h2 (C + 57) s = a → STG ρ Γ h C ho X Y S g N M hw ws Γ h2 X Y2 S2 ws 2 23 → FND g h2 C ho X Y2 S2 M κ nm L mn ty v el rr → Q (Sum.inl none) (cc h2 C X Y2)) : wpB PGm ρ (d + 13) m_Site_link 0 [(0, vR a), (1, vR (C + 53)), (2, vI (S f_Md_changes 0)), (3, vR (C + 55))] [] (cc h C X Y) Q := by
  have HC := P.1
  have G := HC.1.1
  have F := HC.1.2
  have ij := G.2.1
  obtain ⟨s4, sk, sm, ses, hκ, m8⟩ := P.2.2.2.2.2.1
  obtain ⟨ea, sp, SI⟩ := E.2.2.1
  obtain ⟨⟨FO, FL, EV⟩, fm⟩ := FH
  have SA := SIE.at E.2.2.1 hs
  rw [ea0] at SA
  obtain ⟨⟨ka, az, an0⟩, ⟨ak, anm, aop⟩, -, -, -, l4⟩ := SA
  obtain ⟨CH, al⟩ := SI.get hs
  rw [ea0] at CH
  have S1' := SI.2.1 s hs
  rw [ea0] at S1'
  obtain ⟨-, -, ⟨lk, lh, lp, lm⟩, ⟨mg01, -, -⟩, le4, een, -, -⟩ := S1'
  have V := P.pl (i := 0) (Nat.zero_le _)
  rw [Nat.add_zero, Nat.add_zero, gt, gv] at V
  obtain ⟨v1, v2, v3, v4⟩ := vl_rng HC V.2.2
  have ⟨fmn, efm, fm8, pv⟩ : ∃ fmn : Nat, S f_Md_foundMany 0 = (fmn : Int) ∧ fmn ≤ 8 ∧ PVS S N rr fmn := by
    have oc := (es_opC (mn := mn) hκ).1
    rcases fm with z | z
    · exact ⟨0, by omega, by omega, P.pvs (Nat.zero_le _)⟩
    · exact ⟨opC κ mn, z, opC_8 m8, P.pvs oc⟩
  have eop : ¬ fmn = 0 → fmn = opC κ mn := fun z => by omega
  have hN := W.2.2.2.2.1
  generalize er : nwE S (gtS S rr (S f_Md_foundMany 0)) = re at *
  have la : re f_Md_linkedAt = S f_Md_changes 0 := by rw [← er]; rfl
  have gm : re f_Md_guardMany = (fmn : Int) := by rw [← er]; exact efm
  have gty : re f_Md_guardTypes = gtS S rr (fmn : Int) := by rw [← er, ← efm]; rfl
  have gl := gtS_lt pv hN fm8
  rw [← gty] at gl
  have gs : ¬ re f_Md_guardMany = 0 → ∀ i, i < opC κ mn → gtA (re f_Md_guardTypes) i = tyT S (S f_Md_pileType (rr + 1 + i)) (S f_Md_pileValue (rr + 1 + i)) := fun nz i hi => by
    rw [gty, gtS_get (gt_lt pv hN) (by rw [eop (by omega)]; exact hi), tsT_ge2 (by rw [eop (by omega)]; exact hi)]
  have GD := GDE.new (rr := rr) FL hty m8 gs
  have hfnd : ∀ Y2 h2 S2, OFF (LRW ++ LSI) S S2 → (∀ o f i, f ≠ f_Spare_free → Y2 o f i = Y o f i) → EKP h C ho S N M h2 S2 → STG ρ Γ h C ho X Y S g N M hw ws Γ h2 X Y2 S2 ws 2 23 → FND g h2 C ho X Y2 S2 M κ nm L mn ty v el rr := fun Y2 h2 S2 o2 y2 K ST => by
    have es := fun {K : List Nat} (q : K.all (fun f => !((LRW ++ LSI).elem f)) = true) => o2.ex (L' := K) q
    have E2 := EV.chg HC.bef (CHG.ex (es (by decide +kernel)))
    refine ⟨re, E2, FO.ext K y2, ?_, STE.new ST.1 E2 (by rw [la, es (K := [f_Md_changes]) (by decide +kernel) _ (by decide)]), ?_⟩
    · have w := es (K := [f_Md_foundLinker, f_Md_foundWhich, f_Md_foundHolder, f_Md_foundShape]) (by decide +kernel)
      rw [w _ (by decide), w _ (by decide), w _ (by decide), w _ (by decide), ← er]
      exact ⟨rfl, rfl, rfl, rfl⟩
    · exact (GDE.e (es (by decide +kernel))).mpr GD
  have hst : ∀ Y2 h2 S2, (∃ z s : Nat, z ≤ 2 ∧ s ≤ 23 ∧ Fr LSF2 [] z s h h2) → OFF (LRW ++ LSI) S S2 → (∀ o f i, f ≠ f_Spare_free → Y2 o f i = Y o f i) → EKP h C ho S N M h2 S2 → hB h2 (C + 57) s = a → SIE g h2 C ho Y2 S2 N M → EVS g S2 ws → (∀ S0 e S', TLK ρ g N M s 1 S0 (some none) S → TIV ρ g N M s 308 [] S2 e S' → TIV ρ g N M s 263 [(4, vI (-1))] S0 e S') → Q (Sum.inl none) (cc h2 C X Y2) := fun Y2 h2 S2 ⟨z, s', z2, s2, fr⟩ o2 y2 K eB SI2 EV2 T => by
    obtain ⟨ST, cm⟩ := STG.sit E HC W fr o2 y2 SI2 EV2
    have ST := ST.le (kz2 := 2) (ks2 := 23) (by omega) (by omega)
    exact q Y2 h2 S2 T o2 y2 (fun K => cm K) eB ST (hfnd Y2 h2 S2 o2 y2 K ST)
  by_cases mg : S f_Md_isMega s = 0
  · obtain ⟨S2, o2, sl, k1, k2, k3, k4, TL⟩ := s_links (ρ := ρ) (rr := rr) s4 le4 een efm fm8 pv hN
    have o2' : OFF (LRW ++ LSI) S S2 := o2.le (by decide +kernel)
    have T : ∀ S0 e S', TLK ρ g N M s 1 S0 (some none) S → TIV ρ g N M s 308 [] S2 e S' → TIV ρ g N M s 263 [(4, vI (-1))] S0 e S' := fun S0 e S' LK H => TIV.link s4 LK mg TL H
    have e3 := o2'.ex (L' := [f_Md_things, f_Md_shapes, f_Md_functions, f_Md_thingKind]) (by decide +kernel)
    by_cases n9 : w32 (S f_Md_links s + 1) = 9
    · rcases k4 with ⟨-, k5, k6⟩ | ⟨k5, -⟩
      · have i1 : hI (cc h C X Y) f_Site_megamorphic a = 0 := by rw [ccIo (by decide), lm]; exact mg
        have i2 : hI (cc h C X Y) f_Site_links a = S f_Md_links s := (ccIo (by decide)).trans lk
        refine b_Site_link_0 (d := d + 12) ⟨ka, ?_⟩
        rw [i1, i2, n9]
        refine ⟨fun _ => ?_, fun c => absurd rfl c⟩
        show (¬ hI (sI (cc h C X Y) f_Site_links a 9) f_Site_links a = 9 → _) ∧ _
        rw [cc_sIo (by decide), show hI (cc (sI h f_Site_links a 9) C X Y) f_Site_links a = 9 from (ccIo (by decide)).trans (I_I ..)]
        refine ⟨fun c => absurd rfl c, fun _ => ?_⟩
        show wpB PGm ρ (d + 12) m_Site_letGo 0 [(0, vR a), (1, vR (C + 55))] [] (sI (cc (sI h f_Site_links a 9) C X Y) f_Site_megamorphic a 1) _
        rw [cc_sIo (by decide)]
        have fr0 : Fr LSF2 [] 0 0 h (sI (sI h f_Site_links a 9) f_Site_megamorphic a 1) := (Fr.r0.wI (by decide) (Or.inl (by decide))).wI (by decide) (Or.inl (by decide))
        have HC1 : CORE Γ (sI (sI h f_Site_links a 9) f_Site_megamorphic a 1) C ho X Y S N := (HC.fzz (L := LSF2) (Pp := []) (X' := X) (Y' := Y) fr0 (by unfold DJ; decide +kernel) (fun y c => by simp at c) (fun _ _ _ => rfl) (Int.le_refl _) EXX.rf (fun o f hf i => rfl)).1.1
        obtain ⟨c1, c2, c3, c4, c5, c6⟩ := CH
        refine r_letGo (d := d + 11) (E := ea s ++ sp) HC1 ka az (ea s) sp _ Y _ HJ.rf (c1.fr (fun _ _ => rfl)) c2 (c4.fr (fun _ _ => rfl)) c5 c6 (fun x hx => ⟨hx, (al x hx).1, (al x hx).2.1⟩) (fun h2 Y2 sp2 J CH2 al2 p1 p2 => ?_)
        have SI2 := SI.mega (S2 := S2) ij F HC.hz57 hs ea0 J CH2 (fun x hx => (al2 x hx).1) o2 sl k6 (by rw [k1]; exact n9) k5 (by rw [p1]; rfl) (by rw [p2]; rfl)
        have frj : Fr LSF2 [] 0 0 (sI (sI h f_Site_links a 9) f_Site_megamorphic a 1) h2 := J.1.mono (fun f hf => by
          have : LSJ.all (fun f => LSF2.elem f) = true := by decide
          simpa using List.all_eq_true.mp this f hf) (fun q hq => hq)
        have frT := fr0.trans frj
        have K := EKP.fr (S := S) (S' := S2) E.1.1.1.1 G F frT (by unfold DJ; decide +kernel) (fun y c => by simp at c) e3
        exact hst Y2 h2 S2 ⟨_, _, by omega, by omega, frT⟩ o2' J.2.1 K (by rw [J.2.2.2.2.2]; exact ea0) ⟨_, _, SI2⟩ (E.2.2.2.1.mega HC.bef k6 o2 sl l4) T
      · exact absurd n9 k5
    · rcases k4 with ⟨k5, -⟩ | ⟨-, k5, k6, k7⟩
      · exact absurd k5 n9
      · have nE : (nwE S (gtW ((tsT S rr fmn).map Int.toNat) : Int)) = re := by
          rw [← er]; unfold gtS; rw [efm, Int.toNat_natCast]
        rw [nE] at k7
        refine r_link (d := d) (n := opC κ mn) HC ka az (by rw [lm]; exact mg) (by rw [lk]; exact n9) FL.2.1 (fun z => ?_) CH le4 al (fun e h2 Y2 sp2 be J SQ ec cl CH2 se al2 lk2 => ?_)
        · obtain ⟨b1, b2, b3, b4, b5, b6⟩ := FL
          have t7 : ty = 7 ∨ ty = 8 := by
            by_cases y1 : ty = 4 ∨ ty = 5
            · exact absurd (b4 y1).2.1 z
            · by_cases y2 : ty = 3 ∨ ty = 6
              · exact absurd (b5 y2).2.2 z
              · omega
          exact ⟨(A.2.2.2 t7).2.1, opC_8 m8⟩
        · obtain ⟨⟨z, s', z2, s2, fr⟩, jy, -⟩ := id J
          have frT : Fr LSF2 [] z s' h h2 := fr.mono (fun f hf => by
            have : LNF.all (fun f => LSF2.elem f) = true := by decide
            simpa using List.all_eq_true.mp this f hf) (fun q hq => hq)
          have K := EKP.fr (S := S) (S' := S2) E.1.1.1.1 G F frT (by unfold DJ; decide +kernel) (fun y c => by simp at c) e3
          have EN := ENO.new (S2 := S2) (rr := rr) SQ ec cl A FO FL K J.2.2.2.2.2.2.2 hty hκ hel (fun z => ⟨(v1 z).2.2.2.1, (v1 z).2.2.2.2⟩) v2 v3 m8 gl gs la
          have hz3 : ho + 3 < hz h := by
            have := E.1.2.2.2.2.1
            have := G.1
            omega
          have SI2 := SI.link (S2 := S2) (r := re) ij hz3 F HC.hz57 hs ea0 J se ec CH2 al2 o2 sl k6 (by rw [sk, en, sm, Int.toNat_natCast]; exact EN) k7 (by rw [k1, lk2, lk]) k5
          have eB : hB h2 (C + 57) s = a := by
            rw [J.2.2.2.2.2.1 _ _ HC.hz57]; exact ea0
          refine hst Y2 h2 S2 ⟨z, s', z2, s2, frT⟩ o2' jy K eB ⟨_, _, SI2⟩ (E.2.2.2.1.link HC.bef een k6 k7 o2 sl l4 ?_) T
          rw [sk, en, sm, Int.toNat_natCast, ← eL]
          exact EV
  · have i1 : ¬ hI (cc h C X Y) f_Site_megamorphic a = 0 := by rw [ccIo (by decide), lm]; exact mg
    refine b_Site_link_0 (d := d + 12) ⟨ka, fun c => absurd c i1, fun _ => ?_⟩
    exact hst Y h S ⟨0, 0, by omega, by omega, Fr.r0⟩ OFF.rf (fun _ _ _ _ => rfl) ⟨fun _ _ => rfl, fun _ _ => rfl, fun _ _ => rfl, fun _ _ => rfl, fun _ _ => rfl, Int.le_refl _, Int.le_refl _, Int.le_refl _, fun _ _ => rfl⟩ ea0 E.2.2.1 E.2.2.2.1 (fun S0 e S' LK H => TIV.mega s4 LK mg H)
end
