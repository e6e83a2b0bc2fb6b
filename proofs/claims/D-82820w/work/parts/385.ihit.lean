set_option maxRecDepth 20000
section
variable {ρ : Nat → Nat} {d : Nat} {Q : QT} {Γ Γ' Γ1 Γ2 : GH} {h h' h1 h2 : ah} {C ho N M z s t o n c r a mn m0 rr i : Nat} {g : HG} {S S' S1 S2 : SS} {X X' X1 X2 : X3} {Y Y' Y1 Y2 : Y3} {ws hw : List (List Int)} {L : List Int} {κ ty v el nm w0 x x' : Int} {e : ENT}
theorem SWK.mv (K : SWK ρ Γ h C ho X Y S g N M hw ws t o n c r s a κ mn m0 rr ty v el nm L) (ST : STG ρ Γ h C ho X Y S g N M hw ws Γ h2 X Y2 S2 ws x x') (cm : ∀ {t o n c r : Nat}, CT Γ h C X Y S N t o n c r → CT Γ h2 C X Y2 S2 N t o n c r) (o2 : OFF (LRW ++ LSI) S S2) (y2 : ∀ o f i, f ≠ f_Spare_free → Y2 o f i = Y o f i) (eB : hB h2 (C + 57) s = a) (KP : EKP h C ho S N M h2 S2) : SWK ρ Γ h2 C ho X Y2 S2 g N M hw ws t o n c r s a κ mn m0 rr ty v el nm L := by
  obtain ⟨P, E, ea0, hs, A, ⟨en, ee, hel, eL⟩, ⟨gt, gv, hty⟩, hb, hc⟩ := K
  have HC := P.1
  have V := P.pl (i := 0) (Nat.zero_le _)
  rw [Nat.add_zero, Nat.add_zero, gt, gv] at V
  obtain ⟨v1, v2, v3, v4⟩ := vl_rng HC V.2.2
  have M3 := ST.1
  have E3 := ST.2.1
  have es3 := fun {K : List Nat} (q : K.all (fun f => !((LRW ++ LSI).elem f)) = true) => o2.ex (L' := K) q
  have hs3 : (s : Int) < S2 f_Md_sites 0 := by rw [es3 (K := [f_Md_sites]) (by decide +kernel) _ (by decide)]; exact hs
  have SA := SIE.at E3.2.2.1 hs3
  rw [eB] at SA
  obtain ⟨⟨ka3, az3, -⟩, ⟨ak3, anm3, aop3⟩, -⟩ := SA
  have w3 := es3 (K := [f_Md_siteKind, f_Md_siteMany, f_Md_siteName, f_Md_elementName, f_Md_pileType, f_Md_pileValue, f_Md_frameBase, f_Md_changes]) (by decide +kernel)
  obtain ⟨s4, sk, sm, ses, hκ, m8⟩ := P.2.2.2.2.2.1
  have P3 := P.mvg M3 (cm P.2.1.2.2.1) (es3 (by decide +kernel)) (y2 _ _ _ (by decide)) ⟨ka3, az3, by rw [ak3, w3 _ (by decide), sk]; exact P.2.2.2.2.2.2.2.2.2.1.symm, by rw [aop3, w3 _ (by decide), sm]; exact P.2.2.2.2.2.2.2.2.2.2.symm⟩
  have A2 := A.mv KP (fun z => ⟨(v1 z).2.2.2.1, (v1 z).2.2.2.2⟩) v2 v3 EXX.rf (fun o f i hf => y2 o f i (by rcases hf with rfl | rfl | rfl <;> decide)) (es3 (by decide +kernel))
  refine ⟨P3, E3, eB, hs3, A2, ⟨by rw [w3 _ (by decide)]; exact en, by rw [w3 _ (by decide)]; exact ee, hel, eL⟩, ⟨by rw [w3 _ (by decide)]; exact gt, by rw [w3 _ (by decide)]; exact gv, hty⟩, ?_, by rw [w3 _ (by decide)]; exact hc⟩
  unfold bsS at hb ⊢
  rw [w3 _ (by decide)]
  exact hb
theorem enL_len : (enL S s n).length = n := by unfold enL; simp
theorem enL_gD {j : Nat} {l2 : List ENT} (e1 : enL S s n = l2) (hj : j < n) : ∃ e, l2[j]? = some e ∧ rowE S (5 * s + j) = e := by
  refine ⟨rowE S (5 * s + j), ?_, rfl⟩
  rw [← e1]
  exact enL_get hj
/-- the entries of a site are gone through -/
theorem iv_hit (K : SWK ρ Γ h C ho X Y S g N M hw ws t o n c r s a κ mn m0 rr ty v el nm L) (O : HSF g N M)
    (q1 : ∀ Γ1 h1 Y1 S1, (∀ e S', TIV ρ g N M s 263 [(4, vI (-1))] S1 e S' → TIV ρ g N M s 138 [(2, vI κ), (4, vI (-1)), (5, vI 0)] S e S') → SWK ρ Γ1 h1 C ho X Y1 S1 g N M hw ws t o n c r s a κ mn m0 rr ty v el nm L → STG ρ Γ h C ho X Y S g N M hw ws Γ1 h1 X Y1 S1 ws 0 0 → Q (Sum.inl (some (vR 0))) (cc h1 C X Y1))
    (q2 : ∀ Γ1 h1 Y1 S1 a1 e1, a1 ≠ 0 → hK h1 a1 = k_Entry → SWK ρ Γ1 h1 C ho X Y1 S1 g N M hw ws t o n c r s a κ mn m0 rr ty v el nm L → STG ρ Γ h C ho X Y S g N M hw ws Γ1 h1 X Y1 S1 ws 0 0 → ENO g h1 C ho S1 N M κ nm mn a1 e1 → ENV g S1 κ nm L mn e1 → STE S1 κ e1 0 → GDE S1 κ ty v el rr e1 → (∀ S2 e S', TLK ρ g N M s 0 S1 (some none) S2 → OFF (LFO ++ LHK) S1 S2 → S2 f_Md_foundHolder 0 = e1 f_Md_holder → S2 f_Md_foundWhich 0 = e1 f_Md_which → S2 f_Md_foundShape 0 = e1 f_Md_toShape → S2 f_Md_foundLinker 0 = e1 f_Md_linker → TIV ρ g N M s 308 [] S2 e S' → TIV ρ g N M s 138 [(2, vI κ), (4, vI (-1)), (5, vI 0)] S e S') → Q (Sum.inl (some (vR a1))) (cc h1 C X Y1)) :
    wpB PGm ρ (d + 2) m_Site_hit 0 [(0, vR a), (1, vR (C + 53)), (2, vR (C + 55))] [] (cc h C X Y) Q := by
  have K0 := K
  obtain ⟨P, E, ea0, hs, A, ⟨en, ee, hel, eL⟩, ⟨gt, gv, hty⟩, hb, hc⟩ := K
  have HC := P.1
  have G := HC.1.1
  have F := HC.1.2
  have W := O.1
  have hN := W.2.2.2.2.1
  have ij := G.2.1
  obtain ⟨s4, sk, sm, ses, hκ, m8⟩ := P.2.2.2.2.2.1
  obtain ⟨ge1, ge2⟩ := P.2.2.2.2.2.2.1
  have V := P.pl (i := 0) (Nat.zero_le _)
  rw [Nat.add_zero, Nat.add_zero, gt, gv] at V
  obtain ⟨v1, v2, v3, v4⟩ := vl_rng HC V.2.2
  obtain ⟨ea, sp, SI⟩ := E.2.2.1
  have SA := SIE.at E.2.2.1 hs
  rw [ea0] at SA
  obtain ⟨⟨ka, az, an0⟩, ⟨ak, anm, aop⟩, -, -, -, l4⟩ := SA
  obtain ⟨CH, al⟩ := SI.get hs
  rw [ea0] at CH
  have S1' := SI.2.1 s hs
  rw [ea0] at S1'
  unfold SI1 at S1'
  rw [sk, en, sm, Int.toNat_natCast] at S1'
  obtain ⟨-, -, ⟨lk, lh, lp, lm⟩, -, le4, een, -, ens⟩ := S1'
  generalize enn : (ea s).length = nn at *
  have rst1 : ((List.range nn).map (fun i => ((ea s).getD i 0, rowE S (5 * s + i)))).map (·.1) = ea s := by
    rw [List.map_map]
    refine List.ext_getElem? (fun i => ?_)
    rw [List.getElem?_map]
    by_cases hi : i < nn
    · rw [List.getElem?_range hi]
      simp only [Option.map_some, Function.comp]
      rw [List.getElem?_eq_getElem (by omega)]
      simp [List.getD, List.getElem?_eq_getElem (show i < (ea s).length by omega)]
    · rw [List.getElem?_eq_none (by simpa using hi), List.getElem?_eq_none (by omega)]
      rfl
  have rst2 : ((List.range nn).map (fun i => ((ea s).getD i 0, rowE S (5 * s + i)))).map (·.2) = enL S s nn := by
    rw [List.map_map]; rfl
  have rstm : ∀ q, q ∈ (List.range nn).map (fun i => ((ea s).getD i 0, rowE S (5 * s + i))) → ∃ i, i < nn ∧ q = ((ea s).getD i 0, rowE S (5 * s + i)) := fun q hq => by
    rw [List.mem_map] at hq
    obtain ⟨i, hi, e⟩ := hq
    exact ⟨i, by simpa using hi, e.symm⟩
  have rstl : ((List.range nn).map (fun i => ((ea s).getD i 0, rowE S (5 * s + i)))).length = nn := by simp
  generalize hrest : (List.range nn).map (fun i => ((ea s).getD i 0, rowE S (5 * s + i))) = rest at *
  have ENr : ∀ q, q ∈ rest → ENO g h C ho S N M κ nm mn q.1 q.2 := fun q hq => by
    obtain ⟨i, hi, e⟩ := rstm q hq
    rw [e]; exact ens i hi
  refine b_Site_hit_0 ⟨ka, ?_⟩
  have r1 : hR (cc h C X Y) f_Site_first a = hdO (rest.map (·.1)) 0 := by rw [ccRo (by decide), rst1]; exact CH.2.1
  rw [r1]
  refine r_hitl (d := d) (E := ea s ++ sp) HC ka az hκ A hty E.1.1.1.1.tad (fun z => ⟨(v1 z).1, (v1 z).2.1, (v1 z).2.2.1⟩) hel v3 (fun _ => P.pvs (es_opC (mn := mn) hκ).1) rest [] sp h Y Q ENr HJ.rf (by rw [List.nil_append, rst1]; exact CH) (fun x hx => ?_) (by rw [List.length_nil, rstl]; omega) (fun l2 o' h2 Y2 sp2 HI sub J CH2 al2 p1 p2 => ?_)
  · rw [List.nil_append, rst1] at hx
    exact ⟨hx, (al x hx).1, (al x hx).2.1⟩
  rw [rst2] at HI
  rw [List.nil_append] at CH2 al2
  rw [rstl] at p1
  have hlen := HI.len
  rw [enL_len, List.length_map] at hlen
  have vb8 : ty = 4 ∨ ty = 5 ∨ ty = 7 ∨ ty = 8 → 0 ≤ v ∧ v < 8000 := fun z => by
    obtain ⟨-, -, OO⟩ := V
    unfold VO at OO
    by_cases z8 : ty = 8
    · omega
    · have := v4 (by omega)
      omega
  have eok : ∀ e, e ∈ enL S s nn → EOK S N rr κ ty e := fun e he => by
    obtain ⟨i, hi, e1⟩ := enL_mem he
    rw [e1]
    exact ENO.eok (ens i hi) (fun k hk => P.pvs hk) hκ m8
  obtain ⟨S2, o2, sl, k1, k2, k3, TH⟩ := s_hitl (ρ := ρ) (s := s) HC s4 hN (by rw [ge1]; exact gt) (by rw [ge2]; exact gv) ee vb8 (enL S s nn) (l2.map (·.2)) o' HI eok [] S OFF.rf (by rw [List.length_nil, enL_len, Nat.zero_add]; exact een) (by rw [List.length_nil, enL_len]; omega) (by rw [List.length_nil, enL_len, Nat.zero_add]; rfl)
  rw [List.length_nil, Nat.zero_add, List.length_map] at k1 k3
  rw [List.nil_append] at k3
  rw [enL_len, List.length_map] at k2
  have l2a : ∀ x, x ∈ l2.map (·.1) ++ sp2 → x ∈ ea s ++ sp := fun x hx => (al2 x hx).1
  have l24 : (l2.map (·.1)).length ≤ 4 := by rw [List.length_map]; omega
  have row2 : ∀ i, i < l2.length → ∃ q, q ∈ l2 ∧ l2[i]? = some q ∧ (l2.map (·.1)).getD i 0 = q.1 ∧ rowE S2 (5 * s + i) = q.2 := fun i hi => by
    refine ⟨l2[i], List.getElem_mem hi, List.getElem?_eq_getElem hi, ?_, ?_⟩
    · simp [List.getD, List.getElem?_eq_getElem hi]
    · obtain ⟨e, e1, e2⟩ := enL_gD k3 hi
      rw [e2]
      rw [List.getElem?_map, List.getElem?_eq_getElem hi] at e1
      exact (Option.some.inj e1).symm
  have frj : ∀ h2, Fr LSJ [] 0 0 h h2 → Fr LSF2 [] 0 0 h h2 := fun h2 fr => fr.mono (fun f hf => by
    have : LSJ.all (fun f => LSF2.elem f) = true := by decide
    simpa using List.all_eq_true.mp this f hf) (fun q hq => hq)
  -- what is left, hit or not
  have stage : ∀ S3 : SS, OFF (LHT ++ [f_Md_hits]) S S3 → SLO s S S3 → S3 f_Md_entries s = (l2.length : Int) → enL S3 s l2.length = l2.map (·.2) → hI h2 f_Site_hits a = S3 f_Md_hits s → hI h2 f_Site_pruned a = S3 f_Md_pruned s → (∀ i, i < l2.length → ∃ q, q ∈ l2 ∧ l2[i]? = some q ∧ (l2.map (·.1)).getD i 0 = q.1 ∧ rowE S3 (5 * s + i) = q.2) → SWK ρ Γ h2 C ho X Y2 S3 g N M hw ws t o n c r s a κ mn m0 rr ty v el nm L ∧ STG ρ Γ h C ho X Y S g N M hw ws Γ h2 X Y2 S3 ws 0 0 := fun S3 o3 sl3 e3 en3 hh hp row3 => by
    have SI2 := SI.hit (S2 := S3) ij F HC.hz57 hs ea0 J CH2 l2a o3 sl3 l24 (by rw [List.length_map]; exact e3) (fun i hi => by
      rw [List.length_map] at hi
      obtain ⟨q, m1, -, m2, m3⟩ := row3 i hi
      rw [m2, m3, sk, en, sm, Int.toNat_natCast]
      exact ENr q (sub q m1)) hh hp
    have EV2 := E.2.2.2.1.hit HC.bef HI een (by rw [List.length_map]; exact e3) (by rw [List.length_map]; exact en3) o3 sl3 l4
    have o3' : OFF (LRW ++ LSI) S S3 := o3.le (by decide +kernel)
    obtain ⟨ST, cm⟩ := STG.sit E HC W (frj h2 J.1) o3' J.2.1 ⟨_, _, SI2⟩ EV2
    have KP := EKP.fr (S := S) (S' := S3) E.1.1.1.1 G F (frj h2 J.1) (by unfold DJ; decide +kernel) (fun y c => by simp at c) (o3'.ex (by decide +kernel))
    exact ⟨K0.mv ST (fun K => cm K) o3' J.2.1 (by rw [J.2.2.2.2.2]; exact ea0) KP, ST⟩
  have h138 : ∀ e S', TIV ρ g N M s 263 [(4, vI (match o' with | none => -1 | some i => ((5 * s + i : Nat) : Int)))] S2 e S' → TIV ρ g N M s 138 [(2, vI κ), (4, vI (-1)), (5, vI 0)] S e S' := fun e S' T => by
    intro d' h0 T0 Q' PT qq
    have := TH (d' + 197) h0 T0 Q' PT.1.1 (by
      have := T d' h0 T0 Q' PT qq
      cases o' with
      | none => exact this
      | some i => simpa using this)
    exact this
  cases o' with
  | none =>
    obtain ⟨SK, ST⟩ := stage S2 (o2.le (by decide +kernel)) sl k1 k3 (by rw [p2, if_pos rfl, lh, o2 _ _ (by decide +kernel)]) (by rw [p1, lp, k2]) row2
    exact q1 Γ h2 Y2 S2 h138 SK ST
  | some j =>
    have hj : j < l2.length := by
      have := hlen.2 j rfl
      exact this
    obtain ⟨q, m1, m0', m2, m3⟩ := row2 j hj
    obtain ⟨e1, x1, x2, x3⟩ := HITR.at _ _ _ HI
    have eq1 : e1 = q.2 := by
      rw [List.getElem?_map, m0'] at x1
      exact (Option.some.inj x1).symm
    have ov : ∀ f, f ≠ f_Md_hits → ∀ i, u2 S2 f_Md_hits s (w32 (S2 f_Md_hits s + 1)) f i = S2 f i := fun f hf i => u2_f hf
    have o3 : OFF (LHT ++ [f_Md_hits]) S (u2 S2 f_Md_hits s (w32 (S2 f_Md_hits s + 1))) := (o2.le (by decide +kernel)).u (by decide +kernel)
    have rowh : ∀ i, rowE (u2 S2 f_Md_hits s (w32 (S2 f_Md_hits s + 1))) i = rowE S2 i := fun i => by
      funext f
      unfold rowE
      by_cases w : LRW.elem f = true
      · rw [if_pos w, if_pos w]
        exact ov f (by rintro rfl; exact absurd w (by decide)) i
      · rw [if_neg w, if_neg w]
    have enh : enL (u2 S2 f_Md_hits s (w32 (S2 f_Md_hits s + 1))) s l2.length = enL S2 s l2.length := by
      unfold enL
      simp only [rowh]
    have hh2 : S2 f_Md_hits s = S f_Md_hits s := o2 _ _ (by decide +kernel)
    obtain ⟨SK, ST⟩ := stage _ o3 (sl.u (by decide)) (by rw [ov _ (by decide)]; exact k1) (by rw [enh]; exact k3) (by rw [p2, if_neg (by simp), lh, u2_s, hh2]) (by rw [p1, lp, ov _ (by decide), k2]) (fun i hi => by
      obtain ⟨q, m1, m2, m3, m4⟩ := row2 i hi
      exact ⟨q, m1, m2, m3, by rw [rowh]; exact m4⟩)
    generalize hS3 : u2 S2 f_Md_hits s (w32 (S2 f_Md_hits s + 1)) = S3 at *
    have M3 := ST.1
    have es := fun {K : List Nat} (q : K.all (fun f => !((LHT ++ [f_Md_hits]).elem f)) = true) => o3.ex (L' := K) q
    have EN3 : ENO g h2 C ho S3 N M κ nm mn q.1 q.2 := by
      obtain ⟨ea3, sp3, SI3⟩ := SK.2.1.2.2.1
      have K3 := EKP.fr (S := S) (S' := S3) E.1.1.1.1 G F (frj h2 J.1) (by unfold DJ; decide +kernel) (fun y c => by simp at c) (es (by decide +kernel))
      have := HJ.eno J ij (ENr q (sub q m1))
      exact this.same (S' := S3) ⟨fun _ _ => rfl, fun _ _ => rfl, fun _ _ => rfl, fun _ _ => rfl, fun _ _ => rfl, Int.le_of_eq (es (K := [f_Md_things]) (by decide +kernel) _ (by decide) _).symm, Int.le_of_eq (es (K := [f_Md_shapes]) (by decide +kernel) _ (by decide) _).symm, Int.le_of_eq (es (K := [f_Md_functions]) (by decide +kernel) _ (by decide) _).symm, fun k _ => es (K := [f_Md_thingKind]) (by decide +kernel) _ (by decide) k⟩ ⟨this.1.1, this.1.2.1⟩ (fun _ _ => rfl) (fun _ _ => rfl) (fun _ => ⟨rfl, rfl, fun _ => rfl⟩)
    have EV3 : ENV g S3 κ nm L mn q.2 := by
      have hs3 : (s : Int) < S3 f_Md_sites 0 := by rw [es (K := [f_Md_sites]) (by decide +kernel) _ (by decide)]; exact hs
      have := SK.2.1.2.2.2.1 s hs3 j (by rw [ov _ (by decide), k1]; omega)
      rw [es (K := [f_Md_siteKind]) (by decide +kernel) _ (by decide), es (K := [f_Md_siteName]) (by decide +kernel) _ (by decide), es (K := [f_Md_siteMany]) (by decide +kernel) _ (by decide), sk, en, sm, Int.toNat_natCast, ← eL, rowh, m3] at this
      exact this
    have a1 : hrA l2 (some j) = q.1 := m2
    rw [a1]
    have q0 : q.1 ≠ 0 := (ENr q (sub q m1)).1.2.2
    refine q2 Γ h2 Y2 S3 q.1 q.2 q0 EN3.1.1 SK ST EN3 EV3 (STE.e (es (by decide +kernel)) (eq1 ▸ x2)) ((GDE.e (es (by decide +kernel))).mpr (eq1 ▸ x3)) (fun S4 e S' TL o4 f1 f2 f3 f4 T => ?_)
    refine h138 e S' ?_
    have rw4 : ∀ f, LRW.elem f = true → S4 f (5 * s + j) = q.2 f := fun f hf => by
      have w1 : S4 f (5 * s + j) = S3 f (5 * s + j) := o4 f _ (by
        have : LRW.all (fun f => !((LFO ++ LHK).elem f)) = true := by decide
        simpa using List.all_eq_true.mp this f (by simpa using hf))
      have w2 : rowE S3 (5 * s + j) f = S3 f (5 * s + j) := by unfold rowE; rw [if_pos hf]
      rw [w1, ← w2, rowh, m3]
    rw [← hS3] at TL
    have ew : S4 f_Md_wrong 0 = 0 := by rw [o4 _ _ (by decide)]; exact SK.2.1.1.2.2.2.2.2.2.2.2
    exact TIV.hit s4 (by omega) TL (by rw [f1, rw4 _ (by decide)]) (by rw [f2, rw4 _ (by decide)]) (by rw [f3, rw4 _ (by decide)]) (by rw [f4, rw4 _ (by decide)]) ew T
end
