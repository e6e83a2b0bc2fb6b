/-! sites: one is gone through, let go, linked -/
set_option maxRecDepth 20000
section
variable {ρ : Nat → Nat} {d : Nat} {Q : QT} {Γ : GH} {h h' h0 h1 h2 H : ah} {C ho T k n m f i j N M b a rr mn sn tn row e t z s s0 be ca u : Nat} {S S' S1 S2 SX : SS} {X : X3} {Y Y' Y1 Y2 : Y3} {g : HG} {v p x y nm ty κ hd w La bv el now : Int} {sp sp2 ch E l l2 : List Nat} {ea : Nat → List Nat} {L : List Nat} {Pp : List (Nat × Nat)} {r : ENT}
theorem SIT.get (H : SIT g h C ho Y S N M ea sp) (hs : (s0 : Int) < S f_Md_sites 0) : HCH h Y (hB h (C + 57) s0) (ea s0) sp ∧ (∀ x, x ∈ ea s0 ++ sp → x ≠ 0 ∧ (hK h x = k_Entry ∧ x < hz h) ∧ ECL h x) := by
  obtain ⟨-, a4, ⟨a5, a6, a7⟩, a8, a9⟩ := H
  obtain ⟨-, -, -, -, e4, e5, ⟨f1, f2, f3⟩, f4⟩ := a4 s0 hs
  refine ⟨⟨f1, f2, f3, a5, a6, List.nodup_append.mpr ⟨(a8 s0 hs).1, a7, fun x hx y hy c => (a8 s0 hs).2.1 x hx (by rw [c]; exact hy)⟩⟩, fun x hx => ?_⟩
  rcases List.mem_append.mp hx with c | c
  · exact a9 x (Or.inr ⟨s0, hs, c⟩)
  · exact a9 x (Or.inl c)
/-- frames that only go at a site's own counters and chain -/
theorem SIT.chn (H : SIT g h C ho Y S N M ea sp) (G : INJ h) (F : FC h C) (cz : C + 57 < hz h) (hs : (s0 : Int) < S f_Md_sites 0) (ea0 : hB h (C + 57) s0 = a) (zz : hz h ≤ hz h2) (kk : ∀ x, x < hz h → hK h2 x = hK h x) (lB : hl h2 (C + 57) = hl h (C + 57) ∧ ∀ i, hB h2 (C + 57) i = hB h (C + 57) i) (K : EKP h C ho S N M h2 S2)
    (oS : ∀ x, x < hz h → hK h x = k_Site → x ≠ a → (∀ f, LZF.elem f = true → hI h2 f x = hI h f x) ∧ hR h2 f_Site_first x = hR h f_Site_first x)
    (oE : ∀ x, x < hz h → hK h x = k_Entry → ECL h x → ESM h h2 x ∧ (x ∉ ea s0 ++ sp → hR h2 f_Entry_next x = hR h f_Entry_next x)) (oa : ∀ f, LZF.elem f = true → f ≠ f_Site_links ∧ f ≠ f_Site_hits ∧ f ≠ f_Site_pruned ∧ f ≠ f_Site_size ∧ f ≠ f_Site_megamorphic ∧ f ≠ f_Site_first → hI h2 f a = hI h f a)
    (CH : HCH h2 Y2 a l2 sp2) (al : ∀ x, x ∈ l2 ++ sp2 → x ∈ ea s0 ++ sp) (uu : ∀ f, LSU.elem f = true → ∀ i, S2 f i = S f i) (sl : SLO s0 S S2) (l4 : l2.length ≤ 4) (en : S2 f_Md_entries s0 = (l2.length : Int)) (ro : ∀ i, i < l2.length → ENO g h C ho S N M (S f_Md_siteKind s0) (S f_Md_siteName s0) (S f_Md_siteMany s0).toNat (l2.getD i 0) (rowE S2 (5 * s0 + i)))
    (c1 : hI h2 f_Site_links a = S2 f_Md_links s0) (c2 : hI h2 f_Site_hits a = S2 f_Md_hits s0) (c3 : hI h2 f_Site_pruned a = S2 f_Md_pruned s0) (c4 : hI h2 f_Site_megamorphic a = S2 f_Md_isMega s0) (c5 : S2 f_Md_isMega s0 = 0 ∨ S2 f_Md_isMega s0 = 1) : SIT g h2 C ho Y2 S2 N M (eaU ea s0 l2) sp2 := by
  have A := (H.2.1 s0 hs)
  rw [ea0] at A
  have GG := (H.get hs).2
  obtain ⟨⟨k1, k2, k3⟩, ⟨b1, b2, b3, b4, b5, b6, b7⟩, -, ⟨d1, d2, d3⟩, -, -, -, -⟩ := A
  obtain ⟨h1', h2', h3', h4', h5', h6'⟩ := CH
  have esm : ∀ x, x ∈ l2 ++ sp2 → ESM h h2 x := fun x hx => by
    have := GG x (al x hx)
    exact (oE x this.2.1.2 this.2.1.1 this.2.2).1
  refine H.one hs ea0 K zz kk lB uu sl oS (fun x hx hk hc nx => ⟨(oE x hx hk hc).1, (oE x hx hk hc).2 nx⟩) ?_ h6' h4' h5' (fun x hx => ⟨Or.inl (al x hx), (GG x (al x hx)).1, ⟨by rw [(esm x hx).1.1]; exact (GG x (al x hx)).2.1.1, (esm x hx).1.2⟩, (esm x hx).ecl (GG x (al x hx)).2.2⟩)
  have e1 : ∀ f, LSU.elem f = true → S2 f s0 = S f s0 := fun f hf => uu f hf s0
  refine ⟨⟨by rw [kk a k2]; exact k1, by omega, k3⟩, ⟨?_, ?_, ?_, ?_, ?_, ?_, ?_⟩, ⟨c1, c2, c3, c4⟩, ⟨c5, ?_, ?_⟩, l4, en, ⟨h1', h2', h3'⟩, fun i hi => ?_⟩
  · rw [oa _ (by decide) (by decide)]; exact b1
  · rw [oa _ (by decide) (by decide), e1 _ (by decide)]; exact b2
  · rw [oa _ (by decide) (by decide), e1 _ (by decide)]; exact b3
  · rw [oa _ (by decide) (by decide), e1 _ (by decide)]; exact b4
  · rw [oa _ (by decide) (by decide), e1 _ (by decide)]; exact b5
  · rw [oa _ (by decide) (by decide), e1 _ (by decide)]; exact b6
  · rw [oa _ (by decide) (by decide), e1 _ (by decide)]; exact b7
  · rw [e1 _ (by decide)]; exact d2
  · rw [e1 _ (by decide)]; exact d3
  · rw [e1 _ (by decide), e1 _ (by decide), e1 _ (by decide)]
    exact (esm _ (List.mem_append_left _ (gtD_m hi))).eno (ro i hi) K
theorem gtD_m' {l : List Nat} {i : Nat} (h : i < l.length) : l.getD i 0 ∈ l := gtD_m h
theorem HJ.lst (J : HJ h Y a E h1 Y1) (F : FC h C) (G : INJ h) (cz : C + 57 < hz h) : hl h1 (C + 57) = hl h (C + 57) ∧ ∀ i, hB h1 (C + 57) i = hB h (C + 57) i := by
  have oS : own f_Machine_sites := by unfold own; decide
  have rS : hR h f_Machine_sites (C + 32) = C + 57 := by
    unfold FC at F
    exact F.2.1.2.2.2.2.2.2.2.2.1
  have d1 : DJ [f_Machine_sites, f_Machine_sites + 1] LSJ [] := by unfold DJ; decide
  have sc := J.1.ar G oS (by omega) rS (by omega) (fun c => c.elim (d1.w (by decide)) (d1.w (by decide))) (by simp)
  exact ⟨sc.1, sc.2.2⟩
/-- a site's stale entries have gone -/
theorem SIT.hit (H : SIT g h C ho Y S N M ea sp) (G : INJ h) (F : FC h C) (cz : C + 57 < hz h) (hs : (s0 : Int) < S f_Md_sites 0) (ea0 : hB h (C + 57) s0 = a) (J : HJ h Y a (ea s0 ++ sp) h2 Y2) (CH : HCH h2 Y2 a l2 sp2) (al : ∀ x, x ∈ l2 ++ sp2 → x ∈ ea s0 ++ sp) (of : OFF (LHT ++ [f_Md_hits]) S S2) (sl : SLO s0 S S2) (l4 : l2.length ≤ 4) (en : S2 f_Md_entries s0 = (l2.length : Int)) (ro : ∀ i, i < l2.length → ENO g h C ho S N M (S f_Md_siteKind s0) (S f_Md_siteName s0) (S f_Md_siteMany s0).toNat (l2.getD i 0) (rowE S2 (5 * s0 + i))) (c2 : hI h2 f_Site_hits a = S2 f_Md_hits s0) (c3 : hI h2 f_Site_pruned a = S2 f_Md_pruned s0) : SIT g h2 C ho Y2 S2 N M (eaU ea s0 l2) sp2 := by
  have A := (H.2.1 s0 hs)
  rw [ea0] at A
  obtain ⟨⟨k1, k2, k3⟩, -, ⟨n1, -, -, n4⟩, ⟨d1, -, -⟩, -⟩ := A
  obtain ⟨j1, j2, j3, j4, j5, j6⟩ := id J
  have I : ∀ x f, f ≠ f_Site_size → f ≠ f_Site_pruned → f ≠ f_Site_hits → hI h2 f x = hI h f x := fun x f q1 q2 q3 => (j5 x f).resolve_right (fun c => by rcases c with c | c | c; exact q1 c; exact q2 c; exact q3 c)
  have uu : ∀ f, LSU.elem f = true → ∀ i, S2 f i = S f i := fun f hf i => of f i (by
    have : LSU.all (fun f => !((LHT ++ [f_Md_hits]).elem f)) = true := by decide
    simpa using List.all_eq_true.mp this f (by simpa using hf))
  have K0 : EKP h C ho S N M h2 S := J.ekp
  have eS : EXS [f_Md_things, f_Md_shapes, f_Md_functions, f_Md_thingKind] S S2 := fun f hf i => of f i (by
    have : [f_Md_things, f_Md_shapes, f_Md_functions, f_Md_thingKind].all (fun f => !((LHT ++ [f_Md_hits]).elem f)) = true := by decide
    simpa using List.all_eq_true.mp this f (by simpa using hf))
  have K : EKP h C ho S N M h2 S2 := ⟨K0.1, K0.2.1, K0.2.2.1, K0.2.2.2.1, K0.2.2.2.2.1, by rw [eS _ (by decide)]; exact Int.le_refl _, by rw [eS _ (by decide)]; exact Int.le_refl _, by rw [eS _ (by decide)]; exact Int.le_refl _, fun k _ => eS _ (by decide) k⟩
  refine H.chn G F cz hs ea0 j1.1.1 (fun x hx => j1.K hx) (J.lst F G cz) K (fun x hx hk ne => ⟨fun f hf => ?_, (j4 x ne).1⟩) (fun x hx hk hc => ⟨ESM.fr G j1 (by unfold DJ; decide) (by simp) hx hc, j3 x⟩) (fun f hf q => I a f q.2.2.2.1 q.2.2.1 q.2.1) CH al uu sl l4 en ro ?_ c2 c3 ?_ ?_
  · by_cases w1 : f = f_Site_size
    · rw [w1]; exact (j4 x ne).2.1
    · by_cases w2 : f = f_Site_pruned
      · rw [w2]; exact (j4 x ne).2.2.1
      · by_cases w3 : f = f_Site_hits
        · rw [w3]; exact (j4 x ne).2.2.2
        · exact I x f w1 w2 w3
  · rw [I a _ (by decide) (by decide) (by decide), of _ _ (by decide)]; exact n1
  · rw [I a _ (by decide) (by decide) (by decide), of _ _ (by decide)]; exact n4
  · rw [of _ _ (by decide)]; exact d1
/-- a site's entries go for good -/
theorem SIT.mega {v1 : Int} (H : SIT g h C ho Y S N M ea sp) (G : INJ h) (F : FC h C) (cz : C + 57 < hz h) (hs : (s0 : Int) < S f_Md_sites 0) (ea0 : hB h (C + 57) s0 = a) (J : HJ (sI (sI h f_Site_links a v1) f_Site_megamorphic a 1) Y a (ea s0 ++ sp) h2 Y2) (CH : HCH h2 Y2 a [] sp2) (al : ∀ x, x ∈ sp2 → x ∈ ea s0 ++ sp) (of : OFF LLK S S2) (sl : SLO s0 S S2) (en : S2 f_Md_entries s0 = 0) (c0 : S2 f_Md_links s0 = v1) (c1 : S2 f_Md_isMega s0 = 1) (p1 : hI h2 f_Site_pruned a = hI h f_Site_pruned a) (p2 : hI h2 f_Site_hits a = hI h f_Site_hits a) : SIT g h2 C ho Y2 S2 N M (eaU ea s0 []) sp2 := by
  have A := (H.2.1 s0 hs)
  rw [ea0] at A
  obtain ⟨⟨k1, k2, k3⟩, -, ⟨n1, n2, n3, n4⟩, ⟨d1, -, -⟩, -⟩ := A
  obtain ⟨j1, j2, j3, j4, j5, j6⟩ := id J
  have fr : Fr (LSJ ++ [f_Site_links, f_Site_megamorphic]) [] 0 0 h h2 := ((Fr.r0.wI (by decide) (Or.inl (by decide))).wI (by decide) (Or.inl (by decide))).trans (j1.mono (fun f hf => List.mem_append_left _ hf) (fun q hq => hq))
  have I : ∀ x f, f ≠ f_Site_size → f ≠ f_Site_pruned → f ≠ f_Site_hits → hI h2 f x = hI (sI (sI h f_Site_links a v1) f_Site_megamorphic a 1) f x := fun x f q1 q2 q3 => (j5 x f).resolve_right (fun c => by rcases c with c | c | c; exact q1 c; exact q2 c; exact q3 c)
  have uu : ∀ f, LSU.elem f = true → ∀ i, S2 f i = S f i := fun f hf i => of f i (by
    have : LSU.all (fun f => !(LLK.elem f)) = true := by decide
    simpa using List.all_eq_true.mp this f (by simpa using hf))
  have eS : EXS [f_Md_things, f_Md_shapes, f_Md_functions, f_Md_thingKind] S S2 := fun f hf i => of f i (by
    have : [f_Md_things, f_Md_shapes, f_Md_functions, f_Md_thingKind].all (fun f => !(LLK.elem f)) = true := by decide
    simpa using List.all_eq_true.mp this f (by simpa using hf))
  have K : EKP h C ho S N M h2 S2 := ⟨fun k _ => j6 _ _, fun k _ => j6 _ _, fun k _ => j6 _ _, fun k _ => j6 _ _, fun k _ => j6 _ _, by rw [eS _ (by decide)]; exact Int.le_refl _, by rw [eS _ (by decide)]; exact Int.le_refl _, by rw [eS _ (by decide)]; exact Int.le_refl _, fun k _ => eS _ (by decide) k⟩
  have oS : own f_Machine_sites := by unfold own; decide
  have rS : hR h f_Machine_sites (C + 32) = C + 57 := by
    unfold FC at F
    exact F.2.1.2.2.2.2.2.2.2.2.1
  have dj : DJ [f_Machine_sites, f_Machine_sites + 1] (LSJ ++ [f_Site_links, f_Site_megamorphic]) [] := by unfold DJ; decide
  have sc := fr.ar G oS (by omega) rS (by omega) (fun c => c.elim (dj.w (by decide)) (dj.w (by decide))) (by simp)
  refine H.chn G F cz hs ea0 fr.1.1 (fun x hx => fr.K hx) ⟨sc.1, sc.2.2⟩ K (fun x hx hk ne => ⟨fun f hf => ?_, ?_⟩) (fun x hx hk hc => ⟨ESM.fr G fr (by unfold DJ; decide) (by simp) hx hc, fun nx => ?_⟩) (fun f hf q => ?_) CH (fun x hx => al x (by simpa using hx)) uu sl (by decide) en (fun i hi => absurd hi (Nat.not_lt_zero _)) ?_ ?_ ?_ ?_ (Or.inr c1)
  · have o1 : hI (sI (sI h f_Site_links a v1) f_Site_megamorphic a 1) f x = hI h f x := by rw [I_Ine' ne, I_Ine' ne]
    by_cases w1 : f = f_Site_size
    · rw [← o1, w1]; exact (j4 x ne).2.1
    · by_cases w2 : f = f_Site_pruned
      · rw [← o1, w2]; exact (j4 x ne).2.2.1
      · by_cases w3 : f = f_Site_hits
        · rw [← o1, w3]; exact (j4 x ne).2.2.2
        · rw [← o1]; exact I x f w1 w2 w3
  · exact (j4 x ne).1
  · exact j3 x nx
  · rw [I a f q.2.2.2.1 q.2.2.1 q.2.1, I_Ine q.2.2.2.2.1, I_Ine q.1]
  · rw [I a _ (by decide) (by decide) (by decide), I_Ine (by decide), I_I, c0]
  · rw [p2, of _ _ (by decide)]; exact n2
  · rw [p1, of _ _ (by decide)]; exact n3
  · rw [I a _ (by decide) (by decide) (by decide), I_I, c1]
/-- a site has a new entry -/
theorem SIT.link (H : SIT g h C ho Y S N M ea sp) (G : INJ h) (hm : ho + 3 < hz h) (F : FC h C) (cz : C + 57 < hz h) (hs : (s0 : Int) < S f_Md_sites 0) (ea0 : hB h (C + 57) s0 = a) (J : LKJ h Y a (ea s0 ++ sp) e h2 Y2) (se : e ∈ sp ∨ e = hz h) (cl : ECL h2 e) (CH : HCH h2 Y2 a ((e :: ea s0).take 4) sp2) (al : ∀ x, x ∈ sp2 → x ∈ ea s0 ++ sp) (of : OFF LLK S S2) (sl : SLO s0 S S2) (en : S2 f_Md_entries s0 = ((min ((ea s0).length + 1) 4 : Nat) : Int)) (e0 : ENO g h2 C ho S2 N M (S f_Md_siteKind s0) (S f_Md_siteName s0) (S f_Md_siteMany s0).toNat e r) (ro : enL S2 s0 (min ((ea s0).length + 1) 4) = (r :: enL S s0 (ea s0).length).take 4) (c0 : S2 f_Md_links s0 = hI h2 f_Site_links a) (c1 : S2 f_Md_isMega s0 = S f_Md_isMega s0) : SIT g h2 C ho Y2 S2 N M (eaU ea s0 ((e :: ea s0).take 4)) sp2 := by
  have A := (H.2.1 s0 hs)
  rw [ea0] at A
  have GG := H.get hs
  obtain ⟨⟨k1, k2, k3⟩, ⟨b1, b2, b3, b4, b5, b6, b7⟩, ⟨n1, n2, n3, n4⟩, ⟨d1, d2, d3⟩, l4, -, -, eno⟩ := A
  obtain ⟨⟨z, s, z1, s1, fr⟩, jy, jo, jn, ja, jB, jA, je⟩ := J
  have uu : ∀ f, LSU.elem f = true → ∀ i, S2 f i = S f i := fun f hf i => of f i (by
    have : LSU.all (fun f => !(LLK.elem f)) = true := by decide
    simpa using List.all_eq_true.mp this f (by simpa using hf))
  have eS : EXS [f_Md_things, f_Md_shapes, f_Md_functions, f_Md_thingKind] S S2 := fun f hf i => of f i (by
    have : [f_Md_things, f_Md_shapes, f_Md_functions, f_Md_thingKind].all (fun f => !(LLK.elem f)) = true := by decide
    simpa using List.all_eq_true.mp this f (by simpa using hf))
  have oC : own f_Entry_classes := by unfold own; decide
  have oS : own f_Machine_sites := by unfold own; decide
  have rS : hR h f_Machine_sites (C + 32) = C + 57 := by
    unfold FC at F
    exact F.2.1.2.2.2.2.2.2.2.2.1
  have dj : DJ [f_Machine_sites, f_Machine_sites + 1] LNF [] := by unfold DJ; decide
  have sc := fr.ar G oS (by omega) rS (by omega) (fun c => c.elim (dj.w (by decide)) (dj.w (by decide))) (by simp)
  have esm : ∀ x, x < hz h → hK h x = k_Entry → ECL h x → x ≠ e → ESM h h2 x := fun x hx hk hc ne => by
    have na : x ≠ a := by rintro rfl; rw [k1] at hk; exact absurd hk (by decide)
    refine ⟨⟨fr.K hx, fr.lt hx⟩, fun f hf => ?_, fun c => ?_⟩
    · refine jo x f hx ne na ?_
      rintro rfl; exact absurd hf (by decide)
    · have cz' : hR h f_Entry_classes x < hz h := G.1 _ _ hx oC
      have k100 : hK h (hR h f_Entry_classes x) = 1 := by
        rcases hc with c2 | c2
        · exact absurd c2 c
        · exact c2.2.1
      refine ⟨fr.K cz', fr.la cz' (by rw [k100]; decide), fun i => jA _ i (by omega) cz' (fun ez c2 => ?_)⟩
      exact ne (G.2.1 _ _ _ _ hx ez oC oC c2 c).2
  have K0 : (∀ x i, x < hz h → hB h2 x i = hB h x i) := jB
  refine H.one hs ea0 ?_ fr.1.1 (fun x hx => fr.K hx) ⟨sc.1, sc.2.2⟩ uu sl (fun x hx hk ne => ?_) (fun x hx hk hc nx => ?_) ?_ CH.2.2.2.2.2 CH.2.2.2.1 CH.2.2.2.2.1 (fun x hx => ?_)
  · exact ⟨fun k _ => jB _ _ (by omega), fun k _ => jB _ _ (by omega), fun k _ => jB _ _ (by omega), fun k _ => jB _ _ (by omega), fun k _ => jB _ _ hm, by rw [eS _ (by decide)]; exact Int.le_refl _, by rw [eS _ (by decide)]; exact Int.le_refl _, by rw [eS _ (by decide)]; exact Int.le_refl _, fun k _ => eS _ (by decide) k⟩
  · have ne2 : x ≠ e := by
      rintro rfl
      rcases se with c | c
      · have := (GG.2 x (List.mem_append_right _ c)).2.1.1
        rw [hk] at this; exact absurd this (by decide)
      · omega
    exact ⟨fun f hf => (jo x f hx ne2 ne (by rintro rfl; exact absurd hf (by decide))).1, (jo x _ hx ne2 ne (by decide)).2⟩
  · have ne2 : x ≠ e := by
      rintro rfl
      rcases se with c | c
      · exact nx (List.mem_append_right _ c)
      · omega
    exact ⟨esm x hx hk hc ne2, jn x hx ne2 nx⟩
  · have e1 : ∀ f, LSU.elem f = true → S2 f s0 = S f s0 := fun f hf => uu f hf s0
    have ln : ((e :: ea s0).take 4).length = min ((ea s0).length + 1) 4 := by simp; omega
    refine ⟨⟨by rw [fr.K k2]; exact k1, fr.lt k2, k3⟩, ⟨?_, ?_, ?_, ?_, ?_, ?_, ?_⟩, ⟨c0.symm, ?_, ?_, ?_⟩, ⟨by rw [c1]; exact d1, by rw [e1 _ (by decide)]; exact d2, by rw [e1 _ (by decide)]; exact d3⟩, by rw [ln]; omega, by rw [ln]; exact en, ⟨CH.1, CH.2.1, CH.2.2.1⟩, fun i hi => ?_⟩
    · rw [ja _ (by decide)]; exact b1
    · rw [ja _ (by decide), e1 _ (by decide)]; exact b2
    · rw [ja _ (by decide), e1 _ (by decide)]; exact b3
    · rw [ja _ (by decide), e1 _ (by decide)]; exact b4
    · rw [ja _ (by decide), e1 _ (by decide)]; exact b5
    · rw [ja _ (by decide), e1 _ (by decide)]; exact b6
    · rw [ja _ (by decide), e1 _ (by decide)]; exact b7
    · rw [ja _ (by decide), of _ _ (by decide)]; exact n2
    · rw [ja _ (by decide), of _ _ (by decide)]; exact n3
    · rw [ja _ (by decide), c1]; exact n4
    · rw [e1 _ (by decide), e1 _ (by decide), e1 _ (by decide)]
      rw [ln] at hi
      have g1 : (enL S2 s0 (min ((ea s0).length + 1) 4))[i]? = some (rowE S2 (5 * s0 + i)) := by
        unfold enL
        rw [List.getElem?_map, List.getElem?_range hi]; rfl
      have g2 : ((e :: ea s0).take 4).getD i 0 = (e :: ea s0).getD i 0 := by
        rw [List.getD_eq_getElem?_getD, List.getD_eq_getElem?_getD, List.getElem?_take, if_pos (by omega)]
      rw [ro, List.getElem?_take, if_pos (by omega)] at g1
      rw [g2]
      cases i with
      | zero =>
        have : r = rowE S2 (5 * s0 + 0) := by simpa using g1
        rw [← this]; exact e0
      | succ i =>
        have hi' : i < (ea s0).length := by omega
        have : rowE S (5 * s0 + i) = rowE S2 (5 * s0 + (i + 1)) := by
          unfold enL at g1
          rw [List.getElem?_cons_succ, List.getElem?_map, List.getElem?_range hi'] at g1
          simpa using g1
        rw [← this]
        show ENO g h2 C ho S2 N M _ _ _ ((ea s0).getD i 0) _
        have hm1 := gtD_m hi'
        have G1 := GG.2 _ (List.mem_append_left sp hm1)
        have ne : (ea s0).getD i 0 ≠ e := by
          intro c
          rcases se with z | z
          · have := (List.nodup_append.mp GG.1.2.2.2.2.2).2.2 _ hm1 e z
            exact this c
          · have := G1.2.1.2
            omega
        exact (esm _ G1.2.1.2 G1.2.1.1 G1.2.2 ne).eno (eno i hi') ⟨fun k _ => jB _ _ (by omega), fun k _ => jB _ _ (by omega), fun k _ => jB _ _ (by omega), fun k _ => jB _ _ (by omega), fun k _ => jB _ _ hm, by rw [eS _ (by decide)]; exact Int.le_refl _, by rw [eS _ (by decide)]; exact Int.le_refl _, by rw [eS _ (by decide)]; exact Int.le_refl _, fun k _ => eS _ (by decide) k⟩
  · have old : x ≠ e → x ∈ ea s0 ++ sp → (x ∈ ea s0 ++ sp ∨ hz h ≤ x) ∧ x ≠ 0 ∧ (hK h2 x = k_Entry ∧ x < hz h2) ∧ ECL h2 x := fun ne c => by
      have G1 := GG.2 x c
      have E1 := esm x G1.2.1.2 G1.2.1.1 G1.2.2 ne
      exact ⟨Or.inl c, G1.1, ⟨by rw [E1.1.1]; exact G1.2.1.1, E1.1.2⟩, E1.ecl G1.2.2⟩
    by_cases w : x = e
    · rw [w]
      exact ⟨se.elim (fun c => Or.inl (List.mem_append_right _ c)) (fun c => Or.inr (by omega)), je.2.2, ⟨je.1, je.2.1⟩, cl⟩
    · refine old w ?_
      rcases List.mem_append.mp hx with c | c
      · have c' := List.mem_of_mem_take c
        rcases List.mem_cons.mp c' with c' | c'
        · exact absurd c' w
        · exact List.mem_append_left _ c'
      · exact al x c
end
