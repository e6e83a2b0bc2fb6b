/-! a thing more -/
set_option maxRecDepth 20000
section
variable {Γ Γ' : GH} {h h' : ah} {C ho : Nat} {X X' : X3} {Y Y' : Y3} {S S' : SS} {N t o n c r f i j k m z s tn sn tn' sn' a : Nat} {L : List Nat} {P : List (Nat × Nat)} {ty v x y : Int}
theorem rooB_no (e : ∀ s, s < m → S f_Md_shapeProto s ≠ (k : Int)) : rooB S k m = 0 := by
  induction m with
  | zero => rfl
  | succ m ih =>
    unfold rooB
    rw [if_neg (fun c => e m (by omega) c.2.2), ih (fun s hs => e s (by omega))]
theorem LHc1 {f : Nat} (hf : LHH.elem f = true) : ((f_Thing_words + 1) :: (f_Thing_tags + 1) :: LHH).elem f = true := by
  have : f ∈ LHH := by simpa using hf
  have h2 : f ∈ (f_Thing_words + 1) :: (f_Thing_tags + 1) :: LHH := List.mem_cons_of_mem _ (List.mem_cons_of_mem _ this)
  simpa only [List.elem_eq_mem, decide_eq_true_eq] using h2
theorem THC.add2 (H : THC Γ h C ho S N) (G : AC h C) (F : FC h C) (g : GRO Γ Γ' h h' C S S') (fr : Fr L P z s h h') (dS : ¬ okC L P f_Heap_shapes (C + 50)) (dd : ∀ x, x ≠ a → ∀ f, ((f_Thing_words + 1) :: (f_Thing_tags + 1) :: LHH).elem f = true → ¬ okW L P f x) (nT : ∀ k : Nat, (k : Int) < S f_Md_things 0 → hB h (C + 51) k ≠ a) (nS : ∀ s : Nat, (s : Int) < S f_Md_shapes 0 → hB h (C + 52) s ≠ a) (p0 : ∀ y, (0, y) ∉ P) (eo : ∀ i, i < N → hB h' (ho + 2) i = hB h (ho + 2) i) (et : S f_Md_things 0 = (tn : Int)) (et' : S' f_Md_things 0 = ((tn + 1 : Nat) : Int)) (ht : tn + 1 ≤ 8000) (el : hl h' (C + 51) = tn + 1) (eB : ∀ i, i < tn → hB h' (C + 51) i = hB h (C + 51) i) (eK : ∀ k, k < tn → ∀ f, LTT.elem f = true → S' f k = S f k) (eL : ∀ i : Nat, (i : Int) < S f_Md_slots 0 → ∀ f, LSL.elem f = true → S' f i = S f i) (e1 : S f_Md_slots 0 ≤ S' f_Md_slots 0) (eR : EXS (f_Md_shapes :: LSP) S S') (ec : S f_Md_changes 0 ≤ S' f_Md_changes 0) (nw : ∀ sn : Nat, S f_Md_shapes 0 = (sn : Int) → 1 ≤ sn → hB h' (C + 52) 0 = hB h (C + 52) 0 → rooB S' tn sn = 0 → S' f_Md_shapeCount 0 = 0 → TH1 Γ' h' C ho S' N (tn + 1) sn tn) (ns : ∀ i : Nat, (i : Int) < S' f_Md_thingCount tn → S f_Md_slots 0 ≤ (slS S' tn i : Int)) (ns2 : ∀ i i' : Nat, (i : Int) < S' f_Md_thingCount tn → (i' : Int) < S' f_Md_thingCount tn → slS S' tn i = slS S' tn i' → i = i') : THC Γ' h' C ho S' N := by
  obtain ⟨tn0, sn, a1, a2, a3, a4, a5, a6, a6', a7, a8, a9, a10⟩ := H
  have : tn0 = tn := by omega
  subst this
  have g1 := G.1
  have o52 : own f_Heap_shapes := by unfold own; decide
  have s52 : sameArr h h' (C + 52) := fr.ar G.2.1 o52 (x := C + 50) (by omega) F.2.2.1.2.2.1 (by omega) dS (p0 _)
  have e52 := s52.2.2
  have hb : ∀ s, s < sn → (S f_Md_shapeBefore s).toNat < sn := fun s hs => (a8 s hs).bef hs
  have eR' : ∀ s, s < sn → ∀ f, LSP.elem f = true → S' f s = S f s := fun s _ f hf => eR f (by
    simp only [List.elem_eq_mem, decide_eq_true_eq, List.mem_cons] at hf ⊢
    exact Or.inr hf) s
  have sl : ∀ k i : Nat, k < tn0 → (i : Int) < S f_Md_thingCount k → slS S' k i = slS S k i := fun k i hk hi => slS_k (n := (S f_Md_thingCount k).toNat) (eK k hk _ (by decide)) (fun i hi => eL _ (((a7 k hk).2.2.2.2.2.2.1 i (by omega)).1) _ (by decide)) i (by omega)
  have Tn : TH1 Γ' h' C ho S' N (tn0 + 1) sn tn0 := by
    refine nw sn a2 a5 (e52 0) ?_ ?_
    · refine rooB_no (fun s hs => ?_)
      rw [eR' s hs _ (by decide)]
      rcases (a8 s hs).2.2.1 with q | q
      · omega
      · omega
    · rw [eR' 0 (by omega) _ (by decide)]
      rcases (a8 0 (by omega)).2.2.2.1 with q | q
      · exact q.2.2.2.1
      · omega
  refine ⟨tn0 + 1, sn, et', by rw [eR _ (by decide)]; exact a2, el, by rw [s52.1]; exact a4, a5, ht, a6', fun k hk => ?_, fun q hq => ?_, fun k i k' i' hk hk' hi hi' q => ?_, fun q q' h1 h2 h3 h4 => ?_, ?_⟩
  · by_cases q : k = tn0
    · subst q
      exact Tn
    · have hk' : k < tn0 := by omega
      have A := a7 k hk'
      refine A.keep g (eB k hk') (fun s _ => e52 s) ⟨a5, Nat.le_refl _⟩ (eK k hk') (fun i hi f hf => eL _ (A.2.2.2.2.2.2.1 i hi).1 f hf) e1 ec eR' hb (rooB_k (fun s hs => ⟨eR' s hs _ (by decide), eR' s hs _ (by decide)⟩)) ?_ eo
      exact SMO.fr G.2.1 A.2.1.2.1 A.2.2.2.2.2.1.1 A.2.2.2.2.2.1.2.2.1 fr (fun f hf => dd _ (nT k (by omega)) f (LHc1 hf)) (dd _ (nT k (by omega)) _ (by decide)) (dd _ (nT k (by omega)) _ (by decide)) p0
  · refine (a8 q hq).keep g a1 (Nat.le_succ _) hq (fun s _ => e52 s) eR' hb (lastB_k (fun s hs => eR' s hs _ (by decide))) ?_
    exact SMF.fr (a8 q hq).1.2.1 fr (fun f hf => dd _ (nS q (by omega)) f (LHc1 hf))
  · by_cases q1 : k = tn0 <;> by_cases q2 : k' = tn0
    · subst q1 q2
      exact ⟨rfl, ns2 i i' hi hi' q⟩
    · subst q1
      rw [eK k' (by omega) _ (by decide)] at hi'
      have := ns i hi
      rw [q, sl k' i' (by omega) hi'] at this
      have := ((a7 k' (by omega)).2.2.2.2.2.2.1 i' hi').1
      omega
    · subst q2
      rw [eK k (by omega) _ (by decide)] at hi
      have := ns i' hi'
      rw [← q, sl k i (by omega) hi] at this
      have := ((a7 k (by omega)).2.2.2.2.2.2.1 i hi).1
      omega
    · rw [eK k (by omega) _ (by decide)] at hi
      rw [eK k' (by omega) _ (by decide)] at hi'
      rw [sl k i (by omega) hi, sl k' i' (by omega) hi'] at q
      exact a9 k i k' i' (by omega) (by omega) hi hi' q
  · rw [eR' q h3 _ (by decide), eR' q' h4 _ (by decide), eR' q h3 _ (by decide), eR' q' h4 _ (by decide), eR' q h3 _ (by decide), eR' q' h4 _ (by decide)]
    exact a10.1 q q' h1 h2 h3 h4
  · -- prototypes
    have shp : ∀ k : Nat, k < tn0 → S f_Md_thingKind k = 4 ∨ S f_Md_thingKind k = 5 → prS S' k = prS S k := fun k hk kd => by
      obtain ⟨-, -, -, -, -, -, -, -, -, b18, -⟩ := a7 k hk
      obtain ⟨⟨q1, q1'⟩, -⟩ := b18 kd
      unfold prS
      rw [eK k hk _ (by decide), eR' _ (by omega) _ (by decide)]
    have old := a10.2.old (S' := S') (prS_wf a1 a7 a8) (fun k hk kd => shp k (by omega) kd)
    intro k hk kd
    by_cases q : k = tn0
    · subst q
      obtain ⟨-, -, -, -, -, -, -, -, -, b18, -⟩ := Tn
      obtain ⟨⟨q1, q1'⟩, -⟩ := b18 kd
      have y := (a8 (S' f_Md_thingShape k).toNat (by omega)).2.2.1
      have ep : prS S' k = S f_Md_shapeProto (S' f_Md_thingShape k).toNat := by unfold prS; rw [eR' _ (by omega) _ (by decide)]
      rcases y with y | ⟨y1, y2, y3, -⟩
      · refine ⟨1, ?_⟩
        unfold pcS
        rw [if_neg (by omega), Int.toNat_natCast, ep, y.1]
        show (-1 : Int) < 0
        decide
      · obtain ⟨j, hj⟩ := old (S f_Md_shapeProto (S' f_Md_thingShape k).toNat).toNat (by omega) y3
        refine ⟨j + 1, ?_⟩
        unfold pcS
        rw [if_neg (by omega), Int.toNat_natCast, ep]
        have ec : (((S f_Md_shapeProto (S' f_Md_thingShape k).toNat).toNat : Nat) : Int) = S f_Md_shapeProto (S' f_Md_thingShape k).toNat := by omega
        rw [ec] at hj; exact hj
    · have hk' : k < tn0 := by omega
      rw [eK k hk' _ (by decide)] at kd
      exact old k (by omega) kd
theorem THC.add (H : THC Γ h C ho S N) (G : AC h C) (F : FC h C) (g : GRO Γ Γ' h h' C S S') (fr : Fr L P z s h h') (d1 : DJ LHH L P) (d2 : DJ [f_Thing_words + 1, f_Thing_tags + 1, f_Heap_shapes + 1] L P) (p0 : ∀ y, (0, y) ∉ P) (eo : ∀ i, i < N → hB h' (ho + 2) i = hB h (ho + 2) i) (et : S f_Md_things 0 = (tn : Int)) (et' : S' f_Md_things 0 = ((tn + 1 : Nat) : Int)) (ht : tn + 1 ≤ 8000) (el : hl h' (C + 51) = tn + 1) (eB : ∀ i, i < tn → hB h' (C + 51) i = hB h (C + 51) i) (eK : ∀ k, k < tn → ∀ f, LTT.elem f = true → S' f k = S f k) (eL : ∀ i : Nat, (i : Int) < S f_Md_slots 0 → ∀ f, LSL.elem f = true → S' f i = S f i) (e1 : S f_Md_slots 0 ≤ S' f_Md_slots 0) (eR : EXS (f_Md_shapes :: LSP) S S') (ec : S f_Md_changes 0 ≤ S' f_Md_changes 0) (nw : ∀ sn : Nat, S f_Md_shapes 0 = (sn : Int) → 1 ≤ sn → hB h' (C + 52) 0 = hB h (C + 52) 0 → rooB S' tn sn = 0 → S' f_Md_shapeCount 0 = 0 → TH1 Γ' h' C ho S' N (tn + 1) sn tn) (ns : ∀ i : Nat, (i : Int) < S' f_Md_thingCount tn → S f_Md_slots 0 ≤ (slS S' tn i : Int)) (ns2 : ∀ i i' : Nat, (i : Int) < S' f_Md_thingCount tn → (i' : Int) < S' f_Md_thingCount tn → slS S' tn i = slS S' tn i' → i = i') : THC Γ' h' C ho S' N := by
  refine THC.add2 (a := hz h) H G F g fr (fun c => c.elim (d1.w (by decide)) (d2.w (by decide))) (fun x _ f hf => ?_) (fun k hk => ?_) (fun s hs => ?_) p0 eo et et' ht el eB eK eL e1 eR ec nw ns ns2
  · have : f = f_Thing_words + 1 ∨ f = f_Thing_tags + 1 ∨ f ∈ LHH := by simpa only [List.elem_eq_mem, decide_eq_true_eq, List.mem_cons] using hf
    rcases this with rfl | rfl | w
    · exact d2.w (by decide)
    · exact d2.w (by decide)
    · exact d1.w (by simpa using w)
  · obtain ⟨tn0, sn, a1, -, -, -, -, -, -, a7, -⟩ := H
    have := (a7 k (by omega)).2.1.2.1; omega
  · obtain ⟨tn0, sn, -, a2, -, -, -, -, -, -, a8, -⟩ := H
    have := (a8 s (by omega)).1.2.1; omega
/-- a new object, a new fun -/
theorem TH1.nob {kd : Int} (B : NOB C h h' tn a (kdK kd) (hB h (C + 52) 0)) (hk : kd = 4 ∨ kd = 5) (hsn : 1 ≤ sn) (e0 : hB h' (C + 52) 0 = hB h (C + 52) 0) (er : rooB S' tn sn = 0) (esc : S' f_Md_shapeCount 0 = 0) (k1 : S' f_Md_thingKind tn = kd) (k2 : S' f_Md_thingShape tn = 0) (k3 : S' f_Md_thingCount tn = 0) (k4 : S' f_Md_isWatched tn = 0) (k5 : S' f_Md_epoch tn = 0) (k6 : S' f_Md_changedAt tn = 0) (k7 : S' f_Md_thingClass tn = -1) (k8 : 0 ≤ S' f_Md_changes 0) (k9 : ((kd ≠ 5 ∧ S' f_Md_thingFunction tn = -1) ∨ (kd = 5 ∧ 0 ≤ S' f_Md_thingFunction tn ∧ S' f_Md_thingFunction tn < S' f_Md_functions 0 ∧ hR h' f_Fun_code a = hB h' (C + 56) (S' f_Md_thingFunction tn).toNat ∧ 0 ≤ S' f_Md_thingAround tn ∧ S' f_Md_thingAround tn < S' f_Md_calls 0 ∧ hR h' f_Fun_around a = gva Γ' (S' f_Md_thingAround tn).toNat ∧ gcf Γ' (S' f_Md_thingAround tn).toNat = gou Γ' (S' f_Md_thingFunction tn).toNat ∧ gou Γ' (S' f_Md_thingFunction tn).toNat ≠ (S' f_Md_thingFunction tn).toNat))) : TH1 Γ' h' C ho S' N (tn + 1) sn tn := by
  obtain ⟨n1, n2, ⟨n3, n3', n3''⟩, n4, n5, n6, ⟨n7, n8, n9, n10, n11, n12⟩, n13, n14, n15, n16⟩ := B
  have ea : hB h' (C + 51) tn = a := by rw [n2, if_pos rfl]
  unfold TH1
  rw [ea, k1, k2, k3, k4, k5, k6, k7, er, n11, n12, n15]
  refine ⟨by omega, ⟨n4, n3', n3''⟩, n5, n6, by omega, ⟨n7, n8, n9, n10, rfl, by omega, by omega⟩, fun i hi => by omega, fun q => by omega, fun i hi => by omega, fun _ => ⟨by omega, by rw [n16]; exact e0.symm, by rw [show (0 : Int).toNat = 0 from rfl]; exact esc, by omega, fun i hi => by omega, by rw [n13, if_pos rfl], n14, by unfold shA; rw [if_pos rfl], ⟨fun q => by omega, fun q => absurd rfl q⟩⟩, Or.inl rfl, fun q => ⟨rfl, fun i hi => by omega⟩, by omega, by omega, k9, Or.inl ⟨by omega, rfl⟩⟩
theorem MEM.thing {mk : Nat} (H : MEM X S) (e1 : X 50 f_Heap_made 0 = (mk : Int)) (hm : mk + 1 ≤ 8000) (et : S f_Md_things 0 = (tn : Int)) (x1 : X' 50 f_Heap_made 0 = ((mk + 1 : Nat) : Int)) (x2 : EXX [f_Heap_room, f_Heap_shapesMade, f_Heap_calls, f_Heap_ticks] X X') (s1 : S' f_Md_things 0 = ((tn + 1 : Nat) : Int)) (s2 : S' f_Md_allMade 0 = ((mk + 1 : Nat) : Int)) (s3 : EXS [f_Md_allSlots, f_Md_allShapes, f_Md_calls, f_Md_slots, f_Md_variables, f_Md_shapes, f_Md_changes] S S') : MEM X' S' := by
  obtain ⟨mk0, rm, sm, tk, ck, sk, vk, hk, gk, ⟨a1, a2, a3⟩, ⟨b1, b2, b3⟩, ⟨c1, c2, c3⟩, ⟨d1, d2, d3, d4⟩, ⟨f1, f2, f3⟩, ⟨g1, g2, g3⟩, h1, h2, h3⟩ := H
  have : mk0 = mk := by omega
  have : tk = tn := by omega
  refine ⟨mk + 1, rm, sm, tn + 1, ck, sk, vk, hk, gk, ⟨x1, s2, hm⟩, ⟨by rw [x2 _ (by decide)]; exact b1, by rw [s3 _ (by decide)]; exact b2, b3⟩, ⟨by rw [x2 _ (by decide)]; exact c1, by rw [s3 _ (by decide)]; exact c2, c3⟩, ⟨s1, by rw [s3 _ (by decide)]; exact d2, by rw [x2 _ (by decide)]; exact d3, by omega⟩, ⟨by rw [s3 _ (by decide)]; exact f1, by rw [s3 _ (by decide)]; exact f2, f3⟩, ⟨by rw [s3 _ (by decide)]; exact g1, g2, g3⟩, by rw [s3 _ (by decide)]; exact h1, by rw [x2 _ (by decide)]; exact h2, h3⟩
end
