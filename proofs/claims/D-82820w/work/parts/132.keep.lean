/-! a thing, a shape that stays -/
set_option maxRecDepth 20000
/-- an object of C that stays -/
def SMF (h h' : ah) (a : Nat) : Prop := (∀ f, LHH.elem f = true → hI h' f a = hI h f a ∧ hR h' f a = hR h f a) ∧ hK h' a = hK h a ∧ a < hz h'
def SMO (h h' : ah) (a : Nat) : Prop := SMF h h' a ∧ (sameArr h h' (hR h f_Thing_words a) ∧ hK h' (hR h f_Thing_words a) = hK h (hR h f_Thing_words a)) ∧ (sameArr h h' (hR h f_Thing_tags a) ∧ hK h' (hR h f_Thing_tags a) = hK h (hR h f_Thing_tags a))
def LTT : List Nat := [f_Md_thingKind, f_Md_thingShape, f_Md_thingFirst, f_Md_thingCount, f_Md_thingLast, f_Md_thingFunction, f_Md_thingAround, f_Md_thingClass, f_Md_isWatched, f_Md_epoch, f_Md_changedAt]
def LSL : List Nat := [f_Md_slotType, f_Md_slotValue, f_Md_slotName, f_Md_slotNext]
def LSP : List Nat := [f_Md_shapeProto, f_Md_shapeBefore, f_Md_shapeName, f_Md_shapeCount]
section
variable {Γ Γ' : GH} {h h' : ah} {C ho : Nat} {X X' : X3} {Y Y' : Y3} {S S' : SS} {N t o n c r f i j k m z s tn sn tn' sn' a : Nat} {L : List Nat} {P : List (Nat × Nat)} {ty v x y : Int}
theorem SMF.fr (ha : a < hz h) (fr : Fr L P z s h h') (d : ∀ f, LHH.elem f = true → ¬ okW L P f a) : SMF h h' a := ⟨fun f hf => ⟨fr.I ha (by
    have : LHH.all (fun f => Nat.ble 5 f) = true := by decide
    exact Nat.le_of_ble_eq_true (List.all_eq_true.mp this f (by simpa using hf))) (d f hf), fr.R ha (by
    have : LHH.all (fun f => Nat.ble 5 f) = true := by decide
    exact Nat.le_of_ble_eq_true (List.all_eq_true.mp this f (by simpa using hf))) (d f hf)⟩, fr.K ha, fr.lt ha⟩
theorem SMO.fr (G : INJ h) (ha : a < hz h) (w1 : hR h f_Thing_words a ≠ 0) (w2 : hR h f_Thing_tags a ≠ 0) (fr : Fr L P z s h h') (d : ∀ f, LHH.elem f = true → ¬ okW L P f a) (d1 : ¬ okW L P (f_Thing_words + 1) a) (d2 : ¬ okW L P (f_Thing_tags + 1) a) (p0 : ∀ y, (0, y) ∉ P) : SMO h h' a := by
  have oW : own f_Thing_words := by unfold own; decide
  have oT : own f_Thing_tags := by unfold own; decide
  exact ⟨SMF.fr ha fr d, ⟨fr.ar G oW ha rfl w1 (fun c => c.elim (d _ (by decide)) d1) (p0 _), fr.K (G.1 _ _ ha oW)⟩, fr.ar G oT ha rfl w2 (fun c => c.elim (d _ (by decide)) d2) (p0 _), fr.K (G.1 _ _ ha oT)⟩
theorem slS_k (e0 : S' f_Md_thingFirst k = S f_Md_thingFirst k) (e : ∀ i, i + 1 < n → S' f_Md_slotNext (slS S k i) = S f_Md_slotNext (slS S k i)) : ∀ i, i < n → slS S' k i = slS S k i
  | 0, _ => by unfold slS; rw [e0]
  | i + 1, hi => by unfold slS; rw [slS_k e0 e i (by omega), e i hi]
theorem anc_k (e : ∀ s, s < sn → S' f_Md_shapeBefore s = S f_Md_shapeBefore s) (hb : ∀ s, s < sn → (S f_Md_shapeBefore s).toNat < sn) (hs : s < sn) : ∀ j, anc S' s j = anc S s j ∧ anc S s j < sn
  | 0 => ⟨rfl, hs⟩
  | j + 1 => by
    obtain ⟨a, b⟩ := anc_k e hb hs j
    unfold anc
    rw [a, e _ b]
    exact ⟨rfl, hb _ b⟩
theorem rooB_lt : ∀ m, rooB S k m = 0 ∨ rooB S k m < m
  | 0 => Or.inl rfl
  | m + 1 => by
    unfold rooB
    split
    · exact Or.inr (by omega)
    · rcases rooB_lt m with q | q
      · exact Or.inl q
      · exact Or.inr (by omega)
theorem lastB_lt : ∀ m, lastB S k m = 0 ∨ lastB S k m < m
  | 0 => Or.inl rfl
  | m + 1 => by
    unfold lastB
    split
    · exact Or.inr (by omega)
    · rcases lastB_lt m with q | q
      · exact Or.inl q
      · exact Or.inr (by omega)
theorem rooB_k (e : ∀ s, s < m → S' f_Md_shapeBefore s = S f_Md_shapeBefore s ∧ S' f_Md_shapeProto s = S f_Md_shapeProto s) : rooB S' k m = rooB S k m := by
  induction m with
  | zero => rfl
  | succ m ih =>
    unfold rooB
    rw [(e m (by omega)).1, (e m (by omega)).2, ih (fun s hs => e s (by omega))]
theorem lastB_k (e : ∀ s, s < m → S' f_Md_shapeBefore s = S f_Md_shapeBefore s) : lastB S' k m = lastB S k m := by
  induction m with
  | zero => rfl
  | succ m ih =>
    unfold lastB
    rw [e m (by omega), ih (fun s hs => e s (by omega))]
theorem TH1.keep (H : TH1 Γ h C ho S N tn sn k) (g : GRO Γ Γ' h h' C S S') (eT : hB h' (C + 51) k = hB h (C + 51) k) (eh : ∀ s, s < sn → hB h' (C + 52) s = hB h (C + 52) s) (hsn : 1 ≤ sn ∧ sn ≤ sn') (eK : ∀ f, LTT.elem f = true → S' f k = S f k) (eL : ∀ i : Nat, (i : Int) < S f_Md_thingCount k → ∀ f, LSL.elem f = true → S' f (slS S k i) = S f (slS S k i)) (e1 : S f_Md_slots 0 ≤ S' f_Md_slots 0) (e2 : S f_Md_changes 0 ≤ S' f_Md_changes 0) (eR : ∀ s, s < sn → ∀ f, LSP.elem f = true → S' f s = S f s) (hb : ∀ s, s < sn → (S f_Md_shapeBefore s).toNat < sn) (er : rooB S' k sn' = rooB S k sn) (sm : SMO h h' (hB h (C + 51) k)) (eo : ∀ i, i < N → hB h' (ho + 2) i = hB h (ho + 2) i) : TH1 Γ' h' C ho S' N tn' sn' k := by
  obtain ⟨b1, ⟨b2, b3, b4⟩, b5, b6, b7, ⟨b8, b9, b10, b11, b12, b13, b14⟩, b15, b16, b17, b18, b19, b20, b21, b22, b23, b24⟩ := H
  obtain ⟨⟨s1, s2, s3⟩, ⟨⟨w1, w2, w3⟩, w4⟩, ⟨⟨t1, t2, t3⟩, t4⟩⟩ := sm
  have i1 := (s1 f_Thing_number (by decide)).1
  have i2 := (s1 f_Thing_size (by decide)).1
  have i3 := (s1 f_Obj_epoch (by decide)).1
  have i4 := (s1 f_Obj_changedAt (by decide)).1
  have r1 := (s1 f_Thing_words (by decide)).2
  have r2 := (s1 f_Thing_tags (by decide)).2
  have r3 := (s1 f_Obj_shape (by decide)).2
  have r4 := (s1 f_Obj_root (by decide)).2
  have r5 := (s1 f_Fun_code (by decide)).2
  have r6 := (s1 f_Fun_around (by decide)).2
  have r7 := (s1 f_Instance_type (by decide)).2
  have sl : ∀ i : Nat, (i : Int) < S f_Md_thingCount k → slS S' k i = slS S k i := fun i hi => slS_k (n := (S f_Md_thingCount k).toNat) (eK _ (by decide)) (fun i hi => eL i (by omega) _ (by decide)) i (by omega)
  have k1 := eK f_Md_thingKind (by decide)
  have k2 := eK f_Md_thingCount (by decide)
  have k3 := eK f_Md_thingFirst (by decide)
  have k4 := eK f_Md_thingLast (by decide)
  have k5 := eK f_Md_thingShape (by decide)
  have k6 := eK f_Md_thingFunction (by decide)
  have k7 := eK f_Md_thingAround (by decide)
  have k8 := eK f_Md_thingClass (by decide)
  have k9 := eK f_Md_isWatched (by decide)
  have k10 := eK f_Md_epoch (by decide)
  have k11 := eK f_Md_changedAt (by decide)
  have sh : shA h' C (rooB S k sn) = shA h C (rooB S k sn) := by
    unfold shA
    rcases rooB_lt (S := S) (k := k) sn with q | q
    · rw [if_pos q, if_pos q]
    · rw [eh _ q]
  unfold TH1
  rw [eT, k1, k2, k3, k4, k5, k6, k7, k8, k9, k10, k11, i1, i2, i3, i4, r1, r2, r3, r4, r5, r6, r7, w4, t4, w1, t1, s2, er, sh]
  refine ⟨b1, ⟨b2, s3, b4⟩, b5, b6, b7, ⟨b8, b9, b10, b11, b12, b13, b14⟩, fun i hi => ?_, fun q => ⟨(b16 q).1, by rw [sl _ (by omega)]; exact (b16 q).2⟩, fun i hi => by rw [sl _ (by omega), eL i (by omega) _ (by decide)]; exact b17 i hi, fun q => ?_, b19, fun q => ⟨(b20 q).1, fun i hi => by rw [sl i hi, eL i hi _ (by decide)]; exact (b20 q).2 i hi⟩, by omega, by omega, ?_, ?_⟩
  · rw [sl i hi, eL i hi _ (by decide), eL i hi _ (by decide), w2, t2]
    exact ⟨by have := (b15 i hi).1; omega, g.vr (b15 i hi).2⟩
  · obtain ⟨⟨q1, q1'⟩, q2, q3, q4, q5, q6, q7, q8, q9⟩ := b18 q
    have hs : (S f_Md_thingShape k).toNat < sn := by omega
    refine ⟨⟨q1, by omega⟩, by rw [eh _ hs]; exact q2, by rw [eR _ hs _ (by decide)]; exact q3, q4, fun i hi => ?_, q6, q7, q8, q9⟩
    obtain ⟨an1, an2⟩ := anc_k (S' := S') (fun s hs => eR s hs _ (by decide)) hb hs ((S f_Md_thingCount k).toNat - 1 - i)
    rw [sl i hi, eL i hi _ (by decide), an1, eR _ an2 _ (by decide)]
    exact q5 i hi
  · rcases b23 with q | ⟨q0, q1, q2, q3, q4, q5, q6, q7, q8⟩
    · exact Or.inl q
    · obtain ⟨-, w2, -, -, w5⟩ := g.1.2 (S f_Md_thingFunction k).toNat (by omega)
      obtain ⟨u1, u2⟩ := g.2.1.2 (S f_Md_thingAround k).toNat (by omega)
      have := g.1.1
      have := g.2.1.1
      exact Or.inr ⟨q0, q1, by omega, by rw [w2]; exact q3, q4, by omega, by rw [u1]; exact q6, by rw [u2, w5]; exact q7, by rw [w5]; exact q8⟩
  · rcases b24 with q | ⟨q0, q1, q2, q3⟩
    · exact Or.inl q
    · exact Or.inr ⟨q0, q1, q2, by rw [eo _ (by omega)]; exact q3⟩
theorem SH1.keep (H : SH1 h C S tn sn s) (g : GRO Γ Γ' h h' C S S') (et : S f_Md_things 0 = (tn : Int)) (ht : tn ≤ tn') (hs : s < sn) (eh : ∀ s, s < sn → hB h' (C + 52) s = hB h (C + 52) s) (eR : ∀ s, s < sn → ∀ f, LSP.elem f = true → S' f s = S f s) (hb : ∀ s, s < sn → (S f_Md_shapeBefore s).toNat < sn) (er : lastB S' s sn' = lastB S s sn) (sm : SMF h h' (hB h (C + 52) s)) : SH1 h' C S' tn' sn' s := by
  obtain ⟨⟨b1, b2, b3⟩, b4, b5, b6, b7, b8, b9, b10, b11, b12⟩ := H
  obtain ⟨s1, s2, s3⟩ := sm
  have i1 := (s1 f_Shape_number (by decide)).1
  have i2 := (s1 f_Shape_name (by decide)).1
  have i3 := (s1 f_Shape_size (by decide)).1
  have r1 := (s1 f_Shape_prototype (by decide)).2
  have r2 := (s1 f_Shape_before (by decide)).2
  have r3 := (s1 f_Shape_child (by decide)).2
  have r4 := (s1 f_Shape_sibling (by decide)).2
  have k1 := eR s hs f_Md_shapeProto (by decide)
  have k2 := eR s hs f_Md_shapeBefore (by decide)
  have k3 := eR s hs f_Md_shapeName (by decide)
  have k4 := eR s hs f_Md_shapeCount (by decide)
  have sh : ∀ m, m < sn → shA h' C m = shA h C m := fun m hm => by unfold shA; rw [eh _ hm]
  have sh0 : shA h' C 0 = shA h C 0 := rfl
  unfold SH1
  rw [eh s hs, k1, k2, k3, k4, i1, i2, i3, r1, r2, r3, r4, s2, er]
  refine ⟨⟨b1, s3, b3⟩, b4, ?_, ?_, b7, b8, b9, ?_, fun q => ?_, fun i j hi hj => ?_⟩
  · rcases b5 with q | ⟨q1, q2, q3, q4⟩
    · exact Or.inl q
    · obtain ⟨u1, u2⟩ := g.2.2.1.2 (S f_Md_shapeProto s).toNat (by omega)
      exact Or.inr ⟨q1, by omega, by rw [u1]; exact q3, by rw [u2]; exact q4⟩
  · rcases b6 with q | ⟨q1, q2, q3, q4, q5, q6⟩
    · exact Or.inl q
    · have hs2 : (S f_Md_shapeBefore s).toNat < sn := hb s hs
      exact Or.inr ⟨q1, q2, by rw [eh _ hs2]; exact q3, q4, by rw [eR _ hs2 _ (by decide)]; exact q5, by rw [eR _ hs2 _ (by decide)]; exact q6⟩
  · rcases lastB_lt (S := S) (k := s) sn with q | q
    · rw [b10, q, sh0]
    · rw [b10, sh _ q]
  · rw [b11 q, lastB_k (S' := S') (S := S) (fun m hm => eR m (by omega) _ (by decide))]
    rcases lastB_lt (S := S) (k := (S f_Md_shapeBefore s).toNat) s with q | q
    · rw [q, sh0]
    · rw [sh _ (by omega)]
  · obtain ⟨a1, a2⟩ := anc_k (S' := S') (fun s hs => eR s hs _ (by decide)) hb hs i
    obtain ⟨c1, c2⟩ := anc_k (S' := S') (fun s hs => eR s hs _ (by decide)) hb hs j
    rw [a1, c1, eR _ a2 _ (by decide), eR _ c2 _ (by decide)]
    exact b12 i j hi hj
theorem SH1.bef (H : SH1 h C S tn sn s) (hs : s < sn) : (S f_Md_shapeBefore s).toNat < sn := by
  rcases H.2.2.2.1 with q | q
  · omega
  · omega
end
