/-! things in parts -/
set_option maxRecDepth 20000
/-- what a thing is for good -/
def TA1 (Γ : GH) (h : ah) (C ho : Nat) (S : SS) (N k : Nat) : Prop := (4 ≤ S f_Md_thingKind k ∧ S f_Md_thingKind k ≤ 7) ∧ (hK h (hB h (C + 51) k) = kdK (S f_Md_thingKind k) ∧ hB h (C + 51) k < hz h ∧ hB h (C + 51) k ≠ 0) ∧ hI h f_Thing_number (hB h (C + 51) k) = (k : Int) ∧
  ((S f_Md_thingKind k ≠ 5 ∧ S f_Md_thingFunction k = -1) ∨ (S f_Md_thingKind k = 5 ∧ 0 ≤ S f_Md_thingFunction k ∧ S f_Md_thingFunction k < S f_Md_functions 0 ∧ hR h f_Fun_code (hB h (C + 51) k) = hB h (C + 56) (S f_Md_thingFunction k).toNat ∧ 0 ≤ S f_Md_thingAround k ∧ S f_Md_thingAround k < S f_Md_calls 0 ∧ hR h f_Fun_around (hB h (C + 51) k) = gva Γ (S f_Md_thingAround k).toNat ∧ gcf Γ (S f_Md_thingAround k).toNat = gou Γ (S f_Md_thingFunction k).toNat ∧ gou Γ (S f_Md_thingFunction k).toNat ≠ (S f_Md_thingFunction k).toNat)) ∧
  ((S f_Md_thingKind k ≠ 7 ∧ S f_Md_thingClass k = -1) ∨ (S f_Md_thingKind k = 7 ∧ 0 ≤ S f_Md_thingClass k ∧ S f_Md_thingClass k < (N : Int) ∧ hR h f_Instance_type (hB h (C + 51) k) = hB h (ho + 2) (S f_Md_thingClass k).toNat))
/-- its values -/
def TB1 (Γ : GH) (h : ah) (C : Nat) (S : SS) (N k : Nat) : Prop := hI h f_Thing_size (hB h (C + 51) k) = S f_Md_thingCount k ∧ (0 ≤ S f_Md_thingCount k ∧ S f_Md_thingCount k ≤ 60000) ∧
  (hR h f_Thing_words (hB h (C + 51) k) ≠ 0 ∧ hK h (hR h f_Thing_words (hB h (C + 51) k)) = 2 ∧ hR h f_Thing_tags (hB h (C + 51) k) ≠ 0 ∧ hK h (hR h f_Thing_tags (hB h (C + 51) k)) = 3 ∧ hl h (hR h f_Thing_tags (hB h (C + 51) k)) = hl h (hR h f_Thing_words (hB h (C + 51) k)) ∧ S f_Md_thingCount k ≤ (hl h (hR h f_Thing_words (hB h (C + 51) k)) : Int) ∧ hl h (hR h f_Thing_words (hB h (C + 51) k)) ≤ 130000) ∧
  (∀ i : Nat, (i : Int) < S f_Md_thingCount k → (slS S k i : Int) < S f_Md_slots 0 ∧ VR Γ S N (hA h (hR h f_Thing_tags (hB h (C + 51) k)) i) (hA h (hR h f_Thing_words (hB h (C + 51) k)) i) (S f_Md_slotType (slS S k i)) (S f_Md_slotValue (slS S k i))) ∧
  (0 < S f_Md_thingCount k → 0 ≤ S f_Md_thingFirst k ∧ S f_Md_thingLast k = (slS S k ((S f_Md_thingCount k).toNat - 1) : Int)) ∧ (∀ i : Nat, ((i + 1 : Nat) : Int) < S f_Md_thingCount k → 0 ≤ S f_Md_slotNext (slS S k i))
/-- its shape -/
def TC1 (h : ah) (C : Nat) (S : SS) (sn k : Nat) : Prop := (S f_Md_thingKind k = 4 ∨ S f_Md_thingKind k = 5 → (0 ≤ S f_Md_thingShape k ∧ S f_Md_thingShape k < (sn : Int)) ∧ hR h f_Obj_shape (hB h (C + 51) k) = hB h (C + 52) (S f_Md_thingShape k).toNat ∧ S f_Md_shapeCount (S f_Md_thingShape k).toNat = S f_Md_thingCount k ∧ S f_Md_thingCount k ≤ 64 ∧ (∀ i : Nat, (i : Int) < S f_Md_thingCount k → S f_Md_slotName (slS S k i) = S f_Md_shapeName (anc S (S f_Md_thingShape k).toNat ((S f_Md_thingCount k).toNat - 1 - i)))) ∧ (S f_Md_thingKind k = 6 ∨ S f_Md_thingKind k = 7 → ∀ i : Nat, (i : Int) < S f_Md_thingCount k → S f_Md_slotName (slS S k i) = -1)
/-- whether it is watched -/
def TD1 (h : ah) (C : Nat) (S : SS) (sn k : Nat) : Prop := (S f_Md_thingKind k = 4 ∨ S f_Md_thingKind k = 5 → hI h f_Obj_epoch (hB h (C + 51) k) = (if S f_Md_isWatched k = 0 then -1 else S f_Md_epoch k) ∧ hI h f_Obj_changedAt (hB h (C + 51) k) = S f_Md_changedAt k ∧ hR h f_Obj_root (hB h (C + 51) k) = shA h C (rooB S k sn) ∧ (S f_Md_isWatched k = 1 ↔ rooB S k sn ≠ 0)) ∧ (S f_Md_isWatched k = 0 ∨ S f_Md_isWatched k = 1) ∧ (S f_Md_thingKind k = 6 ∨ S f_Md_thingKind k = 7 → S f_Md_isWatched k = 0) ∧ (0 ≤ S f_Md_epoch k ∧ S f_Md_epoch k ≤ S f_Md_changes 0) ∧ (0 ≤ S f_Md_changedAt k ∧ S f_Md_changedAt k ≤ S f_Md_changes 0)
section
variable {Γ Γ' : GH} {h h' : ah} {C ho a N tn tn' sn sn' k z s n j : Nat} {S S' : SS} {L : List Nat} {P : List (Nat × Nat)}
theorem TH1.p (H : TH1 Γ h C ho S N tn sn k) : TA1 Γ h C ho S N k ∧ TB1 Γ h C S N k ∧ TC1 h C S sn k ∧ TD1 h C S sn k := by
  obtain ⟨b1, b2, b5, b6, b7, b8, b15, b16, b17, b18, b19, b20, b21, b22, b23, b24⟩ := H
  refine ⟨⟨b1, b2, b5, b23, b24⟩, ⟨b6, b7, b8, b15, b16, b17⟩, ⟨fun q => ?_, fun q => (b20 q).2⟩, ⟨fun q => ?_, b19, fun q => (b20 q).1, b21, b22⟩⟩
  · obtain ⟨q1, q2, q3, q4, q5, q6, q7, q8, q9⟩ := b18 q
    exact ⟨q1, q2, q3, q4, q5⟩
  · obtain ⟨q1, q2, q3, q4, q5, q6, q7, q8, q9⟩ := b18 q
    exact ⟨q6, q7, q8, q9⟩
theorem TH1.mk (A : TA1 Γ h C ho S N k) (B : TB1 Γ h C S N k) (D : TC1 h C S sn k) (E : TD1 h C S sn k) : TH1 Γ h C ho S N tn sn k := by
  obtain ⟨b1, b2, b5, b23, b24⟩ := A
  obtain ⟨b6, b7, b8, b15, b16, b17⟩ := B
  obtain ⟨c1, c2⟩ := D
  obtain ⟨d1, b19, d2, b21, b22⟩ := E
  refine ⟨b1, b2, b5, b6, b7, b8, b15, b16, b17, fun q => ?_, b19, fun q => ⟨d2 q, c2 q⟩, b21, b22, b23, b24⟩
  obtain ⟨q1, q2, q3, q4, q5⟩ := c1 q
  obtain ⟨q6, q7, q8, q9⟩ := d1 q
  exact ⟨q1, q2, q3, q4, q5, q6, q7, q8, q9⟩
theorem TA1.keep (H : TA1 Γ h C ho S N k) (g : GRO Γ Γ' h h' C S S') (eT : hB h' (C + 51) k = hB h (C + 51) k) (eK : ∀ f, [f_Md_thingKind, f_Md_thingFunction, f_Md_thingAround, f_Md_thingClass].elem f = true → S' f k = S f k) (s1 : hI h' f_Thing_number (hB h (C + 51) k) = hI h f_Thing_number (hB h (C + 51) k)) (s2 : ∀ f, [f_Fun_code, f_Fun_around, f_Instance_type].elem f = true → hR h' f (hB h (C + 51) k) = hR h f (hB h (C + 51) k)) (s3 : hK h' (hB h (C + 51) k) = hK h (hB h (C + 51) k)) (s4 : hB h (C + 51) k < hz h') (eo : ∀ i, i < N → hB h' (ho + 2) i = hB h (ho + 2) i) : TA1 Γ' h' C ho S' N k := by
  obtain ⟨b1, ⟨b2, b3, b4⟩, b5, b23, b24⟩ := H
  have k1 := eK f_Md_thingKind (by decide)
  have k6 := eK f_Md_thingFunction (by decide)
  have k7 := eK f_Md_thingAround (by decide)
  have k8 := eK f_Md_thingClass (by decide)
  have r5 := s2 f_Fun_code (by decide)
  have r6 := s2 f_Fun_around (by decide)
  have r7 := s2 f_Instance_type (by decide)
  unfold TA1
  rw [eT, k1, k6, k7, k8, s1, r5, r6, r7, s3]
  refine ⟨b1, ⟨b2, s4, b4⟩, b5, ?_, ?_⟩
  · rcases b23 with q | ⟨q0, q1, q2, q3, q4, q5, q6, q7, q8⟩
    · exact Or.inl q
    · obtain ⟨-, w2, -, -, w5⟩ := g.1.2 (S f_Md_thingFunction k).toNat (by omega)
      obtain ⟨u1, u2⟩ := g.2.1.2 (S f_Md_thingAround k).toNat (by omega)
      have := g.1.1
      have := g.2.1.1
      exact Or.inr ⟨q0, q1, by omega, by rw [w2]; exact q3, q4, by omega, by rw [u1]; exact q6, by rw [u2, w5]; exact q7, by rw [w5]; exact q8⟩
  · rcases b24 with q | ⟨q0, q1, q2, q3⟩
    · exact Or.inl q
    · exact Or.inr ⟨q0, q1, q2, by rw [eo _ (by omega)]; exact q3⟩
theorem TB1.keep (H : TB1 Γ h C S N k) (g : GRO Γ Γ' h h' C S S') (eT : hB h' (C + 51) k = hB h (C + 51) k) (eK : ∀ f, [f_Md_thingCount, f_Md_thingFirst, f_Md_thingLast].elem f = true → S' f k = S f k) (eL : ∀ i : Nat, (i : Int) < S f_Md_thingCount k → ∀ f, [f_Md_slotType, f_Md_slotValue, f_Md_slotNext].elem f = true → S' f (slS S k i) = S f (slS S k i)) (e1 : S f_Md_slots 0 ≤ S' f_Md_slots 0) (s1 : hI h' f_Thing_size (hB h (C + 51) k) = hI h f_Thing_size (hB h (C + 51) k)) (s2 : ∀ f, [f_Thing_words, f_Thing_tags].elem f = true → hR h' f (hB h (C + 51) k) = hR h f (hB h (C + 51) k)) (w : sameArr h h' (hR h f_Thing_words (hB h (C + 51) k)) ∧ hK h' (hR h f_Thing_words (hB h (C + 51) k)) = hK h (hR h f_Thing_words (hB h (C + 51) k))) (t : sameArr h h' (hR h f_Thing_tags (hB h (C + 51) k)) ∧ hK h' (hR h f_Thing_tags (hB h (C + 51) k)) = hK h (hR h f_Thing_tags (hB h (C + 51) k))) : TB1 Γ' h' C S' N k ∧ ∀ i : Nat, (i : Int) < S f_Md_thingCount k → slS S' k i = slS S k i := by
  obtain ⟨b6, b7, ⟨b8, b9, b10, b11, b12, b13, b14⟩, b15, b16, b17⟩ := H
  obtain ⟨⟨w1, w2, w3⟩, w4⟩ := w
  obtain ⟨⟨t1, t2, t3⟩, t4⟩ := t
  have r1 := s2 f_Thing_words (by decide)
  have r2 := s2 f_Thing_tags (by decide)
  have sl : ∀ i : Nat, (i : Int) < S f_Md_thingCount k → slS S' k i = slS S k i := fun i hi => slS_k (n := (S f_Md_thingCount k).toNat) (eK _ (by decide)) (fun i hi => eL i (by omega) _ (by decide)) i (by omega)
  have k2 := eK f_Md_thingCount (by decide)
  have k3 := eK f_Md_thingFirst (by decide)
  have k4 := eK f_Md_thingLast (by decide)
  refine ⟨?_, sl⟩
  unfold TB1
  rw [eT, k2, k3, k4, s1, r1, r2, w4, t4, w1, t1]
  refine ⟨b6, b7, ⟨b8, b9, b10, b11, b12, b13, b14⟩, fun i hi => ?_, fun q => ⟨(b16 q).1, by rw [sl _ (by omega)]; exact (b16 q).2⟩, fun i hi => by rw [sl _ (by omega), eL i (by omega) _ (by decide)]; exact b17 i hi⟩
  rw [sl i hi, eL i hi _ (by decide), eL i hi _ (by decide), w2, t2]
  exact ⟨by have := (b15 i hi).1; omega, g.vr (b15 i hi).2⟩
theorem TC1.keep (H : TC1 h C S sn k) (eT : hB h' (C + 51) k = hB h (C + 51) k) (eh : ∀ s, s < sn → hB h' (C + 52) s = hB h (C + 52) s) (hsn : sn ≤ sn') (eK : ∀ f, [f_Md_thingKind, f_Md_thingCount, f_Md_thingShape].elem f = true → S' f k = S f k) (sl : ∀ i : Nat, (i : Int) < S f_Md_thingCount k → slS S' k i = slS S k i ∧ S' f_Md_slotName (slS S k i) = S f_Md_slotName (slS S k i)) (eR : ∀ s, s < sn → ∀ f, LSP.elem f = true → S' f s = S f s) (hb : ∀ s, s < sn → (S f_Md_shapeBefore s).toNat < sn) (s2 : hR h' f_Obj_shape (hB h (C + 51) k) = hR h f_Obj_shape (hB h (C + 51) k)) : TC1 h' C S' sn' k := by
  obtain ⟨c1, c2⟩ := H
  have k1 := eK f_Md_thingKind (by decide)
  have k2 := eK f_Md_thingCount (by decide)
  have k5 := eK f_Md_thingShape (by decide)
  unfold TC1
  rw [eT, k1, k2, k5, s2]
  refine ⟨fun q => ?_, fun q i hi => by rw [(sl i hi).1, (sl i hi).2]; exact c2 q i hi⟩
  obtain ⟨⟨q1, q1'⟩, q2, q3, q4, q5⟩ := c1 q
  have hs : (S f_Md_thingShape k).toNat < sn := by omega
  refine ⟨⟨q1, by omega⟩, by rw [eh _ hs]; exact q2, by rw [eR _ hs _ (by decide)]; exact q3, q4, fun i hi => ?_⟩
  obtain ⟨an1, an2⟩ := anc_k (S' := S') (fun s hs => eR s hs _ (by decide)) hb hs ((S f_Md_thingCount k).toNat - 1 - i)
  rw [(sl i hi).1, (sl i hi).2, an1, eR _ an2 _ (by decide)]
  exact q5 i hi
theorem shA_e (eh : ∀ s, s < sn → hB h' (C + 52) s = hB h (C + 52) s) (hj : j < sn ∨ j = 0) : shA h' C j = shA h C j := by
  unfold shA
  by_cases q : j = 0
  · rw [if_pos q, if_pos q]
  · rw [if_neg q, if_neg q, eh _ (by omega)]
theorem TD1.keep (H : TD1 h C S sn k) (eT : hB h' (C + 51) k = hB h (C + 51) k) (eh : ∀ s, s < sn → hB h' (C + 52) s = hB h (C + 52) s) (eK : ∀ f, [f_Md_thingKind, f_Md_isWatched, f_Md_epoch, f_Md_changedAt].elem f = true → S' f k = S f k) (e2 : S f_Md_changes 0 ≤ S' f_Md_changes 0) (er : rooB S' k sn' = rooB S k sn) (s1 : ∀ f, [f_Obj_epoch, f_Obj_changedAt].elem f = true → hI h' f (hB h (C + 51) k) = hI h f (hB h (C + 51) k)) (s2 : hR h' f_Obj_root (hB h (C + 51) k) = hR h f_Obj_root (hB h (C + 51) k)) : TD1 h' C S' sn' k := by
  obtain ⟨d1, b19, d2, b21, b22⟩ := H
  have k1 := eK f_Md_thingKind (by decide)
  have k9 := eK f_Md_isWatched (by decide)
  have k10 := eK f_Md_epoch (by decide)
  have k11 := eK f_Md_changedAt (by decide)
  have i3 := s1 f_Obj_epoch (by decide)
  have i4 := s1 f_Obj_changedAt (by decide)
  have sh : shA h' C (rooB S k sn) = shA h C (rooB S k sn) := shA_e eh (by have := rooB_lt (S := S) (k := k) sn; omega)
  unfold TD1
  rw [eT, k1, k9, k10, k11, i3, i4, s2, er, sh]
  exact ⟨d1, b19, d2, by omega, by omega⟩
end
