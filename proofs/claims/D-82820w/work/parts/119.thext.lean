/-! things and shapes that are not touched -/
set_option maxRecDepth 20000
section
variable {ρ : Nat → Nat} {d : Nat} {Q : QT} {Γ Γ' : GH} {h h' : ah} {C ho : Nat} {X X' : X3} {Y Y' : Y3} {S S' : SS} {N t o n c r f i j k m z s : Nat} {L : List Nat} {P : List (Nat × Nat)} {ty v x y : Int}
theorem pcS_e (e : ∀ k, prS S' k = prS S k) : ∀ j p, pcS S' j p = pcS S j p
  | 0, p => rfl
  | j + 1, p => by unfold pcS; rw [e, pcS_e e j]
theorem ACY.ext (A : ACY S) (e : EXS [f_Md_things, f_Md_thingKind, f_Md_thingShape, f_Md_shapeProto] S S') : ACY S' := fun k hk kd => by
  rw [e _ (by decide)] at hk
  rw [e _ (by decide)] at kd
  obtain ⟨j, hj⟩ := A k hk kd
  exact ⟨j, by rw [pcS_e (fun k => by unfold prS; rw [e _ (by decide), e _ (by decide)])]; exact hj⟩
/-- those that were there keep their prototypes -/
theorem ACY.old (A : ACY S) (wf : ∀ k : Nat, (k : Int) < S f_Md_things 0 → S f_Md_thingKind k = 4 ∨ S f_Md_thingKind k = 5 → prS S k = -1 ∨ (0 ≤ prS S k ∧ prS S k < S f_Md_things 0 ∧ (S f_Md_thingKind (prS S k).toNat = 4 ∨ S f_Md_thingKind (prS S k).toNat = 5))) (e : ∀ k : Nat, (k : Int) < S f_Md_things 0 → S f_Md_thingKind k = 4 ∨ S f_Md_thingKind k = 5 → prS S' k = prS S k) : ∀ k : Nat, (k : Int) < S f_Md_things 0 → S f_Md_thingKind k = 4 ∨ S f_Md_thingKind k = 5 → ∃ j, pcS S' j (k : Int) < 0 := by
  have key : ∀ j (k : Nat), (k : Int) < S f_Md_things 0 → S f_Md_thingKind k = 4 ∨ S f_Md_thingKind k = 5 → pcS S' j (k : Int) = pcS S j (k : Int) := by
    intro j
    induction j with
    | zero => intro k _ _; rfl
    | succ j ih =>
      intro k hk kd
      unfold pcS
      rw [if_neg (by omega), if_neg (by omega), Int.toNat_natCast, e k hk kd]
      rcases wf k hk kd with w | ⟨w1, w2, w3⟩
      · rw [w]
        cases j with
        | zero => rfl
        | succ j => unfold pcS; rw [if_pos (by decide), if_pos (by decide)]
      · have := ih (prS S k).toNat (by omega) w3
        have ec : (((prS S k).toNat : Nat) : Int) = prS S k := by omega
        rw [ec] at this
        exact this
  intro k hk kd
  obtain ⟨j, hj⟩ := A k hk kd
  exact ⟨j, by rw [key j k hk kd]; exact hj⟩
theorem THC.ext (H : THC Γ h C ho S N) (G : AC h C) (F : FC h C) (g : GRO Γ Γ' h h' C S S') (e : EXS LTS S S') (fr : Fr L P z s h h') (d1 : DJ LHH L P) (d2 : DJ LHH1 L P) (p0 : ∀ y, (0, y) ∉ P) (eh : ∀ i, i < N → hB h' (ho + 2) i = hB h (ho + 2) i) : THC Γ' h' C ho S' N := by
  obtain ⟨tn, sn, a1, a2, a3, a4, a5, a6, a6', a7, a8, a9, a10⟩ := H
  have g1 := G.1
  have o51 : own f_Heap_things := by unfold own; decide
  have o52 : own f_Heap_shapes := by unfold own; decide
  have oW : own f_Thing_words := by unfold own; decide
  have oT : own f_Thing_tags := by unfold own; decide
  have s51 : sameArr h h' (C + 51) := fr.ar G.2.1 o51 (x := C + 50) (by omega) F.2.2.1.2.1 (by omega) (fun c => c.elim (d1.w (by decide)) (d2.w (by decide))) (p0 _)
  have s52 : sameArr h h' (C + 52) := fr.ar G.2.1 o52 (x := C + 50) (by omega) F.2.2.1.2.2.1 (by omega) (fun c => c.elim (d1.w (by decide)) (d2.w (by decide))) (p0 _)
  have e51 := s51.2.2
  have e52 := s52.2.2
  have shE : ∀ s, shA h' C s = shA h C s := fun s => by unfold shA; rw [e52]
  have sl := fun k i => slS_e (k := k) e i
  have lb := fun k i => lastB_e (k := k) e i
  have rb := fun k i => rooB_e (k := k) e i
  have an := fun k i => anc_e (s := k) e i
  refine ⟨tn, sn, by rw [e _ (by decide)]; exact a1, by rw [e _ (by decide)]; exact a2, by rw [s51.1]; exact a3, by rw [s52.1]; exact a4, a5, a6, a6', fun k hk => ?_, fun q hq => ?_, fun k i k' i' hk hk' hi hi' q => ?_, fun q q' h1 h2 h3 h4 h5 h6 h7 => ?_, ?_⟩
  · obtain ⟨b1, ⟨b2, b3, b4⟩, b5, b6, b7, ⟨b8, b9, b10, b11, b12, b13, b14⟩, b15, b16, b17, b18, b19, b20, b21, b22, b23, b24⟩ := a7 k hk
    have rI : ∀ f, LHH.elem f = true → 5 ≤ f → hI h' f (hB h (C + 51) k) = hI h f (hB h (C + 51) k) := fun f hf h5 => fr.I b3 h5 (d1.w hf)
    have rR : ∀ f, LHH.elem f = true → 5 ≤ f → hR h' f (hB h (C + 51) k) = hR h f (hB h (C + 51) k) := fun f hf h5 => fr.R b3 h5 (d1.w hf)
    have sW := fr.ar G.2.1 oW b3 rfl b8 (fun c => c.elim (d1.w (by decide)) (d2.w (by decide))) (p0 _)
    have sT := fr.ar G.2.1 oT b3 rfl b10 (fun c => c.elim (d1.w (by decide)) (d2.w (by decide))) (p0 _)
    have lW := G.2.1.1 _ _ b3 oW
    have lT := G.2.1.1 _ _ b3 oT
    have eK := fr.K b3
    have eKW := fr.K lW
    have eKT := fr.K lT
    have i1 := rI f_Thing_number (by decide) (by decide)
    have i2 := rI f_Thing_size (by decide) (by decide)
    have i3 := rI f_Obj_epoch (by decide) (by decide)
    have i4 := rI f_Obj_changedAt (by decide) (by decide)
    have r1 := rR f_Thing_words (by decide) (by decide)
    have r2 := rR f_Thing_tags (by decide) (by decide)
    have r3 := rR f_Obj_shape (by decide) (by decide)
    have r4 := rR f_Obj_root (by decide) (by decide)
    have r5 := rR f_Fun_code (by decide) (by decide)
    have r6 := rR f_Fun_around (by decide) (by decide)
    have r7 := rR f_Instance_type (by decide) (by decide)
    unfold TH1
    simp (disch := decide) only [e51, e52, shE, sl, rb, an, i1, i2, i3, i4, r1, r2, r3, r4, r5, r6, r7, eK, eKW, eKT, sW.1, sT.1, sW.2.1, sT.2.1, e _ (show LTS.elem f_Md_thingKind = true by decide), e _ (show LTS.elem f_Md_thingCount = true by decide), e _ (show LTS.elem f_Md_slots = true by decide), e _ (show LTS.elem f_Md_slotType = true by decide), e _ (show LTS.elem f_Md_slotValue = true by decide), e _ (show LTS.elem f_Md_slotName = true by decide), e _ (show LTS.elem f_Md_slotNext = true by decide), e _ (show LTS.elem f_Md_thingFirst = true by decide), e _ (show LTS.elem f_Md_thingLast = true by decide), e _ (show LTS.elem f_Md_thingShape = true by decide), e _ (show LTS.elem f_Md_thingFunction = true by decide), e _ (show LTS.elem f_Md_thingAround = true by decide), e _ (show LTS.elem f_Md_thingClass = true by decide), e _ (show LTS.elem f_Md_isWatched = true by decide), e _ (show LTS.elem f_Md_epoch = true by decide), e _ (show LTS.elem f_Md_changedAt = true by decide), e _ (show LTS.elem f_Md_changes = true by decide), e _ (show LTS.elem f_Md_shapeCount = true by decide), e _ (show LTS.elem f_Md_shapeName = true by decide)]
    refine ⟨b1, ⟨b2, fr.lt b3, b4⟩, b5, b6, b7, ⟨b8, b9, b10, b11, b12, b13, b14⟩, fun i hi => ⟨(b15 i hi).1, g.vr (b15 i hi).2⟩, b16, b17, b18, b19, b20, b21, b22, ?_, ?_⟩
    · rcases b23 with q | ⟨q0, q1, q2, q3, q4, q5, q6, q7, q8⟩
      · exact Or.inl q
      · obtain ⟨-, w2, -, -, w5⟩ := g.1.2 (S f_Md_thingFunction k).toNat (by omega)
        obtain ⟨u1, u2⟩ := g.2.1.2 (S f_Md_thingAround k).toNat (by omega)
        have := g.1.1
        have := g.2.1.1
        exact Or.inr ⟨q0, q1, by omega, by rw [w2]; exact q3, q4, by omega, by rw [u1]; exact q6, by rw [u2, w5]; exact q7, by rw [w5]; exact q8⟩
    · rcases b24 with q | ⟨q0, q1, q2, q3⟩
      · exact Or.inl q
      · exact Or.inr ⟨q0, q1, q2, by rw [eh _ (by omega)]; exact q3⟩
  · obtain ⟨⟨b1, b2, b3⟩, b4, b5, b6, b7, b8, b9, b10, b11, b12⟩ := a8 q hq
    have rI : ∀ f, LHH.elem f = true → 5 ≤ f → hI h' f (hB h (C + 52) q) = hI h f (hB h (C + 52) q) := fun f hf h5 => fr.I b2 h5 (d1.w hf)
    have rR : ∀ f, LHH.elem f = true → 5 ≤ f → hR h' f (hB h (C + 52) q) = hR h f (hB h (C + 52) q) := fun f hf h5 => fr.R b2 h5 (d1.w hf)
    have eK := fr.K b2
    have i1 := rI f_Shape_number (by decide) (by decide)
    have i2 := rI f_Shape_name (by decide) (by decide)
    have i3 := rI f_Shape_size (by decide) (by decide)
    have r1 := rR f_Shape_prototype (by decide) (by decide)
    have r2 := rR f_Shape_before (by decide) (by decide)
    have r3 := rR f_Shape_child (by decide) (by decide)
    have r4 := rR f_Shape_sibling (by decide) (by decide)
    unfold SH1
    simp (disch := decide) only [e51, e52, shE, lb, an, i1, i2, i3, r1, r2, r3, r4, eK, e _ (show LTS.elem f_Md_thingKind = true by decide), e _ (show LTS.elem f_Md_shapeProto = true by decide), e _ (show LTS.elem f_Md_shapeBefore = true by decide), e _ (show LTS.elem f_Md_shapeCount = true by decide), e _ (show LTS.elem f_Md_shapeName = true by decide)]
    exact ⟨⟨b1, fr.lt b2, b3⟩, b4, b5, b6, b7, b8, b9, b10, b11, b12⟩
  · rw [sl, sl] at q
    rw [e _ (by decide)] at hi hi'
    exact a9 k i k' i' hk hk' hi hi' q
  · rw [e _ (by decide), e _ (by decide)] at h5
    rw [e _ (by decide), e _ (by decide)] at h6
    rw [e _ (by decide), e _ (by decide)] at h7
    exact a10.1 q q' h1 h2 h3 h4 h5 h6 h7
  · exact a10.2.ext (fun f hf => e f (by
      have : [f_Md_things, f_Md_thingKind, f_Md_thingShape, f_Md_shapeProto].all (fun f => LTS.elem f) = true := by decide
      exact List.all_eq_true.mp this f (by simpa using hf)))
theorem prS_wf {tn sn : Nat} (a1 : S f_Md_things 0 = (tn : Int)) (a7 : ∀ k, k < tn → TH1 Γ h C ho S N tn sn k) (a8 : ∀ s, s < sn → SH1 h C S tn sn s) : ∀ k : Nat, (k : Int) < S f_Md_things 0 → S f_Md_thingKind k = 4 ∨ S f_Md_thingKind k = 5 → prS S k = -1 ∨ (0 ≤ prS S k ∧ prS S k < S f_Md_things 0 ∧ (S f_Md_thingKind (prS S k).toNat = 4 ∨ S f_Md_thingKind (prS S k).toNat = 5)) := fun k hk kd => by
  obtain ⟨-, -, -, -, -, -, -, -, -, b18, -⟩ := a7 k (by omega)
  obtain ⟨⟨q1, q1'⟩, -⟩ := b18 kd
  obtain ⟨-, -, y, -⟩ := a8 (S f_Md_thingShape k).toNat (by omega)
  unfold prS
  rcases y with y | ⟨y1, y2, y3, -⟩
  · exact Or.inl y.1
  · exact Or.inr ⟨y1, by omega, y3⟩
theorem THC.mko (H : THC Γ h C ho S N) : MKO h C S := by
  obtain ⟨tn, sn, a1, a2, a3, a4, a5, a6, a6', a7, -⟩ := H
  intro z hz hk
  obtain ⟨b1, ⟨b2, b3, b4⟩, b5, -⟩ := a7 z (by omega)
  refine ⟨b4, ?_, b5⟩
  rw [b2, hk]; rfl
end
