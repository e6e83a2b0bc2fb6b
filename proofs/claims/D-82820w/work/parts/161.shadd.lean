/-! a shape more on both sides -/
set_option maxRecDepth 20000
section
variable {Γ Γ' : GH} {h h' : ah} {C ho a N tn tn' sn sn' k z s n j b sm k0 l1 m i : Nat} {S S' : SS} {L : List Nat} {P : List (Nat × Nat)} {p nm cnt : Int}
theorem rooB_sp : ∀ m, rooB S k m = 0 → ∀ r, 1 ≤ r → r < m → ¬ (S f_Md_shapeBefore r = -1 ∧ S f_Md_shapeProto r = (k : Int))
  | 0 => fun _ r h1 h2 => by omega
  | m + 1 => by
    have ih := rooB_sp m
    unfold rooB
    by_cases q : m ≠ 0 ∧ S f_Md_shapeBefore m = -1 ∧ S f_Md_shapeProto m = (k : Int)
    · rw [if_pos q]; exact fun c => absurd c q.1
    · rw [if_neg q]
      intro w r h1 h2
      by_cases e : r = m
      · rw [e]; exact fun c => q ⟨by omega, c⟩
      · exact ih w r h1 (by omega)
theorem rooB_in : ∀ m r, 1 ≤ r → r < m → S f_Md_shapeBefore r = -1 → S f_Md_shapeProto r = (k : Int) → rooB S k m ≠ 0
  | 0, r, _, h2, _, _ => by omega
  | m + 1, r, h1, h2, h3, h4 => by
    unfold rooB
    by_cases q : m ≠ 0 ∧ S f_Md_shapeBefore m = -1 ∧ S f_Md_shapeProto m = (k : Int)
    · rw [if_pos q]; exact q.1
    · rw [if_neg q]
      by_cases e : r = m
      · exact absurd ⟨by omega, by rw [← e]; exact h3, by rw [← e]; exact h4⟩ q
      · exact rooB_in m r h1 (by omega) h3 h4
theorem anc_s : ∀ j, anc S s (j + 1) = anc S (S f_Md_shapeBefore s).toNat j
  | 0 => rfl
  | j + 1 => by
    show (S f_Md_shapeBefore (anc S s (j + 1))).toNat = (S f_Md_shapeBefore (anc S (S f_Md_shapeBefore s).toNat j)).toNat
    rw [anc_s j]
/-- a shape's count is at most its number -/
theorem SH1.cn (H : ∀ s, s < sn → SH1 h C S tn sn s) : ∀ m s, s ≤ m → s < sn → S f_Md_shapeCount s ≤ (s : Int) := by
  intro m
  induction m with
  | zero =>
    intro s h1 h2
    obtain ⟨-, -, -, q | q, -⟩ := H s h2
    · omega
    · omega
  | succ m ih =>
    intro s h1 h2
    obtain ⟨-, -, -, q | ⟨q1, q2, q3, q4, q5, q6⟩, -⟩ := H s h2
    · omega
    · have := ih (S f_Md_shapeBefore s).toNat (by omega) (by omega)
      omega
/-- a prototype of a shape has a root -/
theorem SH1.rt (H : ∀ s, s < sn → SH1 h C S tn sn s) : ∀ m s, s ≤ m → s < sn → S f_Md_shapeProto s = (k : Int) → rooB S k sn ≠ 0 := by
  intro m
  induction m with
  | zero =>
    intro s h1 h2 h3
    obtain ⟨-, -, -, ⟨q1, q2, q3, q4, q5⟩ | q, -⟩ := H s h2
    · have : s = 0 := by omega
      have := q5.mp this
      omega
    · omega
  | succ m ih =>
    intro s h1 h2 h3
    obtain ⟨-, -, -, ⟨q1, q2, q3, q4, q5⟩ | ⟨q1, q2, q3, q4, q5, q6⟩, -⟩ := H s h2
    · have : s ≠ 0 := fun c => by have := q5.mp c; omega
      exact rooB_in sn s (by omega) h2 q1 h3
    · exact ih (S f_Md_shapeBefore s).toNat (by omega) (by omega) (by rw [← q6]; exact h3)
theorem kd_ns {kd : Int} : kdK kd ≠ k_Shape := by
  unfold kdK
  split
  · decide
  · split
    · decide
    · split <;> decide
/-- the frame of a shape that is made leaves all else -/
theorem okW_a {f x a : Nat} (w : ¬ okW L [] f x) (hp : ∀ q, q ∈ P → q.2 = a) (ne : x ≠ a) : ¬ okW L P f x := by
  rintro (c | c)
  · exact w (Or.inl c)
  · exact ne (hp _ c)
theorem LHH_w {f x : Nat} (hf : LHH.elem f = true) : ¬ okW (LCC ++ [f_Heap_shapes + 1]) [] f x := by
  rintro (c | c)
  · have e : LHH.all (fun f => !((LCC ++ [f_Heap_shapes + 1]).elem f)) = true := by decide
    have := List.all_eq_true.mp e f (by simpa using hf)
    rw [show (LCC ++ [f_Heap_shapes + 1]).elem f = true by simpa using c] at this
    cases this
  · cases c
theorem THC.sh (H : THC Γ h C ho S N) (G : AC h C) (F : FC h C) (g : GRO Γ Γ h h' C S S') (fr : Fr (LCC ++ [f_Heap_shapes + 1]) P z s h h') (hp : ∀ q, q ∈ P → q.2 = a) (p0 : ∀ y, (0, y) ∉ P) (pA : ∀ q, q ∈ P → [f_Obj_root, f_Obj_epoch, f_Shape_child].elem q.1 = true) (eo : ∀ i, i < N → hB h' (ho + 2) i = hB h (ho + 2) i) (en : S f_Md_shapes 0 = (sn : Int)) (en' : S' f_Md_shapes 0 = ((sn + 1 : Nat) : Int)) (hsn : sn ≤ 4000) (el : hl h' (C + 52) = sn + 1) (eB : ∀ i, i < sn → hB h' (C + 52) i = hB h (C + 52) i) (eR : ∀ s, s < sn → ∀ f, LSP.elem f = true → S' f s = S f s) (eS : EXS (f_Md_things :: f_Md_slots :: f_Md_changes :: f_Md_thingKind :: f_Md_thingShape :: f_Md_thingFirst :: f_Md_thingCount :: f_Md_thingLast :: f_Md_thingFunction :: f_Md_thingAround :: f_Md_thingClass :: f_Md_changedAt :: LSL) S S')
  (tk : ∀ k : Nat, (k : Int) < S f_Md_things 0 → hB h (C + 51) k ≠ a → (∀ f, LTT.elem f = true → S' f k = S f k) ∧ rooB S' k (sn + 1) = rooB S k sn)
  (ta : ∀ k tn : Nat, (k : Int) < S f_Md_things 0 → hB h (C + 51) k = a → TH1 Γ h C ho S N tn sn k → TD1 h' C S' (sn + 1) k)
  (sk : ∀ s, s < sn → hB h (C + 52) s ≠ a → lastB S' s (sn + 1) = lastB S s sn) (sa : ∀ s tn : Nat, S f_Md_things 0 = (tn : Int) → s < sn → hB h (C + 52) s = a → SH1 h C S tn sn s → SH1 h' C S' tn (sn + 1) s) (nw : ∀ tn : Nat, S f_Md_things 0 = (tn : Int) → (∀ s, s < sn → SH1 h C S tn sn s) → SH1 h' C S' tn (sn + 1) sn)
  (uq : ∀ s, 1 ≤ s → s < sn → ¬ (S f_Md_shapeBefore s = S' f_Md_shapeBefore sn ∧ S f_Md_shapeProto s = S' f_Md_shapeProto sn ∧ S f_Md_shapeName s = S' f_Md_shapeName sn)) : THC Γ h' C ho S' N := by
  have gz := G.1
  obtain ⟨tn, sn0, a1, a2, a3, a4, a5, a6, a6', a7, a8, a9, a10⟩ := H
  have : sn0 = sn := by omega
  subst this
  have s51 := fr.ar G.2.1 (f := f_Heap_things) (by unfold own; decide) (x := C + 50) (by omega) F.2.2.1.2.1 (by omega) (fun c => by
    rcases c with (c | c) | (c | c)
    · exact absurd c (by decide)
    · have := pA _ c; exact absurd (show [f_Obj_root, f_Obj_epoch, f_Shape_child].elem f_Heap_things = true from this) (by decide)
    · exact absurd c (by decide)
    · have := pA _ c; exact absurd (show [f_Obj_root, f_Obj_epoch, f_Shape_child].elem (f_Heap_things + 1) = true from this) (by decide)) (p0 _)
  have hb : ∀ s, s < sn0 → (S f_Md_shapeBefore s).toNat < sn0 := fun s hs => (a8 s hs).bef hs
  have e51 := s51.2.2
  have esl : slS S' = slS S := by
    funext k i
    induction i with
    | zero => show (S' _ k).toNat = _; rw [eS _ (by decide)]; rfl
    | succ i ih => show (S' _ (slS S' k i)).toNat = _; rw [ih, eS _ (by decide)]; rfl
  have ecn := eS f_Md_thingCount (by decide)
  refine ⟨tn, sn0 + 1, by rw [eS _ (by decide)]; exact a1, en', by rw [s51.1]; exact a3, el, by omega, a6, by omega, fun k hk => ?_, fun s hs => ?_, ?_, fun s s' h1 h1' h2 h2' e1 e2 e3 => ?_, ?_⟩
  · have T := a7 k hk
    obtain ⟨A, B, D, E⟩ := T.p
    have ad := A.2.1.2.1
    have ee : ∀ f, LHH.elem f = true → ¬ okW (LCC ++ [f_Heap_shapes + 1]) [] f (hB h (C + 51) k) := fun f hf => LHH_w hf
    by_cases q : hB h (C + 51) k = a
    · have nP : ∀ f, LHH.elem f = true → [f_Obj_root, f_Obj_epoch, f_Shape_child].elem f = false → ¬ okW (LCC ++ [f_Heap_shapes + 1]) P f (hB h (C + 51) k) := fun f hf w => by
        rintro (c | c)
        · exact LHH_w (x := 0) hf (Or.inl c)
        · rw [pA _ c] at w; cases w
      have n1 : ∀ f, [f_Thing_words + 1, f_Thing_tags + 1].elem f = true → ¬ okW (LCC ++ [f_Heap_shapes + 1]) P f (hB h (C + 51) k) := fun f hf => by
        have : f = f_Thing_words + 1 ∨ f = f_Thing_tags + 1 := by simpa using hf
        rintro (c | c)
        · rcases this with rfl | rfl <;> exact absurd c (by decide)
        · have w : [f_Obj_root, f_Obj_epoch, f_Shape_child].elem f = true := pA _ c
          rcases this with rfl | rfl <;> exact absurd w (by decide)
      have eK : ∀ f, (f_Md_things :: f_Md_slots :: f_Md_changes :: f_Md_thingKind :: f_Md_thingShape :: f_Md_thingFirst :: f_Md_thingCount :: f_Md_thingLast :: f_Md_thingFunction :: f_Md_thingAround :: f_Md_thingClass :: f_Md_changedAt :: LSL).elem f = true → ∀ i, S' f i = S f i := fun f hf i => eS f hf i
      have sub : ∀ {M : List Nat} {f : Nat}, M.elem f = true → (M.all fun f => (f_Md_things :: f_Md_slots :: f_Md_changes :: f_Md_thingKind :: f_Md_thingShape :: f_Md_thingFirst :: f_Md_thingCount :: f_Md_thingLast :: f_Md_thingFunction :: f_Md_thingAround :: f_Md_thingClass :: f_Md_changedAt :: LSL).elem f) = true → ∀ i, S' f i = S f i := fun {M f} hf e i => eS f (List.all_eq_true.mp e f (by simpa using hf)) i
      have rR : ∀ f, LHH.elem f = true → [f_Obj_root, f_Obj_epoch, f_Shape_child].elem f = false → 5 ≤ f → hR h' f (hB h (C + 51) k) = hR h f (hB h (C + 51) k) := fun f h1 h2 h5 => fr.R ad h5 (nP f h1 h2)
      have rI : ∀ f, LHH.elem f = true → [f_Obj_root, f_Obj_epoch, f_Shape_child].elem f = false → 5 ≤ f → hI h' f (hB h (C + 51) k) = hI h f (hB h (C + 51) k) := fun f h1 h2 h5 => fr.I ad h5 (nP f h1 h2)
      have wA : sameArr h h' (hR h f_Thing_words (hB h (C + 51) k)) := fr.ar G.2.1 (f := f_Thing_words) (by unfold own; decide) ad rfl B.2.2.1.1 (fun c => c.elim (nP _ (by decide) (by decide)) (n1 _ (by decide))) (p0 _)
      have tA : sameArr h h' (hR h f_Thing_tags (hB h (C + 51) k)) := fr.ar G.2.1 (f := f_Thing_tags) (by unfold own; decide) ad rfl B.2.2.1.2.2.1 (fun c => c.elim (nP _ (by decide) (by decide)) (n1 _ (by decide))) (p0 _)
      have wz : hR h f_Thing_words (hB h (C + 51) k) < hz h := G.2.1.1 _ _ ad (by unfold own; decide)
      have tz : hR h f_Thing_tags (hB h (C + 51) k) < hz h := G.2.1.1 _ _ ad (by unfold own; decide)
      have TA := A.keep g (e51 k) (fun f hf => sub hf (by decide) k) (rI _ (by decide) (by decide) (by decide)) (fun f hf => by
        have : f = f_Fun_code ∨ f = f_Fun_around ∨ f = f_Instance_type := by simpa using hf
        rcases this with rfl | rfl | rfl <;> exact rR _ (by decide) (by decide) (by decide)) (fr.K ad) (fr.lt ad) eo
      obtain ⟨TB, sl⟩ := B.keep g (e51 k) (fun f hf => sub hf (by decide) k) (fun i hi f hf => sub hf (by decide) _) (by rw [eS _ (by decide)]; omega) (rI _ (by decide) (by decide) (by decide)) (fun f hf => by
        have : f = f_Thing_words ∨ f = f_Thing_tags := by simpa using hf
        rcases this with rfl | rfl <;> exact rR _ (by decide) (by decide) (by decide)) ⟨wA, fr.K wz⟩ ⟨tA, fr.K tz⟩
      have TC := D.keep (sn' := sn0 + 1) (S' := S') (h' := h') (e51 k) (fun s hs => eB s hs) (by omega) (fun f hf => sub hf (by decide) k) (fun i hi => ⟨sl i hi, eS _ (by decide) _⟩) (fun s hs => eR s hs) hb (rR _ (by decide) (by decide) (by decide))
      exact TH1.mk TA TB TC (ta k tn (by omega) q T)
    · obtain ⟨k1, k2⟩ := tk k (by omega) q
      refine T.keep g (e51 k) (fun s hs => eB s hs) ⟨a5, by omega⟩ k1 (fun i hi f hf => eS f (by unfold LSL at hf; revert hf; simp; rintro (rfl | rfl | rfl | rfl) <;> simp [LSL]) _) (by rw [eS _ (by decide)]; omega) (by rw [eS _ (by decide)]; omega) (fun s hs => eR s hs) hb k2 (SMO.fr G.2.1 ad B.2.2.1.1 B.2.2.1.2.2.1 fr (fun f hf => okW_a (ee f hf) hp q) (okW_a (by rintro (c | c); exact absurd c (by decide); cases c) hp q) (okW_a (by rintro (c | c); exact absurd c (by decide); cases c) hp q) p0) eo
  · by_cases q : s = sn0
    · subst q; exact nw tn a1 a8
    · have H1 := a8 s (by omega)
      by_cases q2 : hB h (C + 52) s = a
      · exact sa s tn a1 (by omega) q2 H1
      · exact H1.keep g a1 (Nat.le_refl _) (by omega) (fun s hs => eB s hs) (fun s hs => eR s hs) hb (sk s (by omega) q2) (SMF.fr H1.1.2.1 fr (fun f hf => okW_a (LHH_w hf) hp q2))
  · intro k i k' i' h1 h2 h3 h4 h5
    rw [ecn] at h3 h4
    rw [esl] at h5
    exact a9 k i k' i' h1 h2 h3 h4 h5
  · by_cases q : s = sn0
    · by_cases q' : s' = sn0
      · omega
      · exfalso
        rw [q] at e1 e2 e3
        rw [eR s' (by omega) _ (by decide)] at e1 e2 e3
        exact uq s' h1' (by omega) ⟨e1.symm, e2.symm, e3.symm⟩
    · by_cases q' : s' = sn0
      · exfalso
        rw [q'] at e1 e2 e3
        rw [eR s (by omega) _ (by decide)] at e1 e2 e3
        exact uq s h1 (by omega) ⟨e1, e2, e3⟩
      · rw [eR s (by omega) _ (by decide), eR s' (by omega) _ (by decide)] at e1 e2 e3
        exact a10.1 s s' h1 h1' (by omega) (by omega) e1 e2 e3
  · have old := a10.2.old (S' := S') (prS_wf a1 a7 a8) (fun k hk kd => by
      obtain ⟨-, -, -, -, -, -, -, -, -, b18, -⟩ := a7 k (by omega)
      obtain ⟨⟨q1, q1'⟩, -⟩ := b18 kd
      unfold prS
      rw [eS f_Md_thingShape (by decide) k, eR _ (by omega) _ (by decide)])
    intro k hk kd
    rw [eS _ (by decide)] at hk kd
    exact old k hk kd
/-- a root is made -/
theorem THC.root (H : THC Γ h C ho S N) (G : AC h C) (F : FC h C) (nsq : NSQ C h h' sn (hB h (C + 51) k0) 0 0 (-1) 0) (fr : Fr (LCC ++ [f_Heap_shapes + 1]) [(f_Obj_root, hB h (C + 51) k0), (f_Obj_epoch, hB h (C + 51) k0)] z s h h') (rt : hR h' f_Obj_root (hB h (C + 51) k0) = hz h) (ep : hI h' f_Obj_epoch (hB h (C + 51) k0) = 0) (ho' : HOo h ho) (en : S f_Md_shapes 0 = (sn : Int)) (hsn : sn ≤ 4000) (hk : (k0 : Int) < S f_Md_things 0) (kd : S f_Md_thingKind k0 = 4 ∨ S f_Md_thingKind k0 = 5) (r0 : rooB S k0 sn = 0) : THC Γ h' C ho (watS (nspS S sn sm (-1) (k0 : Int) (-1) 0) k0) N ∧ GRO Γ Γ h h' C S (watS (nspS S sn sm (-1) (k0 : Int) (-1) 0) k0) := by
  have gz := G.1
  have H0 := H
  obtain ⟨tn, sn0, a1, a2, a3, a4, a5, a6, a6', a7, a8, a9, a10⟩ := H0
  have : sn0 = sn := by omega
  subst this
  obtain ⟨m1, m2, m3, m4, m5, m6, m7, m8, m9, m10, m11, m12, m13, m14, m15⟩ := nsq
  obtain ⟨v1, v2, v3, v4, v5, v6⟩ := nspS_s (S := S) (sn := sn0) (sm := sm) (b := -1) (p := (k0 : Int)) (nm := -1) (cnt := 0)
  have wo : ∀ f i, [f_Md_isWatched, f_Md_epoch].elem f = false → watS (nspS S sn0 sm (-1) (k0 : Int) (-1) 0) k0 f i = nspS S sn0 sm (-1) (k0 : Int) (-1) 0 f i := fun f i hf => by
    unfold watS
    rw [u2_f (by rintro rfl; exact absurd hf (by decide)), u2_f (by rintro rfl; exact absurd hf (by decide))]
  have wk : ∀ f i, i ≠ k0 → watS (nspS S sn0 sm (-1) (k0 : Int) (-1) 0) k0 f i = nspS S sn0 sm (-1) (k0 : Int) (-1) 0 f i := fun f i hi => by
    unfold watS
    rw [u2_e, if_neg (fun c => hi c.2), u2_e, if_neg (fun c => hi c.2)]
  have w1 : watS (nspS S sn0 sm (-1) (k0 : Int) (-1) 0) k0 f_Md_isWatched k0 = 1 := by unfold watS; rw [u2_f (by decide), u2_s]
  have w2 : watS (nspS S sn0 sm (-1) (k0 : Int) (-1) 0) k0 f_Md_epoch k0 = 0 := by unfold watS; rw [u2_s]
  have es : ∀ f i, (f_Md_shapes :: f_Md_allShapes :: f_Md_isWatched :: f_Md_epoch :: LSP).elem f = false → watS (nspS S sn0 sm (-1) (k0 : Int) (-1) 0) k0 f i = S f i := fun f i hf => by
    have n : ∀ L : List Nat, (L.all fun f => (f_Md_shapes :: f_Md_allShapes :: f_Md_isWatched :: f_Md_epoch :: LSP).elem f) = true → L.elem f = false := fun L q => by
      cases w : L.elem f with
      | false => rfl
      | true => rw [List.all_eq_true.mp q f (by simpa using w)] at hf; cases hf
    rw [wo _ _ (n _ (by decide)), nspS_o (n _ (by decide))]
  have eR : ∀ s, s < sn0 → ∀ f, LSP.elem f = true → watS (nspS S sn0 sm (-1) (k0 : Int) (-1) 0) k0 f s = S f s := fun s hs f hf => by
    rw [wo f s (by have : LSP.all (fun f => !([f_Md_isWatched, f_Md_epoch].elem f)) = true := by decide
                   simpa using List.all_eq_true.mp this f (by simpa using hf)), nspS_k hf (by omega)]
  have v3' : watS (nspS S sn0 sm (-1) (k0 : Int) (-1) 0) k0 f_Md_shapeBefore sn0 = -1 := by rw [wo _ _ (by decide)]; exact v3
  have v4' : watS (nspS S sn0 sm (-1) (k0 : Int) (-1) 0) k0 f_Md_shapeProto sn0 = (k0 : Int) := by rw [wo _ _ (by decide)]; exact v4
  have v5' : watS (nspS S sn0 sm (-1) (k0 : Int) (-1) 0) k0 f_Md_shapeName sn0 = -1 := by rw [wo _ _ (by decide)]; exact v5
  have v6' : watS (nspS S sn0 sm (-1) (k0 : Int) (-1) 0) k0 f_Md_shapeCount sn0 = 0 := by rw [wo _ _ (by decide)]; exact v6
  have v1' : watS (nspS S sn0 sm (-1) (k0 : Int) (-1) 0) k0 f_Md_shapes 0 = ((sn0 + 1 : Nat) : Int) := by rw [wo _ _ (by decide)]; exact v1
  have kn : ∀ k, k < tn → k ≠ k0 → watS (nspS S sn0 sm (-1) (k0 : Int) (-1) 0) k0 f_Md_isWatched k = S f_Md_isWatched k ∧ watS (nspS S sn0 sm (-1) (k0 : Int) (-1) 0) k0 f_Md_epoch k = S f_Md_epoch k := fun k _ ne => ⟨by rw [wk _ _ ne, nspS_o (by decide)], by rw [wk _ _ ne, nspS_o (by decide)]⟩
  generalize watS (nspS S sn0 sm (-1) (k0 : Int) (-1) 0) k0 = S' at *
  have g : GRO Γ Γ h h' C S S' := GRO.fr (exs_of es (by decide)) G F fr (by unfold DJ; rfl) (by simp)
  have rkk : rooB S' k0 (sn0 + 1) = sn0 := by
    show (if sn0 ≠ 0 ∧ S' f_Md_shapeBefore sn0 = -1 ∧ S' f_Md_shapeProto sn0 = (k0 : Int) then sn0 else rooB S' k0 sn0) = _
    rw [if_pos ⟨by omega, v3', v4'⟩]
  have k0t : k0 < tn := by omega
  have T0 := (a7 k0 k0t).p
  refine ⟨THC.sh (a := hB h (C + 51) k0) H G F g fr (fun q hq => by simp at hq; rcases hq with rfl | rfl <;> rfl) (by simp) (fun q hq => by simp at hq; rcases hq with rfl | rfl <;> rfl) (fun i _ => ho'.eq G.2.1 fr (by unfold DJ; rfl) (by simp) i) a2 v1' hsn m3 (fun i hi => by rw [m4, if_neg (by omega)]) eR (exs_of es (by decide)) (fun k hk' ne => ?_) (fun k tn' hk' e T => ?_) (fun s hs _ => ?_) (fun s tn' et hs e SH => ?_) (fun tn' et SHs => ?_) (fun s h1 h2 c => ?_), g⟩
  · have ne' : k ≠ k0 := fun c => ne (by rw [c])
    refine ⟨fun f hf => ?_, ?_⟩
    · have : f = f_Md_thingKind ∨ f = f_Md_thingShape ∨ f = f_Md_thingFirst ∨ f = f_Md_thingCount ∨ f = f_Md_thingLast ∨ f = f_Md_thingFunction ∨ f = f_Md_thingAround ∨ f = f_Md_thingClass ∨ f = f_Md_isWatched ∨ f = f_Md_epoch ∨ f = f_Md_changedAt := by unfold LTT at hf; simpa using hf
      rcases this with rfl | rfl | rfl | rfl | rfl | rfl | rfl | rfl | rfl | rfl | rfl
      all_goals first | exact es _ _ (by decide) | exact (kn k (by omega) ne').1 | exact (kn k (by omega) ne').2
    · show (if sn0 ≠ 0 ∧ S' f_Md_shapeBefore sn0 = -1 ∧ S' f_Md_shapeProto sn0 = (k : Int) then sn0 else rooB S' k sn0) = _
      rw [if_neg (fun c => by have := c.2.2; omega), rooB_k (S' := S') (S := S) (fun s hs => ⟨eR s hs _ (by decide), eR s hs _ (by decide)⟩)]
  · have ek : k = k0 := by
      have x1 := (a7 k (by omega)).p.1.2.2.1
      have x2 := T0.1.2.2.1
      rw [e] at x1; omega
    subst ek
    obtain ⟨d1, d2, d3, d4, d5⟩ := T0.2.2.2
    have e51 : hB h' (C + 51) k = hB h (C + 51) k := (fr.ar G.2.1 (f := f_Heap_things) (by unfold own; decide) (x := C + 50) (by omega) F.2.2.1.2.1 (by omega) (fun c => by
      rcases c with (c | c) | (c | c)
      · exact absurd c (by decide)
      · simp at c; rcases c with ⟨c, -⟩ | ⟨c, -⟩ <;> exact absurd c (by decide)
      · exact absurd c (by decide)
      · simp at c; rcases c with ⟨c, -⟩ | ⟨c, -⟩ <;> exact absurd c (by decide)) (by simp)).2.2 k
    have ec : hI h' f_Obj_changedAt (hB h (C + 51) k) = hI h f_Obj_changedAt (hB h (C + 51) k) := fr.I T0.1.2.1.2.1 (by decide) (by
      rintro (c | c)
      · exact absurd c (by decide)
      · simp at c; rcases c with c | c <;> exact absurd c (by decide))
    have ch : S' f_Md_changes 0 = S f_Md_changes 0 := es _ _ (by decide)
    unfold TD1
    rw [e51, es f_Md_thingKind k (by decide), es f_Md_changedAt k (by decide), w1, w2, rkk, ep, rt, ec, ch]
    refine ⟨fun q => ⟨by rw [if_neg (by decide)], (d1 q).2.1, ?_, by simp; omega⟩, Or.inr rfl, fun q => by omega, by omega, d5⟩
    unfold shA; rw [if_neg (by omega), m4, if_pos rfl]
  · show (if sn0 ≠ 0 ∧ S' f_Md_shapeBefore sn0 = (s : Int) then sn0 else lastB S' s sn0) = _
    rw [if_neg (fun c => by have := c.2; omega), lastB_k (S' := S') (S := S) (fun s hs => eR s hs _ (by decide))]
  · exfalso
    have x1 := SH.1.1
    rw [e, T0.1.2.1.1] at x1
    exact kd_ns x1
  · have et' : tn' = tn := by omega
    subst et'
    have e51 : hB h' (C + 51) k0 = hB h (C + 51) k0 := by
      have := (g.2.2.1.2 k0 hk).2; exact this
    have lst : lastB S' sn0 (sn0 + 1) = 0 := by
      show (if sn0 ≠ 0 ∧ S' f_Md_shapeBefore sn0 = (sn0 : Int) then sn0 else lastB S' sn0 sn0) = _
      rw [if_neg (fun c => by have := c.2; omega)]
      rcases lastB_lt (S := S') (k := sn0) sn0 with w | w
      · exact w
      · by_cases l0 : lastB S' sn0 sn0 = 0
        · exact l0
        · exfalso
          have := ((lastB_sp (S := S') (b := sn0) sn0).1 l0).1
          rw [eR _ w _ (by decide)] at this
          obtain ⟨-, -, -, q | q, -⟩ := SHs _ w
          · omega
          · omega
    unfold SH1
    rw [m4, if_pos rfl, v3', v4', v5', v6', lst]
    refine ⟨⟨m8, m5, by omega⟩, m9, Or.inr ⟨by omega, by omega, ?_, ?_⟩, Or.inl ⟨rfl, m11, rfl, rfl, ⟨fun c => by omega, fun c => by omega⟩⟩, m12, m13, by omega, m14, fun c => by omega, fun i j _ c => by omega⟩
    · rw [Int.toNat_natCast, es f_Md_thingKind k0 (by decide)]; exact kd
    · rw [Int.toNat_natCast, e51]; exact m10
  · rw [v3', v4', v5'] at c
    exact rooB_sp _ r0 s h1 h2 ⟨c.1, c.2.1⟩
end
