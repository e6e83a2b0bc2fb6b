/-! a root, a shape that goes on: made by both -/
set_option maxRecDepth 20000
section
variable {ρ : Nat → Nat} {P : ah → Nat → Prop} {d : Nat} {Q : QT} {Γ Γ' : GH} {h h1 h' : ah} {C ho : Nat} {X X' X1 : X3} {Y Y' : Y3} {S S' S1 : SS} {N t o n c r f i j k m z s b sm sn k0 : Nat} {ty v x y op a p nm cnt : Int} {L : List Nat} {Pp : List (Nat × Nat)}
theorem rooB_s1 : ∀ m, rooB S k m ≠ 0 → S f_Md_shapeBefore (rooB S k m) = -1 ∧ S f_Md_shapeProto (rooB S k m) = (k : Int)
  | 0 => fun w => absurd rfl w
  | m + 1 => by
    unfold rooB
    by_cases q : m ≠ 0 ∧ S f_Md_shapeBefore m = -1 ∧ S f_Md_shapeProto m = (k : Int)
    · rw [if_pos q]; exact fun _ => q.2
    · rw [if_neg q]; exact rooB_s1 m
/-- the whole core with a shape more -/
theorem SHR.mk (H : CORE Γ h C ho X Y S N) (fr : Fr (LCC ++ [f_Heap_shapes + 1]) Pp z s h h') (pA : ∀ q, q ∈ Pp → [f_Obj_root, f_Obj_epoch, f_Shape_child].elem q.1 = true) (pR : ∀ x, (f_Obj_root, x) ∈ Pp → ∃ k : Nat, (k : Int) < S f_Md_things 0 ∧ hB h (C + 51) k = x) (en : S f_Md_shapes 0 = (sn : Int)) (e1 : X 50 f_Heap_shapesMade 0 = (sm : Int)) (hsm : sm + 1 ≤ 4000) (z1 : hz h' ≤ hz h + 2) (s1 : (hs h' : Int) ≤ hs h + 7 + 4 * (hI h' 2 (C + 52) - hI h 2 (C + 52))) (eB : ∀ i, hB h' (C + 52) i = if i = sn then hz h else hB h (C + 52) i) (k7 : THC Γ h' C ho S' N) (g : GRO Γ Γ h h' C S S') (o0 : ∀ f i, LSH.elem f = false → S' f i = S f i) (o1 : S' f_Md_shapes 0 = ((sn + 1 : Nat) : Int)) (o2 : S' f_Md_allShapes 0 = ((sm + 1 : Nat) : Int)) (oR : ∀ s, s < sn → ∀ f, LSP.elem f = true → S' f s = S f s) (wt : ∀ k, S f_Md_isWatched k = 1 → S' f_Md_isWatched k = 1) : SHR Γ h C ho X Y S N h' (u3 X 50 f_Heap_shapesMade 0 ((sm + 1 : Nat) : Int)) S' := by
  have H0 := H
  obtain ⟨⟨G, F⟩, -, -, -, q2, q3, q4, q5, q6, q7, q8⟩ := H0
  have okd : ∀ {K : List Nat}, (K.all fun f => !((LCC ++ [f_Heap_shapes + 1]).elem f) && !([f_Obj_root, f_Obj_epoch, f_Shape_child].elem f)) = true → DJ K (LCC ++ [f_Heap_shapes + 1]) Pp := fun {K} e => List.all_eq_true.mpr fun f hf => by
    have := List.all_eq_true.mp e f hf
    rw [Bool.and_eq_true] at this ⊢
    refine ⟨this.1, ?_⟩
    cases w : (Pp.map Prod.fst).elem f with
    | false => rfl
    | true =>
      have w' : f ∈ Pp.map Prod.fst := by simpa using w
      obtain ⟨q, hq, e3⟩ := List.mem_map.mp w'
      have w3 := pA q hq
      have w2 := this.2
      rw [e3] at w3
      rw [w3] at w2; cases w2
  have p0 : ∀ y, (0, y) ∉ Pp := fun y c => absurd (show [f_Obj_root, f_Obj_epoch, f_Shape_child].elem 0 = true from pA _ c) (by decide)
  have x0 : ∀ o f i, f ≠ f_Heap_shapesMade → u3 X 50 f_Heap_shapesMade 0 ((sm + 1 : Nat) : Int) o f i = X o f i := fun o f i hf => u3_f hf
  have x0' : ∀ o f i, [f_Heap_shapesMade].elem f = false → u3 X 50 f_Heap_shapesMade 0 ((sm + 1 : Nat) : Int) o f i = X o f i := fun o f i hf => x0 o f i (by rintro rfl; exact absurd hf (by decide))
  have km : MEM (u3 X 50 f_Heap_shapesMade 0 ((sm + 1 : Nat) : Int)) S' := q6.shape e1 en hsm u3_s (exx_of x0' (by decide)) o1 o2 (exs_of o0 (by decide))
  have ms : S' f_Md_allShapes 0 = S f_Md_allShapes 0 + 1 := by
    obtain ⟨-, -, sm', -, -, -, -, -, -, -, -, ⟨c1, c2, -⟩, -⟩ := q6
    omega
  obtain ⟨M1, M2⟩ := H.mv (S' := S') (X' := u3 X 50 f_Heap_shapesMade 0 ((sm + 1 : Nat) : Int)) fr g (exs_of o0 (by decide)) (exx_of x0' (by decide)) p0 (okd (by decide)) (okd (by decide)) (okd (by decide)) (okd (by decide)) (exs_of o0 (by decide)) (Int.le_of_eq (o0 _ _ (by decide)).symm) (q2.ext g (exs_of o0 (by decide)) (exx_of x0' (by decide)) (ac_len G fr (by decide) (okd (by decide))) (ac_len G fr (by decide) (okd (by decide))) (ac_len G fr (by decide) (okd (by decide)))) (q3.ext (C := C) G.2.1 g (exs_of o0 (by decide)) fr (okd (by decide)) (okd (by decide)) p0) (q4.ext g (exs_of o0 (by decide)) (exx_of x0' (by decide)) (ac_len G fr (by decide) (okd (by decide))) (ac_len G fr (by decide) (okd (by decide))) (ac_len G fr (by decide) (okd (by decide)))) (q5.ext (exs_of o0 (by decide)) (exx_of x0' (by decide)) (ac_len G fr (by decide) (okd (by decide))) (ac_len G fr (by decide) (okd (by decide))) (ac_len G fr (by decide) (okd (by decide)))) km k7 (okd (by decide))
  refine ⟨⟨M1, M2⟩, g, BND.shape G F (q7.thk G) fr pA z1 s1 o0 ms ⟨Int.le_of_eq (o0 _ _ (by decide)).symm, ⟨by omega, fun s hs f hf => oR s (by omega) f hf⟩, Int.le_of_eq (o0 _ _ (by decide)).symm, fun k _ w => ⟨wt k w, Or.inl ⟨o0 _ _ (by decide), o0 _ _ (by decide)⟩⟩, ⟨fun k _ => ⟨o0 _ _ (by decide), fun _ => ⟨o0 _ _ (by decide), o0 _ _ (by decide)⟩⟩, fun k h1 h2 => absurd h2 (by rw [o0 _ _ (by decide)]; omega), fun c => o0 _ _ (by decide)⟩⟩ (fun s hs => by rw [eB, if_neg (by omega)]), ⟨_, _, Fr.into (L := LHc) (P := []) Fr.r0 fr (fun f hf => ?_) (fun q hq => Or.inr (Or.inl ?_))⟩, o0, x0, by omega, fun s hs => ⟨by rw [eB, if_neg (by omega)], oR s (by omega)⟩, fun f x hf hx => ?_, fun x hx ne => fr.R hx (by decide) ?_⟩
  · have e : (LCC ++ [f_Heap_shapes + 1]).all (fun f => LHc.elem f) = true := by decide
    simpa using List.all_eq_true.mp e f hf
  · have w := pA q hq
    have : q.1 = f_Obj_root ∨ q.1 = f_Obj_epoch ∨ q.1 = f_Shape_child := by simpa using w
    rcases this with e | e | e <;> rw [e] <;> decide
  · have : [f_Obj_shape, f_Obj_changedAt, f_Shape_prototype, f_Shape_name, f_Shape_size, f_Shape_before, f_Thing_size, f_Thing_words, f_Thing_tags].all (fun f => (!((LCC ++ [f_Heap_shapes + 1]).elem f) && !([f_Obj_root, f_Obj_epoch, f_Shape_child].elem f)) && Nat.ble 5 f) = true := by decide
    have w := List.all_eq_true.mp this f (by simpa using hf)
    rw [Bool.and_eq_true] at w
    have d1 : DJ [f] (LCC ++ [f_Heap_shapes + 1]) Pp := okd (by simpa using w.1)
    exact ⟨fr.I hx (Nat.le_of_ble_eq_true w.2) (d1.w (by simp)), fr.R hx (Nat.le_of_ble_eq_true w.2) (d1.w (by simp))⟩
  · rintro (w | w)
    · exact absurd w (by decide)
    · obtain ⟨k, hk, e⟩ := pR x w
      exact ne k hk e
/-- the root of a thing -/
theorem j_root (H : CORE Γ h C ho X Y S N) (hk : (k : Int) < S f_Md_things 0) (kd : S f_Md_thingKind k = 4 ∨ S f_Md_thingKind k = 5) (hd : 12 ≤ d) (q0 : TMD ρ S (-1) (k : Int) (-1) none → Q (Sum.inr (C + 33)) (cc h C (erX X 0) Y)) (q1 : ∀ r S' h' X', TMD ρ S (-1) (k : Int) (-1) (some (r, S')) → SHR Γ h C ho X Y S N h' X' S' → (1 ≤ r ∧ (r : Int) < S' f_Md_shapes 0) → S' f_Md_shapeProto r = (k : Int) → S' f_Md_shapeCount r = 0 → Q (Sum.inl (some (vR (hB h' (C + 52) r)))) (cc h' C X' Y)) : wpB PGm ρ (d + 3) m_Heap_rootOf 0 [(0, vR (C + 50)), (1, vR (hB h (C + 51) k))] [] (cc h C X Y) Q := by
  have H0 := H
  obtain ⟨⟨G, F⟩, -, -, -, -, -, -, -, q6, q7, q8⟩ := H0
  have q7' := q7
  obtain ⟨tn, sn, c1, c2, c3, c4, c5, c6, c6', c7, c8, c9, c10⟩ := q7'
  obtain ⟨-, -, sm, -, -, -, -, hk', -, -, -, ⟨m1, m2, m3⟩, -, -, ⟨m4, m5, m6⟩, -⟩ := q6
  have esn : hk' = sn := by omega
  subst esn
  obtain ⟨TA, TB, TC, TD⟩ := (c7 k (by omega)).p
  obtain ⟨u1, u2, u3', u4⟩ := TD.1 kd
  have kk : hK h (hB h (C + 51) k) ∈ [244, 245] := by
    rw [TA.2.1.1]
    rcases kd with w | w <;> (rw [w]; decide)
  have hb1 : ¬ ((-1 : Int) < 0 ∧ (k : Int) < 0) := fun c => by omega
  have ndx : ∀ r r', 1 ≤ r → r < hk' → 1 ≤ r' → r' < hk' → mtc S (-1) (k : Int) (-1) r → mtc S (-1) (k : Int) (-1) r' → r = r' := fun r r' a1 a2 b1 b2 e1 e2 => c10.1 r r' a1 b1 a2 b2 (by rw [e1.1, e2.1]) (by rw [e1.2.1, e2.2.1]) (by rw [e1.2.2, e2.2.2])
  by_cases rz : rooB S k hk' = 0
  · have nm : ∀ j, 1 ≤ j → j < hk' → ¬ mtc S (-1) (k : Int) (-1) j := fun j j1 j2 e => rooB_sp _ rz j j1 j2 ⟨e.1, e.2.1⟩
    have nw : S f_Md_isWatched k = 0 := by
      rcases TD.2.1 with w | w
      · exact w
      · exact absurd rz (u4.mp w)
    have r0 : hR h f_Obj_root (hB h (C + 51) k) = 0 := by rw [u3', rz]; rfl
    refine r_rootNew G F hd TA.2.1.2.2 TA.2.1.2.1 kk r0 m1 m3 c4 c6' (fun rm h' z s nsq fr rt ep => ?_) (fun rm => q0 ?_)
    · obtain ⟨T1, g1⟩ := THC.root (sm := sm) q7 G F nsq fr rt ep q8 m4 (by omega) hk kd rz
      obtain ⟨v1, v2, v3, v4, v5, v6⟩ := nspS_s (S := S) (sn := hk') (sm := sm) (b := -1) (p := (k : Int)) (nm := -1) (cnt := 0)
      have wo : ∀ f i, [f_Md_isWatched, f_Md_epoch].elem f = false → watS (nspS S hk' sm (-1) (k : Int) (-1) 0) k f i = nspS S hk' sm (-1) (k : Int) (-1) 0 f i := fun f i hf => by
        unfold watS
        rw [u2_f (by rintro rfl; exact absurd hf (by decide)), u2_f (by rintro rfl; exact absurd hf (by decide))]
      have B := SHR.mk H fr (fun q hq => by simp at hq; rcases hq with rfl | rfl <;> rfl) (fun x hx => ⟨k, hk, by simp at hx; rcases hx with e | e; exact e.symm; exact absurd e.1 (by decide)⟩) m4 m1 rm nsq.2.2.2.2.2.1 nsq.2.2.2.2.2.2.1 nsq.2.2.2.1 T1 g1 (fun f i hf => by
        have n : ∀ L : List Nat, (L.all fun f => LSH.elem f) = true → L.elem f = false := fun L q => by
          cases w : L.elem f with
          | false => rfl
          | true => rw [List.all_eq_true.mp q f (by simpa using w)] at hf; cases hf
        rw [wo _ _ (n _ (by decide)), nspS_o (n _ (by decide))]) (by rw [wo _ _ (by decide)]; exact v1) (by rw [wo _ _ (by decide)]; exact v2) (fun s hs f hf => by
        rw [wo f s (by have : LSP.all (fun f => !([f_Md_isWatched, f_Md_epoch].elem f)) = true := by decide
                       simpa using List.all_eq_true.mp this f (by simpa using hf)), nspS_k hf (by omega)]) (fun j w => by
        unfold watS
        rw [u2_f (by decide)]
        by_cases e : j = k
        · rw [e, u2_s]
        · rw [u2_e, if_neg (fun c => e c.2), nspS_o (by decide)]; exact w)
      have g := q1 hk' _ h' _ ?_ B ⟨c5, by rw [wo _ _ (by decide), v1]; omega⟩ (by rw [wo _ _ (by decide)]; exact v4) (by rw [wo _ _ (by decide)]; exact v6)
      · rw [nsq.2.2.2.1, if_pos rfl] at g
        exact g
      · intro d h0 T Q O qq
        exact s_madeShape (cnt := 0) O m4 m2 ⟨c5, m6⟩ m3 hb1 (Or.inl ⟨rfl, rfl⟩) (Or.inr ⟨k, rfl, by omega⟩) (fun r r1 r2 r3 => absurd r3 (nm r r1 r2)) (fun _ _ w => by
          rcases w with w | ⟨k', w1, w2⟩
          · omega
          · have : k' = k := by omega
            rw [this] at w2; exact absurd nw w2) (fun _ _ k' w1 _ => by
          have : k' = k := by omega
          rw [this]; exact qq) (fun _ w => by omega)
    · intro d h0 T Q O qq
      exact s_madeShape (cnt := 0) O m4 m2 ⟨c5, m6⟩ m3 hb1 (Or.inl ⟨rfl, rfl⟩) (Or.inr ⟨k, rfl, by omega⟩) (fun r r1 r2 r3 => absurd r3 (nm r r1 r2)) (fun _ w => by omega) (fun _ w => by omega) (fun _ _ => qq)
  · obtain ⟨x1, x2⟩ := rooB_s1 _ rz
    have xl := rooB_lt (S := S) (k := k) hk'
    have xlt : rooB S k hk' < hk' := by omega
    have x3 : S f_Md_shapeName (rooB S k hk') = -1 ∧ S f_Md_shapeCount (rooB S k hk') = 0 := by
      obtain ⟨-, -, -, q | q, -⟩ := c8 _ xlt
      · exact ⟨q.2.2.1, q.2.2.2.1⟩
      · omega
    have sa : shA h C (rooB S k hk') = hB h (C + 52) (rooB S k hk') := by unfold shA; rw [if_neg rz]
    rw [sa] at u3'
    have sh0 := (c8 _ xlt).1.2.2
    have g := q1 (rooB S k hk') S h X (fun d h0 T Q O qq => s_madeShape (cnt := 0) O m4 m2 ⟨c5, m6⟩ m3 hb1 (Or.inl ⟨rfl, rfl⟩) (Or.inr ⟨k, rfl, by omega⟩) (fun r r1 r2 r3 => by
        rw [ndx r _ r1 r2 (by omega) xlt r3 ⟨x1, x2, x3.1⟩]; exact qq) (fun w => absurd ⟨x1, x2, x3.1⟩ (w _ (by omega) xlt)) (fun w => absurd ⟨x1, x2, x3.1⟩ (w _ (by omega) xlt)) (fun w => absurd ⟨x1, x2, x3.1⟩ (w _ (by omega) xlt))) (SHR.rf H) ⟨by omega, by omega⟩ x2 x3.2
    refine b_Heap_rootOf_0 (by omega) ⟨fun _ => ⟨kk, fun w => ?_, fun w => ?_⟩, fun w => absurd w TA.2.1.2.2⟩
    · rw [ccRo (by decide), u3']; exact g
    · rw [ccRo (by decide), u3'] at w; exact absurd w sh0
end
