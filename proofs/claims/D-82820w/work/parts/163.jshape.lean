/-! shapes are made by both machines -/
set_option maxRecDepth 20000
/-- C first, then T -/
def OPF (ρ : Nat → Nat) (P : ah → Nat → Prop) (Γ : GH) (h : ah) (C ho : Nat) (X : X3) (Y : Y3) (S : SS) (N : Nat) (op a b : Int) : Prop := ∀ d Q, (∀ e S' h' X' Y', TRUN ρ P S e S' → RLC Γ h C ho X Y S N e S' h' X' Y' → Q (oE e (C + 33)) (cc h' C X' Y')) → wpB PGm ρ (d + 60) m_Machine_instruct 0 [(0, vR (C + 32)), (1, vI op), (2, vI a), (3, vI b)] [] (cc h C X Y) Q
/-- rows that change where shapes are made -/
def LSH : List Nat := f_Md_shapes :: f_Md_allShapes :: f_Md_isWatched :: f_Md_epoch :: LSP
/-- from one state to the next, where only shapes are made -/
def SHR (Γ : GH) (h : ah) (C ho : Nat) (X : X3) (Y : Y3) (S : SS) (N : Nat) (h' : ah) (X' : X3) (S' : SS) : Prop := (CORE Γ h' C ho X' Y S' N ∧ ∀ {t o n c r : Nat}, CT Γ h C X Y S N t o n c r → CT Γ h' C X' Y S' N t o n c r) ∧ GRO Γ Γ h h' C S S' ∧ BND h C S h' S' 0 0 ∧ (∃ z s, Fr LHc [] z s h h') ∧ (∀ f i, LSH.elem f = false → S' f i = S f i) ∧ (∀ o f i, f ≠ f_Heap_shapesMade → X' o f i = X o f i) ∧ S f_Md_shapes 0 ≤ S' f_Md_shapes 0 ∧ (∀ s : Nat, (s : Int) < S f_Md_shapes 0 → hB h' (C + 52) s = hB h (C + 52) s ∧ ∀ f, LSP.elem f = true → S' f s = S f s) ∧ (∀ f x, [f_Obj_shape, f_Obj_changedAt, f_Shape_prototype, f_Shape_name, f_Shape_size, f_Shape_before, f_Thing_size, f_Thing_words, f_Thing_tags].elem f = true → x < hz h → hI h' f x = hI h f x ∧ hR h' f x = hR h f x) ∧ (∀ x, x < hz h → (∀ k : Nat, (k : Int) < S f_Md_things 0 → hB h (C + 51) k ≠ x) → hR h' f_Obj_root x = hR h f_Obj_root x)
/-- T's search for a shape, to be made if it is not there -/
def TMD (ρ : Nat → Nat) (S : SS) (b p nm : Int) (e : Option (Nat × SS)) : Prop := ∀ (d : Nat) (h0 : ah) (T : Nat) (Q : QT), TOK h0 T → (match e with | none => Q (Sum.inr (hR h0 f_Md_halt T)) (cn h0 T (erS S 99)) | some (r, S') => Q (Sum.inl (some (vI (r : Int)))) (cn h0 T S')) → wpB PGm ρ (d + 2) m_Md_madeShape 0 [(0, vR T), (1, vI b), (2, vI p), (3, vI nm)] [] (cn h0 T S) Q
section
variable {ρ : Nat → Nat} {P : ah → Nat → Prop} {d : Nat} {Q : QT} {Γ Γ' : GH} {h h1 h' : ah} {C ho : Nat} {X X' X1 : X3} {Y Y' : Y3} {S S' S1 : SS} {N t o n c r f i j k m z s b sm sn k0 : Nat} {ty v x y op a p nm cnt : Int} {L : List Nat} {Pp : List (Nat × Nat)}
theorem OPE.ff (H : OPE ρ P Γ h C ho X Y S N op a v) : OPF ρ P Γ h C ho X Y S N op a v := by
  obtain ⟨e, S', T, c⟩ := H
  exact fun d Q q => c d Q (fun h' X' Y' R => q e S' h' X' Y' T R)
theorem SHR.rf (H : CORE Γ h C ho X Y S N) : SHR Γ h C ho X Y S N h X S := ⟨⟨H, fun K => K⟩, GRO.rf, BND.rf, ⟨0, 0, Fr.r0⟩, fun _ _ _ => rfl, fun _ _ _ _ => rfl, Int.le_refl _, fun _ _ => ⟨rfl, fun _ _ => rfl⟩, fun _ _ _ _ => ⟨rfl, rfl⟩, fun _ _ _ => rfl⟩
theorem SHR.tr (A : SHR Γ h C ho X Y S N h1 X1 S1) (B : SHR Γ h1 C ho X1 Y S1 N h' X' S') : SHR Γ h C ho X Y S N h' X' S' := by
  obtain ⟨⟨a1, a1'⟩, a2, a3, ⟨z, s, a4⟩, a5, a6, a7, a8, a9, a10⟩ := A
  obtain ⟨⟨b1, b1'⟩, b2, b3, ⟨z', s', b4⟩, b5, b6, b7, b8, b9, b10⟩ := B
  exact ⟨⟨b1, fun K => b1' (a1' K)⟩, a2.tr b2, (a3.tr b3).le (by omega) (by omega), ⟨_, _, a4.trans b4⟩, fun f i hf => by rw [b5 f i hf, a5 f i hf], fun o f i hf => by rw [b6 o f i hf, a6 o f i hf], by omega, fun s hs => ⟨by rw [(b8 s (by omega)).1, (a8 s hs).1], fun f hf => by rw [(b8 s (by omega)).2 f hf, (a8 s hs).2 f hf]⟩, fun f x hf hx => ⟨by rw [(b9 f x hf (a4.lt hx)).1, (a9 f x hf hx).1], by rw [(b9 f x hf (a4.lt hx)).2, (a9 f x hf hx).2]⟩, fun x hx ne => by rw [b10 x (a4.lt hx) (fun k hk => by rw [a5 _ _ (by decide)] at hk; rw [(a2.2.2.1.2 k hk).2]; exact ne k hk), a10 x hx ne]⟩
theorem MEM.shape (H : MEM X S) (e1 : X 50 f_Heap_shapesMade 0 = (sm : Int)) (en : S f_Md_shapes 0 = (sn : Int)) (hsm : sm + 1 ≤ 4000) (x1 : X' 50 f_Heap_shapesMade 0 = ((sm + 1 : Nat) : Int)) (x2 : EXX [f_Heap_made, f_Heap_room, f_Heap_calls, f_Heap_ticks] X X') (s1 : S' f_Md_shapes 0 = ((sn + 1 : Nat) : Int)) (s2 : S' f_Md_allShapes 0 = ((sm + 1 : Nat) : Int)) (s3 : EXS [f_Md_allMade, f_Md_allSlots, f_Md_things, f_Md_calls, f_Md_slots, f_Md_variables, f_Md_changes] S S') : MEM X' S' := by
  obtain ⟨mk, rm, sm', tk, ck, sk, vk, hk, gk, ⟨a1, a2, a3⟩, ⟨b1, b2, b3⟩, ⟨c1, c2, c3⟩, ⟨d1, d2, d3, d4⟩, ⟨e3, e4, e5⟩, ⟨f1, f2, f3⟩, ⟨g1, g2, g3⟩⟩ := H
  exact ⟨mk, rm, sm + 1, tk, ck, sk, vk, sn + 1, gk, ⟨by rw [x2 _ (by decide)]; exact a1, by rw [s3 _ (by decide)]; exact a2, a3⟩, ⟨by rw [x2 _ (by decide)]; exact b1, by rw [s3 _ (by decide)]; exact b2, b3⟩, ⟨x1, s2, hsm⟩, ⟨by rw [s3 _ (by decide)]; exact d1, by rw [s3 _ (by decide)]; exact d2, by rw [x2 _ (by decide)]; exact d3, d4⟩, ⟨by rw [s3 _ (by decide)]; exact e3, by rw [s3 _ (by decide)]; exact e4, e5⟩, ⟨s1, by omega, by omega⟩, ⟨by rw [s3 _ (by decide)]; exact g1, by rw [x2 _ (by decide)]; exact g2, g3⟩⟩
theorem BND.shape (G : AC h C) (F : FC h C) (T : THK h C (S f_Md_things 0).toNat) (R1 : Fr (LCC ++ [f_Heap_shapes + 1]) Pp z s h h') (pA : ∀ q, q ∈ Pp → [f_Obj_root, f_Obj_epoch, f_Shape_child].elem q.1 = true) (z1 : hz h' ≤ hz h + 2) (s1 : (hs h' : Int) ≤ hs h + 7 + 4 * (hI h' 2 (C + 52) - hI h 2 (C + 52))) (o0 : ∀ f i, LSH.elem f = false → S' f i = S f i) (o1 : S' f_Md_allShapes 0 = S f_Md_allShapes 0 + 1) (ch : CHG S S') (s52 : ∀ s : Nat, (s : Int) < S f_Md_shapes 0 → hB h' (C + 52) s = hB h (C + 52) s) : BND h C S h' S' 0 0 := by
  have g1 := G.1
  have okd : ∀ {K : List Nat}, (K.all fun f => !((LCC ++ [f_Heap_shapes + 1]).elem f) && !([f_Obj_root, f_Obj_epoch, f_Shape_child].elem f)) = true → DJ K (LCC ++ [f_Heap_shapes + 1]) Pp := fun {K} e => List.all_eq_true.mpr fun f hf => by
    have := List.all_eq_true.mp e f hf
    rw [Bool.and_eq_true] at this ⊢
    refine ⟨this.1, ?_⟩
    cases w : (Pp.map Prod.fst).elem f with
    | false => rfl
    | true =>
      have w' : f ∈ Pp.map Prod.fst := by simpa using w
      obtain ⟨q, hq, e3⟩ := List.mem_map.mp w'
      have w3 := pA q hq
      have w2 := this.2
      rw [e3] at w3
      rw [w3] at w2; cases w2
  have p0 : ∀ y, (0, y) ∉ Pp := fun y c => absurd (show [f_Obj_root, f_Obj_epoch, f_Shape_child].elem 0 = true from pA _ c) (by decide)
  have a1 := fun φ => sumA_e (φ := φ) (lnA_fr G R1 (okd (by decide)))
  have cL : hI h' 2 (C + 51) = hI h 2 (C + 51) ∧ hI h' 2 (C + 56) = hI h 2 (C + 56) ∧ hI h' 2 (C + 57) = hI h 2 (C + 57) ∧ hI h' 2 (C + 58) = hI h 2 (C + 58) := by
    have c := fun {f x y : Nat} (ho : own f) (hx : x < hz h) (e : hR h f x = y) (h0 : y ≠ 0) (hn : ¬ okC (LCC ++ [f_Heap_shapes + 1]) Pp f x) => R1.arC G.2.1 ho hx e h0 hn (p0 y)
    have dd := fun {K : List Nat} e => okd (K := K) e
    exact ⟨c (f := f_Heap_things) (x := C + 50) (by unfold own; decide) (by omega) F.2.2.1.2.1 (by omega) (fun q => q.elim ((dd (K := [f_Heap_things]) (by decide)).w (by decide)) ((dd (K := [f_Heap_things + 1]) (by decide)).w (by decide))), c (f := f_Machine_functions) (x := C + 32) (by unfold own; decide) (by omega) F.2.1.2.2.2.2.2.2.2.1 (by omega) (fun q => q.elim ((dd (K := [f_Machine_functions]) (by decide)).w (by decide)) ((dd (K := [f_Machine_functions + 1]) (by decide)).w (by decide))), c (f := f_Machine_sites) (x := C + 32) (by unfold own; decide) (by omega) F.2.1.2.2.2.2.2.2.2.2.1 (by omega) (fun q => q.elim ((dd (K := [f_Machine_sites]) (by decide)).w (by decide)) ((dd (K := [f_Machine_sites + 1]) (by decide)).w (by decide))), c (f := f_Machine_descriptors) (x := C + 32) (by unfold own; decide) (by omega) F.2.1.2.2.2.2.2.2.2.2.2.1 (by omega) (fun q => q.elim ((dd (K := [f_Machine_descriptors]) (by decide)).w (by decide)) ((dd (K := [f_Machine_descriptors + 1]) (by decide)).w (by decide)))⟩
  have s51 : ∀ i, hB h' (C + 51) i = hB h (C + 51) i := (R1.ar G.2.1 (f := f_Heap_things) (by unfold own; decide) (x := C + 50) (by omega) F.2.2.1.2.1 (by omega) (fun c => c.elim ((okd (K := [f_Heap_things]) (by decide)).w (by decide)) ((okd (K := [f_Heap_things + 1]) (by decide)).w (by decide))) (p0 _)).2.2
  have c6 := cpT_fr T (fun k _ => s51 k) R1 (okd (by decide))
  obtain ⟨c1, c3, c4, c5⟩ := cL
  have e1 := o0 f_Md_allMade 0 (by decide)
  have e3 := o0 f_Md_allSlots 0 (by decide)
  have e4 := o0 f_Md_slots 0 (by decide)
  have e5 := o0 f_Md_things 0 (by decide)
  have e6 := o0 f_Md_changes 0 (by decide)
  have e7 := o0 f_Md_allChoices 0 (by decide)
  have c8 := mcp_fr G F R1 (okd (by decide)) p0
  unfold BND WZ WS cpL
  rw [e1, e3, e4, e5, e6, e7, o1, a1, a1, c1, c3, c4, c5, c6, c8]
  exact ⟨by omega, by omega, by omega, ch, s52⟩
end
