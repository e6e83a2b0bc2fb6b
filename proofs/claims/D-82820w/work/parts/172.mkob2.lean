/-! an object with a root, by both: the relation -/
set_option maxRecDepth 20000
section
variable {ρ : Nat → Nat} {d : Nat} {Q : QT} {Γ Γ' : GH} {h h1 h' H : ah} {C ho k n m o c x y z s f i j a sn sm tn mk r N : Nat} {X X' : X3} {Y : Y3} {S S' S1 : SS} {L : List Nat} {P : List (Nat × Nat)} {v w num : Int}
theorem PO_w {x : Nat} (ne : x ≠ a) : ¬ okW [] (PO a) f x := by
  rintro (c | c)
  · cases c
  · unfold PO at c
    simp at c
    rcases c with c | c | c | c | c <;> exact ne c.2
/-- an object that nobody knows yet is laid out -/
theorem CORE.raw (H : CORE Γ h C ho X Y S N) (fr : Fr [] (PO a) z s h h') (nT : ∀ k : Nat, (k : Int) < S f_Md_things 0 → hB h (C + 51) k ≠ a) (nS : ∀ s : Nat, (s : Int) < S f_Md_shapes 0 → hB h (C + 52) s ≠ a) : (CORE Γ h' C ho X Y S N ∧ ∀ {t o n c r : Nat}, CT Γ h C X Y S N t o n c r → CT Γ h' C X Y S N t o n c r) ∧ GRO Γ Γ h h' C S S ∧ BND h C S h' S z s := by
  have H0 := H
  obtain ⟨⟨G, F⟩, -, -, -, q2, q3, q4, q5, q6, q7, q8⟩ := H0
  have gz := G.1
  have p0 : ∀ y, (0, y) ∉ PO a := fun y c => by
    unfold PO at c
    simp at c
  have g : GRO Γ Γ h h' C S S := GRO.fr EXS.rf G F fr (by unfold DJ; rfl) p0
  have q7' := q7
  obtain ⟨tn, sn, a1, a2, a3, a4, a5, a6, a6', a7, a8, a9, a10⟩ := q7'
  have s51 := fr.ar G.2.1 (f := f_Heap_things) (by unfold own; decide) (x := C + 50) (by omega) F.2.2.1.2.1 (by omega) (fun c => by
    rcases c with (c | c) | (c | c)
    · cases c
    · unfold PO at c; simp at c; rcases c with c | c | c | c | c <;> exact absurd c.1 (by decide)
    · cases c
    · unfold PO at c; simp at c; rcases c with c | c | c | c | c <;> exact absurd c.1 (by decide)) (p0 _)
  have s52 := fr.ar G.2.1 (f := f_Heap_shapes) (by unfold own; decide) (x := C + 50) (by omega) F.2.2.1.2.2.1 (by omega) (fun c => by
    rcases c with (c | c) | (c | c)
    · cases c
    · unfold PO at c; simp at c; rcases c with c | c | c | c | c <;> exact absurd c.1 (by decide)
    · cases c
    · unfold PO at c; simp at c; rcases c with c | c | c | c | c <;> exact absurd c.1 (by decide)) (p0 _)
  have hb : ∀ s, s < sn → (S f_Md_shapeBefore s).toNat < sn := fun s hs => (a8 s hs).bef hs
  have k7 : THC Γ h' C ho S N := by
    refine ⟨tn, sn, a1, a2, by rw [s51.1]; exact a3, by rw [s52.1]; exact a4, a5, a6, a6', fun k hk => ?_, fun s hs => ?_, a9, a10⟩
    · have T := a7 k hk
      have ne := nT k (by omega)
      exact T.keep g (s51.2.2 k) (fun s _ => s52.2.2 s) ⟨a5, Nat.le_refl _⟩ (fun _ _ => rfl) (fun _ _ _ _ => rfl) (Int.le_refl _) (Int.le_refl _) (fun _ _ _ _ => rfl) hb rfl (SMO.fr G.2.1 T.2.1.2.1 T.2.2.2.2.2.1.1 T.2.2.2.2.2.1.2.2.1 fr (fun f hf => PO_w ne) (PO_w ne) (PO_w ne) p0) (fun i _ => q8.eq G.2.1 fr (by unfold DJ; rfl) p0 i)
    · have T := a8 s hs
      exact T.keep g a1 (Nat.le_refl _) hs (fun s _ => s52.2.2 s) (fun _ _ _ _ => rfl) hb rfl (SMF.fr T.1.2.1 fr (fun f hf => PO_w (nS s (by omega))))
  refine ⟨H.mv (S' := S) (X' := X) fr g EXS.rf EXX.rf p0 (by unfold DJ; rfl) (by unfold DJ; rfl) (by unfold DJ; rfl) (by unfold DJ; rfl) EXS.rf (Int.le_refl _) (q2.ext g EXS.rf EXX.rf (ac_len G fr (by decide) (by unfold DJ; rfl)) (ac_len G fr (by decide) (by unfold DJ; rfl)) (ac_len G fr (by decide) (by unfold DJ; rfl))) (q3.ext (C := C) G.2.1 g EXS.rf fr (by unfold DJ; rfl) (by unfold DJ; rfl) p0) (q4.ext g EXS.rf EXX.rf (ac_len G fr (by decide) (by unfold DJ; rfl)) (ac_len G fr (by decide) (by unfold DJ; rfl)) (ac_len G fr (by decide) (by unfold DJ; rfl))) (q5.ext EXS.rf EXX.rf (ac_len G fr (by decide) (by unfold DJ; rfl)) (ac_len G fr (by decide) (by unfold DJ; rfl)) (ac_len G fr (by decide) (by unfold DJ; rfl))) q6 k7 (by unfold DJ; rfl), g, ?_⟩
  have A1 := fun φ => sumA_e (φ := φ) (lnA_fr G fr (by unfold DJ; rfl))
  obtain ⟨c1, c2, c3, c4, c5⟩ := cpL_fr G F fr (by unfold DJ; rfl) p0
  have c6 : cpT h' C (S f_Md_things 0).toNat = cpT h C (S f_Md_things 0).toNat := cpT_e (fun k hk => by
    have T := a7 k (by omega)
    have ne := nT k (by omega)
    rw [s51.2.2 k, fr.R T.2.1.2.1 (by decide) (PO_w ne), fr.la (G.2.1.1 _ _ T.2.1.2.1 (by unfold own; decide)) (by rw [T.2.2.2.2.2.1.2.1]; decide)])
  have f1 := fr.1
  have c8 := mcp_fr G F fr (by unfold DJ; rfl) p0
  unfold BND WZ WS cpL
  rw [A1, A1, c1, c2, c3, c4, c5, c6, c8]
  exact ⟨by omega, by omega, by omega, CHG.rf, fun s _ => s52.2.2 s⟩
/-- T's rows with the object -/
def mobS (S : SS) (tn mk r : Nat) : SS := u2 (nthS S tn mk 4) f_Md_thingShape tn (r : Int)
/-- a new object among the things -/
def NOC (C : Nat) (h' : ah) (tn a s0 : Nat) : Prop := hl h' (C + 51) = tn + 1 ∧ hB h' (C + 51) tn = a ∧ (a < hz h' ∧ a ≠ 0) ∧ hK h' a = k_Obj ∧ hI h' f_Thing_number a = (tn : Int) ∧ hI h' f_Thing_size a = 0 ∧ (hR h' f_Thing_words a ≠ 0 ∧ hK h' (hR h' f_Thing_words a) = 2 ∧ hR h' f_Thing_tags a ≠ 0 ∧ hK h' (hR h' f_Thing_tags a) = 3 ∧ hl h' (hR h' f_Thing_tags a) = 0 ∧ hl h' (hR h' f_Thing_words a) = 0) ∧ hI h' f_Obj_epoch a = -1 ∧ hI h' f_Obj_changedAt a = 0 ∧ hR h' f_Obj_root a = 0 ∧ hR h' f_Obj_shape a = s0
theorem TH1.nob2 (B : NOC C h' tn a x) (hr : r < sn) (e0 : hB h' (C + 52) r = x) (er : rooB S' tn sn = 0) (esc : S' f_Md_shapeCount r = 0) (k1 : S' f_Md_thingKind tn = 4) (k2 : S' f_Md_thingShape tn = (r : Int)) (k3 : S' f_Md_thingCount tn = 0) (k4 : S' f_Md_isWatched tn = 0) (k5 : S' f_Md_epoch tn = 0) (k6 : S' f_Md_changedAt tn = 0) (k7 : S' f_Md_thingClass tn = -1) (k8 : 0 ≤ S' f_Md_changes 0) (k9 : S' f_Md_thingFunction tn = -1) : TH1 Γ' h' C ho S' N (tn + 1) sn tn := by
  obtain ⟨n1, ea, ⟨n3', n3''⟩, n4, n5, n6, ⟨n7, n8, n9, n10, n11, n12⟩, n13, n14, n15, n16⟩ := B
  unfold TH1
  rw [ea, k1, k2, k3, k4, k5, k6, k7, er, n11, n12, n15]
  refine ⟨by omega, ⟨n4, n3', n3''⟩, n5, n6, by omega, ⟨n7, n8, n9, n10, rfl, by omega, by omega⟩, fun i hi => by omega, fun q => by omega, fun i hi => by omega, fun _ => ⟨⟨by omega, by omega⟩, by rw [n16, Int.toNat_natCast]; exact e0.symm, by rw [Int.toNat_natCast]; exact esc, by omega, fun i hi => by omega, by rw [n13, if_pos rfl], n14, by unfold shA; rw [if_pos rfl], ⟨fun q => by omega, fun q => absurd rfl q⟩⟩, Or.inl rfl, fun q => ⟨rfl, fun i hi => by omega⟩, by omega, by omega, Or.inl ⟨by decide, k9⟩, Or.inl ⟨by decide, rfl⟩⟩
/-- the object joins the others -/
theorem CORE.mob (HC : CORE Γ h C ho X Y S N) (hm : mk + 1 ≤ 8000) (e1 : X 50 f_Heap_made 0 = (mk : Int)) (et : S f_Md_things 0 = (tn : Int)) (hr : (r : Int) < S f_Md_shapes 0) (cr : S f_Md_shapeCount r = 0) (R1 : Fr (LCC ++ [f_Heap_things + 1]) [] z s h h') (kp : KEP C h h' 1 0) (B : NOC C h' tn a (hB h (C + 52) r)) (eB : ∀ i, i < tn → hB h' (C + 51) i = hB h (C + 51) i) : (CORE Γ h' C ho (u3 X 50 f_Heap_made 0 ((mk + 1 : Nat) : Int)) Y (mobS S tn mk r) N ∧ ∀ {t o n c r' : Nat}, CT Γ h C X Y S N t o n c r' → CT Γ h' C (u3 X 50 f_Heap_made 0 ((mk + 1 : Nat) : Int)) Y (mobS S tn mk r) N t o n c r') ∧ GRO Γ Γ h h' C S (mobS S tn mk r) ∧ (BND h C S h' (mobS S tn mk r) 0 0 ∧ (hz h' : Int) - WZ h' C (mobS S tn mk r) + 5 ≤ (hz h : Int) - WZ h C S ∧ (hs h' : Int) - WS h' C (mobS S tn mk r) + 28 ≤ (hs h : Int) - WS h C S) ∧ NSc S (mobS S tn mk r) ∧ VR Γ (mobS S tn mk r) N 4 (tn : Int) 4 (tn : Int) := by
  have HC0 := HC
  obtain ⟨⟨G, F⟩, -, -, -, q2', q3, q4, q5, q6, q7, q8⟩ := HC0
  have gz := G.1
  have n : ∀ {f : Nat} (L : List Nat), (f_Md_thingShape :: LNT).elem f = false → (L.all fun f => (f_Md_thingShape :: LNT).elem f) = true → L.elem f = false := fun {f} L hf q => by
    cases w : L.elem f with
    | false => rfl
    | true => rw [List.all_eq_true.mp q f (by simpa using w)] at hf; cases hf
  have o0 : ∀ f i, LNT.elem f = false → mobS S tn mk r f i = S f i := fun f i hf => by
    have hne : f ≠ f_Md_thingShape := by rintro rfl; exact absurd hf (by decide)
    unfold mobS
    rw [u2_f hne, nthS_o hf]
  have o1 : ∀ f k, LTT.elem f = true → k ≠ tn → mobS S tn mk r f k = S f k := fun f k hf hk => by
    unfold mobS
    rw [u2_e, if_neg (fun c => hk c.2), nthS_t hf hk]
  have o2 : mobS S tn mk r f_Md_things 0 = ((tn + 1 : Nat) : Int) := by unfold mobS nthS; simp (decide := true) (disch := first | decide | omega) only [u2_f, u2_s]
  have o3 : mobS S tn mk r f_Md_allMade 0 = ((mk + 1 : Nat) : Int) := by unfold mobS nthS; simp (decide := true) (disch := first | decide | omega) only [u2_f, u2_s]
  have k1 : mobS S tn mk r f_Md_thingKind tn = 4 := by unfold mobS nthS; simp (decide := true) (disch := first | decide | omega) only [u2_f, u2_s]
  have k2 : mobS S tn mk r f_Md_thingShape tn = (r : Int) := by unfold mobS; rw [u2_s]
  have k3 : mobS S tn mk r f_Md_thingCount tn = 0 := by unfold mobS nthS; simp (decide := true) (disch := first | decide | omega) only [u2_f, u2_s]
  have k4 : mobS S tn mk r f_Md_isWatched tn = 0 := by unfold mobS nthS; simp (decide := true) (disch := first | decide | omega) only [u2_f, u2_s]
  have k5 : mobS S tn mk r f_Md_epoch tn = 0 := by unfold mobS nthS; simp (decide := true) (disch := first | decide | omega) only [u2_f, u2_s]
  have k6 : mobS S tn mk r f_Md_changedAt tn = 0 := by unfold mobS nthS; simp (decide := true) (disch := first | decide | omega) only [u2_f, u2_s]
  have k7 : mobS S tn mk r f_Md_thingClass tn = -1 := by unfold mobS nthS; simp (decide := true) (disch := first | decide | omega) only [u2_f, u2_s]
  have k9 : mobS S tn mk r f_Md_thingFunction tn = -1 := by unfold mobS nthS; simp (decide := true) (disch := first | decide | omega) only [u2_f, u2_s]
  generalize mobS S tn mk r = S1 at *
  have g : GRO Γ Γ h h' C S S1 := GRO.th (exs_of o0 (by decide)) G F R1 (by unfold DJ; decide) (by simp) (by omega) (fun i hi => ⟨o1 _ _ (by decide) (by omega), eB i (by omega)⟩)
  have x0 : ∀ o f i, [f_Heap_made].elem f = false → u3 X 50 f_Heap_made 0 ((mk + 1 : Nat) : Int) o f i = X o f i := fun o f i hf => u3_f (by rintro rfl; revert hf; decide)
  have ch : 0 ≤ S f_Md_changes 0 := by obtain ⟨mk, rm, sm, tk, ck, sk, vk, hk, gk, -, -, -, -, -, -, m1, -⟩ := q6; omega
  have e52 : ∀ i, hB h' (C + 52) i = hB h (C + 52) i := (R1.ar G.2.1 (f := f_Heap_shapes) (by unfold own; decide) (x := C + 50) (by omega) F.2.2.1.2.2.1 (by omega) (fun c => by
    rcases c with (c | c) | (c | c)
    · exact absurd c (by decide)
    · cases c
    · exact absurd c (by decide)
    · cases c) (by simp)).2.2
  have kt : THC Γ h' C ho S1 N := q7.add G F g R1 (by unfold DJ; decide) (by unfold DJ; decide) (by simp) (fun i _ => q8.eq G.2.1 R1 (by unfold DJ; decide) (by simp) i) et o2 (by obtain ⟨mk0, rm, sm, tk, ck, sk, vk, hk, gk, m1, -, -, m4, -⟩ := q6; omega) B.1 eB (fun k hk f hf => o1 f k hf (by omega)) (fun i _ f hf => exs_of (L := LSL) o0 (by decide) f hf i) (Int.le_of_eq (o0 _ _ (by decide)).symm) (exs_of o0 (by decide)) (Int.le_of_eq (o0 _ _ (by decide)).symm) (fun sn en hsn w1 w2 w3 => TH1.nob2 B (by omega) (e52 r) w2 (by rw [o0 _ _ (by decide)]; exact cr) k1 k2 k3 k4 k5 k6 k7 (by rw [o0 _ _ (by decide)]; exact ch) k9) (fun i hi => by omega) (fun i i' hi _ => by omega)
  have km : MEM (u3 X 50 f_Heap_made 0 ((mk + 1 : Nat) : Int)) S1 := q6.thing e1 hm et u3_s (exx_of x0 (by decide)) o2 o3 (exs_of o0 (by decide))
  refine ⟨HC.mv (S' := S1) (X' := u3 X 50 f_Heap_made 0 ((mk + 1 : Nat) : Int)) R1 g (exs_of o0 (by decide)) (exx_of x0 (by decide)) (by simp) (by unfold DJ; decide) (by unfold DJ; decide) (by unfold DJ; decide) (by unfold DJ; decide) (exs_of o0 (by decide)) (Int.le_of_eq (o0 _ _ (by decide)).symm) (q2'.ext g (exs_of o0 (by decide)) (exx_of x0 (by decide)) (ac_len G R1 (by decide) (by unfold DJ; decide)) (ac_len G R1 (by decide) (by unfold DJ; decide)) (ac_len G R1 (by decide) (by unfold DJ; decide))) (q3.ext (C := C) G.2.1 g (exs_of o0 (by decide)) R1 (by unfold DJ; decide) (by unfold DJ; decide) (by simp)) (q4.ext g (exs_of o0 (by decide)) (exx_of x0 (by decide)) (ac_len G R1 (by decide) (by unfold DJ; decide)) (ac_len G R1 (by decide) (by unfold DJ; decide)) (ac_len G R1 (by decide) (by unfold DJ; decide))) (q5.ext (exs_of o0 (by decide)) (exx_of x0 (by decide)) (ac_len G R1 (by decide) (by unfold DJ; decide)) (ac_len G R1 (by decide) (by unfold DJ; decide)) (ac_len G R1 (by decide) (by unfold DJ; decide))) km kt (by unfold DJ; decide), g, ?_, fun f i hf => o0 f i ?_, ⟨rfl, by unfold cw; rw [if_neg (by decide)], Or.inr (Or.inr (Or.inr (Or.inr (Or.inl ⟨by decide, by decide, by omega, by omega, by rw [Int.toNat_natCast]; exact k1⟩))))⟩⟩
  · obtain ⟨mk0, rm, sm, tk, ck, sk, vk, hk, gk, m1, -⟩ := q6
    have T5 := BND.thing5 (m := 0) (l := 0) G F (q7.thk G) R1 kp eB et o2 (by omega) (o0 _ _ (by decide)) (by rw [o0 _ _ (by decide)]; omega) (by rw [o0 _ _ (by decide)]; omega) (o0 _ _ (by decide)) (o0 _ _ (by decide)) (by rw [B.2.1]; exact B.2.2.2.2.2.2.1.2.2.2.2.2)
    exact ⟨(BND.thing (m := 0) (l := 0) G F (q7.thk G) R1 kp eB et o2 (by omega) (o0 _ _ (by decide)) (by rw [o0 _ _ (by decide)]; omega) (by rw [o0 _ _ (by decide)]; omega) (o0 _ _ (by decide)) (o0 _ _ (by decide)) (by rw [B.2.1]; exact B.2.2.2.2.2.2.1.2.2.2.2.2) (by decide) (by decide) (CHG.th et o2 (exs_of o0 (by decide)) o1 (fun w => by omega))), by omega, by omega⟩
  · cases q : LNT.elem f with
    | false => rfl
    | true =>
      have : LNT.all (fun f => LSc.elem f) = true := by decide
      rw [List.all_eq_true.mp this f (by simpa using q)] at hf; cases hf
end
