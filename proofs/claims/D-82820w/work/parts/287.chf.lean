/-! the core stays over a search for members -/
set_option maxRecDepth 20000
def LPH' : List Nat := [f_Heap_things, f_Heap_things + 1, f_Heap_shapes, f_Heap_shapes + 1, f_Machine_functions, f_Machine_functions + 1, f_Machine_sites, f_Machine_sites + 1, f_Machine_descriptors, f_Machine_descriptors + 1, f_Thing_words]
def LKD : List Nat := arC.map (fun q => q.1) ++ raC.map (fun q => q.1) ++ LFC ++ LCH ++ LCH1 ++ LVH ++ LVH1 ++ LHH ++ LHH1 ++ [f_Host_types, f_Host_types + 1] ++ LPH'
def LPQ : List Nat := [f_Md_allMade, f_Md_allShapes, f_Md_allSlots, f_Md_slots, f_Md_things, f_Md_changes, f_Md_shapes, f_Md_shapeProto, f_Md_shapeBefore, f_Md_shapeName, f_Md_shapeCount, f_Md_isWatched, f_Md_thingShape, f_Md_changedAt, f_Md_thingKind, f_Md_thingCount, f_Md_thingClass, f_lay]
section
variable {Γ : GH} {h h' : ah} {C ho N z s e : Nat} {X X' : X3} {Y Y' : Y3} {S S' : SS} {L L' : List Nat} {Pp : List (Nat × Nat)}
theorem CORE.fzc (H : CORE Γ h C ho X Y S N) (fr : Fr L Pp z s h h') (dd : DJ LKD L Pp) (p0 : ∀ y, (0, y) ∉ Pp) (eS : EXS LSA S S') (hn : S f_Md_names 0 ≤ S' f_Md_names 0) (eX : EXX LXA X X') (eY : ∀ o f, L7.elem f = true → ∀ i, Y' o f i = Y o f i) : (CORE Γ h' C ho X' Y' S' N ∧ ∀ {t o n c r : Nat}, CT Γ h C X Y S N t o n c r → CT Γ h' C X' Y' S' N t o n c r) ∧ GRO Γ Γ h h' C S S' := by
  have H0 := H
  obtain ⟨⟨G, F⟩, ⟨n0, c0, r0, K0⟩, ⟨n1, c1, r1, K1⟩, a1, q2, q3, q4, q5, q6, q7, q8⟩ := H0
  have d := fun {K : List Nat} (e : K.all (fun f => LKD.elem f) = true) => dd.sub' (K' := K) e
  have s := fun {K : List Nat} (e : K.all (fun f => LSA.elem f) = true) => eS.le (L' := K) e
  have x := fun {K : List Nat} (e : K.all (fun f => LXA.elem f) = true) => eX.le (L' := K) e
  have g : GRO Γ Γ h h' C S S' := GRO.fr (s (by decide +kernel)) G F fr (d (by decide +kernel)) p0
  have tk : ∀ {t o n c r : Nat}, CT Γ h C X Y S N t o n c r → CT Γ h' C X' Y' S' N t o n c r := fun {t o n c r} K => K.base G g (s (by decide +kernel)) (x (by decide +kernel)) (fun f hf i => eY _ f hf i) fr (d (by decide +kernel))
  have ln := fun {f o : Nat} (e : inA arC f o = true) (e2 : DJ [f] L Pp) => ac_len (h := h) (h' := h') (C := C) G fr e e2
  exact ⟨⟨⟨⟨G.frm fr (d (by decide +kernel)), F.frm G fr (d (by decide +kernel)) ⟨p0 _, p0 _, p0 _⟩⟩, ⟨n0, c0, r0, tk K0⟩, ⟨n1, c1, r1, tk K1⟩, a1.ext G F g (s (by decide +kernel)) hn fr (d (by decide +kernel)) (d (by decide +kernel)) p0, q2.ext g (s (by decide +kernel)) (x (by decide +kernel)) (ln (by decide) (d (by decide +kernel))) (ln (by decide) (d (by decide +kernel))) (ln (by decide) (d (by decide +kernel))), q3.ext (C := C) G.2.1 g (s (by decide +kernel)) fr (d (by decide +kernel)) (d (by decide +kernel)) p0, q4.exn g hn (s (by decide +kernel)) (x (by decide +kernel)) (ln (by decide) (d (by decide +kernel))) (ln (by decide) (d (by decide +kernel))) (ln (by decide) (d (by decide +kernel))), q5.ext (s (by decide +kernel)) (x (by decide +kernel)) (ln (by decide) (d (by decide +kernel))) (ln (by decide) (d (by decide +kernel))) (ln (by decide) (d (by decide +kernel))), q6.ext (s (by decide +kernel)) (x (by decide +kernel)), q7.ext G F g (s (by decide +kernel)) fr (d (by decide +kernel)) (d (by decide +kernel)) p0 (fun i _ => q8.eq G.2.1 fr (d (by decide +kernel)) p0 i), q8.fr fr (d (by decide +kernel))⟩, tk⟩, g⟩
theorem djL {K : List Nat} (e : K.all (fun f => !(LCC.elem f) && !([f_Host_meant + 1, f_Host_met + 1, f_Host_why].elem f)) = true) : DJ K LCC (PMN ho) := List.all_eq_true.mpr fun f hf => List.all_eq_true.mp e f hf
/-- and its room -/
theorem BND.cho (G : AC h C) (F : FC h C) (T : THK h C (S f_Md_things 0).toNat) (hh : ho = C + 6 ∨ ho = C + 19) (A : CHF h C ho e h') (es : EXS LPQ S S') (ea : S' f_Md_allChoices 0 = S f_Md_allChoices 0 + (e : Int)) : BND h C S h' S' 0 0 := by
  obtain ⟨⟨z, s, fr⟩, a1, a2, -, -⟩ := A
  have g1 := G.1
  have d1 : DJ (arC.map (fun q => q.1)) LCC (PMN ho) := djL (by decide +kernel)
  have d2 : DJ LPH' LCC (PMN ho) := djL (by decide +kernel)
  have p0 : ∀ y, (0, y) ∉ PMN ho := PMN0
  have e1 : S' f_Md_allMade 0 = S f_Md_allMade 0 := es _ (by decide) _
  have e2 : S' f_Md_allShapes 0 = S f_Md_allShapes 0 := es _ (by decide) _
  have e3 : S' f_Md_allSlots 0 = S f_Md_allSlots 0 := es _ (by decide) _
  have e4 : S' f_Md_slots 0 = S f_Md_slots 0 := es _ (by decide) _
  have e5 : S' f_Md_things 0 = S f_Md_things 0 := es _ (by decide) _
  have e6 : S' f_Md_changes 0 = S f_Md_changes 0 := es _ (by decide) _
  have sa := fun φ => sumA_e (φ := φ) (lnA_fr G fr d1)
  obtain ⟨c1, c2, c3, c4, c5⟩ := cpL_fr G F fr (d2.sub' (by decide)) p0
  have s51 : ∀ i, hB h' (C + 51) i = hB h (C + 51) i := (fr.ar G.2.1 (f := f_Heap_things) (by unfold own; decide) (x := C + 50) (by omega) F.2.2.1.2.1 (by omega) (fun c => c.elim (d2.w (by decide)) (d2.w (by decide))) (p0 _)).2.2
  have c6 := cpT_fr T (fun k _ => s51 k) fr (d2.sub' (by decide))
  have cm : mcp h' C - mcp h C = hI h' 2 (ho + 11) - hI h 2 (ho + 11) := by
    have cx := fun {x y : Nat} (hx : x < hz h) (e : hR h f_Host_meant x = y) (h0 : y ≠ 0) (hn : ¬ okC LCC (PMN ho) f_Host_meant x) => fr.arC G.2.1 (f := f_Host_meant) (by unfold own; decide) hx e h0 hn (p0 y)
    have no : ∀ x, x ≠ ho → ¬ okC LCC (PMN ho) f_Host_meant x := fun x hx c => by
      have l1 : LCC.elem f_Host_meant = false := by decide +kernel
      have l2 : LCC.elem (f_Host_meant + 1) = false := by decide +kernel
      rcases c with (c | c) | (c | c)
      · have : LCC.elem f_Host_meant = true := by simpa using c
        rw [l1] at this; cases this
      · have : f_Host_meant = f_Host_meant + 1 ∧ x = ho ∨ f_Host_meant = f_Host_met + 1 ∧ x = ho ∨ f_Host_meant = f_Host_why ∧ x = ho := by simpa [PMN] using c
        rcases this with ⟨-, c⟩ | ⟨-, c⟩ | ⟨-, c⟩ <;> exact hx c
      · have : LCC.elem (f_Host_meant + 1) = true := by simpa using c
        rw [l2] at this; cases this
      · have : f_Host_meant + 1 = f_Host_meant + 1 ∧ x = ho ∨ f_Host_meant + 1 = f_Host_met + 1 ∧ x = ho ∨ f_Host_meant + 1 = f_Host_why ∧ x = ho := by simpa [PMN] using c
        rcases this with ⟨-, c⟩ | ⟨-, c⟩ | ⟨-, c⟩ <;> exact hx c
    unfold mcp
    rcases hh with c | c
    · have := cx (x := C + 19) (by omega) F.2.2.2.2.2.2.2.2.2.2.2 (by omega) (no _ (by omega))
      rw [c, show C + 6 + 11 = C + 17 by omega]
      omega
    · have := cx (x := C + 6) (by omega) F.2.2.2.2.2.2.2.2.2.2.1 (by omega) (no _ (by omega))
      rw [c, show C + 19 + 11 = C + 30 by omega]
      omega
  have cg : CHG S S' := by
    refine ⟨by rw [e6]; exact Int.le_refl _, ⟨by rw [es _ (by decide)]; exact Int.le_refl _, fun s _ f hf => es f ?_ s⟩, by rw [e5]; exact Int.le_refl _, fun k _ w => ⟨by rw [es _ (by decide)]; exact w, Or.inl ⟨es _ (by decide) k, es _ (by decide) k⟩⟩, ⟨fun k _ => ⟨es _ (by decide) k, fun _ => ⟨es _ (by decide) k, es _ (by decide) k⟩⟩, fun k h1 h2 => absurd h2 (by rw [es _ (by decide)]; omega), fun c => es _ (by decide) c⟩⟩
    have : f = f_Md_shapeProto ∨ f = f_Md_shapeBefore ∨ f = f_Md_shapeName ∨ f = f_Md_shapeCount := by simpa using hf
    rcases this with rfl | rfl | rfl | rfl <;> decide
  unfold BND WZ WS cpL
  rw [e1, e2, e3, e4, e5, e6, ea, sa, sa, c1, c2, c3, c4, c5, c6]
  exact ⟨by omega, by omega, by omega, cg, fun s _ => (fr.ar G.2.1 (f := f_Heap_shapes) (by unfold own; decide) (x := C + 50) (by omega) F.2.2.1.2.2.1 (by omega) (fun c => c.elim (d2.w (by decide)) (d2.w (by decide))) (p0 _)).2.2 s⟩
theorem CORE.chf (H : CORE Γ h C ho X Y S N) (A : CHF h C ho e h') (eS : EXS LSA S S') (hn : S f_Md_names 0 ≤ S' f_Md_names 0) (eX : EXX LXA X X') (eY : ∀ o f, L7.elem f = true → ∀ i, Y' o f i = Y o f i) : (CORE Γ h' C ho X' Y' S' N ∧ ∀ {t o n c r : Nat}, CT Γ h C X Y S N t o n c r → CT Γ h' C X' Y' S' N t o n c r) ∧ GRO Γ Γ h h' C S S' := by
  obtain ⟨⟨z, s, fr⟩, -⟩ := A
  exact H.fzc fr (djL (by decide +kernel)) PMN0 eS hn eX eY
theorem CHF.tr {h1 h2 : ah} {e1 e2 : Nat} (a : CHF h C ho e1 h1) (b : CHF h1 C ho e2 h2) : CHF h C ho (e1 + e2) h2 := by
  obtain ⟨⟨z1, s1, f1⟩, a1, a2, a3, a4⟩ := a
  obtain ⟨⟨z2, s2, f2⟩, b1, b2, b3, b4⟩ := b
  exact ⟨⟨_, _, f1.trans f2⟩, by omega, by omega, b3, b4⟩
theorem CHF.rf (G : AC h C) (F : FC h C) : CHF h C ho 0 h := ⟨⟨0, 0, Fr.r0⟩, by omega, by omega, G, F⟩
end
