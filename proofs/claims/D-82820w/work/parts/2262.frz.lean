/-! the core stays where only other things change -/
set_option maxRecDepth 20000
/-- fields that the core stands on -/
def LKC : List Nat := arC.map (fun q => q.1) ++ raC.map (fun q => q.1) ++ LFC ++ LCH ++ LCH1 ++ LVH ++ LVH1 ++ LHH ++ LHH1 ++ [f_Host_types, f_Host_types + 1] ++ LPH
/-- rows that the core stands on -/
def LSA : List Nat := LTK ++ LFN ++ LXS ++ LVS ++ LTS ++ [f_Md_isGlobal, f_Md_globalType, f_Md_globalValue, f_Md_shown, f_Md_output, f_Md_traced, f_Md_trace, f_Md_allMade, f_Md_allSlots, f_Md_allShapes]
def LXA : List Nat := L6 ++ LXX ++ [f_Machine_isGlobal, f_Machine_globalTags, f_Machine_globalWords, f_Machine_outputSize, f_Machine_output, f_Machine_traceSize, f_Machine_trace, f_Heap_made, f_Heap_room, f_Heap_shapesMade, f_Heap_calls, f_Heap_ticks]
section
variable {Γ : GH} {h h' : ah} {C ho N z s : Nat} {X X' : X3} {Y Y' : Y3} {S S' : SS} {L L' : List Nat} {Pp : List (Nat × Nat)}
theorem EXS.le (e : EXS L S S') (h : L'.all (fun f => L.elem f) = true) : EXS L' S S' := fun f hf => e f (by simpa using List.all_eq_true.mp h f (by simpa using hf))
theorem EXX.le (e : EXX L X X') (h : L'.all (fun f => L.elem f) = true) : EXX L' X X' := fun f hf => e f (by simpa using List.all_eq_true.mp h f (by simpa using hf))
theorem CORE.fzz (H : CORE Γ h C ho X Y S N) (fr : Fr L Pp z s h h') (dd : DJ LKC L Pp) (p0 : ∀ y, (0, y) ∉ Pp) (eS : EXS LSA S S') (hn : S f_Md_names 0 ≤ S' f_Md_names 0) (eX : EXX LXA X X') (eY : ∀ o f, L7.elem f = true → ∀ i, Y' o f i = Y o f i) : (CORE Γ h' C ho X' Y' S' N ∧ ∀ {t o n c r : Nat}, CT Γ h C X Y S N t o n c r → CT Γ h' C X' Y' S' N t o n c r) ∧ GRO Γ Γ h h' C S S' ∧ (EXS LPO S S' → BND h C S h' S' z s) := by
  have H0 := H
  obtain ⟨⟨G, F⟩, ⟨n0, c0, r0, K0⟩, ⟨n1, c1, r1, K1⟩, a1, q2, q3, q4, q5, q6, q7, q8⟩ := H0
  have d := fun {K : List Nat} (e : K.all (fun f => LKC.elem f) = true) => dd.sub' (K' := K) e
  have s := fun {K : List Nat} (e : K.all (fun f => LSA.elem f) = true) => eS.le (L' := K) e
  have x := fun {K : List Nat} (e : K.all (fun f => LXA.elem f) = true) => eX.le (L' := K) e
  have g : GRO Γ Γ h h' C S S' := GRO.fr (s (by decide +kernel)) G F fr (d (by decide +kernel)) p0
  have tk : ∀ {t o n c r : Nat}, CT Γ h C X Y S N t o n c r → CT Γ h' C X' Y' S' N t o n c r := fun {t o n c r} K => K.base G g (s (by decide +kernel)) (x (by decide +kernel)) (fun f hf i => eY _ f hf i) fr (d (by decide +kernel))
  have ln := fun {f o : Nat} (e : inA arC f o = true) (e2 : DJ [f] L Pp) => ac_len (h := h) (h' := h') (C := C) G fr e e2
  refine ⟨⟨⟨⟨G.frm fr (d (by decide +kernel)), F.frm G fr (d (by decide +kernel)) ⟨p0 _, p0 _, p0 _⟩⟩, ⟨n0, c0, r0, tk K0⟩, ⟨n1, c1, r1, tk K1⟩, a1.ext G F g (s (by decide +kernel)) hn fr (d (by decide +kernel)) (d (by decide +kernel)) p0, q2.ext g (s (by decide +kernel)) (x (by decide +kernel)) (ln (by decide) (d (by decide +kernel))) (ln (by decide) (d (by decide +kernel))) (ln (by decide) (d (by decide +kernel))), q3.ext (C := C) G.2.1 g (s (by decide +kernel)) fr (d (by decide +kernel)) (d (by decide +kernel)) p0, q4.exn g hn (s (by decide +kernel)) (x (by decide +kernel)) (ln (by decide) (d (by decide +kernel))) (ln (by decide) (d (by decide +kernel))) (ln (by decide) (d (by decide +kernel))), q5.ext (s (by decide +kernel)) (x (by decide +kernel)) (ln (by decide) (d (by decide +kernel))) (ln (by decide) (d (by decide +kernel))) (ln (by decide) (d (by decide +kernel))), q6.ext (s (by decide +kernel)) (x (by decide +kernel)), q7.ext G F g (s (by decide +kernel)) fr (d (by decide +kernel)) (d (by decide +kernel)) p0 (fun i _ => q8.eq G.2.1 fr (d (by decide +kernel)) p0 i), q8.fr fr (d (by decide +kernel))⟩, tk⟩, g, fun es => BND.fr G F (q7.thk G) es fr (d (by decide +kernel)) (d (by decide +kernel)) p0⟩
/-- T's other rows -/
theorem CORE.fz (H : CORE Γ h C ho X Y S N) (o : OFF L S S') (e : (f_Md_names :: LSA).all (fun f => !(L.elem f)) = true) : CORE Γ h C ho X Y S' N := by
  have ex := o.ex (L' := f_Md_names :: LSA) e
  exact (H.fzz (L := []) (Pp := []) (h' := h) (X' := X) (Y' := Y) Fr.r0 (by unfold DJ; decide +kernel) (fun y c => by simp at c) (ex.le (by decide +kernel)) (by rw [ex _ (by decide +kernel)]; exact Int.le_refl _) EXX.rf (fun _ _ _ _ => rfl)).1.1
end
