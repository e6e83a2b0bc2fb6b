/-! C's machine: frames; arrays grow -/
set_option maxRecDepth 20000
/-- fields by which C's machine holds its parts -/
def LFC : List Nat := [f_Host_meant, f_Machine_signal, f_Machine_names, f_Machine_literals, f_Machine_texts, f_Machine_heap, f_Machine_found, f_Machine_spare, f_Machine_functions, f_Machine_sites, f_Machine_descriptors, f_Machine_tasks, f_Machine_lookup, f_Machine_PROTO, f_Machine_KINDS, f_Heap_signal, f_Heap_things, f_Heap_shapes, f_Lookup_names, f_Lookup_signal, f_Lookup_heap, f_Task_words, f_Task_tags, f_Task_code, f_Task_next, f_Task_base, f_Task_variables, f_Task_thisTag, f_Task_thisWord, f_Task_made, f_Found_classes, f_Lookup_asked, f_Lookup_choices, f_Lookup_word, f_Machine_mains, f_Machine_small, f_Machine_marks]
/-- what may be written leaves these fields -/
def DJ (K L : List Nat) (P : List (Nat × Nat)) : Prop := K.all (fun f => !(L.elem f) && !((P.map Prod.fst).elem f)) = true
theorem DJ.w {K L : List Nat} {P : List (Nat × Nat)} {f x : Nat} (d : DJ K L P) (e : K.elem f = true) : ¬ okW L P f x := by
  have := List.all_eq_true.mp d f (by simpa using e)
  simp only [Bool.and_eq_true, Bool.not_eq_true'] at this
  exact nokW this.1 this.2
section
variable {h h' : ah} {C f g o a b n i j x k m z s l : Nat} {v : Int} {X X' : X3} {Y Y' : Y3} {L : List Nat} {P : List (Nat × Nat)}
theorem lok_fr (fr : Fr L P z s h h') (ha : a < hz h) (H : lok h a) : lok h' a := ⟨by rw [fr.K ha]; exact H.1, fr.2.2.2.2.2.1 a ha H.2⟩
theorem FCt.frm (F : FCt h C o) (G : AC h C) (ho : o ≤ 101) (K : hK h (hR h f_Task_words (C + o)) < 100 ∧ hK h (hR h f_Task_tags (C + o)) < 100 ∧ hK h (hR h f_Task_code (C + o)) < 100 ∧ hK h (hR h f_Task_next (C + o)) < 100 ∧ hK h (hR h f_Task_base (C + o)) < 100 ∧ hK h (hR h f_Task_variables (C + o)) < 100 ∧ hK h (hR h f_Task_thisTag (C + o)) < 100 ∧ hK h (hR h f_Task_thisWord (C + o)) < 100 ∧ hK h (hR h f_Task_made (C + o)) < 100) (fr : Fr L P z s h h') (d : DJ LFC L P) : FCt h' C o := by
  have g1 := G.1
  have lt : C + o < hz h := by omega
  have go : ∀ f, LFC.elem f = true → own f → hK h (hR h f (C + o)) < 100 → 5 ≤ f → hl h' (hR h' f (C + o)) = hl h (hR h f (C + o)) := fun f hf ho hk h5 => by
    rw [fr.R lt h5 (d.w hf), fr.la (G.2.1.1 _ _ lt ho) hk]
  obtain ⟨a0, a1, a2, a3, a4, a5, a6, a7, a8, a9⟩ := F
  obtain ⟨k1, k2, k3, k4, k5, k6, k7, k8, k9⟩ := K
  refine ⟨by rw [fr.K lt]; exact a0, ?_, ?_, ?_, ?_, ?_, ?_, ?_, ?_, ?_⟩
  · rw [go _ (by decide) (by unfold own; decide) k1 (by decide)]; exact a1
  · rw [go _ (by decide) (by unfold own; decide) k2 (by decide)]; exact a2
  · rw [go _ (by decide) (by unfold own; decide) k3 (by decide)]; exact a3
  · rw [go _ (by decide) (by unfold own; decide) k4 (by decide)]; exact a4
  · rw [go _ (by decide) (by unfold own; decide) k5 (by decide)]; exact a5
  · rw [go _ (by decide) (by unfold own; decide) k6 (by decide)]; exact a6
  · rw [go _ (by decide) (by unfold own; decide) k7 (by decide)]; exact a7
  · rw [go _ (by decide) (by unfold own; decide) k8 (by decide)]; exact a8
  · rw [go _ (by decide) (by unfold own; decide) k9 (by decide)]; exact a9
theorem FC.frm (F : FC h C) (G : AC h C) (fr : Fr L P z s h h') (d : DJ LFC L P) (p0 : (0, C + 61) ∉ P ∧ (0, C + 94) ∉ P ∧ (0, C + 97) ∉ P) : FC h' C := by
  have lt : ∀ o, o ≤ 101 → C + o < hz h := fun o ho => by have := G.1; omega
  have n0 : ∀ o, C + o ≠ 0 := fun o => by have := G.2.2.1; omega
  have kx : ∀ f o, inA arC f o = true → hK h (hR h f (C + o)) < 100 := fun f o e => by
    obtain ⟨k, m⟩ := inA_mem e
    have k1 : arC.all (fun q => Nat.blt q.2.2 100) = true := by decide
    rw [(G.2.2.2.1 _ m).2]
    exact Nat.le_of_ble_eq_true (List.all_eq_true.mp k1 _ m)
  have ky : ∀ f o, inA raC f o = true → hK h (hR h f (C + o)) < 100 := fun f o e => by
    obtain ⟨k, m⟩ := inA_mem e
    have k1 : raC.all (fun q => Nat.blt q.2.2 100) = true := by decide
    rw [(G.2.2.2.2 _ m).2]
    exact Nat.le_of_ble_eq_true (List.all_eq_true.mp k1 _ m)
  obtain ⟨⟨a1, a2, a3, a4, a5, a6, a7, a8, a9⟩, ⟨b1, b2, b3, b4, b5, b6, b7, b8, b9, b10, b11, b12, b13, b14⟩, ⟨c1, c2, c3, c4, c5, c6⟩, ⟨d1, d2, d3, d4, d5⟩, ⟨e1, e2, e3, e4⟩, ⟨t1, t2⟩, ⟨i1, i2, i3, i4, i5, i6, i7⟩, ⟨j1, j2, j3, j4, j5, j6, j7⟩, ⟨m1, m2⟩, ⟨u1, u2, u3⟩, v1, v2⟩ := F
  have r : ∀ f o, LFC.elem f = true → o ≤ 101 → 5 ≤ f → hR h' f (C + o) = hR h f (C + o) := fun f o hf ho h5 => fr.R (lt o ho) h5 (d.w hf)
  have go : ∀ f o, LFC.elem f = true → own f → o ≤ 101 → hK h (hR h f (C + o)) < 100 → 5 ≤ f → hl h' (hR h' f (C + o)) = hl h (hR h f (C + o)) := fun f o hf ho hk k h5 => by
    rw [r f o hf hk h5, fr.la (G.2.1.1 _ _ (lt o hk) ho) k]
  have s61 := fr.ar0 (y := C + 61) (lt 61 (by decide)) (n0 61) p0.1 u1
  have s94 := fr.ar0 (y := C + 94) (lt 94 (by decide)) (n0 94) p0.2.1 u2
  refine ⟨⟨?_, ?_, ?_, ?_, ?_, ?_, ?_, ?_, ?_⟩, ⟨?_, ?_, ?_, ?_, ?_, ?_, ?_, ?_, ?_, ?_, ?_, ?_, ?_, ?_⟩, ⟨?_, ?_, ?_, ?_, ?_, ?_⟩, ⟨lok_fr fr (lt 51 (by decide)) d1, lok_fr fr (lt 52 (by decide)) d2, lok_fr fr (lt 56 (by decide)) d3, lok_fr fr (lt 57 (by decide)) d4, lok_fr fr (lt 58 (by decide)) d5⟩, ⟨?_, ?_, ?_, ?_⟩, ⟨t1.frm G (by decide) ⟨kx _ _ (by decide), kx _ _ (by decide), ky _ _ (by decide), kx _ _ (by decide), kx _ _ (by decide), ky _ _ (by decide), kx _ _ (by decide), kx _ _ (by decide), ky _ _ (by decide)⟩ fr d, t2.frm G (by decide) ⟨kx _ _ (by decide), kx _ _ (by decide), ky _ _ (by decide), kx _ _ (by decide), kx _ _ (by decide), ky _ _ (by decide), kx _ _ (by decide), kx _ _ (by decide), ky _ _ (by decide)⟩ fr d⟩, ⟨?_, ?_, ?_, ?_, ?_, ?_, ?_⟩, ⟨?_, ?_, ?_, ?_, ?_, ?_, ?_⟩, ⟨?_, ?_⟩, ⟨u1.fr (lt 61 (by decide)) (n0 61) fr, u2.fr (lt 94 (by decide)) (n0 94) fr, u3.fr (lt 97 (by decide)) (n0 97) fr⟩, by rw [r _ _ (by decide) (by decide) (by decide)]; exact v1, by rw [r _ _ (by decide) (by decide) (by decide)]; exact v2⟩
  iterate 9 (· rw [fr.K (lt _ (by decide))]; assumption)
  iterate 20 (· rw [r _ _ (by decide) (by decide) (by decide)]; assumption)
  · rw [fr.K (lt 61 (by decide))]; exact e1
  · rw [s61.1]; exact e2
  · rw [s61.2.2]; exact e3
  · rw [s61.2.2]; exact e4
  · rw [go _ _ (by decide) (by unfold own; decide) (by decide) (kx _ _ (by decide)) (by decide)]; exact i1
  · rw [go _ _ (by decide) (by unfold own; decide) (by decide) (kx _ _ (by decide)) (by decide)]; exact i2
  · rw [go _ _ (by decide) (by unfold own; decide) (by decide) (ky _ _ (by decide)) (by decide)]; exact i3
  · rw [go _ _ (by decide) (by unfold own; decide) (by decide) (kx _ _ (by decide)) (by decide)]; exact i4
  · rw [go _ _ (by decide) (by unfold own; decide) (by decide) (kx _ _ (by decide)) (by decide)]; exact i5
  · rw [go _ _ (by decide) (by unfold own; decide) (by decide) (kx _ _ (by decide)) (by decide)]; exact i6
  · rw [go _ _ (by decide) (by unfold own; decide) (by decide) (kx _ _ (by decide)) (by decide)]; exact i7
  · rw [fr.K (lt 94 (by decide))]; exact j1
  · rw [s94.1]; exact j2
  · rw [s94.2.1]; exact j3
  · rw [s94.2.1]; exact j4
  · rw [s94.2.1]; exact j5
  · rw [s94.2.1]; exact j6
  · rw [s94.2.1]; exact j7
  · rw [fr.K (lt 97 (by decide))]; exact m1
  · rw [fr.la (lt 97 (by decide)) (by rw [m1]; decide)]; exact m2
theorem AC.frm (G : AC h C) (fr : Fr L P z s h h') (d : DJ (arC.map (fun q => q.1) ++ raC.map (fun q => q.1)) L P) : AC h' C := by
  obtain ⟨a1, a2, a3, a4, a5⟩ := G
  refine ⟨by have := fr.1.1; omega, fr.inj a2, a3, fun q m => ?_, fun q m => ?_⟩
  · have o1 := ownA' m
    rw [fr.R (by omega) (own5 o1.1) (d.w (by simp; exact Or.inl ⟨_, _, m⟩)), fr.K (a2.1 _ _ (by omega) o1.1)]
    exact a4 q m
  · have o1 := ownB' m
    rw [fr.R (by omega) (own5 o1.1) (d.w (by simp; exact Or.inr ⟨_, _, m⟩)), fr.K (a2.1 _ _ (by omega) o1.1)]
    exact a5 q m
/-- rows that are not written -/
theorem XO.frm (H : XO h C X Y) (G : AC h C) (fr : Fr L P z s h h') (d1 : DJ (scC.map (fun q => q.1) ++ rfC.map (fun q => q.1)) L P) (d2 : DJ (arC.map (fun q => q.1) ++ raC.map (fun q => q.1)) L P) (d3 : DJ (arC.map (fun q => q.1 + 1) ++ raC.map (fun q => q.1 + 1)) L P) (p0 : ∀ y, (0, y) ∉ P) : XO h' C X Y := by
  obtain ⟨a1, a2, a3, a4, a5⟩ := G
  obtain ⟨b1, b2, b3, b4⟩ := H
  have i5 : ∀ f o, scC.elem (f, o) = true → 5 ≤ f ∧ o ≤ 101 := fun f o e => by
    have := List.all_eq_true.mp scF5 (f, o) (by simpa using e)
    rw [Bool.and_eq_true] at this
    exact ⟨Nat.le_of_ble_eq_true this.2, Nat.le_of_ble_eq_true this.1⟩
  have r5 : ∀ f o, rfC.elem (f, o) = true → 5 ≤ f ∧ o ≤ 101 := fun f o e => by
    have := List.all_eq_true.mp rfF5 (f, o) (by simpa using e)
    rw [Bool.and_eq_true] at this
    exact ⟨Nat.le_of_ble_eq_true this.2, Nat.le_of_ble_eq_true this.1⟩
  refine ⟨fun f o e => ?_, fun f o e => ?_, fun f o e i => ?_, fun f o e i => ?_⟩
  · have := i5 f o e
    rw [fr.I (by omega) this.1 (d1.w (by simp; exact Or.inl ⟨o, by simpa using e⟩))]; exact b1 f o e
  · have := r5 f o e
    rw [fr.R (by omega) this.1 (d1.w (by simp; exact Or.inr ⟨o, by simpa using e⟩))]; exact b2 f o e
  · obtain ⟨k, m⟩ := inA_mem e
    have o1 := ownA' m
    simp only at o1
    have w1 : ¬ okW L P f (C + o) := d2.w (by simp; exact Or.inl ⟨_, _, m⟩)
    have w2 : ¬ okW L P (f + 1) (C + o) := d3.w (by simp; exact Or.inl ⟨_, _, m⟩)
    have sa := fr.ar a2 o1.1 (x := C + o) (by omega) rfl (a4 _ m).1 (fun c => c.elim w1 w2) (p0 _)
    rw [fr.R (by omega) (own5 o1.1) w1, sa.2.1]; exact b3 f o e i
  · obtain ⟨k, m⟩ := inA_mem e
    have o1 := ownB' m
    simp only at o1
    have w1 : ¬ okW L P f (C + o) := d2.w (by simp; exact Or.inr ⟨_, _, m⟩)
    have w2 : ¬ okW L P (f + 1) (C + o) := d3.w (by simp; exact Or.inr ⟨_, _, m⟩)
    have sa := fr.ar a2 o1.1 (x := C + o) (by omega) rfl (a5 _ m).1 (fun c => c.elim w1 w2) (p0 _)
    rw [fr.R (by omega) (own5 o1.1) w1, sa.2.2]; exact b4 f o e i
end
