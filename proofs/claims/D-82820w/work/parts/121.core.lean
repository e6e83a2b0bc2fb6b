/-! the core of both machines: all but sites, lookups, hosts -/
set_option maxRecDepth 20000
/-- where the host's classes are listed -/
def HOo (h : ah) (ho : Nat) : Prop := ho < hz h ∧ hR h f_Host_types ho = ho + 2
theorem HOo.fr {L : List Nat} {P : List (Nat × Nat)} {z s ho : Nat} {h h' : ah} (H : HOo h ho) (fr : Fr L P z s h h') (d : DJ [f_Host_types, f_Host_types + 1] L P) : HOo h' ho := ⟨fr.lt H.1, by rw [fr.R H.1 (by decide) (d.w (by decide))]; exact H.2⟩
theorem HOo.eq {L : List Nat} {P : List (Nat × Nat)} {z s ho : Nat} {h h' : ah} (H : HOo h ho) (G : INJ h) (fr : Fr L P z s h h') (d : DJ [f_Host_types, f_Host_types + 1] L P) (p0 : ∀ y, (0, y) ∉ P) : ∀ i, hB h' (ho + 2) i = hB h (ho + 2) i := (fr.ar G (f := f_Host_types) (by unfold own; decide) H.1 H.2 (by omega) (fun c => c.elim (d.w (by decide)) (d.w (by decide))) (p0 _)).2.2
def CORE (Γ : GH) (h : ah) (C ho : Nat) (X : X3) (Y : Y3) (S : SS) (N : Nat) : Prop := (AC h C ∧ FC h C) ∧ (∃ n c r, CT Γ h C X Y S N 0 62 n c r) ∧ (∃ n c r, CT Γ h C X Y S N 1 75 n c r) ∧ FNC Γ h C S ∧ TXC Γ h C X S ∧ VRC Γ h S N ∧ GLB Γ h C X S N ∧ OUT h C X S ∧ MEM X S ∧ THC Γ h C ho S N ∧ HOo h ho
/-- rows that an instruction may change -/
def LSc : List Nat := L1 ++ L2 ++ L3 ++ L4 ++ L5 ++ LVS ++ LTS ++ [f_Md_textFrom, f_Md_textLength, f_Md_textSigns, f_Md_madeBytes, f_Md_madeTexts, f_Md_allTexts, f_Md_allBytes] ++ [f_Md_isGlobal, f_Md_globalType, f_Md_globalValue, f_Md_shown, f_Md_output, f_Md_traced, f_Md_trace, f_Md_allMade, f_Md_allSlots, f_Md_allShapes, f_Md_spelt, f_Md_spelling, f_Md_es, f_Md_r, f_Md_goesType, f_Md_goesValue, f_Md_elementName, f_Md_foundLinker, f_Md_foundGuard, f_Md_foundName, f_Md_foundHolder, f_Md_foundWhich, f_Md_foundShape, f_Md_foundMany, f_Md_many, f_Md_types, f_Md_ordered, f_Md_order, f_Md_wantSize, f_Md_want, f_Md_candidates, f_Md_candidate, f_Md_fields, f_Md_fieldOf, f_Md_used1]
def LXc : List Nat := L6 ++ LXX ++ [f_Signal_error, f_Machine_isGlobal, f_Machine_globalTags, f_Machine_globalWords, f_Machine_outputSize, f_Machine_output, f_Machine_traceSize, f_Machine_trace, f_Machine_print, f_Machine_printed, f_Heap_made, f_Heap_room, f_Heap_shapesMade, f_Heap_calls, f_Heap_ticks, f_Found_linker, f_Found_element, f_Found_operands, f_Found_action, f_Found_place, f_Found_byClasses, f_Found_classes, f_Lookup_word, f_Machine_small]
def LYc : List Nat := f_Found_shape :: f_Found_type :: f_Found_code :: f_Found_holder :: f_Found_to :: f_Found_member :: L7
def LHc : List Nat := LCC ++ LVH ++ LVH1 ++ LHH ++ LHH1 ++ [f_Machine_isGlobal, f_Machine_globalTags, f_Machine_globalWords, f_Machine_output, f_Machine_trace, f_Machine_print, f_Texts_from, f_Texts_size, f_Texts_bytes, f_Task_tryCall, f_Task_tryTo, f_Task_trySize]
def NSc (S S' : SS) : Prop := ∀ f i, LSc.elem f = false → S' f i = S f i
def NXc (X X' : X3) : Prop := ∀ o f i, LXc.elem f = false → X' o f i = X o f i
def NYc (Y Y' : Y3) : Prop := ∀ o f i, LYc.elem f = false → Y' o f i = Y o f i
def OPC (ρ : Nat → Nat) (P : ah → Nat → Prop) (Γ : GH) (h : ah) (C ho : Nat) (X : X3) (Y : Y3) (S : SS) (N : Nat) (op a b : Int) : Prop := ∃ e Γ' h' X' Y' S' z s, CORE Γ' h' C ho X' Y' S' N ∧ GRO Γ Γ' h h' C S S' ∧ NSc S S' ∧ NXc X X' ∧ NYc Y Y' ∧ Fr LHc [] z s h h' ∧ BND h C S h' S' 1 8 ∧ ER e X' S' ∧ CRUN ρ C op a b h X Y e h' X' Y' ∧ TRUN ρ P S e S'
section
variable {ρ : Nat → Nat} {P : ah → Nat → Prop} {d : Nat} {Q : QT} {Γ Γ' : GH} {h h' : ah} {C ho : Nat} {X X' : X3} {Y Y' : Y3} {S S' : SS} {N t o n c r f i j k m z s : Nat} {ty v x y op a b : Int}
theorem NSt.co (H : NSt t S S') : NSc S S' := by
  intro f i hf
  refine H f i fun c => ?_
  have e : ∀ {L : List Nat}, L.elem f = true → (∀ g, g ∈ L → g ∈ LSc) → False := fun q w => by
    have : LSc.elem f = true := by simpa using w f (by simpa using q)
    rw [this] at hf; cases hf
  rcases c with ⟨q, -⟩ | ⟨q, -⟩ | ⟨q, -⟩ | ⟨q, -⟩ | q
  · exact e q (fun g hg => by unfold LSc; simp only [List.mem_append]; simp [hg])
  · exact e q (fun g hg => by unfold LSc; simp only [List.mem_append]; simp [hg])
  · exact e q (fun g hg => by unfold LSc; simp only [List.mem_append]; simp [hg])
  · exact e q (fun g hg => by unfold LSc; simp only [List.mem_append]; simp [hg])
  · exact e q (fun g hg => by unfold LSc; simp only [List.mem_append]; simp [hg])
theorem NXo.co (H : NXo o X X') : NXc X X' := by
  intro a f i hf
  refine H a f i fun c => ?_
  rcases c with ⟨-, q⟩ | q
  · have : LXc.elem f = true := by
      have : f ∈ L6 := by simpa using q
      simp only [List.elem_eq_mem, decide_eq_true_eq]
      unfold LXc
      simp [this]
    rw [this] at hf; cases hf
  · subst q; revert hf; decide
theorem NSt.ex {L : List Nat} (H : NSt t S S') (e : L.all (fun f => !(L1.elem f || (L2.elem f || (L3.elem f || (L4.elem f || L5.elem f))))) = true) : EXS L S S' := fun f hf i => H.g (by
  have := List.all_eq_true.mp e f (by simpa using hf)
  simpa using this)
theorem NXo.ex {L : List Nat} (H : NXo o X X') (e : L.all (fun f => !(L6.elem f) && !(Nat.beq f f_Signal_error)) = true) : EXX L X X' := fun f hf a i => H a f i (by
  have := List.all_eq_true.mp e f (by simpa using hf)
  simp only [Bool.and_eq_true, Bool.not_eq_true'] at this
  rintro (⟨-, q⟩ | q)
  · rw [q] at this; exact absurd this.1 (by decide)
  · subst q; exact absurd this.2 (by decide))
/-- the other task -/
theorem CT.oth (H : CT Γ h C X Y S N t o n c r) {t' o' : Nat} (ns : NSt t' S S') (nx : NXo o' X X') (ne : t ≠ t') (neo : o ≠ o') (ny : ∀ f, L7.elem f = true → ∀ i, Y' o f i = Y o f i) : CT Γ h C X' Y' S' N t o n c r := by
  refine H.ext (GRO.nst ns) (fun f i hf => ns f i fun c => ?_) (fun f hf i => nx o f i ?_) ny rfl rfl rfl
  · have dj : ∀ {A B : List Nat}, A.elem f = true → B.elem f = true → A.all (fun g => !(B.elem g)) = true → False := fun a b w => by
      have := List.all_eq_true.mp w f (by simpa using a)
      rw [b] at this; cases this
    rcases hf with ⟨q, e⟩ | ⟨q, e⟩ | ⟨q, e⟩ | ⟨q, e⟩ <;> rcases c with ⟨w, e2⟩ | ⟨w, e2⟩ | ⟨w, e2⟩ | ⟨w, e2⟩ | w
    all_goals first | omega | exact dj q w (by decide)
  · rintro (⟨q, -⟩ | q)
    · exact neo q
    · subst q; revert hf; decide
/-- where only rows of a task change -/
theorem CORE.task (H : CORE Γ h C ho X Y S N) (hto : isTO t o) (K : CT Γ h C X' Y S' N t o n c r) (ns : NSt t S S') (nx : NXo o X X') : CORE Γ h C ho X' Y S' N := by
  obtain ⟨⟨G, F⟩, ⟨n0, c0, r0, K0⟩, ⟨n1, c1, r1, K1⟩, a1, a2, a3, a4, a5, a6, a7, a8⟩ := H
  have g : GRO Γ Γ h h C S S' := GRO.nst ns
  refine ⟨⟨G, F⟩, ?_, ?_, a1.ext G F g (ns.ex (by decide)) (Int.le_of_eq (ns.g (by decide)).symm) (L := []) (P := []) Fr.r0 (by unfold DJ; decide) (by unfold DJ; decide) (by simp), a2.ext g (ns.ex (by decide)) (nx.ex (by decide)) rfl rfl rfl, a3.ext (C := C) G.2.1 g (ns.ex (by decide)) (L := []) (P := []) Fr.r0 (by unfold DJ; decide) (by unfold DJ; decide) (by simp), a4.ext g (ns.ex (by decide)) (nx.ex (by decide)) rfl rfl rfl, a5.ext (ns.ex (by decide)) (nx.ex (by decide)) rfl rfl rfl, a6.ext (ns.ex (by decide)) (nx.ex (by decide)), a7.ext G F g (ns.ex (by decide)) (L := []) (P := []) Fr.r0 (by unfold DJ; decide) (by unfold DJ; decide) (by simp) (fun _ _ => rfl), a8⟩
  · rcases hto with ⟨rfl, rfl⟩ | ⟨rfl, rfl⟩
    · exact ⟨n, c, r, K⟩
    · exact ⟨n0, c0, r0, K0.oth ns nx (by decide) (by decide) (fun _ _ _ => rfl)⟩
  · rcases hto with ⟨rfl, rfl⟩ | ⟨rfl, rfl⟩
    · exact ⟨n1, c1, r1, K1.oth ns nx (by decide) (by decide) (fun _ _ _ => rfl)⟩
    · exact ⟨n, c, r, K⟩
theorem SOQ.core (A : SOQ ρ P Γ h C X Y S N t o op a b) (H : CORE Γ h C ho X Y S N) : OPC ρ P Γ h C ho X Y S N op a b := by
  obtain ⟨e, X', S', n', c', r', A1, A2, A3, A4, A5, A6⟩ := A
  exact ⟨e, Γ, h, X', Y, S', 0, 0, H.task A1.1 A1 A2 A3, GRO.nst A2, A2.co, A3.co, fun _ _ _ _ => rfl, Fr.r0, (BND.rows (A2.ex (by decide))).le (by decide) (by decide), A4, A5, A6⟩
end
