/-! B: the two programs compared. What all of it needs -/
set_option maxRecDepth 20000
theorem w32_of {x : Int} (h1 : -2147483648 ≤ x) (h2 : x < 2147483648) : w32 x = x := by
  unfold w32
  simp only [Int.bmod]
  omega
theorem w64_of {x : Int} (h1 : -9223372036854775808 ≤ x) (h2 : x < 9223372036854775808) : w64 x = x := by
  unfold w64
  simp only [Int.bmod]
  omega
theorem w8_of {x : Int} (h1 : -128 ≤ x) (h2 : x < 128) : w8 x = x := by
  unfold w8
  simp only [Int.bmod]
  omega
theorem w32_s {p : Nat} (h : p ≤ 2000000000) : w32 ((p : Int) + 1) = ((p + 1 : Nat) : Int) := by rw [w32_of (by omega) (by omega)]; omega
/-- how a comparison of longs is read -/
theorem lc_n {x y : Int} : (if x < y then (-1 : Int) else if x = y then 0 else 1) < 0 ↔ x < y := by split <;> (try split) <;> omega
theorem lc_nn {x y : Int} : 0 ≤ (if x < y then (-1 : Int) else if x = y then 0 else 1) ↔ y ≤ x := by split <;> (try split) <;> omega
theorem lc_p {x y : Int} : 0 < (if x < y then (-1 : Int) else if x = y then 0 else 1) ↔ y < x := by split <;> (try split) <;> omega
theorem lc_np {x y : Int} : (if x < y then (-1 : Int) else if x = y then 0 else 1) ≤ 0 ↔ x ≤ y := by split <;> (try split) <;> omega
theorem lc_z {x y : Int} : (if x < y then (-1 : Int) else if x = y then 0 else 1) = 0 ↔ x = y := by split <;> (try split) <;> omega
/-- a run that is known -/
def EV (ρ : Nat → Nat) (d : Nat) (M : MT) (pc : Nat) (lv : LV) (st : List AV) (h : ah) (o : Out) (h' : ah) : Prop := ∀ Q : QT, Q o h' → wpB PGm ρ d M pc lv st h Q
theorem wpB_mon {ρ : Nat → Nat} {d : Nat} {M : MT} {pc : Nat} {lv : LV} {st : List AV} {h : ah} {Q Q' : QT} (k : ∀ o h', Q o h' → Q' o h') (hh : wpB PGm ρ d M pc lv st h Q) : wpB PGm ρ d M pc lv st h Q' := wp_mon _ _ _ _ _ _ _ _ _ lsub_rfl k hh
/-- fields whose arrays and lists are changed after they were made: each such array has one owner -/
def ownF : List Nat := [f_LT_tape, f_Scanner_held, f_Host_types, f_Host_members, f_Host_draft, f_Host_meant, f_Host_met, f_Words_bytes, f_Words_from, f_Words_size, f_Words_next, f_Words_heads, f_Machine_functions, f_Machine_sites, f_Machine_descriptors, f_Machine_mains, f_Machine_literalText, f_Machine_globalWords, f_Machine_globalTags, f_Machine_isGlobal, f_Machine_output, f_Machine_trace, f_Machine_print, f_Machine_small, f_Machine_marks, f_Texts_bytes, f_Texts_from, f_Texts_size, f_Heap_things, f_Heap_shapes, f_Found_classes, f_Task_words, f_Task_tags, f_Task_code, f_Task_next, f_Task_base, f_Task_variables, f_Task_thisTag, f_Task_thisWord, f_Task_made, f_Task_tryCall, f_Task_tryTo, f_Task_trySize, f_Lookup_asked, f_Lookup_choices, f_Lookup_word, f_HostType_supers, f_HostType_members, f_HostType_over, f_HostType_words, f_HostType_tags, f_Scope_names, f_Scope_body, f_Code_rows, f_Parser_scopes, f_Variables_words, f_Variables_tags, f_Thing_words, f_Thing_tags, f_Entry_classes, f_Md_tape, f_Md_text, f_Md_nameSigns, f_Md_nameSize, f_Md_textSigns, f_Md_textFrom, f_Md_textLength, f_Md_parts, f_Md_unitOf, f_Md_unitFunction, f_Md_parametersOf, f_Md_variablesOf, f_Md_codeFrom, f_Md_codeSize, f_Md_siteFrom, f_Md_siteCount, f_Md_codeOp, f_Md_codeA, f_Md_codeB, f_Md_siteKind, f_Md_siteName, f_Md_siteMany, f_Md_siteFunction, f_Md_siteAt, f_Md_descriptor, f_Md_links, f_Md_hits, f_Md_pruned, f_Md_isMega, f_Md_thingKind, f_Md_thingShape, f_Md_thingFirst, f_Md_thingCount, f_Md_thingLast, f_Md_thingFunction, f_Md_thingAround, f_Md_thingClass, f_Md_isWatched, f_Md_epoch, f_Md_changedAt, f_Md_slotType, f_Md_slotValue, f_Md_slotName, f_Md_slotNext, f_Md_shapeProto, f_Md_shapeBefore, f_Md_shapeName, f_Md_shapeCount, f_Md_around, f_Md_variablesFrom, f_Md_variableTypes, f_Md_variableValue, f_Md_isGlobal, f_Md_globalType, f_Md_globalValue, f_Md_staticType, f_Md_staticValue, f_Md_output, f_Md_trace, f_Md_asked, f_Md_spelt, f_Md_choiceClass, f_Md_choiceMode, f_Md_choiceName, f_Md_choiceMany, f_Md_choiceTypes, f_Md_choiceFound, f_Md_types, f_Md_order, f_Md_want, f_Md_candidate, f_Md_fieldOf, f_Md_state, f_Md_frames, f_Md_height, f_Md_tries, f_Md_resultType, f_Md_resultValue, f_Md_pileType, f_Md_pileValue, f_Md_frameFunction, f_Md_frameAt, f_Md_frameAround, f_Md_thisType, f_Md_thisValue, f_Md_frameNew, f_Md_frameBase, f_Md_frameTries, f_Md_tryAt, f_Md_tryHeight, f_Md_tryFrame, f_Md_entries, f_Md_linker, f_Md_guard, f_Md_guardName, f_Md_holder, f_Md_which, f_Md_toShape, f_Md_linkedAt, f_Md_guardMany, f_Md_guardTypes, f_Md_used1, f_Md_counted, f_MdHost_signs, f_MdHost_isInterface, f_MdHost_above, f_MdHost_supers, f_MdHost_superOf, f_MdHost_all, f_MdHost_first, f_MdHost_many, f_MdHost_nameFrom, f_MdHost_nameTo, f_MdHost_itsClass, f_MdHost_sort, f_MdHost_isStatic, f_MdHost_type, f_MdHost_parameters, f_MdHost_variable, f_MdHost_parameter, f_MdHost_memberFrom, f_MdHost_memberTo, f_MdInts_a, f_MdPart_variable]
def own (f : Nat) : Prop := ownF.elem f = true
theorem own5 {f : Nat} (h : own f) : 5 ≤ f := by
  have : ownF.all (fun f => Nat.ble 5 f) = true := by decide +kernel
  unfold own at h
  exact Nat.le_of_ble_eq_true (List.all_eq_true.mp this f (by simpa using h))
def INJ (h : ah) : Prop := (∀ f a, a < hz h → own f → hR h f a < hz h) ∧ (∀ f a g b, a < hz h → b < hz h → own f → own g → hR h f a = hR h g b → hR h f a ≠ 0 → f = g ∧ a = b) ∧ 0 < hz h
def sameArr (h h' : ah) (x : Nat) : Prop := hl h' x = hl h x ∧ (∀ i, hA h' x i = hA h x i) ∧ ∀ i, hB h' x i = hB h x i
theorem sameArr.rfl {h : ah} {x : Nat} : sameArr h h x := ⟨Eq.refl _, fun _ => Eq.refl _, fun _ => Eq.refl _⟩
theorem sameArr.trans {h h1 h2 : ah} {x : Nat} (a : sameArr h h1 x) (b : sameArr h1 h2 x) : sameArr h h2 x := ⟨b.1.trans a.1, fun i => (b.2.1 i).trans (a.2.1 i), fun i => (b.2.2 i).trans (a.2.2 i)⟩
/-- what may be written: a field, what it owns -/
def okW (L : List Nat) (P : List (Nat × Nat)) (f a : Nat) : Prop := f ∈ L ∨ (f, a) ∈ P
def okC (L : List Nat) (P : List (Nat × Nat)) (f a : Nat) : Prop := okW L P f a ∨ okW L P (f + 1) a
/-- what stays: of all that was there before, but fields of L (of every object) and P (of one), the arrays that these own (f: with the field, f + 1: alone), arrays by address (0, x) in P; at most z cells and s slots are new -/
def Fr (L : List Nat) (P : List (Nat × Nat)) (z s : Nat) (h h' : ah) : Prop :=
  (hz h ≤ hz h' ∧ hz h' ≤ hz h + z ∧ hs h ≤ hs h' ∧ hs h' ≤ hs h + s) ∧ (∀ a, a < hz h → hK h' a = hK h a) ∧ (∀ f a, a < hz h → 5 ≤ f → ¬ okW L P f a → hI h' f a = hI h f a ∧ hR h' f a = hR h f a) ∧
  (∀ x, 0 < x → x < hz h → (0, x) ∉ P → (∀ f a, a < hz h → own f → hR h f a = x → ¬ okC L P f a) → sameArr h h' x ∧ hI h' 2 x = hI h 2 x) ∧ (∀ a, a < hz h → hK h a < 100 → hl h' a = hl h a) ∧ (∀ a, a < hz h → hI h 4 a = 1 → hI h' 4 a = 1) ∧
  (∀ f a, own f → a < hz h' → hR h' f a = 0 ∨ hz h ≤ hR h' f a ∨ (a < hz h ∧ hR h' f a = hR h f a)) ∧ (INJ h → INJ h')
section
variable {L : List Nat} {P : List (Nat × Nat)} {z s z1 s1 z2 s2 : Nat} {h h1 h2 : ah}
theorem Fr.r0 : Fr L P 0 0 h h := ⟨⟨Nat.le_refl _, Nat.le_refl _, Nat.le_refl _, Nat.le_refl _⟩, fun _ _ => Eq.refl _, fun _ _ _ _ _ => ⟨Eq.refl _, Eq.refl _⟩, fun _ _ _ _ _ => ⟨sameArr.rfl, Eq.refl _⟩, fun _ _ _ => Eq.refl _, fun _ _ k => k, fun _ _ _ k => Or.inr (Or.inr ⟨k, Eq.refl _⟩), fun k => k⟩
theorem Fr.trans (a : Fr L P z1 s1 h h1) (b : Fr L P z2 s2 h1 h2) : Fr L P (z1 + z2) (s1 + s2) h h2 := by
  obtain ⟨⟨a1, a2, a3, a4⟩, a5, a6, a7, a8, a9, a10, a11⟩ := a
  obtain ⟨⟨b1, b2, b3, b4⟩, b5, b6, b7, b8, b9, b10, b11⟩ := b
  refine ⟨⟨by omega, by omega, by omega, by omega⟩, fun x hx => (b5 x (by omega)).trans (a5 x hx), fun f x hx h5 hf => ?_, fun x h0 hx hp hm => ?_, fun x hx hk => (b8 x (by omega) (by rw [a5 x hx]; exact hk)).trans (a8 x hx hk), fun x hx hk => b9 x (by omega) (a9 x hx hk), fun f x hf hx => ?_, fun k => b11 (a11 k)⟩
  · obtain ⟨e1, e2⟩ := a6 f x hx h5 hf
    obtain ⟨e3, e4⟩ := b6 f x (by omega) h5 hf
    exact ⟨e3.trans e1, e4.trans e2⟩
  · have A := a7 x h0 hx hp hm
    suffices B : sameArr h1 h2 x ∧ hI h2 2 x = hI h1 2 x from ⟨A.1.trans B.1, B.2.trans A.2⟩
    refine b7 x h0 (by omega) hp fun f y hy hf e ho => ?_
    rcases a10 f y hf hy with e0 | e0 | ⟨e0, e1⟩
    · omega
    · omega
    · exact hm f y e0 hf (by rw [← e1]; exact e) ho
  · rcases b10 f x hf hx with e0 | e0 | ⟨e0, e1⟩
    · exact Or.inl e0
    · exact Or.inr (Or.inl (by omega))
    · rw [e1]
      exact a10 f x hf e0
theorem Fr.le (a : Fr L P z1 s1 h h1) (hz1 : z1 ≤ z) (hs1 : s1 ≤ s) : Fr L P z s h h1 := ⟨⟨a.1.1, by have := a.1.2.1; omega, a.1.2.2.1, by have := a.1.2.2.2; omega⟩, a.2⟩
theorem Fr.mono {L' : List Nat} {P' : List (Nat × Nat)} (a : Fr L P z s h h1) (hL : ∀ f, f ∈ L → f ∈ L') (hP : ∀ q, q ∈ P → q ∈ P') : Fr L' P' z s h h1 := by
  have hw : ∀ f x, ¬ okW L' P' f x → ¬ okW L P f x := fun f x n k => n (k.imp (hL f) (hP _))
  exact ⟨a.1, a.2.1, fun f x hx h5 hf => a.2.2.1 f x hx h5 (hw f x hf), fun x h0 hx hp hm => a.2.2.2.1 x h0 hx (fun k => hp (hP _ k)) (fun f y hy hf e ho => hm f y hy hf e (ho.imp (fun k => Classical.byContradiction fun n => hw f y n k) (fun k => Classical.byContradiction fun n => hw _ y n k))), a.2.2.2.2⟩
theorem Fr.I (a : Fr L P z s h h1) {f x : Nat} (hx : x < hz h) (h5 : 5 ≤ f) (hf : ¬ okW L P f x) : hI h1 f x = hI h f x := (a.2.2.1 f x hx h5 hf).1
theorem Fr.R (a : Fr L P z s h h1) {f x : Nat} (hx : x < hz h) (h5 : 5 ≤ f) (hf : ¬ okW L P f x) : hR h1 f x = hR h f x := (a.2.2.1 f x hx h5 hf).2
theorem Fr.K (a : Fr L P z s h h1) {x : Nat} (hx : x < hz h) : hK h1 x = hK h x := a.2.1 x hx
theorem Fr.la (a : Fr L P z s h h1) {x : Nat} (hx : x < hz h) (hk : hK h x < 100) : hl h1 x = hl h x := a.2.2.2.2.1 x hx hk
theorem Fr.inj (a : Fr L P z s h h1) (k : INJ h) : INJ h1 := a.2.2.2.2.2.2.2 k
theorem Fr.lt (a : Fr L P z s h h1) {x : Nat} (hx : x < hz h) : x < hz h1 := by have := a.1.1; omega
/-- an array that has an owner whose arrays are not written -/
theorem Fr.ar (a : Fr L P z s h h1) (k : INJ h) {f x y : Nat} (ho : own f) (hx : x < hz h) (e : hR h f x = y) (h0 : y ≠ 0) (hn : ¬ okC L P f x) (hp : (0, y) ∉ P) : sameArr h h1 y := by
  subst e
  refine (a.2.2.2.1 _ (by omega) (k.1 f x hx ho) hp fun g b hb hg e2 hok => ?_).1
  obtain ⟨rfl, rfl⟩ := k.2.1 f x g b hx hb ho hg e2.symm h0
  exact hn hok
/-- a list keeps its room -/
theorem Fr.arC (a : Fr L P z s h h1) (k : INJ h) {f x y : Nat} (ho : own f) (hx : x < hz h) (e : hR h f x = y) (h0 : y ≠ 0) (hn : ¬ okC L P f x) (hp : (0, y) ∉ P) : hI h1 2 y = hI h 2 y := by
  subst e
  refine (a.2.2.2.1 _ (by omega) (k.1 f x hx ho) hp fun g b hb hg e2 hok => ?_).2
  obtain ⟨rfl, rfl⟩ := k.2.1 f x g b hx hb ho hg e2.symm h0
  exact hn hok
/-- an array that has no owner -/
theorem Fr.ar0 (a : Fr L P z s h h1) {y : Nat} (hy : y < hz h) (h0 : y ≠ 0) (hp : (0, y) ∉ P) (hn : ∀ f x, x < hz h → own f → hR h f x ≠ y) : sameArr h h1 y := (a.2.2.2.1 y (by omega) hy hp fun f x hx hf e _ => hn f x hx hf e).1
theorem okL {f x : Nat} (hf : L.elem f = true) : okW L P f x := Or.inl (by simpa using hf)
theorem nok {f x : Nat} (h1 : L.elem f = false) (h2 : L.elem (f + 1) = false) (h3 : (P.map Prod.fst).elem f = false) (h4 : (P.map Prod.fst).elem (f + 1) = false) : ¬ okC L P f x := by
  have a1 : f ∉ L := by simpa using h1
  have a2 : f + 1 ∉ L := by simpa using h2
  have a3 : f ∉ P.map Prod.fst := by simpa using h3
  have a4 : f + 1 ∉ P.map Prod.fst := by simpa using h4
  rintro ((k | k) | (k | k))
  · exact a1 k
  · exact a3 (List.mem_map.mpr ⟨_, k, rfl⟩)
  · exact a2 k
  · exact a4 (List.mem_map.mpr ⟨_, k, rfl⟩)
theorem nokW {f x : Nat} (h1 : L.elem f = false) (h3 : (P.map Prod.fst).elem f = false) : ¬ okW L P f x := by
  have a1 : f ∉ L := by simpa using h1
  have a3 : f ∉ P.map Prod.fst := by simpa using h3
  rintro (k | k)
  · exact a1 k
  · exact a3 (List.mem_map.mpr ⟨_, k, rfl⟩)
theorem Fr.wI {f x : Nat} {v : Int} (h5 : 5 ≤ f) (hf : okW L P f x) (a : Fr L P z s h h1) : Fr L P z s h (sI h1 f x v) := by
  obtain ⟨a1, a5, a6, a7, a8, a9, a10, a11⟩ := a
  refine ⟨a1, a5, fun g y hy h5 hg => ⟨?_, (a6 g y hy h5 hg).2⟩, fun y h0 hy hp hn => ⟨(a7 y h0 hy hp hn).1, Eq.trans (if_neg fun k => by omega) (a7 y h0 hy hp hn).2⟩, a8, fun y hy hk => ?_, a10, a11⟩
  · exact Eq.trans (if_neg fun k => hg (by rw [k.1, k.2]; exact hf)) (a6 g y hy h5 hg).1
  · exact Eq.trans (if_neg fun k => by omega) (a9 y hy hk)
theorem Fr.wL {f x : Nat} {v : Int} (hf : (L.elem f && Nat.ble 5 f) = true) (a : Fr L P z s h h1) : Fr L P z s h (sI h1 f x v) := by
  rw [Bool.and_eq_true] at hf
  exact a.wI (Nat.le_of_ble_eq_true hf.2) (okL hf.1)
/-- what is written at an address that was not there before is not seen -/
theorem Fr.nI {f x : Nat} {v : Int} (hx : hz h ≤ x) (a : Fr L P z s h h1) : Fr L P z s h (sI h1 f x v) := by
  obtain ⟨a1, a5, a6, a7, a8, a9, a10, a11⟩ := a
  refine ⟨a1, a5, fun g y hy h5 hg => ⟨?_, (a6 g y hy h5 hg).2⟩, fun y h0 hy hp hn => ⟨(a7 y h0 hy hp hn).1, Eq.trans (if_neg fun k => by omega) (a7 y h0 hy hp hn).2⟩, a8, fun y hy hk => ?_, a10, a11⟩
  · exact Eq.trans (if_neg fun k => by omega) (a6 g y hy h5 hg).1
  · exact Eq.trans (if_neg fun k => by omega) (a9 y hy hk)
theorem Fr.nR {f x v : Nat} (hx : hz h ≤ x) (hn : ¬ own f) (a : Fr L P z s h h1) : Fr L P z s h (sR h1 f x v) := by
  obtain ⟨a1, a5, a6, a7, a8, a9, a10, a11⟩ := a
  have ne : ∀ g y, own g → hR (sR h1 f x v) g y = hR h1 g y := fun g y hg => if_neg fun k => hn (by rw [← k.1]; exact hg)
  refine ⟨a1, a5, fun g y hy h5 hg => ⟨(a6 g y hy h5 hg).1, ?_⟩, a7, a8, a9, fun g y hg hy => ?_, fun k => ⟨fun g y hy hg => ?_, fun g y g' y' hy hy' hg hg' e e0 => ?_, (a11 k).2.2⟩⟩
  · exact Eq.trans (if_neg fun k => by omega) (a6 g y hy h5 hg).2
  · rw [ne g y hg]; exact a10 g y hg hy
  · rw [ne g y hg]; exact (a11 k).1 g y hy hg
  · rw [ne g y hg] at e e0; rw [ne g' y' hg'] at e; exact (a11 k).2.1 g y g' y' hy hy' hg hg' e e0
theorem Fr.wR {f x v : Nat} (hf : okW L P f x) (hn : ¬ own f) (a : Fr L P z s h h1) : Fr L P z s h (sR h1 f x v) := by
  obtain ⟨a1, a5, a6, a7, a8, a9, a10, a11⟩ := a
  have ne : ∀ g y, own g → hR (sR h1 f x v) g y = hR h1 g y := fun g y hg => if_neg fun k => hn (by rw [← k.1]; exact hg)
  refine ⟨a1, a5, fun g y hy h5 hg => ⟨(a6 g y hy h5 hg).1, ?_⟩, a7, a8, a9, fun g y hg hy => ?_, fun k => ⟨fun g y hy hg => ?_, fun g y g' y' hy hy' hg hg' e e0 => ?_, (a11 k).2.2⟩⟩
  · exact Eq.trans (if_neg fun k => hg (by rw [k.1, k.2]; exact hf)) (a6 g y hy h5 hg).2
  · rw [ne g y hg]; exact a10 g y hg hy
  · rw [ne g y hg]; exact (a11 k).1 g y hy hg
  · rw [ne g y hg] at e e0; rw [ne g' y' hg'] at e; exact (a11 k).2.1 g y g' y' hy hy' hg hg' e e0
/-- a field that owns is given what is new, and what nobody owns -/
theorem Fr.wO {f x v : Nat} (hf : okW L P f x ∨ hz h ≤ x) (hv : hz h ≤ v) (hv1 : v < hz h1) (hno : ∀ g y, y < hz h1 → own g → hR h1 g y ≠ v) (a : Fr L P z s h h1) : Fr L P z s h (sR h1 f x v) := by
  obtain ⟨a1, a5, a6, a7, a8, a9, a10, a11⟩ := a
  have eq : ∀ g y, hR (sR h1 f x v) g y = if g = f ∧ y = x then v else hR h1 g y := fun _ _ => rfl
  refine ⟨a1, a5, fun g y hy h5 hg => ⟨(a6 g y hy h5 hg).1, ?_⟩, a7, a8, a9, fun g y hg hy => ?_, fun k => ⟨fun g y hy hg => ?_, fun g y g' y' hy hy' hg hg' e e0 => ?_, (a11 k).2.2⟩⟩
  · exact Eq.trans (if_neg fun k => hf.elim (fun q => hg (by rw [k.1, k.2]; exact q)) (fun q => by omega)) (a6 g y hy h5 hg).2
  · rw [eq]
    split
    · exact Or.inr (Or.inl hv)
    · exact a10 g y hg hy
  · rw [eq]
    split
    · exact hv1
    · exact (a11 k).1 g y hy hg
  · rw [eq] at e e0
    rw [eq] at e
    by_cases c1 : g = f ∧ y = x
    · by_cases c2 : g' = f ∧ y' = x
      · exact ⟨c1.1.trans c2.1.symm, c1.2.trans c2.2.symm⟩
      · rw [if_pos c1, if_neg c2] at e
        exact absurd e.symm (hno g' y' hy' hg')
    · by_cases c2 : g' = f ∧ y' = x
      · rw [if_neg c1, if_pos c2] at e
        exact absurd e (hno g y hy hg)
      · rw [if_neg c1] at e e0
        rw [if_neg c2] at e
        exact (a11 k).2.1 g y g' y' hy hy' hg hg' e e0
/-- arrays that may be written -/
def okA (L : List Nat) (P : List (Nat × Nat)) (h : ah) (x : Nat) : Prop := hz h ≤ x ∨ x = 0 ∨ (0, x) ∈ P ∨ ∃ f y, y < hz h ∧ own f ∧ hR h f y = x ∧ okC L P f y
theorem okA.no {x y : Nat} (k : okA L P h x) (h0 : 0 < y) (hy : y < hz h) (hp : (0, y) ∉ P) (hn : ∀ f a, a < hz h → own f → hR h f a = y → ¬ okC L P f a) : y ≠ x := by
  rintro rfl
  rcases k with k | k | k | ⟨f, b, hb, hf, e, hok⟩
  · omega
  · omega
  · exact hp k
  · exact hn f b hb hf e hok
theorem Fr.wA {x i : Nat} {v : Int} (k : okA L P h x) (a : Fr L P z s h h1) : Fr L P z s h (sA h1 x i v) := by
  obtain ⟨a1, a5, a6, a7, a8, a9, a10, a11⟩ := a
  refine ⟨a1, a5, a6, fun y h0 hy hp hn => ?_, a8, a9, a10, a11⟩
  obtain ⟨⟨b1, b2, b3⟩, b4⟩ := a7 y h0 hy hp hn
  exact ⟨⟨b1, fun j => Eq.trans (if_neg fun q => k.no h0 hy hp hn q.1) (b2 j), b3⟩, b4⟩
theorem Fr.wB {x i v : Nat} (k : okA L P h x) (a : Fr L P z s h h1) : Fr L P z s h (sB h1 x i v) := by
  obtain ⟨a1, a5, a6, a7, a8, a9, a10, a11⟩ := a
  refine ⟨a1, a5, a6, fun y h0 hy hp hn => ?_, a8, a9, a10, a11⟩
  obtain ⟨⟨b1, b2, b3⟩, b4⟩ := a7 y h0 hy hp hn
  exact ⟨⟨b1, b2, fun j => Eq.trans (if_neg fun q => k.no h0 hy hp hn q.1) (b3 j)⟩, b4⟩
theorem Fr.wN {x n : Nat} (k : okA L P h x) (hk : hz h ≤ x ∨ 100 ≤ hK h x) (a : Fr L P z s h h1) : Fr L P z s h (sN h1 x n) := by
  obtain ⟨a1, a5, a6, a7, a8, a9, a10, a11⟩ := a
  refine ⟨a1, a5, a6, fun y h0 hy hp hn => ?_, fun y hy hky => ?_, a9, a10, a11⟩
  · obtain ⟨⟨b1, b2, b3⟩, b4⟩ := a7 y h0 hy hp hn
    exact ⟨⟨Eq.trans (if_neg fun q => k.no h0 hy hp hn q) b1, b2, b3⟩, b4⟩
  · exact Eq.trans (if_neg fun q => by subst q; omega) (a8 y hy hky)
theorem Fr.new {k n m : Nat} (a : Fr L P z s h h1) : Fr L P (z + 1) (s + n) h (hn h1 k n m) := by
  obtain ⟨⟨a1, a2, a3, a4⟩, a5, a6, a7, a8, a9, a10, a11⟩ := a
  have ne : ∀ y, y < hz h → y ≠ hz h1 := fun y hy => by omega
  have e1 : hz (hn h1 k n m) = hz h1 + 1 := rfl
  have e2 : hs (hn h1 k n m) = hs h1 + n := rfl
  refine ⟨⟨by omega, by omega, by omega, by omega⟩, fun y hy => Eq.trans (if_neg (ne y hy)) (a5 y hy), fun g y hy h5 hg => ⟨Eq.trans (if_neg (ne y hy)) (a6 g y hy h5 hg).1, Eq.trans (if_neg (ne y hy)) (a6 g y hy h5 hg).2⟩, fun y h0 hy hp hnn => ?_, fun y hy hk => Eq.trans (if_neg (ne y hy)) (a8 y hy hk), fun y hy hk => Eq.trans (if_neg (ne y hy)) (a9 y hy hk), fun g y hg hy => ?_, fun kk => ⟨fun g y hy hg => ?_, fun g y g' y' hy hy' hg hg' e e0 => ?_, by omega⟩⟩
  · obtain ⟨⟨b1, b2, b3⟩, b4⟩ := a7 y h0 hy hp hnn
    exact ⟨⟨Eq.trans (if_neg (ne y hy)) b1, fun j => Eq.trans (if_neg (ne y hy)) (b2 j), fun j => Eq.trans (if_neg (ne y hy)) (b3 j)⟩, Eq.trans (if_neg (ne y hy)) b4⟩
  · by_cases c : y = hz h1
    · exact Or.inl (if_pos c)
    · have : hR (hn h1 k n m) g y = hR h1 g y := if_neg c
      rw [this]; exact a10 g y hg (by omega)
  · by_cases c : y = hz h1
    · have : hR (hn h1 k n m) g y = 0 := if_pos c
      omega
    · have : hR (hn h1 k n m) g y = hR h1 g y := if_neg c
      have := (a11 kk).1 g y (by omega) hg
      omega
  · have q : ∀ g y, hR (hn h1 k n m) g y = if y = hz h1 then 0 else hR h1 g y := fun _ _ => rfl
    rw [q] at e e0
    rw [q] at e
    by_cases c : y = hz h1
    · rw [if_pos c] at e0; exact absurd rfl e0
    · by_cases c' : y' = hz h1
      · rw [if_neg c] at e e0; rw [if_pos c'] at e; exact absurd e e0
      · rw [if_neg c] at e e0; rw [if_neg c'] at e
        exact (a11 kk).2.1 g y g' y' (by omega) (by omega) hg hg' e e0
theorem Fr.cp {k x n : Nat} (a : Fr L P z s h h1) : Fr L P (z + 1) (s + n) h (hcp h1 k x n) := by
  have b := a.new (k := k) (n := n) (m := n)
  obtain ⟨b1, b5, b6, b7, b8, b9, b10, b11⟩ := b
  refine ⟨b1, b5, b6, fun y h0 hy hp hnn => ?_, b8, b9, b10, b11⟩
  obtain ⟨⟨c1, c2, c3⟩, c4⟩ := b7 y h0 hy hp hnn
  refine ⟨⟨c1, fun j => ?_, c3⟩, c4⟩
  have ne : y ≠ hz h1 := by have := a.1.1; omega
  have := c2 j
  have e1 : hA (hn h1 k n n) y j = hA h1 y j := if_neg ne
  exact Eq.trans (if_neg ne) (e1.symm.trans this)
/-- something new is owned by nobody -/
theorem INJ.new {k n m : Nat} (kk : INJ h) : ∀ g y, y < hz (hn h k n m) → own g → hR (hn h k n m) g y ≠ hz h := by
  intro g y hy hg e
  have e1 : hz (hn h k n m) = hz h + 1 := rfl
  by_cases c : y = hz h
  · have e2 : hR (hn h k n m) g y = 0 := if_pos c
    have := kk.2.2
    omega
  · have e2 : hR (hn h k n m) g y = hR h g y := if_neg c
    have := kk.1 g y (by omega) hg
    omega
end
/-- reads behind writes -/
theorem I_I (h : ah) (f a : Nat) (v : Int) : hI (sI h f a v) f a = v := if_pos ⟨rfl, rfl⟩
theorem I_Ine {h : ah} {f a : Nat} {v : Int} {g b : Nat} (n : g ≠ f) : hI (sI h f a v) g b = hI h g b := if_neg fun z => n z.1
theorem I_Ine' {h : ah} {f a : Nat} {v : Int} {g b : Nat} (n : b ≠ a) : hI (sI h f a v) g b = hI h g b := if_neg fun z => n z.2
theorem R_R (h : ah) (f a v : Nat) : hR (sR h f a v) f a = v := if_pos ⟨rfl, rfl⟩
theorem R_Rne {h : ah} {f a v g b : Nat} (n : g ≠ f) : hR (sR h f a v) g b = hR h g b := if_neg fun z => n z.1
theorem R_Rne' {h : ah} {f a v g b : Nat} (n : b ≠ a) : hR (sR h f a v) g b = hR h g b := if_neg fun z => n z.2
theorem A_A (h : ah) (a i : Nat) (v : Int) : hA (sA h a i v) a i = v := if_pos ⟨rfl, rfl⟩
theorem A_Ane {h : ah} {a i : Nat} {v : Int} {b j : Nat} (n : b ≠ a) : hA (sA h a i v) b j = hA h b j := if_neg fun z => n z.1
theorem A_Ane' {h : ah} {a i : Nat} {v : Int} {b j : Nat} (n : j ≠ i) : hA (sA h a i v) b j = hA h b j := if_neg fun z => n z.2
