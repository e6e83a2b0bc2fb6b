/-! C's machine: what never changes -/
set_option maxRecDepth 20000
/-- one of the two tasks -/
def isT (o : Nat) : Prop := o = 62 ∨ o = 75
def FCt (h : ah) (C o : Nat) : Prop := hK h (C + o) = k_Task ∧ hl h (hR h f_Task_words (C + o)) = 2001 ∧ hl h (hR h f_Task_tags (C + o)) = 2001 ∧ hl h (hR h f_Task_code (C + o)) = 200 ∧ hl h (hR h f_Task_next (C + o)) = 200 ∧ hl h (hR h f_Task_base (C + o)) = 200 ∧ hl h (hR h f_Task_variables (C + o)) = 200 ∧ hl h (hR h f_Task_thisTag (C + o)) = 200 ∧ hl h (hR h f_Task_thisWord (C + o)) = 200 ∧ hl h (hR h f_Task_made (C + o)) = 200
def FC (h : ah) (C : Nat) : Prop := (hK h (C + 32) = k_Machine ∧ hK h (C + 33) = k_Signal ∧ hK h (C + 34) = k_Words ∧ hK h (C + 40) = k_Words ∧ hK h (C + 46) = k_Texts ∧ hK h (C + 50) = k_Heap ∧ hK h (C + 53) = k_Found ∧ hK h (C + 55) = k_Spare ∧ hK h (C + 98) = k_Lookup) ∧
  (hR h f_Machine_signal (C + 32) = C + 33 ∧ hR h f_Machine_names (C + 32) = C + 34 ∧ hR h f_Machine_literals (C + 32) = C + 40 ∧ hR h f_Machine_texts (C + 32) = C + 46 ∧ hR h f_Machine_heap (C + 32) = C + 50 ∧ hR h f_Machine_found (C + 32) = C + 53 ∧ hR h f_Machine_spare (C + 32) = C + 55 ∧ hR h f_Machine_functions (C + 32) = C + 56 ∧ hR h f_Machine_sites (C + 32) = C + 57 ∧ hR h f_Machine_descriptors (C + 32) = C + 58 ∧ hR h f_Machine_tasks (C + 32) = C + 61 ∧ hR h f_Machine_lookup (C + 32) = C + 98 ∧ hR h f_Machine_PROTO (C + 32) = C + 94 ∧ hR h f_Machine_KINDS (C + 32) = C + 97) ∧
  (hR h f_Heap_signal (C + 50) = C + 33 ∧ hR h f_Heap_things (C + 50) = C + 51 ∧ hR h f_Heap_shapes (C + 50) = C + 52 ∧ hR h f_Lookup_names (C + 98) = C + 34 ∧ hR h f_Lookup_signal (C + 98) = C + 33 ∧ hR h f_Lookup_heap (C + 98) = C + 50) ∧
  (lok h (C + 51) ∧ lok h (C + 52) ∧ lok h (C + 56) ∧ lok h (C + 57) ∧ lok h (C + 58)) ∧
  (hK h (C + 61) = 26 ∧ hl h (C + 61) = 2 ∧ hB h (C + 61) 0 = C + 62 ∧ hB h (C + 61) 1 = C + 75) ∧ (FCt h C 62 ∧ FCt h C 75) ∧
  (hl h (hR h f_Found_classes (C + 53)) = 9 ∧ hl h (hR h f_Lookup_asked (C + 98)) = 4 ∧ hl h (hR h f_Lookup_choices (C + 98)) = 256 ∧ hl h (hR h f_Lookup_word (C + 98)) = 70 ∧ hl h (hR h f_Machine_mains (C + 32)) = 16 ∧ hl h (hR h f_Machine_small (C + 32)) = 32 ∧ hl h (hR h f_Machine_marks (C + 32)) = 400) ∧
  (hK h (C + 94) = 3 ∧ hl h (C + 94) = 5 ∧ hA h (C + 94) 0 = 112 ∧ hA h (C + 94) 1 = 114 ∧ hA h (C + 94) 2 = 111 ∧ hA h (C + 94) 3 = 116 ∧ hA h (C + 94) 4 = 111) ∧
  (hK h (C + 97) = 28 ∧ hl h (C + 97) = 9) ∧ (UNO h (C + 61) ∧ UNO h (C + 94) ∧ UNO h (C + 97)) ∧ (hR h f_Host_meant (C + 6) = C + 17 ∧ hR h f_Host_meant (C + 19) = C + 30)
section
variable {h h' : ah} {C f g o a b n i j x k m : Nat} {v : Int} {X : X3} {Y : Y3}
theorem FC.t (F : FC h C) (ht : isT o) : FCt h C o := by
  rcases ht with rfl | rfl
  · exact F.2.2.2.2.2.1.1
  · exact F.2.2.2.2.2.1.2
def inT (f : Nat) : Bool := scC.elem (f, 62) && scC.elem (f, 75)
def inTA (f : Nat) : Bool := inA arC f 62 && inA arC f 75
def inTB (f : Nat) : Bool := inA raC f 62 && inA raC f 75
theorem ccIt (ht : isT o) (e : inT f = true) : hI (cc h C X Y) f (C + o) = X o f 0 := by
  unfold inT at e; rw [Bool.and_eq_true] at e
  rcases ht with rfl | rfl
  · exact ccI e.1
  · exact ccI e.2
theorem ccAt (G : AC h C) (ht : isT o) (e : inTA f = true) : hA (cc h C X Y) (hR h f (C + o)) i = X o f i := by
  unfold inTA at e; rw [Bool.and_eq_true] at e
  rcases ht with rfl | rfl
  · exact ccA G e.1
  · exact ccA G e.2
theorem ccBt (G : AC h C) (ht : isT o) (e : inTB f = true) : hB (cc h C X Y) (hR h f (C + o)) i = Y o f i := by
  unfold inTB at e; rw [Bool.and_eq_true] at e
  rcases ht with rfl | rfl
  · exact ccB G e.1
  · exact ccB G e.2
theorem cc_sIt (ht : isT o) (e : inT f = true) : sI (cc h C X Y) f (C + o) v = cc h C (u3 X o f 0 v) Y := by
  unfold inT at e; rw [Bool.and_eq_true] at e
  rcases ht with rfl | rfl
  · exact cc_sI e.1
  · exact cc_sI e.2
theorem cc_sAt (G : AC h C) (ht : isT o) (e : inTA f = true) : sA (cc h C X Y) (hR h f (C + o)) i v = cc h C (u3 X o f i v) Y := by
  unfold inTA at e; rw [Bool.and_eq_true] at e
  rcases ht with rfl | rfl
  · exact cc_sA G e.1
  · exact cc_sA G e.2
theorem cc_sBt {v : Nat} (G : AC h C) (ht : isT o) (e : inTB f = true) : sB (cc h C X Y) (hR h f (C + o)) i v = cc h C X (u3 Y o f i v) := by
  unfold inTB at e; rw [Bool.and_eq_true] at e
  rcases ht with rfl | rfl
  · exact cc_sB G e.1
  · exact cc_sB G e.2
/-- kinds of arrays -/
theorem KC (G : AC h C) : hK h (hR h f_Machine_mains (C + 32)) = 1 ∧ hK h (hR h f_Machine_literalText (C + 32)) = 1 ∧ hK h (hR h f_Machine_globalWords (C + 32)) = 2 ∧ hK h (hR h f_Machine_globalTags (C + 32)) = 3 ∧ hK h (hR h f_Machine_isGlobal (C + 32)) = 4 ∧ hK h (hR h f_Machine_output (C + 32)) = 3 ∧ hK h (hR h f_Machine_trace (C + 32)) = 1 ∧ hK h (hR h f_Machine_print (C + 32)) = 3 ∧ hK h (hR h f_Machine_small (C + 32)) = 3 ∧ hK h (hR h f_Machine_marks (C + 32)) = 4 ∧ hK h (hR h f_Texts_bytes (C + 46)) = 3 ∧ hK h (hR h f_Texts_from (C + 46)) = 1 ∧ hK h (hR h f_Texts_size (C + 46)) = 1 ∧ hK h (hR h f_Found_classes (C + 53)) = 1 ∧ hK h (hR h f_Lookup_asked (C + 98)) = 1 ∧ hK h (hR h f_Lookup_word (C + 98)) = 3 ∧ hK h (hR h f_Lookup_choices (C + 98)) = 22 := by
  have a := fun q m => (G.2.2.2.1 q m).2
  have b := fun q m => (G.2.2.2.2 q m).2
  refine ⟨a (f_Machine_mains, 32, 1) ?_, a (f_Machine_literalText, 32, 1) ?_, a (f_Machine_globalWords, 32, 2) ?_, a (f_Machine_globalTags, 32, 3) ?_, a (f_Machine_isGlobal, 32, 4) ?_, a (f_Machine_output, 32, 3) ?_, a (f_Machine_trace, 32, 1) ?_, a (f_Machine_print, 32, 3) ?_, a (f_Machine_small, 32, 3) ?_, a (f_Machine_marks, 32, 4) ?_, a (f_Texts_bytes, 46, 3) ?_, a (f_Texts_from, 46, 1) ?_, a (f_Texts_size, 46, 1) ?_, a (f_Found_classes, 53, 1) ?_, a (f_Lookup_asked, 98, 1) ?_, a (f_Lookup_word, 98, 3) ?_, b (f_Lookup_choices, 98, 22) ?_⟩ <;> decide
theorem KCt (G : AC h C) (ht : isT o) : hK h (hR h f_Task_words (C + o)) = 2 ∧ hK h (hR h f_Task_tags (C + o)) = 3 ∧ hK h (hR h f_Task_code (C + o)) = 23 ∧ hK h (hR h f_Task_next (C + o)) = 1 ∧ hK h (hR h f_Task_base (C + o)) = 1 ∧ hK h (hR h f_Task_variables (C + o)) = 27 ∧ hK h (hR h f_Task_thisTag (C + o)) = 3 ∧ hK h (hR h f_Task_thisWord (C + o)) = 2 ∧ hK h (hR h f_Task_made (C + o)) = 25 ∧ hK h (hR h f_Task_tryCall (C + o)) = 1 ∧ hK h (hR h f_Task_tryTo (C + o)) = 1 ∧ hK h (hR h f_Task_trySize (C + o)) = 1 := by
  have a := fun q m => (G.2.2.2.1 q m).2
  have b := fun q m => (G.2.2.2.2 q m).2
  rcases ht with rfl | rfl
  · refine ⟨a (f_Task_words, 62, 2) ?_, a (f_Task_tags, 62, 3) ?_, b (f_Task_code, 62, 23) ?_, a (f_Task_next, 62, 1) ?_, a (f_Task_base, 62, 1) ?_, b (f_Task_variables, 62, 27) ?_, a (f_Task_thisTag, 62, 3) ?_, a (f_Task_thisWord, 62, 2) ?_, b (f_Task_made, 62, 25) ?_, a (f_Task_tryCall, 62, 1) ?_, a (f_Task_tryTo, 62, 1) ?_, a (f_Task_trySize, 62, 1) ?_⟩ <;> decide
  · refine ⟨a (f_Task_words, 75, 2) ?_, a (f_Task_tags, 75, 3) ?_, b (f_Task_code, 75, 23) ?_, a (f_Task_next, 75, 1) ?_, a (f_Task_base, 75, 1) ?_, b (f_Task_variables, 75, 27) ?_, a (f_Task_thisTag, 75, 3) ?_, a (f_Task_thisWord, 75, 2) ?_, b (f_Task_made, 75, 25) ?_, a (f_Task_tryCall, 75, 1) ?_, a (f_Task_tryTo, 75, 1) ?_, a (f_Task_trySize, 75, 1) ?_⟩ <;> decide
end
