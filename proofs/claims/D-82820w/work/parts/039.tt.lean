/-! T: its arrays -/
set_option maxRecDepth 20000
def tabM : List (Nat × Nat × Nat) := [(f_Md_tape, 3, 65552), (f_Md_text, 3, 64), (f_Md_nameSigns, 3, 240000), (f_Md_nameSize, 1, 4000), (f_Md_textSigns, 3, 269632), (f_Md_textFrom, 1, 16000), (f_Md_textLength, 1, 16000), (f_Md_unitOf, 1, 400), (f_Md_unitFunction, 1, 16), (f_Md_parametersOf, 1, 400), (f_Md_variablesOf, 1, 400), (f_Md_codeFrom, 1, 400), (f_Md_codeSize, 1, 400), (f_Md_siteFrom, 1, 400), (f_Md_siteCount, 1, 400), (f_Md_codeOp, 1, 20000), (f_Md_codeA, 1, 20000), (f_Md_codeB, 1, 20000), (f_Md_siteKind, 1, 4000), (f_Md_siteName, 1, 4000), (f_Md_siteMany, 1, 4000), (f_Md_siteFunction, 1, 4000), (f_Md_siteAt, 1, 4000), (f_Md_descriptor, 1, 4000), (f_Md_links, 1, 4000), (f_Md_hits, 1, 4000), (f_Md_pruned, 1, 4000), (f_Md_isMega, 4, 4000), (f_Md_thingKind, 1, 8000), (f_Md_thingShape, 1, 8000), (f_Md_thingFirst, 1, 8000), (f_Md_thingCount, 1, 8000), (f_Md_thingLast, 1, 8000), (f_Md_thingFunction, 1, 8000), (f_Md_thingAround, 1, 8000), (f_Md_thingClass, 1, 8000), (f_Md_isWatched, 4, 8000), (f_Md_epoch, 1, 8000), (f_Md_changedAt, 1, 8000), (f_Md_slotType, 1, 60000), (f_Md_slotValue, 2, 60000), (f_Md_slotName, 1, 60000), (f_Md_slotNext, 1, 60000), (f_Md_shapeProto, 1, 4001), (f_Md_shapeBefore, 1, 4001), (f_Md_shapeName, 1, 4001), (f_Md_shapeCount, 1, 4001), (f_Md_around, 1, 8000), (f_Md_variablesFrom, 1, 8000), (f_Md_variableTypes, 1, 60000), (f_Md_variableValue, 2, 60000), (f_Md_isGlobal, 4, 4000), (f_Md_globalType, 1, 4000), (f_Md_globalValue, 2, 4000), (f_Md_staticType, 1, 400), (f_Md_staticValue, 2, 400), (f_Md_output, 3, 65536), (f_Md_trace, 1, 100000), (f_Md_asked, 1, 4), (f_Md_spelt, 3, 256), (f_Md_choiceClass, 1, 2000), (f_Md_choiceMode, 1, 2000), (f_Md_choiceName, 1, 2000), (f_Md_choiceMany, 1, 2000), (f_Md_choiceTypes, 1, 16000), (f_Md_choiceFound, 1, 2000), (f_Md_types, 1, 8), (f_Md_order, 1, 60), (f_Md_want, 3, 72), (f_Md_candidate, 1, 400), (f_Md_fieldOf, 1, 400), (f_Md_state, 1, 2), (f_Md_frames, 1, 2), (f_Md_height, 1, 2), (f_Md_tries, 1, 2), (f_Md_resultType, 1, 2), (f_Md_resultValue, 2, 2), (f_Md_pileType, 1, 4200), (f_Md_pileValue, 2, 4200), (f_Md_frameFunction, 1, 400), (f_Md_frameAt, 1, 400), (f_Md_frameAround, 1, 400), (f_Md_thisType, 1, 400), (f_Md_thisValue, 2, 400), (f_Md_frameNew, 1, 400), (f_Md_frameBase, 1, 400), (f_Md_frameTries, 1, 400), (f_Md_tryAt, 1, 20000), (f_Md_tryHeight, 1, 20000), (f_Md_tryFrame, 1, 20000), (f_Md_entries, 1, 4000), (f_Md_linker, 1, 20000), (f_Md_guard, 1, 20000), (f_Md_guardName, 1, 20000), (f_Md_holder, 1, 20000), (f_Md_which, 1, 20000), (f_Md_toShape, 1, 20000), (f_Md_linkedAt, 1, 20000), (f_Md_guardMany, 1, 20000), (f_Md_guardTypes, 2, 20000), (f_Md_used1, 4, 400), (f_Md_counted, 1, 18)]
def tabH : List (Nat × Nat × Nat) := [(f_MdHost_signs, 3, 65536), (f_MdHost_isInterface, 4, 60), (f_MdHost_above, 1, 60), (f_MdHost_supers, 1, 60), (f_MdHost_superOf, 1, 3600), (f_MdHost_all, 2, 60), (f_MdHost_first, 1, 60), (f_MdHost_many, 1, 60), (f_MdHost_nameFrom, 1, 60), (f_MdHost_nameTo, 1, 60), (f_MdHost_itsClass, 1, 400), (f_MdHost_sort, 1, 400), (f_MdHost_isStatic, 4, 400), (f_MdHost_type, 1, 400), (f_MdHost_parameters, 1, 400), (f_MdHost_variable, 4, 400), (f_MdHost_parameter, 1, 3200), (f_MdHost_memberFrom, 1, 400), (f_MdHost_memberTo, 1, 400)]
/-- an object has its arrays: kinds and lengths as a table says; each is its own -/
def AR (tab : List (Nat × Nat × Nat)) (h : ah) (T : Nat) : Prop := T < hz h ∧ INJ h ∧ ∀ q, q ∈ tab → hR h q.1 T ≠ 0 ∧ hK h (hR h q.1 T) = q.2.1 ∧ hl h (hR h q.1 T) = q.2.2 ∧ own q.1
abbrev TT (h : ah) (T : Nat) : Prop := AR tabM h T
abbrev TH (h : ah) (T : Nat) : Prop := AR tabH h T
def lkA (tab : List (Nat × Nat × Nat)) (f : Nat) : Option (Nat × Nat) := match tab with
  | [] => none
  | q :: r => if q.1 = f then some q.2 else lkA r f
theorem lkA_mem {f : Nat} {v : Nat × Nat} : ∀ {tab : List (Nat × Nat × Nat)}, lkA tab f = some v → (f, v) ∈ tab
  | q :: r, e => by
    unfold lkA at e
    split at e
    · next c => cases e; subst c; exact List.mem_cons_self
    · exact List.mem_cons_of_mem _ (lkA_mem e)
section
variable {tab : List (Nat × Nat × Nat)} {h : ah} {T f k n : Nat}
theorem AR.g (H : AR tab h T) (e : lkA tab f = some (k, n)) : hR h f T ≠ 0 ∧ hK h (hR h f T) = k ∧ hl h (hR h f T) = n ∧ own f := H.2.2 _ (lkA_mem e)
theorem AR.len (H : AR tab h T) (e : lkA tab f = some (k, n)) : hl h (hR h f T) = n := (H.g e).2.2.1
theorem AR.lt (H : AR tab h T) (e : lkA tab f = some (k, n)) : hR h f T < hz h := H.2.1.1 _ _ H.1 (H.g e).2.2.2
/-- ints are written, read; longs; bytes and truths are read -/
theorem AR.wi (H : AR tab h T) (e : lkA tab f = some (1, n)) {i : Int} (b : 0 ≤ i ∧ i < (n : Int)) : hK h (hR h f T) = 1 ∧ 0 ≤ i ∧ i < (hl h (hR h f T) : Int) := ⟨(H.g e).2.1, b.1, by rw [H.len e]; exact b.2⟩
theorem AR.wl (H : AR tab h T) (e : lkA tab f = some (2, n)) {i : Int} (b : 0 ≤ i ∧ i < (n : Int)) : hK h (hR h f T) = 2 ∧ 0 ≤ i ∧ i < (hl h (hR h f T) : Int) := ⟨(H.g e).2.1, b.1, by rw [H.len e]; exact b.2⟩
theorem AR.ri (H : AR tab h T) (e : lkA tab f = some (1, n)) {i : Int} (b : 0 ≤ i ∧ i < (n : Int)) : hK h (hR h f T) ∈ [1, 11] ∧ 0 ≤ i ∧ i < (hl h (hR h f T) : Int) := ⟨by rw [(H.g e).2.1]; decide, b.1, by rw [H.len e]; exact b.2⟩
theorem AR.rl (H : AR tab h T) (e : lkA tab f = some (2, n)) {i : Int} (b : 0 ≤ i ∧ i < (n : Int)) : hK h (hR h f T) ∈ [2, 12] ∧ 0 ≤ i ∧ i < (hl h (hR h f T) : Int) := ⟨by rw [(H.g e).2.1]; decide, b.1, by rw [H.len e]; exact b.2⟩
theorem AR.rb (H : AR tab h T) (e : lkA tab f = some (3, n)) {i : Int} (b : 0 ≤ i ∧ i < (n : Int)) : hK h (hR h f T) ∈ [3, 4, 13] ∧ 0 ≤ i ∧ i < (hl h (hR h f T) : Int) := ⟨by rw [(H.g e).2.1]; decide, b.1, by rw [H.len e]; exact b.2⟩
theorem AR.rt (H : AR tab h T) (e : lkA tab f = some (4, n)) {i : Int} (b : 0 ≤ i ∧ i < (n : Int)) : hK h (hR h f T) ∈ [3, 4, 13] ∧ 0 ≤ i ∧ i < (hl h (hR h f T) : Int) := ⟨by rw [(H.g e).2.1]; decide, b.1, by rw [H.len e]; exact b.2⟩
theorem AR.wb (H : AR tab h T) (e : lkA tab f = some (3, n)) {i v : Int} (c : -128 ≤ v ∧ v ≤ 127) (b : 0 ≤ i ∧ i < (n : Int)) : ((hK h (hR h f T) = 3 ∧ -128 ≤ v ∧ v ≤ 127) ∨ (hK h (hR h f T) = 4 ∧ (v = 0 ∨ v = 1))) ∧ 0 ≤ i ∧ i < (hl h (hR h f T) : Int) := ⟨Or.inl ⟨(H.g e).2.1, c⟩, b.1, by rw [H.len e]; exact b.2⟩
theorem AR.wt (H : AR tab h T) (e : lkA tab f = some (4, n)) {i v : Int} (c : v = 0 ∨ v = 1) (b : 0 ≤ i ∧ i < (n : Int)) : ((hK h (hR h f T) = 3 ∧ -128 ≤ v ∧ v ≤ 127) ∨ (hK h (hR h f T) = 4 ∧ (v = 0 ∨ v = 1))) ∧ 0 ≤ i ∧ i < (hl h (hR h f T) : Int) := ⟨Or.inr ⟨(H.g e).2.1, c⟩, b.1, by rw [H.len e]; exact b.2⟩
/-- two arrays of an object differ -/
theorem AR.ne (H : AR tab h T) {g k2 n2 : Nat} (e : lkA tab f = some (k, n)) (e2 : lkA tab g = some (k2, n2)) (ne : f ≠ g) : hR h f T ≠ hR h g T := fun c => ne (H.2.1.2.1 f T g T H.1 H.1 (H.g e).2.2.2 (H.g e2).2.2.2 c (H.g e).1).1
theorem AR.frm {L : List Nat} {P : List (Nat × Nat)} {z s : Nat} {h' : ah} (H : AR tab h T) (hf : Fr L P z s h h') (hn : ∀ q, q ∈ tab → ¬ okW L P q.1 T) (h5 : tab.all (fun q => Nat.ble 5 q.1) = true) (hk : tab.all (fun q => Nat.blt q.2.1 100) = true) : AR tab h' T := by
  refine ⟨hf.lt H.1, hf.inj H.2.1, fun q hq => ?_⟩
  obtain ⟨a1, a2, a3, a4⟩ := H.2.2 q hq
  have e := hf.R H.1 (Nat.le_of_ble_eq_true (List.all_eq_true.mp h5 q hq)) (hn q hq)
  have l := H.2.1.1 _ _ H.1 a4
  have k1 : q.2.1 < 100 := Nat.le_of_ble_eq_true (List.all_eq_true.mp hk q hq)
  rw [e]
  exact ⟨a1, by rw [hf.K l]; exact a2, by rw [hf.la l (by omega)]; exact a3, a4⟩
theorem nokT {L : List Nat} (h1 : L.all (fun f => (lkA tab f).isNone) = true) : ∀ q, q ∈ tab → ¬ okW L [] q.1 T := by
  intro q hq hk
  rcases hk with hk | hk
  · have a := List.all_eq_true.mp h1 q.1 hk
    have b : ∀ {tb : List (Nat × Nat × Nat)}, q ∈ tb → (lkA tb q.1).isNone = false := by
      intro tb
      induction tb with
      | nil => intro hm; cases hm
      | cons r t ih =>
        intro hm
        unfold lkA
        split
        · rfl
        · next c =>
          rcases List.mem_cons.mp hm with e | e
          · subst e; exact absurd rfl c
          · exact ih e
    rw [b hq] at a; cases a
  · cases hk
/-- what is read behind a write into one of the arrays -/
theorem AR.aA (H : AR tab h T) {g k2 n2 i j : Nat} {v : Int} (e : lkA tab f = some (k, n)) (e2 : lkA tab g = some (k2, n2)) : hA (sA h (hR h f T) i v) (hR h g T) j = if g = f ∧ j = i then v else hA h (hR h g T) j := by
  rw [g_hA_sA]
  by_cases c : g = f
  · subst c; simp
  · rw [if_neg (fun x => H.ne e2 e c x.1), if_neg (fun x => c x.1)]
end
