/-! T's fields as a function -/
set_option maxRecDepth 20000
def scM : List Nat := [f_Md_thrown, f_Md_taped, f_Md_size, f_Md_ofHost, f_Md_token, f_Md_from, f_Md_to, f_Md_sign, f_Md_number, f_Md_textSize, f_Md_names, f_Md_sourceTexts, f_Md_sourceBytes, f_Md_partsMade, f_Md_partCount, f_Md_current, f_Md_depth, f_Md_units, f_Md_functions, f_Md_instructions, f_Md_sites, f_Md_descriptors, f_Md_emitted, f_Md_lastName, f_Md_lastSiteName, f_Md_allMade, f_Md_allSlots, f_Md_allTexts, f_Md_allBytes, f_Md_allShapes, f_Md_allChoices, f_Md_things, f_Md_calls, f_Md_changes, f_Md_slots, f_Md_shapes, f_Md_variables, f_Md_madeTexts, f_Md_madeBytes, f_Md_shown, f_Md_traced, f_Md_wrong, f_Md_type, f_Md_value, f_Md_spelling, f_Md_choices, f_Md_workedOut, f_Md_many, f_Md_ordered, f_Md_wantSize, f_Md_candidates, f_Md_fields, f_Md_t, f_Md_p0, f_Md_f0, f_Md_top, f_Md_after, f_Md_foundLinker, f_Md_foundGuard, f_Md_foundName, f_Md_foundHolder, f_Md_foundWhich, f_Md_foundShape, f_Md_foundMany, f_Md_r, f_Md_goesType, f_Md_goesValue, f_Md_es, f_Md_elementName]
def TR (h : ah) (T : Nat) (S : Nat → Nat → Int) : Prop := hK h T = k_Md ∧ TT h T ∧ AV2 tabM h T S ∧ ∀ f, scM.elem f = true → hI h f T = S f 0
theorem scM_tab : scM.all (fun f => (lkA tabM f).isNone) = true := by decide
theorem tab_scM {f a n : Nat} (e : lkA tabM f = some (a, n)) : scM.elem f = false := by
  cases c : scM.elem f with
  | false => rfl
  | true =>
    have hm : f ∈ scM := by simpa using c
    have := List.all_eq_true.mp scM_tab f hm
    rw [e] at this; cases this
section
variable {ρ : Nat → Nat} {d : Nat} {h h' : ah} {F : Int → ah → Prop} {G : ah → Prop} {E : Nat → ah → Prop} {Q : QT} {T k f a n i : Nat} {v : Int} {S : Nat → Nat → Int}
theorem TR.gi (H : TR h T S) (e : scM.elem f = true) : hI h f T = S f 0 := H.2.2.2 f e
theorem TR.ga (H : TR h T S) (e : lkA tabM f = some (a, n)) (i : Nat) : hA h (hR h f T) i = S f i := H.2.2.1.g e i
theorem TR.wI (H : TR h T S) (e : scM.elem f = true) : TR (sI h f T v) T (u2 S f 0 v) := by
  obtain ⟨a1, a2, a3, a4⟩ := H
  refine ⟨a1, a2, fun g hg i => ?_, fun g hg => ?_⟩
  · show hA h (hR h g T) i = _
    rw [u2_e, if_neg (fun c => ?_)]
    · exact a3 g hg i
    · have hm : f ∈ scM := by simpa using e
      have := List.all_eq_true.mp scM_tab f hm
      rw [← c.1] at this
      cases x : lkA tabM g with
      | none => rw [x] at hg; cases hg
      | some y => rw [x] at this; cases this
  · rw [u2_e]
    by_cases c : g = f
    · subst c; rw [if_pos ⟨rfl, rfl⟩]; exact I_I _ _ _ _
    · rw [if_neg (fun x => c x.1), I_Ine c]; exact a4 g hg
theorem TR.wA (H : TR h T S) (e : lkA tabM f = some (a, n)) : TR (sA h (hR h f T) i v) T (u2 S f i v) := by
  obtain ⟨a1, a2, a3, a4⟩ := H
  refine ⟨a1, a2, a3.w a2 e, fun g hg => ?_⟩
  show hI h g T = _
  rw [u2_e, if_neg (fun c => ?_)]
  · exact a4 g hg
  · have := tab_scM e
    rw [← c.1, hg] at this; cases this
/-- writes one behind the other -/
def wrs (S : Nat → Nat → Int) (l : List (Nat × Nat × Int)) : Nat → Nat → Int := l.foldl (fun S q => u2 S q.1 q.2.1 q.2.2) S
def lkW (f i : Nat) : List (Nat × Nat × Int) → Option Int
  | [] => none
  | q :: r => match lkW f i r with
    | some v => some v
    | none => if f = q.1 ∧ i = q.2.1 then some q.2.2 else none
theorem wrs_e : ∀ (l : List (Nat × Nat × Int)) (S : Nat → Nat → Int) (f i : Nat), wrs S l f i = (lkW f i l).getD (S f i)
  | [], S, f, i => rfl
  | q :: r, S, f, i => by
    show wrs (u2 S q.1 q.2.1 q.2.2) r f i = _
    rw [wrs_e r]
    simp only [lkW]
    cases x : lkW f i r with
    | some v => rfl
    | none =>
      simp only [Option.getD_none]
      rw [u2_e]
      by_cases c : f = q.1 ∧ i = q.2.1
      · rw [if_pos c, if_pos c]; rfl
      · rw [if_neg c, if_neg c]; rfl
/-- a row is filled -/
def filS (S : Nat → Nat → Int) (f n : Nat) (w : Nat → Int) : Nat → Nat → Int := fun g i => if g = f ∧ i < n then w i else S g i
theorem filS_0 {w : Nat → Int} : filS S f 0 w = S := by
  funext g i
  exact if_neg (by omega)
theorem filS_s {w : Nat → Int} (e : v = w n) : u2 (filS S f n w) f n v = filS S f (n + 1) w := by
  funext g i
  rw [u2_e]
  unfold filS
  by_cases c : g = f
  · by_cases c2 : i = n
    · rw [if_pos ⟨c, c2⟩, if_pos ⟨c, by omega⟩, e, c2]
    · rw [if_neg (fun x => c2 x.2)]
      by_cases c3 : i < n
      · rw [if_pos ⟨c, c3⟩, if_pos ⟨c, by omega⟩]
      · rw [if_neg (fun x => c3 x.2), if_neg (by omega)]
  · rw [if_neg (fun x => c x.1), if_neg (fun x => c x.1), if_neg (fun x => c x.1)]
end
