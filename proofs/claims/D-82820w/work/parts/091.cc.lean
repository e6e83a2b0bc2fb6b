/-! C's machine: its single objects by rows -/
set_option maxRecDepth 20000
def scC : List (Nat × Nat) := [(f_Machine_units, 32), (f_Machine_instructions, 32), (f_Machine_literalsKnown, 32), (f_Machine_outputSize, 32), (f_Machine_traceSize, 32), (f_Machine_printed, 32), (f_Signal_error, 33), (f_Texts_many, 46), (f_Texts_used, 46), (f_Texts_made, 46), (f_Texts_bytesMade, 46), (f_Heap_calls, 50), (f_Heap_ticks, 50), (f_Heap_made, 50), (f_Heap_room, 50), (f_Heap_shapesMade, 50), (f_Found_linker, 53), (f_Found_element, 53), (f_Found_operands, 53), (f_Found_isText, 53), (f_Found_action, 53), (f_Found_place, 53), (f_Found_byClasses, 53), (f_Task_state, 62), (f_Task_size, 62), (f_Task_calls, 62), (f_Task_tries, 62), (f_Task_tag, 62), (f_Task_word, 62), (f_Task_state, 75), (f_Task_size, 75), (f_Task_calls, 75), (f_Task_tries, 75), (f_Task_tag, 75), (f_Task_word, 75), (f_Lookup_kept, 98), (f_Lookup_allKept, 98), (f_Lookup_workedOut, 98)]
def rfC : List (Nat × Nat) := [(f_Machine_t, 32), (f_Machine_host, 32), (f_Found_shape, 53), (f_Found_type, 53), (f_Found_code, 53), (f_Found_holder, 53), (f_Found_to, 53), (f_Found_member, 53), (f_Spare_free, 55), (f_Lookup_host, 98)]
def arC : List (Nat × Nat × Nat) := [(f_Machine_mains, 32, 1), (f_Machine_literalText, 32, 1), (f_Machine_globalWords, 32, 2), (f_Machine_globalTags, 32, 3), (f_Machine_isGlobal, 32, 4), (f_Machine_output, 32, 3), (f_Machine_trace, 32, 1), (f_Machine_print, 32, 3), (f_Machine_small, 32, 3), (f_Machine_marks, 32, 4), (f_Texts_bytes, 46, 3), (f_Texts_from, 46, 1), (f_Texts_size, 46, 1), (f_Found_classes, 53, 1), (f_Task_words, 62, 2), (f_Task_tags, 62, 3), (f_Task_next, 62, 1), (f_Task_base, 62, 1), (f_Task_thisTag, 62, 3), (f_Task_thisWord, 62, 2), (f_Task_tryCall, 62, 1), (f_Task_tryTo, 62, 1), (f_Task_trySize, 62, 1), (f_Task_words, 75, 2), (f_Task_tags, 75, 3), (f_Task_next, 75, 1), (f_Task_base, 75, 1), (f_Task_thisTag, 75, 3), (f_Task_thisWord, 75, 2), (f_Task_tryCall, 75, 1), (f_Task_tryTo, 75, 1), (f_Task_trySize, 75, 1), (f_Lookup_asked, 98, 1), (f_Lookup_word, 98, 3)]
def raC : List (Nat × Nat × Nat) := [(f_Task_code, 62, 23), (f_Task_variables, 62, 27), (f_Task_made, 62, 25), (f_Task_code, 75, 23), (f_Task_variables, 75, 27), (f_Task_made, 75, 25), (f_Lookup_choices, 98, 22)]
abbrev X3 : Type := Nat → Nat → Nat → Int
abbrev Y3 : Type := Nat → Nat → Nat → Nat
def u3 {α : Type} (X : Nat → Nat → Nat → α) (o f i : Nat) (v : α) : Nat → Nat → Nat → α := fun a b c => if a = o ∧ b = f ∧ c = i then v else X a b c
def ofC (h : ah) (C x : Nat) : List (Nat × Nat × Nat) → Option (Nat × Nat)
  | [] => none
  | q :: r => if hR h q.1 (C + q.2.1) = x then some (q.2.1, q.1) else ofC h C x r
def cc (h : ah) (C : Nat) (X : X3) (Y : Y3) : ah := (h.1, h.2.1, (fun f a => if C ≤ a ∧ scC.elem (f, a - C) = true then X (a - C) f 0 else hI h f a), (fun f a => if C ≤ a ∧ rfC.elem (f, a - C) = true then Y (a - C) f 0 else hR h f a), h.2.2.2.2.1, (fun x i => match ofC h C x arC with | some q => X q.1 q.2 i | none => hA h x i), (fun x i => match ofC h C x raC with | some q => Y q.1 q.2 i | none => hB h x i))
def inA (l : List (Nat × Nat × Nat)) (f o : Nat) : Bool := l.any (fun q => Nat.beq q.1 f && Nat.beq q.2.1 o)
def noF (l : List (Nat × Nat × Nat)) (f : Nat) : Bool := l.all (fun q => !(Nat.beq q.1 f))
def noP (l : List (Nat × Nat)) (f : Nat) : Bool := l.all (fun q => !(Nat.beq q.1 f))
/-- where the rows of C's machine lie -/
def AC (h : ah) (C : Nat) : Prop := C + 101 < hz h ∧ INJ h ∧ 0 < C ∧ (∀ q, q ∈ arC → hR h q.1 (C + q.2.1) ≠ 0 ∧ hK h (hR h q.1 (C + q.2.1)) = q.2.2) ∧ (∀ q, q ∈ raC → hR h q.1 (C + q.2.1) ≠ 0 ∧ hK h (hR h q.1 (C + q.2.1)) = q.2.2)
theorem ownA : arC.all (fun q => ownF.elem q.1 && Nat.ble q.2.1 101) = true := by decide +kernel
theorem ownB : raC.all (fun q => ownF.elem q.1 && Nat.ble q.2.1 101) = true := by decide +kernel
theorem nodA : arC.all (fun q => rfC.all (fun p => !(Nat.beq q.1 p.1))) = true := by decide +kernel
theorem nodB : raC.all (fun q => rfC.all (fun p => !(Nat.beq q.1 p.1))) = true := by decide +kernel
theorem scF5 : scC.all (fun q => Nat.ble q.2 101 && Nat.ble 5 q.1) = true := by decide +kernel
theorem rfF5 : rfC.all (fun q => Nat.ble q.2 101 && Nat.ble 5 q.1) = true := by decide +kernel
theorem ownA' {q : Nat × Nat × Nat} (m : q ∈ arC) : own q.1 ∧ q.2.1 ≤ 101 := by
  have := List.all_eq_true.mp ownA q m
  rw [Bool.and_eq_true] at this
  exact ⟨this.1, Nat.le_of_ble_eq_true this.2⟩
theorem ownB' {q : Nat × Nat × Nat} (m : q ∈ raC) : own q.1 ∧ q.2.1 ≤ 101 := by
  have := List.all_eq_true.mp ownB q m
  rw [Bool.and_eq_true] at this
  exact ⟨this.1, Nat.le_of_ble_eq_true this.2⟩
theorem inA_mem {l : List (Nat × Nat × Nat)} {f o : Nat} (e : inA l f o = true) : ∃ k, (f, o, k) ∈ l := by
  obtain ⟨q, m, e⟩ := List.any_eq_true.mp e
  rw [Bool.and_eq_true] at e
  exact ⟨q.2.2, by rw [← Nat.eq_of_beq_eq_true e.1, ← Nat.eq_of_beq_eq_true e.2]; exact m⟩
theorem noF_ne {l : List (Nat × Nat × Nat)} {f : Nat} (e : noF l f = true) {q : Nat × Nat × Nat} (m : q ∈ l) : q.1 ≠ f := by
  intro c
  have := List.all_eq_true.mp e q m
  rw [c] at this
  simp at this
theorem noP_ne {l : List (Nat × Nat)} {f o : Nat} (e : noP l f = true) : l.elem (f, o) = false := by
  cases c : l.elem (f, o) with
  | false => rfl
  | true =>
    have := List.all_eq_true.mp e (f, o) (by simpa using c)
    simp at this
section
variable {h h' : ah} {C f g o a b n i j x k m : Nat} {v : Int} {X : X3} {Y : Y3} {l : List (Nat × Nat × Nat)}
theorem ofC_mem : ∀ {l : List (Nat × Nat × Nat)} {p : Nat × Nat}, ofC h C x l = some p → hR h p.2 (C + p.1) = x ∧ ∃ k, (p.2, p.1, k) ∈ l
  | q :: r, p, e => by
    unfold ofC at e
    split at e
    · next c => cases e; exact ⟨c, q.2.2, List.mem_cons_self⟩
    · obtain ⟨a, k, b⟩ := ofC_mem e; exact ⟨a, k, List.mem_cons_of_mem _ b⟩
theorem ofC_none : ∀ {l : List (Nat × Nat × Nat)}, (∀ q, q ∈ l → hR h q.1 (C + q.2.1) ≠ x) → ofC h C x l = none
  | [], _ => rfl
  | q :: r, e => by
    unfold ofC
    rw [if_neg (e q List.mem_cons_self)]
    exact ofC_none fun p hp => e p (List.mem_cons_of_mem _ hp)
theorem ofC_no : ∀ {l : List (Nat × Nat × Nat)}, ofC h C x l = none → ∀ q, q ∈ l → hR h q.1 (C + q.2.1) ≠ x
  | q :: r, e, p, hp => by
    unfold ofC at e
    split at e
    · cases e
    · next c => 
      rcases List.mem_cons.mp hp with k | k
      · subst k; exact c
      · exact ofC_no e p k
theorem ofC_cg {h1 : ah} : ∀ {l : List (Nat × Nat × Nat)}, (∀ q, q ∈ l → hR h1 q.1 (C + q.2.1) = hR h q.1 (C + q.2.1)) → ofC h1 C x l = ofC h C x l
  | [], _ => rfl
  | q :: r, e => by
    unfold ofC
    rw [e q List.mem_cons_self, ofC_cg fun p hp => e p (List.mem_cons_of_mem _ hp)]
theorem ofC_e (hi : INJ h) (hc : C + 101 < hz h) (ho : ∀ q, q ∈ l → own q.1 ∧ q.2.1 ≤ 101 ∧ hR h q.1 (C + q.2.1) ≠ 0) (e : inA l f o = true) : ofC h C (hR h f (C + o)) l = some (o, f) := by
  obtain ⟨k, m⟩ := inA_mem e
  cases c : ofC h C (hR h f (C + o)) l with
  | none => exact absurd rfl (ofC_no c _ m)
  | some p =>
    obtain ⟨e1, k2, m2⟩ := ofC_mem c
    obtain ⟨a1, a2, a3⟩ := ho _ m
    obtain ⟨b1, b2, b3⟩ := ho _ m2
    simp only at a1 a2 a3 b1 b2 b3
    have := hi.2.1 p.2 (C + p.1) f (C + o) (by omega) (by omega) b1 a1 e1 b3
    obtain ⟨q1, q2⟩ := p
    simp only at this
    rw [this.1, show q1 = o by omega]
theorem AC.oA (G : AC h C) : ∀ q, q ∈ arC → own q.1 ∧ q.2.1 ≤ 101 ∧ hR h q.1 (C + q.2.1) ≠ 0 := fun q m => ⟨(ownA' m).1, (ownA' m).2, (G.2.2.2.1 q m).1⟩
theorem AC.oB (G : AC h C) : ∀ q, q ∈ raC → own q.1 ∧ q.2.1 ≤ 101 ∧ hR h q.1 (C + q.2.1) ≠ 0 := fun q m => ⟨(ownB' m).1, (ownB' m).2, (G.2.2.2.2 q m).1⟩
theorem ccK : hK (cc h C X Y) a = hK h a := rfl
theorem ccl : hl (cc h C X Y) a = hl h a := rfl
theorem ccz : hz (cc h C X Y) = hz h := rfl
theorem ccs : hs (cc h C X Y) = hs h := rfl
theorem ccI (e : scC.elem (f, o) = true) : hI (cc h C X Y) f (C + o) = X o f 0 := by
  have : C + o - C = o := by omega
  show (if C ≤ C + o ∧ scC.elem (f, C + o - C) = true then X (C + o - C) f 0 else hI h f (C + o)) = X o f 0
  rw [this, if_pos ⟨by omega, e⟩]
theorem ccIo (e : noP scC f = true) : hI (cc h C X Y) f a = hI h f a := if_neg fun c => by rw [noP_ne e] at c; exact absurd c.2 (by decide)
theorem ccR (e : rfC.elem (f, o) = true) : hR (cc h C X Y) f (C + o) = Y o f 0 := by
  have : C + o - C = o := by omega
  show (if C ≤ C + o ∧ rfC.elem (f, C + o - C) = true then Y (C + o - C) f 0 else hR h f (C + o)) = Y o f 0
  rw [this, if_pos ⟨by omega, e⟩]
theorem ccRo (e : noP rfC f = true) : hR (cc h C X Y) f a = hR h f a := if_neg fun c => by rw [noP_ne e] at c; exact absurd c.2 (by decide)
theorem ccA (G : AC h C) (e : inA arC f o = true) : hA (cc h C X Y) (hR h f (C + o)) i = X o f i := by
  show (match ofC h C (hR h f (C + o)) arC with | some q => X q.1 q.2 i | none => hA h (hR h f (C + o)) i) = _
  rw [ofC_e G.2.1 G.1 G.oA e]
theorem ccB (G : AC h C) (e : inA raC f o = true) : hB (cc h C X Y) (hR h f (C + o)) i = Y o f i := by
  show (match ofC h C (hR h f (C + o)) raC with | some q => Y q.1 q.2 i | none => hB h (hR h f (C + o)) i) = _
  rw [ofC_e G.2.1 G.1 G.oB e]
theorem ccA0 (e : ∀ q, q ∈ arC → hR h q.1 (C + q.2.1) ≠ x) : hA (cc h C X Y) x i = hA h x i := by
  show (match ofC h C x arC with | some q => X q.1 q.2 i | none => hA h x i) = _
  rw [ofC_none e]
theorem ccB0 (e : ∀ q, q ∈ raC → hR h q.1 (C + q.2.1) ≠ x) : hB (cc h C X Y) x i = hB h x i := by
  show (match ofC h C x raC with | some q => Y q.1 q.2 i | none => hB h x i) = _
  rw [ofC_none e]
/-- an array that something else owns -/
theorem AC.neA (G : AC h C) (hf : own f) (hb : b < hz h) (nf : noF arC f = true) : ∀ q, q ∈ arC → hR h q.1 (C + q.2.1) ≠ hR h f b := by
  intro q m c
  obtain ⟨a1, a2, a3⟩ := G.oA q m
  have g1 := G.1
  exact noF_ne nf m (G.2.1.2.1 q.1 _ f b (by omega) hb a1 hf c a3).1
theorem AC.neB (G : AC h C) (hf : own f) (hb : b < hz h) (nf : noF raC f = true) : ∀ q, q ∈ raC → hR h q.1 (C + q.2.1) ≠ hR h f b := by
  intro q m c
  obtain ⟨a1, a2, a3⟩ := G.oB q m
  have g1 := G.1
  exact noF_ne nf m (G.2.1.2.1 q.1 _ f b (by omega) hb a1 hf c a3).1
theorem ccAo (G : AC h C) (hf : (ownF.elem f && noF arC f) = true) (hb : b < hz h) : hA (cc h C X Y) (hR h f b) i = hA h (hR h f b) i := by
  rw [Bool.and_eq_true] at hf
  exact ccA0 (G.neA hf.1 hb hf.2)
theorem ccBo (G : AC h C) (hf : (ownF.elem f && noF raC f) = true) (hb : b < hz h) : hB (cc h C X Y) (hR h f b) i = hB h (hR h f b) i := by
  rw [Bool.and_eq_true] at hf
  exact ccB0 (G.neB hf.1 hb hf.2)
theorem u3_f {α : Type} {X : Nat → Nat → Nat → α} {o o' f f' i j : Nat} {v : α} (ne : f' ≠ f) : u3 X o f i v o' f' j = X o' f' j := if_neg fun z => ne z.2.1
theorem u3_s {α : Type} {X : Nat → Nat → Nat → α} {o f i : Nat} {v : α} : u3 X o f i v o f i = v := if_pos ⟨rfl, rfl, rfl⟩
theorem u3_e {α : Type} {X : Nat → Nat → Nat → α} {o o' f f' i j : Nat} {v : α} : u3 X o f i v o' f' j = if o' = o ∧ f' = f ∧ j = i then v else X o' f' j := rfl
theorem ah_ext2 {a b : ah} (e1 : a.1 = b.1) (e2 : a.2.1 = b.2.1) (e3 : ∀ f x, hI a f x = hI b f x) (e4 : ∀ f x, hR a f x = hR b f x) (e5 : a.2.2.2.2.1 = b.2.2.2.2.1) (e6 : ∀ x i, hA a x i = hA b x i) (e7 : ∀ x i, hB a x i = hB b x i) : a = b := by
  obtain ⟨a1, a2, a3, a4, a5, a6, a7⟩ := a
  obtain ⟨b1, b2, b3, b4, b5, b6, b7⟩ := b
  have : a3 = b3 := funext fun f => funext fun x => e3 f x
  have : a4 = b4 := funext fun f => funext fun x => e4 f x
  have : a6 = b6 := funext fun f => funext fun x => e6 f x
  have : a7 = b7 := funext fun f => funext fun x => e7 f x
  simp_all
theorem scA : arC.all (fun q => scC.all (fun p => !(Nat.beq q.1 p.1))) = true := by decide +kernel
theorem scA' {q : Nat × Nat × Nat} (m : q ∈ arC) {o : Nat} : scC.elem (q.1, o) = false := noP_ne (by
  have := List.all_eq_true.mp scA q m
  unfold noP
  rw [List.all_eq_true] at this ⊢
  intro p hp
  have := this p hp
  simp only [Bool.not_eq_true'] at this ⊢
  cases c : Nat.beq p.1 q.1 with
  | false => rfl
  | true => rw [Nat.eq_of_beq_eq_true c] at this; simp at this)
theorem rfA' {q : Nat × Nat × Nat} (m : q ∈ arC ∨ q ∈ raC) {o : Nat} : rfC.elem (q.1, o) = false := noP_ne (by
  have : rfC.all (fun p => !(Nat.beq q.1 p.1)) = true := by
    rcases m with m | m
    · exact List.all_eq_true.mp nodA q m
    · exact List.all_eq_true.mp nodB q m
  unfold noP
  rw [List.all_eq_true] at this ⊢
  intro p hp
  have := this p hp
  simp only [Bool.not_eq_true'] at this ⊢
  cases c : Nat.beq p.1 q.1 with
  | false => rfl
  | true => rw [Nat.eq_of_beq_eq_true c] at this; simp at this)
theorem cc_sI (e : scC.elem (f, o) = true) : sI (cc h C X Y) f (C + o) v = cc h C (u3 X o f 0 v) Y := by
  refine ah_ext2 rfl rfl (fun g x => ?_) (fun _ _ => rfl) rfl (fun x i => ?_) (fun _ _ => rfl)
  · show (if g = f ∧ x = C + o then v else hI (cc h C X Y) g x) = if _ then u3 X o f 0 v (x - C) g 0 else hI h g x
    by_cases c : g = f ∧ x = C + o
    · obtain ⟨rfl, rfl⟩ := c
      have : C + o - C = o := by omega
      rw [if_pos ⟨rfl, rfl⟩, this, if_pos ⟨by omega, e⟩, u3_s]
    · rw [if_neg c]
      show (if _ then X (x - C) g 0 else hI h g x) = _
      by_cases c2 : C ≤ x ∧ scC.elem (g, x - C) = true
      · rw [if_pos c2, if_pos c2, u3_e, if_neg]
        rintro ⟨q1, q2, -⟩
        exact c ⟨q2, by omega⟩
      · rw [if_neg c2, if_neg c2]
  · show (match ofC h C x arC with | some q => X q.1 q.2 i | none => hA h x i) = (match ofC h C x arC with | some q => u3 X o f 0 v q.1 q.2 i | none => hA h x i)
    cases c : ofC h C x arC with
    | none => rfl
    | some q =>
      obtain ⟨-, k, m⟩ := ofC_mem c
      show X q.1 q.2 i = u3 X o f 0 v q.1 q.2 i
      rw [u3_e, if_neg]
      rintro ⟨-, q2, -⟩
      have := scA' m (o := o)
      simp only at this
      rw [q2, e] at this; cases this
theorem cc_sIo (e : noP scC f = true) : sI (cc h C X Y) f a v = cc (sI h f a v) C X Y := by
  refine ah_ext2 rfl rfl (fun g x => ?_) (fun _ _ => rfl) rfl (fun x i => ?_) (fun x i => ?_)
  · show (if g = f ∧ x = a then v else (if C ≤ x ∧ scC.elem (g, x - C) = true then X (x - C) g 0 else hI h g x)) = (if C ≤ x ∧ scC.elem (g, x - C) = true then X (x - C) g 0 else if g = f ∧ x = a then v else hI h g x)
    by_cases c : g = f ∧ x = a
    · rw [if_pos c, if_pos c, if_neg]
      rintro ⟨-, c2⟩
      rw [c.1, noP_ne e] at c2; cases c2
    · rw [if_neg c, if_neg c]
  · show (match ofC h C x arC with | some q => X q.1 q.2 i | none => hA h x i) = (match ofC (sI h f a v) C x arC with | some q => X q.1 q.2 i | none => hA h x i)
    rw [ofC_cg (h1 := sI h f a v) (h := h) (fun _ _ => rfl)]
  · show (match ofC h C x raC with | some q => Y q.1 q.2 i | none => hB h x i) = (match ofC (sI h f a v) C x raC with | some q => Y q.1 q.2 i | none => hB h x i)
    rw [ofC_cg (h1 := sI h f a v) (h := h) (fun _ _ => rfl)]
theorem cc_sR {v : Nat} (e : rfC.elem (f, o) = true) : sR (cc h C X Y) f (C + o) v = cc h C X (u3 Y o f 0 v) := by
  refine ah_ext2 rfl rfl (fun _ _ => rfl) (fun g x => ?_) rfl (fun _ _ => rfl) (fun x i => ?_)
  · show (if g = f ∧ x = C + o then v else hR (cc h C X Y) g x) = if _ then u3 Y o f 0 v (x - C) g 0 else hR h g x
    by_cases c : g = f ∧ x = C + o
    · obtain ⟨rfl, rfl⟩ := c
      have : C + o - C = o := by omega
      rw [if_pos ⟨rfl, rfl⟩, this, if_pos ⟨by omega, e⟩, u3_s]
    · rw [if_neg c]
      show (if _ then Y (x - C) g 0 else hR h g x) = _
      by_cases c2 : C ≤ x ∧ rfC.elem (g, x - C) = true
      · rw [if_pos c2, if_pos c2, u3_e, if_neg]
        rintro ⟨q1, q2, -⟩
        exact c ⟨q2, by omega⟩
      · rw [if_neg c2, if_neg c2]
  · show (match ofC h C x raC with | some q => Y q.1 q.2 i | none => hB h x i) = (match ofC h C x raC with | some q => u3 Y o f 0 v q.1 q.2 i | none => hB h x i)
    cases c : ofC h C x raC with
    | none => rfl
    | some q =>
      obtain ⟨-, k, m⟩ := ofC_mem c
      show Y q.1 q.2 i = u3 Y o f 0 v q.1 q.2 i
      rw [u3_e, if_neg]
      rintro ⟨-, q2, -⟩
      have := rfA' (Or.inr m) (o := o)
      simp only at this
      rw [q2, e] at this; cases this
theorem cc_sRo {v : Nat} (e : (noP rfC f && (noF arC f && noF raC f)) = true) : sR (cc h C X Y) f a v = cc (sR h f a v) C X Y := by
  simp only [Bool.and_eq_true] at e
  obtain ⟨e1, e2, e3⟩ := e
  refine ah_ext2 rfl rfl (fun _ _ => rfl) (fun g x => ?_) rfl (fun x i => ?_) (fun x i => ?_)
  · show (if g = f ∧ x = a then v else (if C ≤ x ∧ rfC.elem (g, x - C) = true then Y (x - C) g 0 else hR h g x)) = (if C ≤ x ∧ rfC.elem (g, x - C) = true then Y (x - C) g 0 else if g = f ∧ x = a then v else hR h g x)
    by_cases c : g = f ∧ x = a
    · rw [if_pos c, if_pos c, if_neg]
      rintro ⟨-, c2⟩
      rw [c.1, noP_ne e1] at c2; cases c2
    · rw [if_neg c, if_neg c]
  · show (match ofC h C x arC with | some q => X q.1 q.2 i | none => hA h x i) = (match ofC (sR h f a v) C x arC with | some q => X q.1 q.2 i | none => hA h x i)
    rw [ofC_cg (h1 := sR h f a v) (h := h) (fun q m => if_neg fun c => noF_ne e2 m c.1)]
  · show (match ofC h C x raC with | some q => Y q.1 q.2 i | none => hB h x i) = (match ofC (sR h f a v) C x raC with | some q => Y q.1 q.2 i | none => hB h x i)
    rw [ofC_cg (h1 := sR h f a v) (h := h) (fun q m => if_neg fun c => noF_ne e3 m c.1)]
theorem cc_sA (G : AC h C) (e : inA arC f o = true) : sA (cc h C X Y) (hR h f (C + o)) i v = cc h C (u3 X o f i v) Y := by
  refine ah_ext2 rfl rfl (fun g x => ?_) (fun _ _ => rfl) rfl (fun x j => ?_) (fun _ _ => rfl)
  · show (if C ≤ x ∧ scC.elem (g, x - C) = true then X (x - C) g 0 else hI h g x) = if C ≤ x ∧ scC.elem (g, x - C) = true then u3 X o f i v (x - C) g 0 else hI h g x
    by_cases c : C ≤ x ∧ scC.elem (g, x - C) = true
    · rw [if_pos c, if_pos c, u3_e, if_neg]
      rintro ⟨-, q2, -⟩
      obtain ⟨k, m⟩ := inA_mem e
      have := scA' m (o := x - C)
      simp only at this
      rw [← q2, c.2] at this; cases this
    · rw [if_neg c, if_neg c]
  · show (if x = hR h f (C + o) ∧ j = i then v else hA (cc h C X Y) x j) = (match ofC h C x arC with | some q => u3 X o f i v q.1 q.2 j | none => hA h x j)
    by_cases c : x = hR h f (C + o)
    · subst c
      rw [ofC_e G.2.1 G.1 G.oA e]
      show _ = u3 X o f i v o f j
      rw [u3_e, ccA G e]
      by_cases c2 : j = i
      · rw [if_pos ⟨rfl, c2⟩, if_pos ⟨rfl, rfl, c2⟩]
      · rw [if_neg (fun z => c2 z.2), if_neg (fun z => c2 z.2.2)]
    · rw [if_neg (fun z => c z.1)]
      show (match ofC h C x arC with | some q => X q.1 q.2 j | none => hA h x j) = _
      cases c2 : ofC h C x arC with
      | none => rfl
      | some q =>
        obtain ⟨b1, -⟩ := ofC_mem c2
        show X q.1 q.2 j = u3 X o f i v q.1 q.2 j
        rw [u3_e, if_neg]
        rintro ⟨c3, c4, -⟩
        exact c (by rw [← b1, c3, c4])
theorem cc_sB {v : Nat} (G : AC h C) (e : inA raC f o = true) : sB (cc h C X Y) (hR h f (C + o)) i v = cc h C X (u3 Y o f i v) := by
  refine ah_ext2 rfl rfl (fun _ _ => rfl) (fun g x => ?_) rfl (fun _ _ => rfl) (fun x j => ?_)
  · show (if C ≤ x ∧ rfC.elem (g, x - C) = true then Y (x - C) g 0 else hR h g x) = if C ≤ x ∧ rfC.elem (g, x - C) = true then u3 Y o f i v (x - C) g 0 else hR h g x
    by_cases c : C ≤ x ∧ rfC.elem (g, x - C) = true
    · rw [if_pos c, if_pos c, u3_e, if_neg]
      rintro ⟨-, q2, -⟩
      obtain ⟨k, m⟩ := inA_mem e
      have := rfA' (Or.inr m) (o := x - C)
      simp only at this
      rw [← q2, c.2] at this; cases this
    · rw [if_neg c, if_neg c]
  · show (if x = hR h f (C + o) ∧ j = i then v else hB (cc h C X Y) x j) = (match ofC h C x raC with | some q => u3 Y o f i v q.1 q.2 j | none => hB h x j)
    by_cases c : x = hR h f (C + o)
    · subst c
      rw [ofC_e G.2.1 G.1 G.oB e]
      show _ = u3 Y o f i v o f j
      rw [u3_e, ccB G e]
      by_cases c2 : j = i
      · rw [if_pos ⟨rfl, c2⟩, if_pos ⟨rfl, rfl, c2⟩]
      · rw [if_neg (fun z => c2 z.2), if_neg (fun z => c2 z.2.2)]
    · rw [if_neg (fun z => c z.1)]
      show (match ofC h C x raC with | some q => Y q.1 q.2 j | none => hB h x j) = _
      cases c2 : ofC h C x raC with
      | none => rfl
      | some q =>
        obtain ⟨b1, -⟩ := ofC_mem c2
        show Y q.1 q.2 j = u3 Y o f i v q.1 q.2 j
        rw [u3_e, if_neg]
        rintro ⟨c3, c4, -⟩
        exact c (by rw [← b1, c3, c4])
theorem cc_sA0 (e : ∀ q, q ∈ arC → hR h q.1 (C + q.2.1) ≠ x) : sA (cc h C X Y) x i v = cc (sA h x i v) C X Y := by
  refine ah_ext2 rfl rfl (fun _ _ => rfl) (fun _ _ => rfl) rfl (fun y j => ?_) (fun y j => ?_)
  · show (if y = x ∧ j = i then v else (match ofC h C y arC with | some q => X q.1 q.2 j | none => hA h y j)) = (match ofC (sA h x i v) C y arC with | some q => X q.1 q.2 j | none => if y = x ∧ j = i then v else hA h y j)
    rw [ofC_cg (h1 := sA h x i v) (h := h) (fun _ _ => rfl)]
    by_cases c : y = x ∧ j = i
    · rw [if_pos c]
      obtain ⟨rfl, rfl⟩ := c
      rw [ofC_none e]; exact (if_pos ⟨rfl, rfl⟩).symm
    · rw [if_neg c]
      cases ofC h C y arC with
      | none => exact (if_neg c).symm
      | some q => rfl
  · show (match ofC h C y raC with | some q => Y q.1 q.2 j | none => hB h y j) = (match ofC (sA h x i v) C y raC with | some q => Y q.1 q.2 j | none => hB h y j)
    rw [ofC_cg (h1 := sA h x i v) (h := h) (fun _ _ => rfl)]
theorem cc_sB0 {v : Nat} (e : ∀ q, q ∈ raC → hR h q.1 (C + q.2.1) ≠ x) : sB (cc h C X Y) x i v = cc (sB h x i v) C X Y := by
  refine ah_ext2 rfl rfl (fun _ _ => rfl) (fun _ _ => rfl) rfl (fun y j => ?_) (fun y j => ?_)
  · show (match ofC h C y arC with | some q => X q.1 q.2 j | none => hA h y j) = (match ofC (sB h x i v) C y arC with | some q => X q.1 q.2 j | none => hA h y j)
    rw [ofC_cg (h1 := sB h x i v) (h := h) (fun _ _ => rfl)]
  · show (if y = x ∧ j = i then v else (match ofC h C y raC with | some q => Y q.1 q.2 j | none => hB h y j)) = (match ofC (sB h x i v) C y raC with | some q => Y q.1 q.2 j | none => if y = x ∧ j = i then v else hB h y j)
    rw [ofC_cg (h1 := sB h x i v) (h := h) (fun _ _ => rfl)]
    by_cases c : y = x ∧ j = i
    · rw [if_pos c]
      obtain ⟨rfl, rfl⟩ := c
      rw [ofC_none e]; exact (if_pos ⟨rfl, rfl⟩).symm
    · rw [if_neg c]
      cases ofC h C y raC with
      | none => exact (if_neg c).symm
      | some q => rfl
theorem cc_sAo (G : AC h C) (hf : (ownF.elem f && noF arC f) = true) (hb : b < hz h) : sA (cc h C X Y) (hR h f b) i v = cc (sA h (hR h f b) i v) C X Y := by
  rw [Bool.and_eq_true] at hf
  exact cc_sA0 (G.neA hf.1 hb hf.2)
theorem cc_sBo {v : Nat} (G : AC h C) (hf : (ownF.elem f && noF raC f) = true) (hb : b < hz h) : sB (cc h C X Y) (hR h f b) i v = cc (sB h (hR h f b) i v) C X Y := by
  rw [Bool.and_eq_true] at hf
  exact cc_sB0 (G.neB hf.1 hb hf.2)
theorem cc_sN : sN (cc h C X Y) a n = cc (sN h a n) C X Y := by
  refine ah_ext2 rfl rfl (fun _ _ => rfl) (fun _ _ => rfl) rfl (fun y j => ?_) (fun y j => ?_)
  · show (match ofC h C y arC with | some q => X q.1 q.2 j | none => hA h y j) = (match ofC (sN h a n) C y arC with | some q => X q.1 q.2 j | none => hA h y j)
    rw [ofC_cg (h1 := sN h a n) (h := h) (fun _ _ => rfl)]
  · show (match ofC h C y raC with | some q => Y q.1 q.2 j | none => hB h y j) = (match ofC (sN h a n) C y raC with | some q => Y q.1 q.2 j | none => hB h y j)
    rw [ofC_cg (h1 := sN h a n) (h := h) (fun _ _ => rfl)]
theorem cc_hn (G : AC h C) : hn (cc h C X Y) k n m = cc (hn h k n m) C X Y := by
  have g1 := G.1
  have lo : ∀ q, q ∈ arC → hR (hn h k n m) q.1 (C + q.2.1) = hR h q.1 (C + q.2.1) := fun q hq => if_neg (by have := (G.oA q hq).2.1; omega)
  have lo2 : ∀ q, q ∈ raC → hR (hn h k n m) q.1 (C + q.2.1) = hR h q.1 (C + q.2.1) := fun q hq => if_neg (by have := (G.oB q hq).2.1; omega)
  have ns : ∀ f x, C ≤ x ∧ scC.elem (f, x - C) = true → x ≠ hz h := by
    rintro f x ⟨c1, c2⟩ rfl
    have := List.all_eq_true.mp scF5 (f, hz h - C) (by simpa using c2)
    rw [Bool.and_eq_true] at this
    have := Nat.le_of_ble_eq_true this.1
    simp only at this
    omega
  have nr : ∀ f x, C ≤ x ∧ rfC.elem (f, x - C) = true → x ≠ hz h := by
    rintro f x ⟨c1, c2⟩ rfl
    have := List.all_eq_true.mp rfF5 (f, hz h - C) (by simpa using c2)
    rw [Bool.and_eq_true] at this
    have := Nat.le_of_ble_eq_true this.1
    simp only at this
    omega
  refine ah_ext2 rfl rfl (fun f x => ?_) (fun f x => ?_) rfl (fun y j => ?_) (fun y j => ?_)
  · show (if x = hz h then 0 else (if C ≤ x ∧ scC.elem (f, x - C) = true then X (x - C) f 0 else hI h f x)) = (if C ≤ x ∧ scC.elem (f, x - C) = true then X (x - C) f 0 else if x = hz h then 0 else hI h f x)
    by_cases c : C ≤ x ∧ scC.elem (f, x - C) = true
    · rw [if_neg (ns f x c), if_pos c, if_pos c]
    · rw [if_neg c, if_neg c]
  · show (if x = hz h then 0 else (if C ≤ x ∧ rfC.elem (f, x - C) = true then Y (x - C) f 0 else hR h f x)) = (if C ≤ x ∧ rfC.elem (f, x - C) = true then Y (x - C) f 0 else if x = hz h then 0 else hR h f x)
    by_cases c : C ≤ x ∧ rfC.elem (f, x - C) = true
    · rw [if_neg (nr f x c), if_pos c, if_pos c]
    · rw [if_neg c, if_neg c]
  · show (if y = hz h then 0 else (match ofC h C y arC with | some q => X q.1 q.2 j | none => hA h y j)) = (match ofC (hn h k n m) C y arC with | some q => X q.1 q.2 j | none => if y = hz h then 0 else hA h y j)
    rw [ofC_cg lo]
    cases c : ofC h C y arC with
    | none => rfl
    | some q =>
      obtain ⟨e1, k2, m2⟩ := ofC_mem c
      obtain ⟨a1, a2, a3⟩ := G.oA _ m2
      simp only at a1 a2 a3
      have := G.2.1.1 q.2 (C + q.1) (by omega) a1
      exact if_neg (by omega)
  · show (if y = hz h then 0 else (match ofC h C y raC with | some q => Y q.1 q.2 j | none => hB h y j)) = (match ofC (hn h k n m) C y raC with | some q => Y q.1 q.2 j | none => if y = hz h then 0 else hB h y j)
    rw [ofC_cg lo2]
    cases c : ofC h C y raC with
    | none => rfl
    | some q =>
      obtain ⟨e1, k2, m2⟩ := ofC_mem c
      obtain ⟨a1, a2, a3⟩ := G.oB _ m2
      simp only at a1 a2 a3
      have := G.2.1.1 q.2 (C + q.1) (by omega) a1
      exact if_neg (by omega)
/-- a heap is what its rows say -/
def XO (h : ah) (C : Nat) (X : X3) (Y : Y3) : Prop := (∀ f o, scC.elem (f, o) = true → hI h f (C + o) = X o f 0) ∧ (∀ f o, rfC.elem (f, o) = true → hR h f (C + o) = Y o f 0) ∧ (∀ f o, inA arC f o = true → ∀ i, hA h (hR h f (C + o)) i = X o f i) ∧ (∀ f o, inA raC f o = true → ∀ i, hB h (hR h f (C + o)) i = Y o f i)
theorem inA_of {q : Nat × Nat × Nat} {l : List (Nat × Nat × Nat)} (m : q ∈ l) : inA l q.1 q.2.1 = true := List.any_eq_true.mpr ⟨q, m, by simp⟩
theorem XO.e (H : XO h C X Y) : cc h C X Y = h := by
  refine ah_ext2 rfl rfl (fun f x => ?_) (fun f x => ?_) rfl (fun y j => ?_) (fun y j => ?_)
  · show (if C ≤ x ∧ scC.elem (f, x - C) = true then X (x - C) f 0 else hI h f x) = _
    split
    · next c => rw [← H.1 f _ c.2, show C + (x - C) = x by omega]
    · rfl
  · show (if C ≤ x ∧ rfC.elem (f, x - C) = true then Y (x - C) f 0 else hR h f x) = _
    split
    · next c => rw [← H.2.1 f _ c.2, show C + (x - C) = x by omega]
    · rfl
  · show (match ofC h C y arC with | some q => X q.1 q.2 j | none => hA h y j) = _
    cases c : ofC h C y arC with
    | none => rfl
    | some q =>
      obtain ⟨e1, k2, m2⟩ := ofC_mem c
      show X q.1 q.2 j = _
      rw [← H.2.2.1 q.2 q.1 (inA_of m2), e1]
  · show (match ofC h C y raC with | some q => Y q.1 q.2 j | none => hB h y j) = _
    cases c : ofC h C y raC with
    | none => rfl
    | some q =>
      obtain ⟨e1, k2, m2⟩ := ofC_mem c
      show Y q.1 q.2 j = _
      rw [← H.2.2.2 q.2 q.1 (inA_of m2), e1]
theorem cc_XO (G : AC h C) : XO (cc h C X Y) C X Y := by
  refine ⟨fun f o e => ccI e, fun f o e => ccR e, fun f o e i => ?_, fun f o e i => ?_⟩
  · obtain ⟨k, m⟩ := inA_mem e
    rw [show hR (cc h C X Y) f (C + o) = hR h f (C + o) from if_neg (fun c => by rw [rfA' (Or.inl m)] at c; exact absurd c.2 (by decide))]
    exact ccA G e
  · obtain ⟨k, m⟩ := inA_mem e
    rw [show hR (cc h C X Y) f (C + o) = hR h f (C + o) from if_neg (fun c => by rw [rfA' (Or.inr m)] at c; exact absurd c.2 (by decide))]
    exact ccB G e
theorem rfown : rfC.all (fun q => !(ownF.elem q.1)) = true := by decide +kernel
theorem cc_own (hf : own f) : hR (cc h C X Y) f a = hR h f a := if_neg fun c => by
  have := List.all_eq_true.mp rfown (f, a - C) (by simpa using c.2)
  unfold own at hf
  simp only [hf] at this; cases this
theorem cc_INJ (k : INJ h) : INJ (cc h C X Y) := by
  refine ⟨fun f a ha hf => by rw [cc_own hf]; exact k.1 f a ha hf, fun f a g b ha hb hf hg e e0 => ?_, k.2.2⟩
  rw [cc_own hf] at e e0; rw [cc_own hg] at e
  exact k.2.1 f a g b ha hb hf hg e e0
theorem cc_AC (G : AC h C) : AC (cc h C X Y) C := by
  refine ⟨G.1, cc_INJ G.2.1, G.2.2.1, fun q m => ?_, fun q m => ?_⟩
  · rw [cc_own (ownA' m).1]; exact G.2.2.2.1 q m
  · rw [cc_own (ownB' m).1]; exact G.2.2.2.2 q m
end
