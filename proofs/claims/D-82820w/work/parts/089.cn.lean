/-! T's heap as it is by its rows -/
set_option maxRecDepth 20000
def scH : List Nat := [f_MdHalt_number, f_MdHalt_place]
def ofT (h0 : ah) (T x : Nat) : List (Nat × Nat × Nat) → Option Nat
  | [] => none
  | q :: r => if hR h0 q.1 T = x then some q.1 else ofT h0 T x r
def cn (h0 : ah) (T : Nat) (S : Nat → Nat → Int) : ah := (h0.1, h0.2.1, (fun f a => if (a = T ∧ scM.elem f = true) ∨ (a = hR h0 f_Md_halt T ∧ scH.elem f = true) then S f 0 else hI h0 f a), h0.2.2.2.1, h0.2.2.2.2.1, (fun x i => match ofT h0 T x tabM with | some f => S f i | none => hA h0 x i), h0.2.2.2.2.2.2)
theorem scH_M : scH.all (fun f => !(scM.elem f)) = true := by decide
theorem scH_tab : scH.all (fun f => (lkA tabM f).isNone) = true := by decide
theorem ofT_mem {h0 : ah} {T x f : Nat} : ∀ {tab : List (Nat × Nat × Nat)}, ofT h0 T x tab = some f → hR h0 f T = x ∧ ∃ p, (f, p) ∈ tab
  | q :: r, e => by
    unfold ofT at e
    split at e
    · next c => cases e; exact ⟨c, q.2, List.mem_cons_self⟩
    · obtain ⟨a, p, b⟩ := ofT_mem e; exact ⟨a, p, List.mem_cons_of_mem _ b⟩
theorem ofT_none {h0 : ah} {T x : Nat} : ∀ {tab : List (Nat × Nat × Nat)}, (∀ q, q ∈ tab → hR h0 q.1 T ≠ x) → ofT h0 T x tab = none
  | [], _ => rfl
  | q :: r, e => by
    unfold ofT
    rw [if_neg (e q List.mem_cons_self)]
    exact ofT_none fun p hp => e p (List.mem_cons_of_mem _ hp)
theorem ofT_no {h0 : ah} {T x : Nat} : ∀ {tab : List (Nat × Nat × Nat)}, ofT h0 T x tab = none → ∀ q, q ∈ tab → hR h0 q.1 T ≠ x
  | q :: r, e, p, hp => by
    unfold ofT at e
    split at e
    · cases e
    · next c => 
      rcases List.mem_cons.mp hp with k | k
      · subst k; exact c
      · exact ofT_no e p k
section
variable {ρ : Nat → Nat} {d : Nat} {h h' h0 : ah} {Q : QT} {T k f g a n i j x : Nat} {v : Int} {S X : Nat → Nat → Int}
theorem ofT_e {p : Nat × Nat} (G : TT h0 T) (e : lkA tabM f = some p) : ofT h0 T (hR h0 f T) tabM = some f := by
  cases c : ofT h0 T (hR h0 f T) tabM with
  | none => exact absurd rfl (ofT_no c _ (lkA_mem e))
  | some g =>
    obtain ⟨a, q, b⟩ := ofT_mem c
    obtain ⟨b1, -, -, b4⟩ := G.2.2 _ b
    obtain ⟨c1, -, -, c4⟩ := G.2.2 _ (lkA_mem e)
    rw [(G.2.1.2.1 g T f T G.1 G.1 b4 c4 a b1).1]
theorem cnI (e : scM.elem f = true) : hI (cn h0 T S) f T = S f 0 := if_pos (Or.inl ⟨rfl, e⟩)
theorem cnIe (e : scH.elem f = true) : hI (cn h0 T S) f (hR h0 f_Md_halt T) = S f 0 := if_pos (Or.inr ⟨rfl, e⟩)
theorem cnIo (e : (!(scM.elem f) && !(scH.elem f)) = true) : hI (cn h0 T S) f a = hI h0 f a := by
  simp only [Bool.and_eq_true, Bool.not_eq_true'] at e
  exact if_neg fun c => by rcases c with c | c <;> simp_all
theorem cnR : hR (cn h0 T S) f a = hR h0 f a := rfl
theorem cnK : hK (cn h0 T S) a = hK h0 a := rfl
theorem cnl : hl (cn h0 T S) a = hl h0 a := rfl
theorem cnB : hB (cn h0 T S) a i = hB h0 a i := rfl
theorem cnz : hz (cn h0 T S) = hz h0 := rfl
theorem cns : hs (cn h0 T S) = hs h0 := rfl
theorem cnA {p : Nat × Nat} (G : TT h0 T) (e : lkA tabM f = some p) : hA (cn h0 T S) (hR h0 f T) i = S f i := by
  show (match ofT h0 T (hR h0 f T) tabM with | some f => S f i | none => hA h0 (hR h0 f T) i) = S f i
  rw [ofT_e G e]
theorem cnAo (e : ∀ q, q ∈ tabM → hR h0 q.1 T ≠ x) : hA (cn h0 T S) x i = hA h0 x i := by
  show (match ofT h0 T x tabM with | some f => S f i | none => hA h0 x i) = _
  rw [ofT_none e]
theorem ah_ext {a b : ah} (e1 : a.1 = b.1) (e2 : a.2.1 = b.2.1) (e3 : ∀ f x, hI a f x = hI b f x) (e4 : a.2.2.2.1 = b.2.2.2.1) (e5 : a.2.2.2.2.1 = b.2.2.2.2.1) (e6 : ∀ x i, hA a x i = hA b x i) (e7 : a.2.2.2.2.2.2 = b.2.2.2.2.2.2) : a = b := by
  obtain ⟨a1, a2, a3, a4, a5, a6, a7⟩ := a
  obtain ⟨b1, b2, b3, b4, b5, b6, b7⟩ := b
  have : a3 = b3 := funext fun f => funext fun x => e3 f x
  have : a6 = b6 := funext fun f => funext fun x => e6 f x
  simp_all
theorem mem_tabM {q : Nat × Nat × Nat} (hq : q ∈ tabM) : (lkA tabM q.1).isNone = false := by
  have : tabM.all (fun q => !(lkA tabM q.1).isNone) = true := by decide
  have := List.all_eq_true.mp this q hq
  simpa using this
theorem cn_sI (e : scM.elem f = true) : sI (cn h0 T S) f T v = cn h0 T (u2 S f 0 v) := by
  have hm : f ∈ scM := by simpa using e
  have ne : ∀ g, scH.elem g = true → g ≠ f := by
    intro g hg c; subst c
    have := List.all_eq_true.mp scH_M g (by simpa using hg)
    rw [e] at this; cases this
  refine ah_ext rfl rfl (fun g x => ?_) rfl rfl (fun x i => ?_) rfl
  · show (if g = f ∧ x = T then v else hI (cn h0 T S) g x) = if _ then u2 S f 0 v g 0 else hI h0 g x
    by_cases c : g = f ∧ x = T
    · rw [if_pos c, if_pos (Or.inl ⟨c.2, by rw [c.1]; exact e⟩), u2_e, if_pos ⟨c.1, rfl⟩]
    · rw [if_neg c]
      show (if _ then S g 0 else hI h0 g x) = _
      by_cases c2 : (x = T ∧ scM.elem g = true) ∨ (x = hR h0 f_Md_halt T ∧ scH.elem g = true)
      · rw [if_pos c2, if_pos c2, u2_e, if_neg]
        rintro ⟨c3, -⟩
        rcases c2 with c2 | c2
        · exact c ⟨c3, c2.1⟩
        · exact ne g c2.2 c3
      · rw [if_neg c2, if_neg c2]
  · show (match ofT h0 T x tabM with | some f => S f i | none => hA h0 x i) = (match ofT h0 T x tabM with | some g => u2 S f 0 v g i | none => hA h0 x i)
    cases c : ofT h0 T x tabM with
    | none => rfl
    | some g =>
      obtain ⟨-, p, b⟩ := ofT_mem c
      have := List.all_eq_true.mp scM_tab f hm
      show S g i = u2 S f 0 v g i
      rw [u2_e, if_neg]
      rintro ⟨c2, -⟩
      rw [← c2, mem_tabM b] at this; cases this
theorem cn_sIe (e : scH.elem f = true) : sI (cn h0 T S) f (hR h0 f_Md_halt T) v = cn h0 T (u2 S f 0 v) := by
  have hm : f ∈ scH := by simpa using e
  have ne : ∀ g, scM.elem g = true → g ≠ f := by
    intro g hg c; subst c
    have := List.all_eq_true.mp scH_M g hm
    rw [hg] at this; cases this
  refine ah_ext rfl rfl (fun g x => ?_) rfl rfl (fun x i => ?_) rfl
  · show (if g = f ∧ x = hR h0 f_Md_halt T then v else hI (cn h0 T S) g x) = if _ then u2 S f 0 v g 0 else hI h0 g x
    by_cases c : g = f ∧ x = hR h0 f_Md_halt T
    · rw [if_pos c, if_pos (Or.inr ⟨c.2, by rw [c.1]; exact e⟩), u2_e, if_pos ⟨c.1, rfl⟩]
    · rw [if_neg c]
      show (if _ then S g 0 else hI h0 g x) = _
      by_cases c2 : (x = T ∧ scM.elem g = true) ∨ (x = hR h0 f_Md_halt T ∧ scH.elem g = true)
      · rw [if_pos c2, if_pos c2, u2_e, if_neg]
        rintro ⟨c3, -⟩
        rcases c2 with c2 | c2
        · exact ne g c2.2 c3
        · exact c ⟨c3, c2.1⟩
      · rw [if_neg c2, if_neg c2]
  · show (match ofT h0 T x tabM with | some f => S f i | none => hA h0 x i) = (match ofT h0 T x tabM with | some g => u2 S f 0 v g i | none => hA h0 x i)
    cases c : ofT h0 T x tabM with
    | none => rfl
    | some g =>
      obtain ⟨-, p, b⟩ := ofT_mem c
      have := List.all_eq_true.mp scH_tab f hm
      show S g i = u2 S f 0 v g i
      rw [u2_e, if_neg]
      rintro ⟨c2, -⟩
      rw [← c2, mem_tabM b] at this; cases this
theorem cn_sA {p : Nat × Nat} (G : TT h0 T) (e : lkA tabM f = some p) : sA (cn h0 T S) (hR h0 f T) i v = cn h0 T (u2 S f i v) := by
  refine ah_ext rfl rfl (fun g x => ?_) rfl rfl (fun x j => ?_) rfl
  · show (if _ then S g 0 else hI h0 g x) = if _ then u2 S f i v g 0 else hI h0 g x
    by_cases c2 : (x = T ∧ scM.elem g = true) ∨ (x = hR h0 f_Md_halt T ∧ scH.elem g = true)
    · rw [if_pos c2, if_pos c2, u2_e, if_neg]
      rintro ⟨c3, -⟩
      subst c3
      rcases c2 with c2 | c2
      · rw [tab_scM (a := p.1) (n := p.2) e] at c2; exact absurd c2.2 (by decide)
      · have := List.all_eq_true.mp scH_tab g (by simpa using c2.2)
        rw [e] at this; cases this
    · rw [if_neg c2, if_neg c2]
  · show (if x = hR h0 f T ∧ j = i then v else hA (cn h0 T S) x j) = (match ofT h0 T x tabM with | some g => u2 S f i v g j | none => hA h0 x j)
    by_cases c : x = hR h0 f T
    · subst c
      rw [ofT_e G e]
      show _ = u2 S f i v f j
      rw [u2_e, cnA G e]
      by_cases c2 : j = i
      · rw [if_pos ⟨rfl, c2⟩, if_pos ⟨rfl, c2⟩]
      · rw [if_neg (fun z => c2 z.2), if_neg (fun z => c2 z.2)]
    · rw [if_neg (fun z => c z.1)]
      show (match ofT h0 T x tabM with | some f => S f j | none => hA h0 x j) = _
      cases c2 : ofT h0 T x tabM with
      | none => rfl
      | some g =>
        obtain ⟨b1, -⟩ := ofT_mem c2
        show S g j = u2 S f i v g j
        rw [u2_e, if_neg]
        rintro ⟨c3, -⟩
        subst c3; exact c b1.symm
theorem cnA' (G : TT h0 T) (e : (lkA tabM f).isSome = true) : hA (cn h0 T S) (hR h0 f T) i = S f i := by
  obtain ⟨p, hp⟩ := Option.isSome_iff_exists.mp e
  exact cnA G hp
theorem cn_sA' (G : TT h0 T) (e : (lkA tabM f).isSome = true) : sA (cn h0 T S) (hR h0 f T) i v = cn h0 T (u2 S f i v) := by
  obtain ⟨p, hp⟩ := Option.isSome_iff_exists.mp e
  exact cn_sA G hp
/-- reads of rows behind writes -/
theorem u2_f {S : Nat → Nat → Int} {f g i j : Nat} {v : Int} (ne : g ≠ f) : u2 S f i v g j = S g j := if_neg fun z => ne z.1
theorem u2_s {S : Nat → Nat → Int} {f i : Nat} {v : Int} : u2 S f i v f i = v := if_pos ⟨rfl, rfl⟩
theorem KN (G : TT h0 T) : hK h0 (hR h0 f_Md_tape T) = 3 ∧ hK h0 (hR h0 f_Md_text T) = 3 ∧ hK h0 (hR h0 f_Md_nameSigns T) = 3 ∧ hK h0 (hR h0 f_Md_nameSize T) = 1 ∧ hK h0 (hR h0 f_Md_textSigns T) = 3 ∧ hK h0 (hR h0 f_Md_textFrom T) = 1 ∧ hK h0 (hR h0 f_Md_textLength T) = 1 ∧ hK h0 (hR h0 f_Md_unitOf T) = 1 ∧ hK h0 (hR h0 f_Md_unitFunction T) = 1 ∧ hK h0 (hR h0 f_Md_parametersOf T) = 1 ∧ hK h0 (hR h0 f_Md_variablesOf T) = 1 ∧ hK h0 (hR h0 f_Md_codeFrom T) = 1 ∧ hK h0 (hR h0 f_Md_codeSize T) = 1 ∧ hK h0 (hR h0 f_Md_siteFrom T) = 1 ∧ hK h0 (hR h0 f_Md_siteCount T) = 1 ∧ hK h0 (hR h0 f_Md_codeOp T) = 1 ∧ hK h0 (hR h0 f_Md_codeA T) = 1 ∧ hK h0 (hR h0 f_Md_codeB T) = 1 ∧ hK h0 (hR h0 f_Md_siteKind T) = 1 ∧ hK h0 (hR h0 f_Md_siteName T) = 1 ∧ hK h0 (hR h0 f_Md_siteMany T) = 1 ∧ hK h0 (hR h0 f_Md_siteFunction T) = 1 ∧ hK h0 (hR h0 f_Md_siteAt T) = 1 ∧ hK h0 (hR h0 f_Md_descriptor T) = 1 ∧ hK h0 (hR h0 f_Md_links T) = 1 ∧ hK h0 (hR h0 f_Md_hits T) = 1 ∧ hK h0 (hR h0 f_Md_pruned T) = 1 ∧ hK h0 (hR h0 f_Md_isMega T) = 4 ∧ hK h0 (hR h0 f_Md_thingKind T) = 1 ∧ hK h0 (hR h0 f_Md_thingShape T) = 1 ∧ hK h0 (hR h0 f_Md_thingFirst T) = 1 ∧ hK h0 (hR h0 f_Md_thingCount T) = 1 ∧ hK h0 (hR h0 f_Md_thingLast T) = 1 ∧ hK h0 (hR h0 f_Md_thingFunction T) = 1 ∧ hK h0 (hR h0 f_Md_thingAround T) = 1 ∧ hK h0 (hR h0 f_Md_thingClass T) = 1 ∧ hK h0 (hR h0 f_Md_isWatched T) = 4 ∧ hK h0 (hR h0 f_Md_epoch T) = 1 ∧ hK h0 (hR h0 f_Md_changedAt T) = 1 ∧ hK h0 (hR h0 f_Md_slotType T) = 1 ∧ hK h0 (hR h0 f_Md_slotValue T) = 2 ∧ hK h0 (hR h0 f_Md_slotName T) = 1 ∧ hK h0 (hR h0 f_Md_slotNext T) = 1 ∧ hK h0 (hR h0 f_Md_shapeProto T) = 1 ∧ hK h0 (hR h0 f_Md_shapeBefore T) = 1 ∧ hK h0 (hR h0 f_Md_shapeName T) = 1 ∧ hK h0 (hR h0 f_Md_shapeCount T) = 1 ∧ hK h0 (hR h0 f_Md_around T) = 1 ∧ hK h0 (hR h0 f_Md_variablesFrom T) = 1 ∧ hK h0 (hR h0 f_Md_variableTypes T) = 1 ∧ hK h0 (hR h0 f_Md_variableValue T) = 2 ∧ hK h0 (hR h0 f_Md_isGlobal T) = 4 ∧ hK h0 (hR h0 f_Md_globalType T) = 1 ∧ hK h0 (hR h0 f_Md_globalValue T) = 2 ∧ hK h0 (hR h0 f_Md_staticType T) = 1 ∧ hK h0 (hR h0 f_Md_staticValue T) = 2 ∧ hK h0 (hR h0 f_Md_output T) = 3 ∧ hK h0 (hR h0 f_Md_trace T) = 1 ∧ hK h0 (hR h0 f_Md_asked T) = 1 ∧ hK h0 (hR h0 f_Md_spelt T) = 3 ∧ hK h0 (hR h0 f_Md_choiceClass T) = 1 ∧ hK h0 (hR h0 f_Md_choiceMode T) = 1 ∧ hK h0 (hR h0 f_Md_choiceName T) = 1 ∧ hK h0 (hR h0 f_Md_choiceMany T) = 1 ∧ hK h0 (hR h0 f_Md_choiceTypes T) = 1 ∧ hK h0 (hR h0 f_Md_choiceFound T) = 1 ∧ hK h0 (hR h0 f_Md_types T) = 1 ∧ hK h0 (hR h0 f_Md_order T) = 1 ∧ hK h0 (hR h0 f_Md_want T) = 3 ∧ hK h0 (hR h0 f_Md_candidate T) = 1 ∧ hK h0 (hR h0 f_Md_fieldOf T) = 1 ∧ hK h0 (hR h0 f_Md_state T) = 1 ∧ hK h0 (hR h0 f_Md_frames T) = 1 ∧ hK h0 (hR h0 f_Md_height T) = 1 ∧ hK h0 (hR h0 f_Md_tries T) = 1 ∧ hK h0 (hR h0 f_Md_resultType T) = 1 ∧ hK h0 (hR h0 f_Md_resultValue T) = 2 ∧ hK h0 (hR h0 f_Md_pileType T) = 1 ∧ hK h0 (hR h0 f_Md_pileValue T) = 2 ∧ hK h0 (hR h0 f_Md_frameFunction T) = 1 ∧ hK h0 (hR h0 f_Md_frameAt T) = 1 ∧ hK h0 (hR h0 f_Md_frameAround T) = 1 ∧ hK h0 (hR h0 f_Md_thisType T) = 1 ∧ hK h0 (hR h0 f_Md_thisValue T) = 2 ∧ hK h0 (hR h0 f_Md_frameNew T) = 1 ∧ hK h0 (hR h0 f_Md_frameBase T) = 1 ∧ hK h0 (hR h0 f_Md_frameTries T) = 1 ∧ hK h0 (hR h0 f_Md_tryAt T) = 1 ∧ hK h0 (hR h0 f_Md_tryHeight T) = 1 ∧ hK h0 (hR h0 f_Md_tryFrame T) = 1 ∧ hK h0 (hR h0 f_Md_entries T) = 1 ∧ hK h0 (hR h0 f_Md_linker T) = 1 ∧ hK h0 (hR h0 f_Md_guard T) = 1 ∧ hK h0 (hR h0 f_Md_guardName T) = 1 ∧ hK h0 (hR h0 f_Md_holder T) = 1 ∧ hK h0 (hR h0 f_Md_which T) = 1 ∧ hK h0 (hR h0 f_Md_toShape T) = 1 ∧ hK h0 (hR h0 f_Md_linkedAt T) = 1 ∧ hK h0 (hR h0 f_Md_guardMany T) = 1 ∧ hK h0 (hR h0 f_Md_guardTypes T) = 2 ∧ hK h0 (hR h0 f_Md_used1 T) = 4 ∧ hK h0 (hR h0 f_Md_counted T) = 1 := ⟨(G.g (f := f_Md_tape) rfl).2.1, (G.g (f := f_Md_text) rfl).2.1, (G.g (f := f_Md_nameSigns) rfl).2.1, (G.g (f := f_Md_nameSize) rfl).2.1, (G.g (f := f_Md_textSigns) rfl).2.1, (G.g (f := f_Md_textFrom) rfl).2.1, (G.g (f := f_Md_textLength) rfl).2.1, (G.g (f := f_Md_unitOf) rfl).2.1, (G.g (f := f_Md_unitFunction) rfl).2.1, (G.g (f := f_Md_parametersOf) rfl).2.1, (G.g (f := f_Md_variablesOf) rfl).2.1, (G.g (f := f_Md_codeFrom) rfl).2.1, (G.g (f := f_Md_codeSize) rfl).2.1, (G.g (f := f_Md_siteFrom) rfl).2.1, (G.g (f := f_Md_siteCount) rfl).2.1, (G.g (f := f_Md_codeOp) rfl).2.1, (G.g (f := f_Md_codeA) rfl).2.1, (G.g (f := f_Md_codeB) rfl).2.1, (G.g (f := f_Md_siteKind) rfl).2.1, (G.g (f := f_Md_siteName) rfl).2.1, (G.g (f := f_Md_siteMany) rfl).2.1, (G.g (f := f_Md_siteFunction) rfl).2.1, (G.g (f := f_Md_siteAt) rfl).2.1, (G.g (f := f_Md_descriptor) rfl).2.1, (G.g (f := f_Md_links) rfl).2.1, (G.g (f := f_Md_hits) rfl).2.1, (G.g (f := f_Md_pruned) rfl).2.1, (G.g (f := f_Md_isMega) rfl).2.1, (G.g (f := f_Md_thingKind) rfl).2.1, (G.g (f := f_Md_thingShape) rfl).2.1, (G.g (f := f_Md_thingFirst) rfl).2.1, (G.g (f := f_Md_thingCount) rfl).2.1, (G.g (f := f_Md_thingLast) rfl).2.1, (G.g (f := f_Md_thingFunction) rfl).2.1, (G.g (f := f_Md_thingAround) rfl).2.1, (G.g (f := f_Md_thingClass) rfl).2.1, (G.g (f := f_Md_isWatched) rfl).2.1, (G.g (f := f_Md_epoch) rfl).2.1, (G.g (f := f_Md_changedAt) rfl).2.1, (G.g (f := f_Md_slotType) rfl).2.1, (G.g (f := f_Md_slotValue) rfl).2.1, (G.g (f := f_Md_slotName) rfl).2.1, (G.g (f := f_Md_slotNext) rfl).2.1, (G.g (f := f_Md_shapeProto) rfl).2.1, (G.g (f := f_Md_shapeBefore) rfl).2.1, (G.g (f := f_Md_shapeName) rfl).2.1, (G.g (f := f_Md_shapeCount) rfl).2.1, (G.g (f := f_Md_around) rfl).2.1, (G.g (f := f_Md_variablesFrom) rfl).2.1, (G.g (f := f_Md_variableTypes) rfl).2.1, (G.g (f := f_Md_variableValue) rfl).2.1, (G.g (f := f_Md_isGlobal) rfl).2.1, (G.g (f := f_Md_globalType) rfl).2.1, (G.g (f := f_Md_globalValue) rfl).2.1, (G.g (f := f_Md_staticType) rfl).2.1, (G.g (f := f_Md_staticValue) rfl).2.1, (G.g (f := f_Md_output) rfl).2.1, (G.g (f := f_Md_trace) rfl).2.1, (G.g (f := f_Md_asked) rfl).2.1, (G.g (f := f_Md_spelt) rfl).2.1, (G.g (f := f_Md_choiceClass) rfl).2.1, (G.g (f := f_Md_choiceMode) rfl).2.1, (G.g (f := f_Md_choiceName) rfl).2.1, (G.g (f := f_Md_choiceMany) rfl).2.1, (G.g (f := f_Md_choiceTypes) rfl).2.1, (G.g (f := f_Md_choiceFound) rfl).2.1, (G.g (f := f_Md_types) rfl).2.1, (G.g (f := f_Md_order) rfl).2.1, (G.g (f := f_Md_want) rfl).2.1, (G.g (f := f_Md_candidate) rfl).2.1, (G.g (f := f_Md_fieldOf) rfl).2.1, (G.g (f := f_Md_state) rfl).2.1, (G.g (f := f_Md_frames) rfl).2.1, (G.g (f := f_Md_height) rfl).2.1, (G.g (f := f_Md_tries) rfl).2.1, (G.g (f := f_Md_resultType) rfl).2.1, (G.g (f := f_Md_resultValue) rfl).2.1, (G.g (f := f_Md_pileType) rfl).2.1, (G.g (f := f_Md_pileValue) rfl).2.1, (G.g (f := f_Md_frameFunction) rfl).2.1, (G.g (f := f_Md_frameAt) rfl).2.1, (G.g (f := f_Md_frameAround) rfl).2.1, (G.g (f := f_Md_thisType) rfl).2.1, (G.g (f := f_Md_thisValue) rfl).2.1, (G.g (f := f_Md_frameNew) rfl).2.1, (G.g (f := f_Md_frameBase) rfl).2.1, (G.g (f := f_Md_frameTries) rfl).2.1, (G.g (f := f_Md_tryAt) rfl).2.1, (G.g (f := f_Md_tryHeight) rfl).2.1, (G.g (f := f_Md_tryFrame) rfl).2.1, (G.g (f := f_Md_entries) rfl).2.1, (G.g (f := f_Md_linker) rfl).2.1, (G.g (f := f_Md_guard) rfl).2.1, (G.g (f := f_Md_guardName) rfl).2.1, (G.g (f := f_Md_holder) rfl).2.1, (G.g (f := f_Md_which) rfl).2.1, (G.g (f := f_Md_toShape) rfl).2.1, (G.g (f := f_Md_linkedAt) rfl).2.1, (G.g (f := f_Md_guardMany) rfl).2.1, (G.g (f := f_Md_guardTypes) rfl).2.1, (G.g (f := f_Md_used1) rfl).2.1, (G.g (f := f_Md_counted) rfl).2.1⟩
theorem LN (G : TT h0 T) : hl h0 (hR h0 f_Md_tape T) = 65552 ∧ hl h0 (hR h0 f_Md_text T) = 64 ∧ hl h0 (hR h0 f_Md_nameSigns T) = 240000 ∧ hl h0 (hR h0 f_Md_nameSize T) = 4000 ∧ hl h0 (hR h0 f_Md_textSigns T) = 269632 ∧ hl h0 (hR h0 f_Md_textFrom T) = 16000 ∧ hl h0 (hR h0 f_Md_textLength T) = 16000 ∧ hl h0 (hR h0 f_Md_unitOf T) = 400 ∧ hl h0 (hR h0 f_Md_unitFunction T) = 16 ∧ hl h0 (hR h0 f_Md_parametersOf T) = 400 ∧ hl h0 (hR h0 f_Md_variablesOf T) = 400 ∧ hl h0 (hR h0 f_Md_codeFrom T) = 400 ∧ hl h0 (hR h0 f_Md_codeSize T) = 400 ∧ hl h0 (hR h0 f_Md_siteFrom T) = 400 ∧ hl h0 (hR h0 f_Md_siteCount T) = 400 ∧ hl h0 (hR h0 f_Md_codeOp T) = 20000 ∧ hl h0 (hR h0 f_Md_codeA T) = 20000 ∧ hl h0 (hR h0 f_Md_codeB T) = 20000 ∧ hl h0 (hR h0 f_Md_siteKind T) = 4000 ∧ hl h0 (hR h0 f_Md_siteName T) = 4000 ∧ hl h0 (hR h0 f_Md_siteMany T) = 4000 ∧ hl h0 (hR h0 f_Md_siteFunction T) = 4000 ∧ hl h0 (hR h0 f_Md_siteAt T) = 4000 ∧ hl h0 (hR h0 f_Md_descriptor T) = 4000 ∧ hl h0 (hR h0 f_Md_links T) = 4000 ∧ hl h0 (hR h0 f_Md_hits T) = 4000 ∧ hl h0 (hR h0 f_Md_pruned T) = 4000 ∧ hl h0 (hR h0 f_Md_isMega T) = 4000 ∧ hl h0 (hR h0 f_Md_thingKind T) = 8000 ∧ hl h0 (hR h0 f_Md_thingShape T) = 8000 ∧ hl h0 (hR h0 f_Md_thingFirst T) = 8000 ∧ hl h0 (hR h0 f_Md_thingCount T) = 8000 ∧ hl h0 (hR h0 f_Md_thingLast T) = 8000 ∧ hl h0 (hR h0 f_Md_thingFunction T) = 8000 ∧ hl h0 (hR h0 f_Md_thingAround T) = 8000 ∧ hl h0 (hR h0 f_Md_thingClass T) = 8000 ∧ hl h0 (hR h0 f_Md_isWatched T) = 8000 ∧ hl h0 (hR h0 f_Md_epoch T) = 8000 ∧ hl h0 (hR h0 f_Md_changedAt T) = 8000 ∧ hl h0 (hR h0 f_Md_slotType T) = 60000 ∧ hl h0 (hR h0 f_Md_slotValue T) = 60000 ∧ hl h0 (hR h0 f_Md_slotName T) = 60000 ∧ hl h0 (hR h0 f_Md_slotNext T) = 60000 ∧ hl h0 (hR h0 f_Md_shapeProto T) = 4001 ∧ hl h0 (hR h0 f_Md_shapeBefore T) = 4001 ∧ hl h0 (hR h0 f_Md_shapeName T) = 4001 ∧ hl h0 (hR h0 f_Md_shapeCount T) = 4001 ∧ hl h0 (hR h0 f_Md_around T) = 8000 ∧ hl h0 (hR h0 f_Md_variablesFrom T) = 8000 ∧ hl h0 (hR h0 f_Md_variableTypes T) = 60000 ∧ hl h0 (hR h0 f_Md_variableValue T) = 60000 ∧ hl h0 (hR h0 f_Md_isGlobal T) = 4000 ∧ hl h0 (hR h0 f_Md_globalType T) = 4000 ∧ hl h0 (hR h0 f_Md_globalValue T) = 4000 ∧ hl h0 (hR h0 f_Md_staticType T) = 400 ∧ hl h0 (hR h0 f_Md_staticValue T) = 400 ∧ hl h0 (hR h0 f_Md_output T) = 65536 ∧ hl h0 (hR h0 f_Md_trace T) = 100000 ∧ hl h0 (hR h0 f_Md_asked T) = 4 ∧ hl h0 (hR h0 f_Md_spelt T) = 256 ∧ hl h0 (hR h0 f_Md_choiceClass T) = 2000 ∧ hl h0 (hR h0 f_Md_choiceMode T) = 2000 ∧ hl h0 (hR h0 f_Md_choiceName T) = 2000 ∧ hl h0 (hR h0 f_Md_choiceMany T) = 2000 ∧ hl h0 (hR h0 f_Md_choiceTypes T) = 16000 ∧ hl h0 (hR h0 f_Md_choiceFound T) = 2000 ∧ hl h0 (hR h0 f_Md_types T) = 8 ∧ hl h0 (hR h0 f_Md_order T) = 60 ∧ hl h0 (hR h0 f_Md_want T) = 72 ∧ hl h0 (hR h0 f_Md_candidate T) = 400 ∧ hl h0 (hR h0 f_Md_fieldOf T) = 400 ∧ hl h0 (hR h0 f_Md_state T) = 2 ∧ hl h0 (hR h0 f_Md_frames T) = 2 ∧ hl h0 (hR h0 f_Md_height T) = 2 ∧ hl h0 (hR h0 f_Md_tries T) = 2 ∧ hl h0 (hR h0 f_Md_resultType T) = 2 ∧ hl h0 (hR h0 f_Md_resultValue T) = 2 ∧ hl h0 (hR h0 f_Md_pileType T) = 4200 ∧ hl h0 (hR h0 f_Md_pileValue T) = 4200 ∧ hl h0 (hR h0 f_Md_frameFunction T) = 400 ∧ hl h0 (hR h0 f_Md_frameAt T) = 400 ∧ hl h0 (hR h0 f_Md_frameAround T) = 400 ∧ hl h0 (hR h0 f_Md_thisType T) = 400 ∧ hl h0 (hR h0 f_Md_thisValue T) = 400 ∧ hl h0 (hR h0 f_Md_frameNew T) = 400 ∧ hl h0 (hR h0 f_Md_frameBase T) = 400 ∧ hl h0 (hR h0 f_Md_frameTries T) = 400 ∧ hl h0 (hR h0 f_Md_tryAt T) = 20000 ∧ hl h0 (hR h0 f_Md_tryHeight T) = 20000 ∧ hl h0 (hR h0 f_Md_tryFrame T) = 20000 ∧ hl h0 (hR h0 f_Md_entries T) = 4000 ∧ hl h0 (hR h0 f_Md_linker T) = 20000 ∧ hl h0 (hR h0 f_Md_guard T) = 20000 ∧ hl h0 (hR h0 f_Md_guardName T) = 20000 ∧ hl h0 (hR h0 f_Md_holder T) = 20000 ∧ hl h0 (hR h0 f_Md_which T) = 20000 ∧ hl h0 (hR h0 f_Md_toShape T) = 20000 ∧ hl h0 (hR h0 f_Md_linkedAt T) = 20000 ∧ hl h0 (hR h0 f_Md_guardMany T) = 20000 ∧ hl h0 (hR h0 f_Md_guardTypes T) = 20000 ∧ hl h0 (hR h0 f_Md_used1 T) = 400 ∧ hl h0 (hR h0 f_Md_counted T) = 18 := ⟨G.len (f := f_Md_tape) rfl, G.len (f := f_Md_text) rfl, G.len (f := f_Md_nameSigns) rfl, G.len (f := f_Md_nameSize) rfl, G.len (f := f_Md_textSigns) rfl, G.len (f := f_Md_textFrom) rfl, G.len (f := f_Md_textLength) rfl, G.len (f := f_Md_unitOf) rfl, G.len (f := f_Md_unitFunction) rfl, G.len (f := f_Md_parametersOf) rfl, G.len (f := f_Md_variablesOf) rfl, G.len (f := f_Md_codeFrom) rfl, G.len (f := f_Md_codeSize) rfl, G.len (f := f_Md_siteFrom) rfl, G.len (f := f_Md_siteCount) rfl, G.len (f := f_Md_codeOp) rfl, G.len (f := f_Md_codeA) rfl, G.len (f := f_Md_codeB) rfl, G.len (f := f_Md_siteKind) rfl, G.len (f := f_Md_siteName) rfl, G.len (f := f_Md_siteMany) rfl, G.len (f := f_Md_siteFunction) rfl, G.len (f := f_Md_siteAt) rfl, G.len (f := f_Md_descriptor) rfl, G.len (f := f_Md_links) rfl, G.len (f := f_Md_hits) rfl, G.len (f := f_Md_pruned) rfl, G.len (f := f_Md_isMega) rfl, G.len (f := f_Md_thingKind) rfl, G.len (f := f_Md_thingShape) rfl, G.len (f := f_Md_thingFirst) rfl, G.len (f := f_Md_thingCount) rfl, G.len (f := f_Md_thingLast) rfl, G.len (f := f_Md_thingFunction) rfl, G.len (f := f_Md_thingAround) rfl, G.len (f := f_Md_thingClass) rfl, G.len (f := f_Md_isWatched) rfl, G.len (f := f_Md_epoch) rfl, G.len (f := f_Md_changedAt) rfl, G.len (f := f_Md_slotType) rfl, G.len (f := f_Md_slotValue) rfl, G.len (f := f_Md_slotName) rfl, G.len (f := f_Md_slotNext) rfl, G.len (f := f_Md_shapeProto) rfl, G.len (f := f_Md_shapeBefore) rfl, G.len (f := f_Md_shapeName) rfl, G.len (f := f_Md_shapeCount) rfl, G.len (f := f_Md_around) rfl, G.len (f := f_Md_variablesFrom) rfl, G.len (f := f_Md_variableTypes) rfl, G.len (f := f_Md_variableValue) rfl, G.len (f := f_Md_isGlobal) rfl, G.len (f := f_Md_globalType) rfl, G.len (f := f_Md_globalValue) rfl, G.len (f := f_Md_staticType) rfl, G.len (f := f_Md_staticValue) rfl, G.len (f := f_Md_output) rfl, G.len (f := f_Md_trace) rfl, G.len (f := f_Md_asked) rfl, G.len (f := f_Md_spelt) rfl, G.len (f := f_Md_choiceClass) rfl, G.len (f := f_Md_choiceMode) rfl, G.len (f := f_Md_choiceName) rfl, G.len (f := f_Md_choiceMany) rfl, G.len (f := f_Md_choiceTypes) rfl, G.len (f := f_Md_choiceFound) rfl, G.len (f := f_Md_types) rfl, G.len (f := f_Md_order) rfl, G.len (f := f_Md_want) rfl, G.len (f := f_Md_candidate) rfl, G.len (f := f_Md_fieldOf) rfl, G.len (f := f_Md_state) rfl, G.len (f := f_Md_frames) rfl, G.len (f := f_Md_height) rfl, G.len (f := f_Md_tries) rfl, G.len (f := f_Md_resultType) rfl, G.len (f := f_Md_resultValue) rfl, G.len (f := f_Md_pileType) rfl, G.len (f := f_Md_pileValue) rfl, G.len (f := f_Md_frameFunction) rfl, G.len (f := f_Md_frameAt) rfl, G.len (f := f_Md_frameAround) rfl, G.len (f := f_Md_thisType) rfl, G.len (f := f_Md_thisValue) rfl, G.len (f := f_Md_frameNew) rfl, G.len (f := f_Md_frameBase) rfl, G.len (f := f_Md_frameTries) rfl, G.len (f := f_Md_tryAt) rfl, G.len (f := f_Md_tryHeight) rfl, G.len (f := f_Md_tryFrame) rfl, G.len (f := f_Md_entries) rfl, G.len (f := f_Md_linker) rfl, G.len (f := f_Md_guard) rfl, G.len (f := f_Md_guardName) rfl, G.len (f := f_Md_holder) rfl, G.len (f := f_Md_which) rfl, G.len (f := f_Md_toShape) rfl, G.len (f := f_Md_linkedAt) rfl, G.len (f := f_Md_guardMany) rfl, G.len (f := f_Md_guardTypes) rfl, G.len (f := f_Md_used1) rfl, G.len (f := f_Md_counted) rfl⟩
end
