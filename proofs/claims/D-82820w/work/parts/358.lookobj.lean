/-! a look at an object, on both sides -/
set_option maxRecDepth 20000
/-- rows of T that a look may change -/
def LKS : List Nat := LFA ++ LHK ++ LCH3 ++ LSH
def LKXx : List Nat := [f_Found_action, f_Found_place, f_Found_byClasses, f_Lookup_word, f_Lookup_workedOut, f_Lookup_kept, f_Lookup_allKept, f_Lookup_asked, f_Heap_shapesMade]
def LKYx : List Nat := [f_Found_holder, f_Found_to, f_Found_member, f_Lookup_choices]
/-- only these rows of C have changed -/
def OFX {α : Type} (L : List Nat) (X X2 : Nat → Nat → Nat → α) : Prop := ∀ o f i, L.elem f = false → X2 o f i = X o f i
/-- what a look has changed -/
def LOK (Γ : GH) (h : ah) (C ho : Nat) (X : X3) (Y : Y3) (S : SS) (N : Nat) (h2 : ah) (X2 : X3) (Y2 : Y3) (S2 : SS) : Prop := (CORE Γ h2 C ho X2 Y2 S2 N ∧ ∀ {t o n c r : Nat}, CT Γ h C X Y S N t o n c r → CT Γ h2 C X2 Y2 S2 N t o n c r) ∧ GRO Γ Γ h h2 C S S2 ∧ BND h C S h2 S2 0 0 ∧ (∃ z s, Fr LHc (PMN ho) z s h h2) ∧ OFF LKS S S2 ∧ (∀ o f i, LKXx.elem f = false → X2 o f i = X o f i) ∧ (∀ o f i, LKYx.elem f = false → Y2 o f i = Y o f i) ∧ ((∀ i, i < 4 → X 98 f_Lookup_asked i = S f_Md_asked i) → ∀ i, i < 4 → X2 98 f_Lookup_asked i = S2 f_Md_asked i)
def LKZ : List Nat := [f_Found_action, f_Found_place, f_Found_byClasses, f_Lookup_asked, f_Heap_shapesMade]
def LYZ : List Nat := [f_Found_holder, f_Found_to, f_Found_member]
/-- no choice was asked for -/
def LNK (X : X3) (Y : Y3) (S : SS) (X2 : X3) (Y2 : Y3) (S2 : SS) : Prop := OFX LKZ X X2 ∧ OFX LYZ Y Y2 ∧ OFF (LFA ++ LSH) S S2
section
variable {ρ : Nat → Nat} {d : Nat} {Q : QT} {Γ : GH} {h h' h2 : ah} {C ho k n i j N M s r rr mn a o f : Nat} {S S' S1 S2 : SS} {X X2 : X3} {Y Y2 : Y3} {g : HG} {nm w hd κ ty v el w0 LL : Int} {e : ENT} {L : List Int}
theorem OFX.rf {α : Type} {L : List Nat} {X : Nat → Nat → Nat → α} : OFX L X X := fun _ _ _ _ => rfl
theorem OFX.u {α : Type} {L : List Nat} {X X2 : Nat → Nat → Nat → α} {v : α} (A : OFX L X X2) (e : L.elem f = true) : OFX L X (u3 X2 o f i v) := fun o' f' i' hf => by
  rw [u3_f (by rintro rfl; rw [e] at hf; cases hf)]
  exact A o' f' i' hf
theorem lkX_off : OFX [f_Lookup_asked, f_Found_place, f_Found_byClasses] X (lkX X k) := ((OFX.rf.u (by decide)).u (by decide)).u (by decide)
theorem OFX.le {α : Type} {L L' : List Nat} {X X2 : Nat → Nat → Nat → α} (A : OFX L X X2) (e : L.all (fun f => L'.elem f) = true) : OFX L' X X2 := fun o f i hf => A o f i (by
  cases q : L.elem f with
  | false => rfl
  | true => rw [List.all_eq_true.mp e f (by simpa using q)] at hf; cases hf)
theorem OFX.tr {α : Type} {L : List Nat} {X X1 X2 : Nat → Nat → Nat → α} (A : OFX L X X1) (B : OFX L X1 X2) : OFX L X X2 := fun o f i hf => (B o f i hf).trans (A o f i hf)
theorem OFX.exx {L L' : List Nat} (A : OFX L X X2) (e : L'.all (fun f => !(L.elem f)) = true) : EXX L' X X2 := fun f hf o i => A o f i (by simpa using List.all_eq_true.mp e f (by simpa using hf))
theorem lkY_off : OFX [f_Found_holder, f_Found_to, f_Found_member] Y (lkY Y) := ((OFX.rf.u (by decide)).u (by decide)).u (by decide)
theorem nwE_g : nwE S w0 f_Md_linker = S f_Md_foundLinker 0 ∧ nwE S w0 f_Md_guard = S f_Md_foundGuard 0 ∧ nwE S w0 f_Md_guardName = S f_Md_elementName 0 ∧ nwE S w0 f_Md_holder = S f_Md_foundHolder 0 ∧ nwE S w0 f_Md_which = S f_Md_foundWhich 0 ∧ nwE S w0 f_Md_toShape = S f_Md_foundShape 0 ∧ nwE S w0 f_Md_linkedAt = S f_Md_changes 0 ∧ nwE S w0 f_Md_guardMany = S f_Md_foundMany 0 ∧ nwE S w0 f_Md_guardTypes = w0 := by
  refine ⟨?_, ?_, ?_, ?_, ?_, ?_, ?_, ?_, ?_⟩ <;> simp (decide := true) [nwE]
def LK0 : List Nat := [f_Found_action, f_Found_place, f_Found_byClasses, f_Lookup_word, f_Lookup_workedOut, f_Lookup_kept, f_Lookup_allKept, f_Lookup_asked]
theorem LOK.z (HC : CORE Γ h C ho X Y S N) (oS : OFF LFA S S2) (eX : OFX LK0 X X2) (eY : OFX LKYx Y Y2) (as : (∀ i, i < 4 → X 98 f_Lookup_asked i = S f_Md_asked i) → ∀ i, i < 4 → X2 98 f_Lookup_asked i = S2 f_Md_asked i) : LOK Γ h C ho X Y S N h X2 Y2 S2 := by
  have l1 : LXA.all (fun f => !(LK0.elem f)) = true := by decide +kernel
  have l2 : L7.all (fun f => !(LKYx.elem f)) = true := by decide
  obtain ⟨M1, g1, bd⟩ := HC.fzz (L := []) (Pp := []) (h' := h) (X' := X2) (Y' := Y2) (S' := S2) Fr.r0 (by unfold DJ; decide +kernel) (fun y c => by simp at c) (oS.ex (by decide)) (Int.le_of_eq (oS _ _ (by decide)).symm) (fun f hf o i => eX o f i (by simpa using List.all_eq_true.mp l1 f (by simpa using hf))) (fun o f hf i => eY o f i (by simpa using List.all_eq_true.mp l2 f (by simpa using hf)))
  refine ⟨M1, g1, bd (oS.ex (by decide)), ⟨0, 0, Fr.r0⟩, oS.le (by decide), fun o f i hf => eX o f i ?_, eY, as⟩
  cases q : LK0.elem f with
  | false => rfl
  | true =>
    have : LK0.all (fun f => LKXx.elem f) = true := by decide
    rw [List.all_eq_true.mp this f (by simpa using q)] at hf
    cases hf
theorem CORE.lk0 (HC : CORE Γ h C ho X Y S N) (eX : OFX LK0 X X2) (eY : OFX LKYx Y Y2) : CORE Γ h C ho X2 Y2 S N := (HC.fzz (L := []) (Pp := []) (h' := h) (X' := X2) (Y' := Y2) (S' := S) Fr.r0 (by unfold DJ; decide +kernel) (fun y c => by simp at c) EXS.rf (Int.le_refl _) (eX.exx (by decide +kernel)) (fun o f hf i => eY o f i (by
    have l2 : L7.all (fun f => !(LKYx.elem f)) = true := by decide
    simpa using List.all_eq_true.mp l2 f (by simpa using hf)))).1.1
theorem lk1_a (k : Nat) : ∀ i, lk1 S (k : Int) 1 f_Md_asked i = if i = k then w32 (S f_Md_asked k + 1) else S f_Md_asked i := fun i => by
  have e0 : ∀ j, lk0 S f_Md_asked j = S f_Md_asked j := fun j => lk0_off _ _ (by decide)
  unfold lk1
  rw [if_neg (by decide), Int.toNat_natCast, u2_e]
  by_cases c : i = k
  · rw [if_pos ⟨rfl, c⟩, if_pos c]
  · rw [if_neg (fun z => c z.2), if_neg c, u2_f (by decide), e0]
/-- the asked rows after a look has begun -/
theorem lk_as (oS : ∀ i, S2 f_Md_asked i = lk1 S (k : Int) 1 f_Md_asked i) (eX : ∀ i, X2 98 f_Lookup_asked i = lkX X k 98 f_Lookup_asked i) (hk : k < 4) : (∀ i, i < 4 → X 98 f_Lookup_asked i = S f_Md_asked i) → ∀ i, i < 4 → X2 98 f_Lookup_asked i = S2 f_Md_asked i := fun H i hi => by
  rw [oS, eX, lk1_a, lkX_g.2.2 i]
  by_cases c : i = k
  · rw [if_pos c, if_pos c, H k hk]
  · rw [if_neg c, if_neg c]; exact H i hi
end
