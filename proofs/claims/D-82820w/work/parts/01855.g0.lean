/-! what is fixed, as one -/
def nA (B0 : Nat) : Nat → Prop := fun a => ¬ a < B0
def EP (D : va_G) (aC : Nat → ClassId) (B0 : Nat) (H0 : Heap) (eE mi : Nat) (s : State) : Prop :=
  va_Z "java/util/ArrayList" "DEFAULTCAPACITY_EMPTY_ELEMENTDATA" "[Ljava/lang/Object;" (.ref eE) (nA B0) s H0 ∧ (∃ cE, H0[eE]? = some cE ∧ cE.cls = aC 20 ∧ okV cE.vm ∧ cE.slots.size.toInt32 = Int32.ofNat 0) ∧ va_Mi "[Ljava/lang/Object;" mi s ∧
  va_Zq "java/lang/Throwable" "UNASSIGNED_STACK" "[Ljava/lang/StackTraceElement;" (nA B0) s H0 ∧ va_Zq "java/lang/Throwable" "SUPPRESSED_SENTINEL" "Ljava/util/List;" (nA B0) s H0 ∧ va_Zq "jdk/internal/util/Preconditions" "SIOOBE_FORMATTER" "Ljava/util/function/BiFunction;" (nA B0) s H0 ∧
  va_Z "java/lang/String" "COMPACT_STRINGS" "Z" (.int 1) (nA B0) s H0 ∧ (∀ j, j < 2 → ∃ cf k i f, s.fieldFound? (TJ11 j).1 (TJ11 j).2.1 (TJ11 j).2.2.1 = some (cf, k, i, f) ∧ f.isStatic = false ∧ f.slot = D.2 191 j) ∧
  (Cond.laysStatic "java/lang/Throwable" "UNASSIGNED_STACK" "[Ljava/lang/StackTraceElement;").before #[] ({ s with heap := H0 } : State) = true ∧ (Cond.laysStatic "java/lang/Throwable" "SUPPRESSED_SENTINEL" "Ljava/util/List;").before #[] ({ s with heap := H0 } : State) = true
theorem ls_only {C n d : String} {A : Array Value} {s t : State} (hv : s.vm = t.vm) (hh : s.heap = t.heap) (h : (Cond.laysStatic C n d).before A s = true) : (Cond.laysStatic C n d).before A t = true := by
  obtain ⟨c, k, i, f, a, cell, hc, hi, hst, ha, hcell, hs, hcls, hlt, hty⟩ := Cond.laysStatic_spec h
  have hi' : t.fieldFound? C n d = some (c, k, i, f) := by
    have e1 : t.fieldFound? C n d = s.fieldFound? C n d := by unfold State.fieldFound?; rw [hv]
    rw [e1]; exact hi
  exact Cond.laysStatic_of (by rw [← hv]; exact hc) hi' hst ha (by rw [← hh]; exact hcell) hs hcls hlt hty
theorem EP.warm {D : va_G} {aC : Nat → ClassId} {B0 : Nat} {H0 : Heap} {eE mi : Nat} {s U : State} (hW : s.WarmedH U.vm) (h : EP D aC B0 H0 eE mi s) : EP D aC B0 H0 eE mi U := by
  obtain ⟨h1, h2, h3, h4, h5, h6, h7, h8, h9, h10⟩ := h
  refine ⟨va_Z.moved hW.alike h1, h2, h3.moved hW.alike, va_Zq.moved hW.alike h4, va_Zq.moved hW.alike h5, va_Zq.moved hW.alike h6, va_Z.moved hW.alike h7, fun j hj => ?_, ls_only rfl rfl (Cond.laysStatic_setVm (s := { s with heap := H0 }) hW.alike h9), ls_only rfl rfl (Cond.laysStatic_setVm (s := { s with heap := H0 }) hW.alike h10)⟩
  obtain ⟨cf, k, i, f, g1, g2, g3⟩ := h8 j hj
  obtain ⟨k', hf', -⟩ := State.fieldFound?_setVm (vm' := U.vm) hW.alike g1
  exact ⟨cf, k', i, f, hf', g2, g3⟩
def G0 (D : va_G) (aC : Nat → ClassId) (B0 : Nat) (H0 : Heap) (eE : Nat) (ρ : Nat → Nat) (C0 S0 : Nat) : GX := (D, aC, B0, H0, eE, ρ, ncT, strT, mtab, EP D aC B0 H0 eE (ρ 1002), C0, S0)
theorem G0P {D : va_G} {aC : Nat → ClassId} {B0 : Nat} {H0 : Heap} {eE : Nat} {ρ : Nat → Nat} {C0 S0 : Nat} : ∀ s U : State, s.WarmedH U.vm → gP (G0 D aC B0 H0 eE ρ C0 S0) s → gP (G0 D aC B0 H0 eE ρ C0 S0) U := fun _ _ hW h => EP.warm hW h
