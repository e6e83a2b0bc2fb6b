/-! the tasks of both -/
set_option maxRecDepth 20000
/-- what is known besides: variables of a call (C's address), a call's function, C's number of a text, heights of the pile and tries by function and place, the function around a function -/
abbrev GH : Type := (Nat → Nat) × (Nat → Nat) × (Nat → Nat) × (Nat → Nat → Nat) × (Nat → Nat → Nat) × (Nat → Nat)
abbrev gva (Γ : GH) : Nat → Nat := Γ.1
abbrev gcf (Γ : GH) : Nat → Nat := Γ.2.1
abbrev gtn (Γ : GH) : Nat → Nat := Γ.2.2.1
abbrev ghs (Γ : GH) : Nat → Nat → Nat := Γ.2.2.2.1
abbrev gtd (Γ : GH) : Nat → Nat → Nat := Γ.2.2.2.2.1
abbrev gou (Γ : GH) : Nat → Nat := Γ.2.2.2.2.2
/-- C's word for a value of T -/
def cw (Γ : GH) (ty v : Int) : Int := if ty = 3 then (gtn Γ v.toNat : Int) else v
/-- a text that is there -/
def txO (S : SS) (x : Nat) : Prop := (x : Int) < S f_Md_sourceTexts 0 ∨ (4000 ≤ x ∧ (x : Int) < 4000 + S f_Md_madeTexts 0)
/-- a value that is whole; N: how many classes -/
def VO (S : SS) (N : Nat) (ty v : Int) : Prop := (ty = 0 ∧ v = 0) ∨ (ty = 1 ∧ (v = 0 ∨ v = 1)) ∨ (ty = 2 ∧ -9223372036854775808 ≤ v ∧ v < 9223372036854775808) ∨ (ty = 3 ∧ 0 ≤ v ∧ txO S v.toNat) ∨ (4 ≤ ty ∧ ty ≤ 7 ∧ 0 ≤ v ∧ v < S f_Md_things 0 ∧ S f_Md_thingKind v.toNat = ty) ∨ (ty = 8 ∧ 0 ≤ v ∧ v < (N : Int))
/-- C's tag and word stand for T's -/
def VR (Γ : GH) (S : SS) (N : Nat) (x y ty v : Int) : Prop := x = ty ∧ y = cw Γ ty v ∧ VO S N ty v
def PIL (Γ : GH) (X : X3) (S : SS) (N o t n : Nat) : Prop := ∀ i, i < n → VR Γ S N (X o f_Task_tags i) (X o f_Task_words i) (S f_Md_pileType (2100 * t + i)) (S f_Md_pileValue (2100 * t + i))
def fsS (S : SS) (t i : Nat) : Nat := (S f_Md_frameFunction (200 * t + i)).toNat
def psS (S : SS) (t i : Nat) : Nat := (S f_Md_frameAt (200 * t + i)).toNat
def bsS (S : SS) (t i : Nat) : Nat := (S f_Md_frameBase (200 * t + i)).toNat
def qsS (S : SS) (t i : Nat) : Nat := (S f_Md_frameTries (200 * t + i)).toNat
def ksS (S : SS) (t i : Nat) : Nat := (S f_Md_frameAround (200 * t + i)).toNat
def FR1 (Γ : GH) (h : ah) (C : Nat) (X : X3) (Y : Y3) (S : SS) (N o t i : Nat) : Prop :=
  (S f_Md_frameFunction (200 * t + i) = (fsS S t i : Int) ∧ (fsS S t i : Int) < S f_Md_functions 0 ∧ Y o f_Task_code i = hB h (C + 56) (fsS S t i)) ∧
  (S f_Md_frameAt (200 * t + i) = (psS S t i : Int) ∧ X o f_Task_next i = (psS S t i : Int) ∧ (psS S t i : Int) < S f_Md_codeSize (fsS S t i)) ∧
  (S f_Md_frameBase (200 * t + i) = (bsS S t i : Int) ∧ X o f_Task_base i = (bsS S t i : Int) ∧ bsS S t i ≤ 1999) ∧
  (S f_Md_frameAround (200 * t + i) = (ksS S t i : Int) ∧ (ksS S t i : Int) < S f_Md_calls 0 ∧ Y o f_Task_variables i = gva Γ (ksS S t i) ∧ gcf Γ (ksS S t i) = fsS S t i) ∧
  VR Γ S N (X o f_Task_thisTag i) (X o f_Task_thisWord i) (S f_Md_thisType (200 * t + i)) (S f_Md_thisValue (200 * t + i)) ∧
  ((S f_Md_frameNew (200 * t + i) = -1 ∧ Y o f_Task_made i = 0) ∨ (0 ≤ S f_Md_frameNew (200 * t + i) ∧ S f_Md_frameNew (200 * t + i) < S f_Md_things 0 ∧ S f_Md_thingKind (S f_Md_frameNew (200 * t + i)).toNat = 4 ∧ Y o f_Task_made i = hB h (C + 51) (S f_Md_frameNew (200 * t + i)).toNat)) ∧
  S f_Md_frameTries (200 * t + i) = (qsS S t i : Int)
/-- heights and tries as the code has them -/
def STA (Γ : GH) (S : SS) (t n c r : Nat) : Prop := (∀ i, i < c → (if i + 1 = c then n else bsS S t (i + 1) + 1) = bsS S t i + ghs Γ (fsS S t i) (psS S t i) ∧ (if i + 1 = c then r else qsS S t (i + 1)) = qsS S t i + gtd Γ (fsS S t i) (psS S t i) ∧ gtd Γ (fsS S t i) (psS S t i) ≤ 50 ∧ (i + 1 < c → bsS S t i ≤ bsS S t (i + 1))) ∧ bsS S t 0 * c = 0 ∧ qsS S t 0 * c = 0
def TR1 (Γ : GH) (X : X3) (S : SS) (o t c r k : Nat) : Prop := ∃ j a : Nat, S f_Md_tryFrame (10000 * t + k) = (j : Int) ∧ j < c ∧ X o f_Task_tryCall k = ((j + 1 : Nat) : Int) ∧ S f_Md_tryAt (10000 * t + k) = (a : Int) ∧ X o f_Task_tryTo k = (a : Int) ∧ S f_Md_tryHeight (10000 * t + k) = (bsS S t j : Int) ∧ X o f_Task_trySize k = (bsS S t j : Int) ∧ (a : Int) < S f_Md_codeSize (fsS S t j) ∧ ghs Γ (fsS S t j) a = 1 ∧ qsS S t j ≤ k ∧ gtd Γ (fsS S t j) a = k - qsS S t j ∧ k < (if j + 1 = c then r else qsS S t (j + 1))
def isTO (t o : Nat) : Prop := (t = 0 ∧ o = 62) ∨ (t = 1 ∧ o = 75)
def CT (Γ : GH) (h : ah) (C : Nat) (X : X3) (Y : Y3) (S : SS) (N t o n c r : Nat) : Prop :=
  isTO t o ∧ (X o f_Task_state 0 = S f_Md_state t ∧ 0 ≤ S f_Md_state t ∧ S f_Md_state t ≤ 4 ∧ ((S f_Md_state t = 1 ∨ S f_Md_state t = 4) → 1 ≤ c) ∧ (¬ (S f_Md_state t = 1 ∨ S f_Md_state t = 4) → n = 0 ∧ c = 0 ∧ r = 0)) ∧
  (X o f_Task_size 0 = (n : Int) ∧ S f_Md_height t = (n : Int) ∧ n ≤ 2000) ∧ (X o f_Task_calls 0 = (c : Int) ∧ S f_Md_frames t = (c : Int) ∧ c ≤ 200) ∧ (X o f_Task_tries 0 = (r : Int) ∧ S f_Md_tries t = (r : Int)) ∧
  PIL Γ X S N o t n ∧ (∀ i, i < c → FR1 Γ h C X Y S N o t i) ∧ STA Γ S t n c r ∧ (∀ k, k < r → TR1 Γ X S o t c r k) ∧
  ((S f_Md_state t = 2 ∨ S f_Md_state t = 3) → VR Γ S N (X o f_Task_tag 0) (X o f_Task_word 0) (S f_Md_resultType t) (S f_Md_resultValue t)) ∧
  (∃ l : Nat, hl h (hR h f_Task_tryCall (C + o)) = l ∧ hl h (hR h f_Task_tryTo (C + o)) = l ∧ hl h (hR h f_Task_trySize (C + o)) = l ∧ r ≤ l ∧ 16 ≤ l ∧ l ≤ 20000)
section
variable {Γ : GH} {h h' : ah} {C : Nat} {X X' : X3} {Y Y' : Y3} {S S' : SS} {N t o n c r i j k m : Nat} {ty v x y : Int}
theorem isTO.to (H : isTO t o) : isT o ∧ t ≤ 1 := by
  rcases H with ⟨a, b⟩ | ⟨a, b⟩
  · exact ⟨Or.inl b, by omega⟩
  · exact ⟨Or.inr b, by omega⟩
/-- rows of a task, and what is for a moment alone -/
def L1 : List Nat := [f_Md_state, f_Md_height, f_Md_frames, f_Md_tries, f_Md_resultType, f_Md_resultValue]
def L2 : List Nat := [f_Md_pileType, f_Md_pileValue]
def L3 : List Nat := [f_Md_frameFunction, f_Md_frameAt, f_Md_frameAround, f_Md_thisType, f_Md_thisValue, f_Md_frameNew, f_Md_frameBase, f_Md_frameTries]
def L4 : List Nat := [f_Md_tryAt, f_Md_tryHeight, f_Md_tryFrame]
def L5 : List Nat := [f_MdHalt_number, f_MdHalt_place, f_Md_type, f_Md_value, f_Md_top, f_Md_after]
def L6 : List Nat := [f_Task_state, f_Task_size, f_Task_calls, f_Task_tries, f_Task_tag, f_Task_word, f_Task_words, f_Task_tags, f_Task_next, f_Task_base, f_Task_thisTag, f_Task_thisWord, f_Task_tryCall, f_Task_tryTo, f_Task_trySize]
def L7 : List Nat := [f_Task_code, f_Task_variables, f_Task_made]
def tkR (t f i : Nat) : Prop := (L1.elem f = true ∧ i = t) ∨ (L2.elem f = true ∧ i / 2100 = t) ∨ (L3.elem f = true ∧ i / 200 = t) ∨ (L4.elem f = true ∧ i / 10000 = t) ∨ L5.elem f = true
def NSt (t : Nat) (S S' : SS) : Prop := ∀ f i, ¬ tkR t f i → S' f i = S f i
/-- C's rows of a task and its error alone are changed -/
def NXo (o : Nat) (X X' : X3) : Prop := ∀ a f i, ¬ ((a = o ∧ L6.elem f = true) ∨ (f = f_Signal_error)) → X' a f i = X a f i
def NYo (o : Nat) (Y Y' : Y3) : Prop := ∀ a f i, ¬ ((a = o ∧ L7.elem f = true) ∨ (f = f_Machine_t)) → Y' a f i = Y a f i
theorem NSt.rf : NSt t S S := fun _ _ _ => rfl
theorem NSt.u {f : Nat} (e : tkR t f i) (H : NSt t S S') : NSt t S (u2 S' f i v) := fun g j hg => by
  rw [u2_e, if_neg (fun c => hg (by rw [c.1, c.2]; exact e))]; exact H g j hg
theorem NSt.tr {S2 : SS} (a : NSt t S S') (b : NSt t S' S2) : NSt t S S2 := fun f i hf => (b f i hf).trans (a f i hf)
theorem NXo.rf : NXo o X X := fun _ _ _ _ => rfl
theorem NXo.u {f : Nat} (e : L6.elem f = true) (H : NXo o X X') : NXo o X (u3 X' o f i v) := fun a g j hg => by
  rw [u3_e, if_neg (fun c => hg (Or.inl ⟨c.1, by rw [c.2.1]; exact e⟩))]; exact H a g j hg
theorem NXo.e (H : NXo o X X') : NXo o X (erX X' v) := fun a g j hg => by
  unfold erX; rw [u3_e, if_neg (fun c => hg (Or.inr c.2.1))]; exact H a g j hg
theorem NXo.tr {X2 : X3} (a : NXo o X X') (b : NXo o X' X2) : NXo o X X2 := fun x f i hf => (b x f i hf).trans (a x f i hf)
theorem NYo.rf : NYo o Y Y := fun _ _ _ _ => rfl
theorem NYo.u {f v : Nat} (e : L7.elem f = true) (H : NYo o Y Y') : NYo o Y (u3 Y' o f i v) := fun a g j hg => by
  rw [u3_e, if_neg (fun c => hg (Or.inl ⟨c.1, by rw [c.2.1]; exact e⟩))]; exact H a g j hg
theorem NYo.mt {v : Nat} (H : NYo o Y Y') : NYo o Y (u3 Y' 32 f_Machine_t 0 v) := fun a g j hg => by
  rw [u3_e, if_neg (fun c => hg (Or.inr c.2.1))]; exact H a g j hg
theorem VO.ext (H : VO S N ty v) (e1 : S' f_Md_sourceTexts 0 = S f_Md_sourceTexts 0) (e2 : S' f_Md_madeTexts 0 = S f_Md_madeTexts 0) (e3 : S' f_Md_things 0 = S f_Md_things 0) (e4 : ∀ i, S' f_Md_thingKind i = S f_Md_thingKind i) : VO S' N ty v := by
  unfold VO txO at H ⊢
  rw [e1, e2, e3, e4]; exact H
theorem nStk {f : Nat} (e : (L1.elem f || (L2.elem f || (L3.elem f || (L4.elem f || L5.elem f)))) = false) : ¬ tkR t f i := by
  simp only [Bool.or_eq_false_iff] at e
  obtain ⟨a1, a2, a3, a4, a5⟩ := e
  unfold tkR
  rw [a1, a2, a3, a4, a5]
  simp
theorem NSt.g {f : Nat} (H : NSt t S S') (e : (L1.elem f || (L2.elem f || (L3.elem f || (L4.elem f || L5.elem f)))) = false) : S' f i = S f i := H f i (nStk e)
theorem NSt.vo (H : NSt t S S') (V : VO S N ty v) : VO S' N ty v := V.ext (H.g (by decide)) (H.g (by decide)) (H.g (by decide)) (fun i => H.g (by decide))
theorem NSt.vr (H : NSt t S S') (V : VR Γ S N x y ty v) : VR Γ S' N x y ty v := ⟨V.1, V.2.1, H.vo V.2.2⟩
theorem VO.tag (V : VO S N ty v) : -128 ≤ ty ∧ ty ≤ 127 := by unfold VO at V; omega
theorem PIL.le (H : PIL Γ X S N o t n) (hm : m ≤ n) : PIL Γ X S N o t m := fun i hi => H i (by omega)
theorem PIL.ext (H : PIL Γ X S N o t n) (e1 : ∀ i, i < n → X' o f_Task_tags i = X o f_Task_tags i) (e2 : ∀ i, i < n → X' o f_Task_words i = X o f_Task_words i) (e3 : ∀ i, i < n → S' f_Md_pileType (2100 * t + i) = S f_Md_pileType (2100 * t + i)) (e4 : ∀ i, i < n → S' f_Md_pileValue (2100 * t + i) = S f_Md_pileValue (2100 * t + i)) (ns : ∀ {ty v}, VO S N ty v → VO S' N ty v) : PIL Γ X' S' N o t n := fun i hi => by
  rw [e1 i hi, e2 i hi, e3 i hi, e4 i hi]
  exact ⟨(H i hi).1, (H i hi).2.1, ns (H i hi).2.2⟩
end
