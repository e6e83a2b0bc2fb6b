/-! C: an entry is set, joined -/
set_option maxRecDepth 20000
def LEF : List Nat := LEE ++ [f_Entry_classes + 1, f_Entry_next]
/-- only an entry changes -/
def EJ (h : ah) (e : Nat) (h2 : ah) : Prop := (∃ z s, z ≤ 1 ∧ s ≤ 8 ∧ Fr LEF [] z s h h2) ∧ (∀ x f, x < hz h → x ≠ e → hI h2 f x = hI h f x ∧ hR h2 f x = hR h f x) ∧ (∀ x i, x < hz h → hB h2 x i = hB h x i) ∧ (∀ x i, x < hz h → x ≠ hR h f_Entry_classes e → hA h2 x i = hA h x i)
/-- what is in the entry then -/
def STQ (h2 : ah) (e : Nat) (X : X3) (Y : Y3) (be : Nat) (now : Int) : Prop := hI h2 f_Entry_linker e = X 53 f_Found_linker 0 ∧ hI h2 f_Entry_element e = X 53 f_Found_element 0 ∧ hI h2 f_Entry_action e = X 53 f_Found_action 0 ∧ hI h2 f_Entry_place e = X 53 f_Found_place 0 ∧ hR h2 f_Entry_shape e = (if X 53 f_Found_action 0 = 4 ∨ X 53 f_Found_action 0 = 5 then 0 else Y 53 f_Found_shape 0) ∧ hR h2 f_Entry_to e = Y 53 f_Found_to 0 ∧ hR h2 f_Entry_type e = Y 53 f_Found_type 0 ∧ hR h2 f_Entry_code e = (if X 53 f_Found_action 0 = 4 ∨ X 53 f_Found_action 0 = 5 then Y 53 f_Found_code 0 else 0) ∧ hI h2 f_Entry_isText e = X 53 f_Found_isText 0 ∧ hR h2 f_Entry_holder e = Y 53 f_Found_holder 0 ∧ hR h2 f_Entry_member e = Y 53 f_Found_member 0 ∧ hI h2 f_Entry_operands e = (if X 53 f_Found_byClasses 0 = 0 then -1 else X 53 f_Found_operands 0) ∧ hR h2 f_Entry_next e = be ∧ hI h2 f_Entry_ticks e = now
section
variable {ρ : Nat → Nat} {d : Nat} {Q : QT} {Γ : GH} {h h' h0 h1 h2 H : ah} {C ho T k n m f i j N M b a rr mn sn tn row e t z s be ca : Nat} {S S' S1 S2 SX : SS} {X : X3} {Y Y1 Y2 : Y3} {g : HG} {v p x y nm ty κ hd w La bv el now : Int}
theorem stA_q : STQ (sI (sR (stA h e X Y) f_Entry_next e be) f_Entry_ticks e now) e X Y be now := by
  unfold STQ stA
  simp (decide := true) only [g_hI_sI, g_hI_sR, g_hR_sI, g_hR_sR, if_true, if_false, and_self, true_and, false_and, and_true]
theorem stA_fr : Fr LEF [] 0 0 h (stA h e X Y) := by
  have ok : ∀ f, LEF.elem f = true → okW LEF [] f e := fun f hf => Or.inl (by simpa using hf)
  have no : ∀ f, [f_Entry_shape, f_Entry_to, f_Entry_type, f_Entry_code, f_Entry_holder, f_Entry_member].elem f = true → ¬ own f := fun f hf => by
    have : f = f_Entry_shape ∨ f = f_Entry_to ∨ f = f_Entry_type ∨ f = f_Entry_code ∨ f = f_Entry_holder ∨ f = f_Entry_member := by simpa using hf
    rcases this with rfl | rfl | rfl | rfl | rfl | rfl <;> (unfold own; decide)
  unfold stA
  exact (((((((((((Fr.r0.wI (by decide) (ok _ (by decide))).wI (by decide) (ok _ (by decide))).wI (by decide) (ok _ (by decide))).wI (by decide) (ok _ (by decide))).wR (ok _ (by decide)) (no _ (by decide))).wR (ok _ (by decide)) (no _ (by decide))).wR (ok _ (by decide)) (no _ (by decide))).wR (ok _ (by decide)) (no _ (by decide))).wI (by decide) (ok _ (by decide))).wR (ok _ (by decide)) (no _ (by decide))).wR (ok _ (by decide)) (no _ (by decide))).wI (by decide) (ok _ (by decide))
theorem stA_o {x f : Nat} (hx : x ≠ e) : hI (stA h e X Y) f x = hI h f x ∧ hR (stA h e X Y) f x = hR h f x := by
  unfold stA
  simp only [g_hI_sI, g_hI_sR, g_hR_sI, g_hR_sR, hx, and_false, if_false, and_self]
theorem EJ.end' {H : ah} (J : (∃ z s, z ≤ 1 ∧ s ≤ 8 ∧ Fr LEF [] z s h H)) (o : ∀ x f, x < hz h → x ≠ e → hI H f x = hI h f x ∧ hR H f x = hR h f x) (oB : ∀ x i, x < hz h → hB H x i = hB h x i) (oA : ∀ x i, x < hz h → x ≠ hR h f_Entry_classes e → hA H x i = hA h x i) : EJ h e (sI (sR H f_Entry_next e be) f_Entry_ticks e now) := by
  obtain ⟨z, s, z1, s1, fr⟩ := J
  have nO1 : ¬ own f_Entry_next := by unfold own; decide
  refine ⟨⟨z, s, z1, s1, (fr.wR (Or.inl (by decide)) nO1).wI (by decide) (Or.inl (by decide))⟩, fun x f hx ne => ?_, oB, oA⟩
  rw [I_Ine' ne]
  exact ⟨(o x f hx ne).1, by
    show hR (sR H f_Entry_next e be) f x = _
    rw [R_Rne' ne]; exact (o x f hx ne).2⟩
theorem stA_s : hz (stA h e X Y) = hz h ∧ hs (stA h e X Y) = hs h ∧ (∀ x, hK (stA h e X Y) x = hK h x) ∧ (∀ x, hl (stA h e X Y) x = hl h x) ∧ (∀ x i, hA (stA h e X Y) x i = hA h x i) ∧ (∀ x i, hB (stA h e X Y) x i = hB h x i) := by
  unfold stA
  refine ⟨?_, ?_, fun x => ?_, fun x => ?_, fun x i => ?_, fun x i => ?_⟩ <;> simp only [g_hz_sI, g_hz_sR, g_hs_sI, g_hs_sR, g_hK_sI, g_hK_sR, g_hl_sI, g_hl_sR, g_hA_sI, g_hA_sR, g_hB_sI, g_hB_sR]
theorem ent_s {H : ah} : hz (sI (sR H f_Entry_next e be) f_Entry_ticks e now) = hz H ∧ hs (sI (sR H f_Entry_next e be) f_Entry_ticks e now) = hs H ∧ (∀ x, hK (sI (sR H f_Entry_next e be) f_Entry_ticks e now) x = hK H x) ∧ (∀ x, hl (sI (sR H f_Entry_next e be) f_Entry_ticks e now) x = hl H x) ∧ (∀ x i, hA (sI (sR H f_Entry_next e be) f_Entry_ticks e now) x i = hA H x i) ∧ (∀ x i, hB (sI (sR H f_Entry_next e be) f_Entry_ticks e now) x i = hB H x i) := ⟨rfl, rfl, fun _ => rfl, fun _ => rfl, fun _ _ => rfl, fun _ _ => rfl⟩
/-- an entry that does not go by classes -/
theorem r_set0 (HC : CORE Γ h C ho X Y S N) (ke : hK h e = k_Entry) (ti : X 53 f_Found_isText 0 = 0 ∨ X 53 f_Found_isText 0 = 1) (b0 : X 53 f_Found_byClasses 0 = 0) (q : ∀ h2, EJ h e h2 → STQ h2 e X Y be now → hR h2 f_Entry_classes e = hR h f_Entry_classes e → hz h2 = hz h → hs h2 = hs h → (∀ x, hK h2 x = hK h x ∧ hl h2 x = hl h x) → (∀ x i, hA h2 x i = hA h x i) → Q (Sum.inl none) (cc h2 C X Y)) : wpB PGm ρ d m_Entry_set 0 [(0, vR e), (1, vR (C + 53)), (2, vR be), (3, vI now)] [] (cc h C X Y) Q := by
  have ko : hK h (C + 53) = k_Found := by
    have f2 := HC.1.2
    unfold FC at f2
    exact f2.1.2.2.2.2.2.2.1
  refine r_set145 HC ke ti (fun H eH kH => ?_)
  have hk : ∀ x, hK (stA h e X Y) x = hK h x := stA_s.2.2.1
  have koH : hK (sI H f_Entry_operands e (if X 53 f_Found_byClasses 0 = 0 then -1 else X 53 f_Found_operands 0)) (C + 53) = k_Found := by rw [eH, hk]; exact ko
  have keH : hK (sI H f_Entry_operands e (if X 53 f_Found_byClasses 0 = 0 then -1 else X 53 f_Found_operands 0)) e = k_Entry := by rw [eH, hk]; exact ke
  have fin := q (sI (sR (stA h e X Y) f_Entry_next e be) f_Entry_ticks e now) (EJ.end' (H := stA h e X Y) ⟨0, 0, by decide, by decide, stA_fr⟩ (fun x f _ ne => stA_o ne) (fun x i _ => stA_s.2.2.2.2.2 x i) (fun x i _ _ => stA_s.2.2.2.2.1 x i)) stA_q (by
    show hR (sR (stA h e X Y) f_Entry_next e be) f_Entry_classes e = _
    rw [R_Rne (by decide)]
    unfold stA
    simp (decide := true) only [g_hI_sI, g_hI_sR, g_hR_sI, g_hR_sR, if_false, false_and]) (ent_s.1.trans stA_s.1) (ent_s.2.1.trans stA_s.2.1) (fun x => ⟨(ent_s.2.2.1 x).trans (stA_s.2.2.1 x), (ent_s.2.2.2.1 x).trans (stA_s.2.2.2.1 x)⟩) (fun x i => (ent_s.2.2.2.2.1 x i).trans (stA_s.2.2.2.2.1 x i))
  refine b_Entry_set_145 ⟨kH, ?_⟩
  show hK (sI (cc H C X Y) f_Entry_operands e (if X 53 f_Found_byClasses 0 = 0 then -1 else X 53 f_Found_operands 0)) (C + 53) = k_Found ∧ _
  refine ⟨koH, fun _ => ?_, fun c => absurd ?_ c⟩
  · show wpB PGm ρ d m_Entry_set 173 [(0, vR e), (1, vR (C + 53)), (2, vR be), (3, vI now), (5, vI 0)] [] (sI (cc H C X Y) f_Entry_operands e (if X 53 f_Found_byClasses 0 = 0 then -1 else X 53 f_Found_operands 0)) Q
    rw [cc_sIo (by decide), eH]
    have i1 : hI (cc (stA h e X Y) C X Y) f_Entry_operands e = -1 := by
      rw [ccIo (by decide)]
      unfold stA; rw [I_I, if_pos b0]
    refine b_Entry_set_173 ⟨by rw [← eH]; exact keH, ?_⟩
    rw [i1]
    refine ⟨fun _ => ?_, fun c => absurd c (by decide)⟩
    show Q (Sum.inl none) (sI (sR (cc (stA h e X Y) C X Y) f_Entry_next e be) f_Entry_ticks e now)
    rw [cc_sRo (by decide), cc_sIo (by decide)]; exact fin
  · show hI (sI (cc H C X Y) f_Entry_operands e (if X 53 f_Found_byClasses 0 = 0 then -1 else X 53 f_Found_operands 0)) f_Found_byClasses (C + 53) = 0
    rw [I_Ine (by decide), ccI (by decide)]; exact b0
end
