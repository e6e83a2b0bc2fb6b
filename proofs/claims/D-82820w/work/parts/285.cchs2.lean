/-! C: a choice, whole -/
set_option maxRecDepth 20000
/-- how a choice ends -/
def FIN (Q : QT) (h : ah) (C ho : Nat) (X : X3) (Y : Y3) (v : Int) : Prop := (0 ≤ v → Q (Sum.inl none) (cc h C X (u3 Y 53 f_Found_member 0 (hB h (ho + 3) v.toNat)))) ∧ (v < 0 → Q (Sum.inr (C + 33)) (cc h C (erX X (-v)) Y))
def xcX (X : X3) : X3 := u3 (u3 X 53 f_Found_byClasses 0 1) 53 f_Found_action 0 8
def wkX (X : X3) : X3 := u3 X 98 f_Lookup_workedOut 0 (w32 (X 98 f_Lookup_workedOut 0 + 1))
def kpX (X : X3) (kn ac : Nat) : X3 := u3 (u3 X 98 f_Lookup_kept 0 ((kn + 1 : Nat) : Int)) 98 f_Lookup_allKept 0 ((ac + 1 : Nat) : Int)
def upF {α : Type} (f : Nat → α) (k : Nat) (v : α) : Nat → α := fun j => if j = k then v else f j
/-- what a search for members takes, in C's machine; e choices more -/
def CHF (h : ah) (C ho e : Nat) (h' : ah) : Prop := (∃ z s, Fr LCC (PMN ho) z s h h') ∧ (hz h' : Int) + hI h 2 (ho + 11) ≤ (hz h : Int) + hI h' 2 (ho + 11) + 2 * e ∧ (hs h' : Int) + 4 * hI h 2 (ho + 11) ≤ (hs h : Int) + 4 * hI h' 2 (ho + 11) + 20 * e ∧ AC h' C ∧ FC h' C
section
variable {ρ : Nat → Nat} {d : Nat} {Q : QT} {Γ : GH} {h h' h1 h2 B : ah} {C ho k n m i j N M a b z s x y nw r f o kn ac e : Nat} {g : HG} {v p es lo sb st c kd : Int} {ws hw : List (List Int)} {L ts cl : List Int} {S : SS} {X X' : X3} {Y Y' : Y3} {K K0 : KEY} {CK : Nat → KEY} {CV : Nat → Int} {ca : Nat → Nat} {Lf cs : List Nat} {Pp : List (Nat × Nat)}
theorem r_cho296 {l8 : Nat} {l9 : Int} (G : AC h C) (F : FC h C) (hv : 0 ≤ v → l8 = hB h (ho + 3) v.toNat ∧ l8 ≠ 0) (hv' : v < 0 → l8 = 0 ∧ l9 = -v) (q : FIN Q h C ho X Y v) : wpB PGm ρ (d + 1) m_Lookup_chosen 296 [(0, vR (C + 98)), (1, vR (C + 53)), (8, vR l8), (9, vI l9)] [] (cc h C X Y) Q := by
  have ko : hK h (C + 53) = k_Found := F.1.2.2.2.2.2.2.1
  refine b_Lookup_chosen_296 ⟨fun ne => ⟨ko, ?_⟩, fun e0 => ?_⟩
  · have v0 : 0 ≤ v := by
      by_cases c : 0 ≤ v
      · exact c
      · exact absurd (hv' (by omega)).1 ne
    show Q (Sum.inl none) (sR (cc h C X Y) f_Found_member (C + 53) l8)
    rw [cc_sR (by decide), (hv v0).1]
    exact q.1 v0
  · have v0 : v < 0 := by
      by_cases c : v < 0
      · exact c
      · exact absurd e0 (hv (by omega)).2
    have e : hR (cc h C X Y) f_Lookup_signal (C + 98) = C + 33 := by
      rw [ccRo (by decide)]
      exact F.2.2.1.2.2.2.2.1
    rw [e, (hv' v0).2]
    exact ⟨F.1.2.2.2.2.2.2.2.2, F.1.2.1, r_sigQ G F (q.2 v0)⟩
theorem chA_up {a : Nat} : ∀ j, j ≤ kn → ∀ b, chA' (upF CK kn K0) (upF ca kn a) j b = chA' CK ca j b
  | 0, _, _ => rfl
  | j + 1, hj, b => by
    show (if (hsK (upF CK kn K0 j)).toNat = b then upF ca kn a j else chA' (upF CK kn K0) (upF ca kn a) j b) = _
    have e1 : upF CK kn K0 j = CK j := if_neg (by omega)
    have e2 : upF ca kn a j = ca j := if_neg (by omega)
    rw [e1, e2, chA_up j (by omega) b]
    rfl
/-- C's machine over a search -/
theorem MFR.mac (G : AC h C) (F : FC h C) (A : MFR (cc h C X Y) ho B) : CHF h C ho 0 B ∧ cc B C X Y = B := by
  obtain ⟨⟨z, s, fr⟩, a1, a2⟩ := A
  have dj : DJ LMM [] (PMN ho) := djPM (by decide +kernel)
  obtain ⟨G1, F1, E1, fr1⟩ := matP G F fr dj PMN0
  have e2 : hI (cc h C X Y) 2 (ho + 11) = hI h 2 (ho + 11) := ccI4 (by decide)
  rw [e2] at a1 a2
  refine ⟨⟨⟨z, s, fr1.mono (fun f hf => by simpa using hf) (fun q hq => hq)⟩, ?_, ?_, G1, F1⟩, E1⟩
  · have : hz (cc h C X Y) = hz h := rfl
    rw [this] at a1; omega
  · have : hs (cc h C X Y) = hs h := rfl
    rw [this] at a2; omega
theorem CHF.bb (A : CHF h C ho e h') (HX : HCX ρ h ho g N M hw) : (∀ i, hB h' (ho + 2) i = hB h (ho + 2) i) ∧ (∀ i, hB h' (ho + 3) i = hB h (ho + 3) i) ∧ HCX ρ h' ho g N M hw := by
  obtain ⟨⟨z, s, fr⟩, -⟩ := A
  obtain ⟨x1, x2, x3, x4, -⟩ := HX.hh
  have dw : ∀ f, (LCC.elem f = false) → [f_Host_meant + 1, f_Host_met + 1, f_Host_why].elem f = false → ∀ x, ¬ okW LCC (PMN ho) f x := fun f h1 h2 x c => by
    rcases c with c | c
    · have : LCC.elem f = true := by simpa using c
      rw [h1] at this; cases this
    · have : f = f_Host_meant + 1 ∧ x = ho ∨ f = f_Host_met + 1 ∧ x = ho ∨ f = f_Host_why ∧ x = ho := by simpa [PMN] using c
      have e : [f_Host_meant + 1, f_Host_met + 1, f_Host_why].elem f = true := by
        rcases this with ⟨rfl, -⟩ | ⟨rfl, -⟩ | ⟨rfl, -⟩ <;> decide
      rw [h2] at e; cases e
  refine ⟨?_, ?_, HX.fr fr ?_ PMN0⟩
  · exact (fr.ar HX.inj (f := f_Host_types) (by unfold own; decide) x2 x3 (by omega) (fun c => c.elim (dw _ (by decide +kernel) (by decide) _) (dw _ (by decide +kernel) (by decide) _)) (PMN0 _)).2.2
  · exact (fr.ar HX.inj (f := f_Host_members) (by unfold own; decide) x2 x4 (by omega) (fun c => c.elim (dw _ (by decide +kernel) (by decide) _) (dw _ (by decide +kernel) (by decide) _)) (PMN0 _)).2.2
  · refine List.all_eq_true.mpr fun f hf => ?_
    have e : fhcm.all (fun f => !(LCC.elem f) && !([f_Host_meant + 1, f_Host_met + 1, f_Host_why].elem f)) = true := by decide +kernel
    exact List.all_eq_true.mp e f hf
/-- a new choice, in C's heap -/
def ch29 (B : ah) (fa n : Nat) : ah := hcp (hn B k_Choice 9 0) 1 fa n
def ch30 (B : ah) (fa n ty nx : Nat) (K : KEY) : ah := sR (sR (sI (sI (sI (sI (sR (ch29 B fa n) f_Choice_type (hz B) ty) f_Choice_kind (hz B) K.2.1) f_Choice_isStatic (hz B) K.2.2.1) f_Choice_name (hz B) K.2.2.2.1) f_Choice_setter (hz B) K.2.2.2.2.1) f_Choice_classes (hz B) (hz B + 1)) f_Choice_next (hz B) nx
def ch31 (B : ah) (fa n ty nx : Nat) (K : KEY) (a0 : Nat) (w9 : Int) : ah := sI (sR (ch30 B fa n ty nx K) f_Choice_member (hz B) a0) f_Choice_why (hz B) w9
theorem ch30_fr {fa ty nx : Nat} : Fr [] [] (0 + 1 + 1) (0 + 9 + n) B (ch30 B fa n ty nx K) := by
  have f1 : Fr [] [] (0 + 1 + 1) (0 + 9 + n) B (ch29 B fa n) := Fr.cp (Fr.new (Fr.r0 (L := []) (P := []) (h := B)))
  unfold ch30
  exact Fr.nR (Nat.le_refl _) (by unfold own; decide) (Fr.nR (Nat.le_refl _) (by unfold own; decide) (Fr.nI (Nat.le_refl _) (Fr.nI (Nat.le_refl _) (Fr.nI (Nat.le_refl _) (Fr.nI (Nat.le_refl _) (Fr.nR (Nat.le_refl _) (by unfold own; decide) f1))))))
theorem ch31_fr {fa ty nx a0 : Nat} {w9 : Int} : Fr [] [] (0 + 1 + 1) (0 + 9 + n) B (ch31 B fa n ty nx K a0 w9) := by
  unfold ch31
  exact Fr.nI (Nat.le_refl _) (Fr.nR (Nat.le_refl _) (by unfold own; decide) ch30_fr)
theorem ch31_o {fa ty nx a0 : Nat} {w9 : Int} (hx : x < hz B) : (∀ f, hI (ch31 B fa n ty nx K a0 w9) f x = hI B f x) ∧ (∀ f, hR (ch31 B fa n ty nx K a0 w9) f x = hR B f x) ∧ (∀ i, hA (ch31 B fa n ty nx K a0 w9) x i = hA B x i) ∧ (∀ i, hB (ch31 B fa n ty nx K a0 w9) x i = hB B x i) ∧ hl (ch31 B fa n ty nx K a0 w9) x = hl B x ∧ hK (ch31 B fa n ty nx K a0 w9) x = hK B x := by
  have n1 : ¬ x = hz B := by omega
  have n2 : ¬ x = hz B + 1 := by omega
  have z1 : hz (hn B k_Choice 9 0) = hz B + 1 := rfl
  unfold ch31 ch30 ch29
  refine ⟨fun f => ?_, fun f => ?_, fun i => ?_, fun i => ?_, ?_, ?_⟩
  · simp only [g_hI_sI, g_hI_sR, n1, and_false, if_false, g_hI_hcp, z1, n2]
    exact if_neg n1
  · simp only [g_hR_sI, g_hR_sR, n1, and_false, if_false, g_hR_hcp, z1, n2]
    exact if_neg n1
  · simp only [g_hA_sI, g_hA_sR]
    show (if x = hz (hn B k_Choice 9 0) then _ else hA (hn B k_Choice 9 0) x i) = _
    rw [z1, if_neg n2]
    exact if_neg n1
  · simp only [g_hB_sI, g_hB_sR]
    show (if x = hz (hn B k_Choice 9 0) then 0 else hB (hn B k_Choice 9 0) x i) = _
    rw [z1, if_neg n2]
    exact if_neg n1
  · simp only [g_hl_sI, g_hl_sR]
    show (if x = hz (hn B k_Choice 9 0) then n else hl (hn B k_Choice 9 0) x) = _
    rw [z1, if_neg n2]
    exact if_neg n1
  · simp only [g_hK_sI, g_hK_sR]
    show (if x = hz (hn B k_Choice 9 0) then 1 else hK (hn B k_Choice 9 0) x) = _
    rw [z1, if_neg n2]
    exact if_neg n1
theorem ch31_n {fa ty nx a0 : Nat} {w9 : Int} (ij : INJ B) (fz : fa < hz B) (f9 : n ≤ hl B fa) : hz (ch31 B fa n ty nx K a0 w9) = hz B + 2 ∧ hs (ch31 B fa n ty nx K a0 w9) = hs B + 9 + n ∧ hK (ch31 B fa n ty nx K a0 w9) (hz B) = k_Choice ∧ (hR (ch31 B fa n ty nx K a0 w9) f_Choice_type (hz B) = ty ∧ hI (ch31 B fa n ty nx K a0 w9) f_Choice_kind (hz B) = K.2.1 ∧ hI (ch31 B fa n ty nx K a0 w9) f_Choice_isStatic (hz B) = K.2.2.1 ∧ hI (ch31 B fa n ty nx K a0 w9) f_Choice_name (hz B) = K.2.2.2.1 ∧ hI (ch31 B fa n ty nx K a0 w9) f_Choice_setter (hz B) = K.2.2.2.2.1 ∧ hR (ch31 B fa n ty nx K a0 w9) f_Choice_classes (hz B) = hz B + 1 ∧ hR (ch31 B fa n ty nx K a0 w9) f_Choice_next (hz B) = nx ∧ hR (ch31 B fa n ty nx K a0 w9) f_Choice_member (hz B) = a0 ∧ hI (ch31 B fa n ty nx K a0 w9) f_Choice_why (hz B) = w9) ∧ hK (ch31 B fa n ty nx K a0 w9) (hz B + 1) = 1 ∧ hl (ch31 B fa n ty nx K a0 w9) (hz B + 1) = n ∧ (∀ i, i < n → hA (ch31 B fa n ty nx K a0 w9) (hz B + 1) i = hA B fa i) ∧ UNO (ch31 B fa n ty nx K a0 w9) (hz B + 1) := by
  have z1 : hz (hn B k_Choice 9 0) = hz B + 1 := rfl
  have n1 : ¬ hz B = hz B + 1 := by omega
  refine ⟨rfl, rfl, ?_, ⟨?_, ?_, ?_, ?_, ?_, ?_, ?_, ?_, ?_⟩, ?_, ?_, fun i hi => ?_, fun f x hx hf => ?_⟩
  · unfold ch31 ch30 ch29
    simp only [g_hK_sI, g_hK_sR]
    show (if hz B = hz (hn B k_Choice 9 0) then 1 else hK (hn B k_Choice 9 0) (hz B)) = _
    rw [z1, if_neg n1]
    exact if_pos rfl
  · unfold ch31 ch30
    simp (decide := true) only [g_hR_sI, g_hR_sR, if_false, false_and, if_true, and_self]
  · unfold ch31 ch30
    simp (decide := true) only [g_hI_sI, g_hI_sR, if_false, false_and, if_true, and_self]
  · unfold ch31 ch30
    simp (decide := true) only [g_hI_sI, g_hI_sR, if_false, false_and, if_true, and_self]
  · unfold ch31 ch30
    simp (decide := true) only [g_hI_sI, g_hI_sR, if_false, false_and, if_true, and_self]
  · unfold ch31 ch30
    simp (decide := true) only [g_hI_sI, g_hI_sR, if_false, false_and, if_true, and_self]
  · unfold ch31 ch30
    simp (decide := true) only [g_hR_sI, g_hR_sR, if_false, false_and, if_true, and_self]
  · unfold ch31 ch30
    simp (decide := true) only [g_hR_sI, g_hR_sR, if_false, false_and, if_true, and_self]
  · unfold ch31 ch30
    simp (decide := true) only [g_hR_sI, g_hR_sR, if_false, false_and, if_true, and_self]
  · unfold ch31 ch30
    simp (decide := true) only [g_hI_sI, g_hI_sR, if_false, false_and, if_true, and_self]
  · unfold ch31 ch30 ch29
    simp only [g_hK_sI, g_hK_sR]
    show (if hz B + 1 = hz (hn B k_Choice 9 0) then 1 else _) = _
    rw [z1, if_pos rfl]
  · unfold ch31 ch30 ch29
    simp only [g_hl_sI, g_hl_sR]
    show (if hz B + 1 = hz (hn B k_Choice 9 0) then n else _) = _
    rw [z1, if_pos rfl]
  · unfold ch31 ch30 ch29
    simp only [g_hA_sI, g_hA_sR]
    show (if hz B + 1 = hz (hn B k_Choice 9 0) then (if i < hl (hn B k_Choice 9 0) fa ∧ i < n then hA (hn B k_Choice 9 0) fa i else 0) else _) = _
    have e1 : hl (hn B k_Choice 9 0) fa = hl B fa := if_neg (by omega)
    have e2 : hA (hn B k_Choice 9 0) fa i = hA B fa i := if_neg (by omega)
    rw [z1, if_pos rfl, e1, e2, if_pos ⟨by omega, hi⟩]
  · have ox : ¬ (f = f_Choice_type ∨ f = f_Choice_classes ∨ f = f_Choice_next ∨ f = f_Choice_member) := by
      rintro (rfl | rfl | rfl | rfl) <;> (unfold own at hf; exact absurd hf (by decide))
    have hx' : x < hz B + 2 := hx
    have e : hR (ch31 B fa n ty nx K a0 w9) f x = if x = hz B + 1 then 0 else if x = hz B then 0 else hR B f x := by
      unfold ch31 ch30 ch29
      have m1 : ¬ f = f_Choice_type := fun c => ox (Or.inl c)
      have m2 : ¬ f = f_Choice_classes := fun c => ox (Or.inr (Or.inl c))
      have m3 : ¬ f = f_Choice_next := fun c => ox (Or.inr (Or.inr (Or.inl c)))
      have m4 : ¬ f = f_Choice_member := fun c => ox (Or.inr (Or.inr (Or.inr c)))
      simp only [g_hR_sI, g_hR_sR, m1, m2, m3, m4, false_and, if_false, g_hR_hcp, z1]
      rfl
    rw [e]
    split
    · omega
    · split
      · omega
      · have := ij.1 f x (by omega) hf
        omega
/-- a new choice is kept -/
theorem r_choN {a0 : Nat} {w9 : Int} (G : AC B C) (F : FC B C) (E : cc B C X Y = B) (HX : HCX ρ B ho g N M hw) (A : LKH B ho X Y N M kn ac CK CV ca) (hd : 10 ≤ d) (h2000 : ac < 2000) (hc : 0 ≤ K0.1 ∧ K0.1 < (N : Int)) (hst : K0.2.2.1 = 0 ∨ K0.2.2.1 = 1) (hsb : K0.2.2.2.2.1 = 0 ∨ K0.2.2.2.2.1 = 1) (ety : Y 53 f_Found_type 0 = hB B (ho + 2) K0.1.toNat) (eop : X 53 f_Found_operands 0 = (K0.2.2.2.2.2.length : Int)) (eo : K0.2.2.2.2.2.length ≤ 8) (ec : ∀ i, i < K0.2.2.2.2.2.length → X 53 f_Found_classes i = K0.2.2.2.2.2.getD i 0) (hv : (0 ≤ v ∧ v < (M : Int) ∧ a0 = hB B (ho + 3) v.toNat) ∨ ((v = -8 ∨ v = -9) ∧ a0 = 0 ∧ w9 = -v)) (q : ∀ h2 a, (∃ z s, Fr [] [] z s B h2) → hz h2 ≤ hz B + 2 → hs h2 ≤ hs B + 17 → AC h2 C → FC h2 C → hI h2 2 (ho + 11) = hI B 2 (ho + 11) → LKH h2 ho (kpX X kn ac) (u3 Y 98 f_Lookup_choices (hsK K0).toNat a) N M (kn + 1) (ac + 1) (upF CK kn K0) (upF CV kn v) (upF ca kn a) → FIN Q h2 C ho (kpX X kn ac) (u3 Y 98 f_Lookup_choices (hsK K0).toNat a) v) : hK (hn B k_Choice 9 0) (C + 53) = k_Found ∧ (hK (hn B k_Choice 9 0) (hR (hn B k_Choice 9 0) f_Found_classes (C + 53)) = 1 ∧ 0 ≤ (hI (hn B k_Choice 9 0) f_Found_operands (C + 53)) ∧ (hI (hn B k_Choice 9 0) f_Found_operands (C + 53)) ≤ 67108864) ∧ (hK (hcp (hn B k_Choice 9 0) 1 (hR (hn B k_Choice 9 0) f_Found_classes (C + 53)) (hI (hn B k_Choice 9 0) f_Found_operands (C + 53)).toNat) (C + 98) = k_Lookup ∧ (20 ≤ hK (hcp (hn B k_Choice 9 0) 1 (hR (hn B k_Choice 9 0) f_Found_classes (C + 53)) (hI (hn B k_Choice 9 0) f_Found_operands (C + 53)).toNat) (hR (hcp (hn B k_Choice 9 0) 1 (hR (hn B k_Choice 9 0) f_Found_classes (C + 53)) (hI (hn B k_Choice 9 0) f_Found_operands (C + 53)).toNat) f_Lookup_choices (C + 98)) ∧ hK (hcp (hn B k_Choice 9 0) 1 (hR (hn B k_Choice 9 0) f_Found_classes (C + 53)) (hI (hn B k_Choice 9 0) f_Found_operands (C + 53)).toNat) (hR (hcp (hn B k_Choice 9 0) 1 (hR (hn B k_Choice 9 0) f_Found_classes (C + 53)) (hI (hn B k_Choice 9 0) f_Found_operands (C + 53)).toNat) f_Lookup_choices (C + 98)) < 100 ∧ 0 ≤ hsK K0 ∧ hsK K0 < (hl (hcp (hn B k_Choice 9 0) 1 (hR (hn B k_Choice 9 0) f_Found_classes (C + 53)) (hI (hn B k_Choice 9 0) f_Found_operands (C + 53)).toNat) (hR (hcp (hn B k_Choice 9 0) 1 (hR (hn B k_Choice 9 0) f_Found_classes (C + 53)) (hI (hn B k_Choice 9 0) f_Found_operands (C + 53)).toNat) f_Lookup_choices (C + 98)) : Int)) ∧ hK (hcp (hn B k_Choice 9 0) 1 (hR (hn B k_Choice 9 0) f_Found_classes (C + 53)) (hI (hn B k_Choice 9 0) f_Found_operands (C + 53)).toNat) (hz B) ≠ 0 ∧ wpB PGm ρ d m_Choice_init 0 [(0, vR (hz B)), (1, vR (hR (hn B k_Choice 9 0) f_Found_type (C + 53))), (2, vI K0.2.1), (3, vI K0.2.2.1), (4, vI K0.2.2.2.1), (5, vI K0.2.2.2.2.1), (6, vR (hz (hn B k_Choice 9 0))), (7, vR (hB (hcp (hn B k_Choice 9 0) 1 (hR (hn B k_Choice 9 0) f_Found_classes (C + 53)) (hI (hn B k_Choice 9 0) f_Found_operands (C + 53)).toNat) (hR (hcp (hn B k_Choice 9 0) 1 (hR (hn B k_Choice 9 0) f_Found_classes (C + 53)) (hI (hn B k_Choice 9 0) f_Found_operands (C + 53)).toNat) f_Lookup_choices (C + 98)) (hsK K0).toNat))] [] (hcp (hn B k_Choice 9 0) 1 (hR (hn B k_Choice 9 0) f_Found_classes (C + 53)) (hI (hn B k_Choice 9 0) f_Found_operands (C + 53)).toNat) (cV (fun h32 => wpB PGm ρ (d + 1) m_Lookup_chosen 253 [(0, vR (C + 98)), (1, vR (C + 53)), (6, vI (hsK K0)), (7, vR (hz B)), (8, vR a0), (9, vI w9)] [] h32 Q) (fun e35 h34 => hK h34 e35 ≠ 0 ∧ Q (Sum.inr e35) h34))) := by
  obtain ⟨fa, efa⟩ : ∃ fa, fa = hR B f_Found_classes (C + 53) := ⟨_, rfl⟩
  obtain ⟨n, en⟩ : ∃ n, n = K0.2.2.2.2.2.length := ⟨_, rfl⟩
  have gz : C + 98 < hz B ∧ C + 53 < hz B := by have := G.1; omega
  have oF : own f_Found_classes := by unfold own; decide
  have oC : own f_Lookup_choices := by unfold own; decide
  have fz : fa < hz B := by rw [efa]; exact G.2.1.1 _ _ gz.2 oF
  have n53 : ¬ C + 53 = hz B := by omega
  have r1 : hR (hn B k_Choice 9 0) f_Found_classes (C + 53) = fa := by rw [efa]; exact if_neg n53
  have r2 : hR (hn B k_Choice 9 0) f_Found_type (C + 53) = hB B (ho + 2) K0.1.toNat := by
    have e : hR (hn B k_Choice 9 0) f_Found_type (C + 53) = hR B f_Found_type (C + 53) := if_neg n53
    have e2 : hR (cc B C X Y) f_Found_type (C + 53) = Y 53 f_Found_type 0 := ccR (by decide)
    rw [E] at e2
    rw [e, e2]; exact ety
  have r3 : hI (hn B k_Choice 9 0) f_Found_operands (C + 53) = (n : Int) := by
    have e : hI (hn B k_Choice 9 0) f_Found_operands (C + 53) = hI B f_Found_operands (C + 53) := if_neg n53
    have e2 : hI (cc B C X Y) f_Found_operands (C + 53) = X 53 f_Found_operands 0 := ccI (by decide)
    rw [E] at e2
    rw [e, e2, en]; exact eop
  have lf : hl B fa = 9 := by
    have f2 := F
    unfold FC at f2
    rw [efa]; exact f2.2.2.2.2.2.2.1.1
  have kf : hK B fa = 1 := by rw [efa]; exact (KC G).2.2.2.2.2.2.2.2.2.2.2.2.2.1
  have lc : hl B (hR B f_Lookup_choices (C + 98)) = 256 := by
    have f2 := F
    unfold FC at f2
    exact f2.2.2.2.2.2.2.1.2.2.1
  have kc : hK B (hR B f_Lookup_choices (C + 98)) = 22 := (KC G).2.2.2.2.2.2.2.2.2.2.2.2.2.2.2.2
  have cz : hR B f_Lookup_choices (C + 98) < hz B := G.2.1.1 _ _ gz.1 oC
  have ea : ∀ i, hA B fa i = X 53 f_Found_classes i := fun i => by
    have := ccA (h := B) (C := C) (X := X) (Y := Y) (i := i) G (show inA arC f_Found_classes 53 = true by decide)
    rw [E, ← efa] at this; exact this
  have yc : ∀ i, hB B (hR B f_Lookup_choices (C + 98)) i = Y 98 f_Lookup_choices i := fun i => by
    have := ccB (h := B) (C := C) (X := X) (Y := Y) (i := i) G (show inA raC f_Lookup_choices 98 = true by decide)
    rw [E] at this; exact this
  obtain ⟨hb0, hb1⟩ := hsF_b (K0.2.2.2.2.2.foldl (fun h x => w32 (w32 (31 * h) + x)) (hs0 K0))
  have hb0' : 0 ≤ hsK K0 := hb0
  have hb1' : hsK K0 < 256 := hb1
  clear hb0 hb1
  have ek : hK (hn B k_Choice 9 0) (C + 53) = k_Found := by
    have e : hK (hn B k_Choice 9 0) (C + 53) = hK B (C + 53) := if_neg n53
    rw [e]; exact F.1.2.2.2.2.2.2.1
  rw [r1, r2, r3, Int.toNat_natCast]
  show _ ∧ _ ∧ (hK (ch29 B fa n) (C + 98) = k_Lookup ∧ (20 ≤ hK (ch29 B fa n) (hR (ch29 B fa n) f_Lookup_choices (C + 98)) ∧ hK (ch29 B fa n) (hR (ch29 B fa n) f_Lookup_choices (C + 98)) < 100 ∧ 0 ≤ hsK K0 ∧ hsK K0 < (hl (ch29 B fa n) (hR (ch29 B fa n) f_Lookup_choices (C + 98)) : Int)) ∧ hK (ch29 B fa n) (hz B) ≠ 0 ∧ wpB PGm ρ d m_Choice_init 0 [(0, vR (hz B)), (1, vR (hB B (ho + 2) K0.1.toNat)), (2, vI K0.2.1), (3, vI K0.2.2.1), (4, vI K0.2.2.2.1), (5, vI K0.2.2.2.2.1), (6, vR (hz B + 1)), (7, vR (hB (ch29 B fa n) (hR (ch29 B fa n) f_Lookup_choices (C + 98)) (hsK K0).toNat))] [] (ch29 B fa n) _)
  have o29 : ∀ x, x < hz B → (∀ f, hR (ch29 B fa n) f x = hR B f x) ∧ (∀ i, hB (ch29 B fa n) x i = hB B x i) ∧ hl (ch29 B fa n) x = hl B x ∧ hK (ch29 B fa n) x = hK B x := fun x hx => by
    have n1 : ¬ x = hz B := by omega
    have n2 : ¬ x = hz B + 1 := by omega
    have z1 : hz (hn B k_Choice 9 0) = hz B + 1 := rfl
    unfold ch29
    refine ⟨fun f => ?_, fun i => ?_, ?_, ?_⟩
    · rw [g_hR_hcp, z1, if_neg n2]; exact if_neg n1
    · show (if x = hz (hn B k_Choice 9 0) then 0 else hB (hn B k_Choice 9 0) x i) = _
      rw [z1, if_neg n2]; exact if_neg n1
    · show (if x = hz (hn B k_Choice 9 0) then n else hl (hn B k_Choice 9 0) x) = _
      rw [z1, if_neg n2]; exact if_neg n1
    · rw [g_hK_hcp, z1, if_neg n2]; exact if_neg n1
  have ka : hK (ch29 B fa n) (hz B) = k_Choice := by
    unfold ch29
    rw [g_hK_hcp, show hz (hn B k_Choice 9 0) = hz B + 1 from rfl, if_neg (show ¬ hz B = hz B + 1 by omega)]; exact if_pos rfl
  rw [(o29 _ gz.1).1, (o29 _ cz).2.1, (o29 _ cz).2.2.1, (o29 _ cz).2.2.2, (o29 _ gz.1).2.2.2, yc, A.2.2 _ (by omega), ka]
  have zn : 0 ≤ (n : Int) ∧ (n : Int) ≤ 67108864 := by omega
  refine ⟨ek, ⟨?_, zn.1, zn.2⟩, F.1.2.2.2.2.2.2.2.2, ⟨by rw [kc]; decide, by rw [kc]; decide, hb0', by rw [lc]; exact hb1'⟩, by decide, ?_⟩
  · have e : hK (hn B k_Choice 9 0) fa = hK B fa := if_neg (by omega)
    rw [e]; exact kf
  refine b_Choice_init_0 hd ⟨by rw [ka]; decide, ka, hst, hsb, ?_⟩
  show wpB PGm ρ (d + 1) m_Lookup_chosen 253 [(0, vR (C + 98)), (1, vR (C + 53)), (6, vI (hsK K0)), (7, vR (hz B)), (8, vR a0), (9, vI w9)] [] (ch30 B fa n (hB B (ho + 2) K0.1.toNat) (chA' CK ca kn (hsK K0).toNat) K0) Q
  -- the choice is kept
  have fr31 := ch31_fr (B := B) (fa := fa) (n := n) (ty := hB B (ho + 2) K0.1.toNat) (nx := chA' CK ca kn (hsK K0).toNat) (K := K0) (a0 := a0) (w9 := w9)
  have N31 := ch31_n (fa := fa) (n := n) (ty := hB B (ho + 2) K0.1.toNat) (nx := chA' CK ca kn (hsK K0).toNat) (K := K0) (a0 := a0) (w9 := w9) G.2.1 fz (by omega)
  have O31 : ∀ x, x < hz B → _ := fun x hx => ch31_o (fa := fa) (n := n) (ty := hB B (ho + 2) K0.1.toNat) (nx := chA' CK ca kn (hsK K0).toNat) (K := K0) (a0 := a0) (w9 := w9) hx
  have k30 : ∀ x, hK (ch30 B fa n (hB B (ho + 2) K0.1.toNat) (chA' CK ca kn (hsK K0).toNat) K0) x = hK (ch31 B fa n (hB B (ho + 2) K0.1.toNat) (chA' CK ca kn (hsK K0).toNat) K0 a0 w9) x := fun x => rfl
  refine b_Lookup_chosen_253 ⟨by rw [k30]; exact N31.2.2.1, ?_⟩
  show hK (ch31 B fa n (hB B (ho + 2) K0.1.toNat) (chA' CK ca kn (hsK K0).toNat) K0 a0 w9) (C + 98) = k_Lookup ∧ ((hK (ch31 B fa n (hB B (ho + 2) K0.1.toNat) (chA' CK ca kn (hsK K0).toNat) K0 a0 w9) (hR (ch31 B fa n (hB B (ho + 2) K0.1.toNat) (chA' CK ca kn (hsK K0).toNat) K0 a0 w9) f_Lookup_choices (C + 98)) = 22 ∧ (hz B = 0 ∨ hK (ch31 B fa n (hB B (ho + 2) K0.1.toNat) (chA' CK ca kn (hsK K0).toNat) K0 a0 w9) (hz B) ∈ [247])) ∧ 0 ≤ hsK K0 ∧ hsK K0 < (hl (ch31 B fa n (hB B (ho + 2) K0.1.toNat) (chA' CK ca kn (hsK K0).toNat) K0 a0 w9) (hR (ch31 B fa n (hB B (ho + 2) K0.1.toNat) (chA' CK ca kn (hsK K0).toNat) K0 a0 w9) f_Lookup_choices (C + 98)) : Int)) ∧ wpB PGm ρ (d + 1) m_Lookup_chosen 296 [(0, vR (C + 98)), (1, vR (C + 53)), (8, vR a0), (9, vI w9)] [] (sI (sI (sB (ch31 B fa n (hB B (ho + 2) K0.1.toNat) (chA' CK ca kn (hsK K0).toNat) K0 a0 w9) (hR (ch31 B fa n (hB B (ho + 2) K0.1.toNat) (chA' CK ca kn (hsK K0).toNat) K0 a0 w9) f_Lookup_choices (C + 98)) (hsK K0).toNat (hz B)) f_Lookup_kept (C + 98) (w32 (hI (sB (ch31 B fa n (hB B (ho + 2) K0.1.toNat) (chA' CK ca kn (hsK K0).toNat) K0 a0 w9) (hR (ch31 B fa n (hB B (ho + 2) K0.1.toNat) (chA' CK ca kn (hsK K0).toNat) K0 a0 w9) f_Lookup_choices (C + 98)) (hsK K0).toNat (hz B)) f_Lookup_kept (C + 98) + 1))) f_Lookup_allKept (C + 98) (w32 (hI (sI (sB (ch31 B fa n (hB B (ho + 2) K0.1.toNat) (chA' CK ca kn (hsK K0).toNat) K0 a0 w9) (hR (ch31 B fa n (hB B (ho + 2) K0.1.toNat) (chA' CK ca kn (hsK K0).toNat) K0 a0 w9) f_Lookup_choices (C + 98)) (hsK K0).toNat (hz B)) f_Lookup_kept (C + 98) (w32 (hI (sB (ch31 B fa n (hB B (ho + 2) K0.1.toNat) (chA' CK ca kn (hsK K0).toNat) K0 a0 w9) (hR (ch31 B fa n (hB B (ho + 2) K0.1.toNat) (chA' CK ca kn (hsK K0).toNat) K0 a0 w9) f_Lookup_choices (C + 98)) (hsK K0).toNat (hz B)) f_Lookup_kept (C + 98) + 1))) f_Lookup_allKept (C + 98) + 1))) Q
  clear k30 o29
  generalize ch31 B fa n (hB B (ho + 2) K0.1.toNat) (chA' CK ca kn (hsK K0).toNat) K0 a0 w9 = h2 at *
  have O98 := O31 _ gz.1
  have Ocz := O31 _ cz
  have rc2 : hR h2 f_Lookup_choices (C + 98) = hR B f_Lookup_choices (C + 98) := O98.2.1 _
  have fr' : Fr [] [] (0 + 1 + 1) (0 + 9 + n) (cc B C X Y) h2 := by rw [E]; exact fr31
  obtain ⟨G2, F2, E2, -⟩ := mat G F fr' (by unfold DJ; decide +kernel)
  have sb1 : sB h2 (hR h2 f_Lookup_choices (C + 98)) (hsK K0).toNat (hz B) = cc h2 C X (u3 Y 98 f_Lookup_choices (hsK K0).toNat (hz B)) := by
    have := cc_sB (h := h2) (C := C) (X := X) (Y := Y) (i := (hsK K0).toNat) (v := hz B) G2 (show inA raC f_Lookup_choices 98 = true by decide)
    rw [E2] at this; exact this
  have zk : kn ≤ 2000000000 ∧ ac ≤ 2000000000 := by have := A.1; omega
  refine ⟨F2.1.2.2.2.2.2.2.2.2, ⟨⟨by rw [rc2, Ocz.2.2.2.2.2]; exact kc, Or.inr (by rw [N31.2.2.1]; decide)⟩, hb0', by rw [rc2, Ocz.2.2.2.2.1, lc]; exact hb1'⟩, ?_⟩
  rw [sb1]
  have i1 : hI (cc h2 C X (u3 Y 98 f_Lookup_choices (hsK K0).toNat (hz B))) f_Lookup_kept (C + 98) = (kn : Int) := by rw [ccI (by decide)]; exact A.1.1
  rw [i1, w32_p1 zk.1, cc_sI (by decide)]
  have i2 : hI (cc h2 C (u3 X 98 f_Lookup_kept 0 ((kn + 1 : Nat) : Int)) (u3 Y 98 f_Lookup_choices (hsK K0).toNat (hz B))) f_Lookup_allKept (C + 98) = (ac : Int) := by rw [ccI (by decide), u3_f (by decide)]; exact A.1.2.1
  rw [i2, w32_p1 zk.2, cc_sI (by decide)]
  -- what is so now
  have b2 : ∀ i, hB h2 (ho + 2) i = hB B (ho + 2) i := fun i => (O31 _ HX.hh.2.2.2.2.2.1.2.2).2.2.2.1 i
  have b3 : ∀ i, hB h2 (ho + 3) i = hB B (ho + 3) i := fun i => (O31 _ HX.hh.2.2.2.2.2.2.1.2.2).2.2.2.1 i
  have z11 : ho + 11 < hz B := HX.mt.2.1.2.2
  have CN : CHO h2 ho N M K0 v (hz B) := by
    obtain ⟨n1, n2, n3, ⟨t1, t2, t3, t4, t5, t6, t7, t8, t9⟩, n5, n6, n7, n8⟩ := N31
    refine ⟨⟨n3, by omega, by omega⟩, ⟨hc.1, hc.2, by rw [t1, b2]⟩, ⟨t2, t3, t4, t5⟩, ⟨by rw [t6]; omega, by rw [t6]; omega, by rw [t6]; exact n8, by rw [t6]; exact n5, by rw [t6, n6]; exact en, fun i hi => by rw [t6, n7 i (by omega), ea]; exact ec i hi⟩, ?_⟩
    rcases hv with ⟨v1, v2, v3⟩ | ⟨v1, v2, v3⟩
    · exact Or.inl ⟨v1, v2, by rw [t8, v3, b3]⟩
    · exact Or.inr ⟨v1, by rw [t8, v2], by rw [t9, v3]⟩
  have LK : LKH h2 ho (kpX X kn ac) (u3 Y 98 f_Lookup_choices (hsK K0).toNat (hz B)) N M (kn + 1) (ac + 1) (upF CK kn K0) (upF CV kn v) (upF ca kn (hz B)) := by
    obtain ⟨⟨a1, a2, a3, a4⟩, a5, a6⟩ := A
    refine ⟨⟨by unfold kpX; rw [u3_f (by decide), u3_s], by unfold kpX; rw [u3_s], by omega, by omega⟩, fun k hk => ?_, fun b hb => ?_⟩
    · by_cases c : k = kn
      · subst c
        have e1 : upF CK k K0 k = K0 := if_pos rfl
        have e2 : upF CV k v k = v := if_pos rfl
        have e3 : upF ca k (hz B) k = hz B := if_pos rfl
        rw [e1, e2, e3, chA_up k (Nat.le_refl _)]
        exact ⟨CN, N31.2.2.2.1.2.2.2.2.2.2.1⟩
      · have e1 : upF CK kn K0 k = CK k := if_neg c
        have e2 : upF CV kn v k = CV k := if_neg c
        have e3 : upF ca kn (hz B) k = ca k := if_neg c
        obtain ⟨c1, c2⟩ := a5 k (by omega)
        rw [e1, e2, e3, chA_up k (by omega)]
        exact ⟨c1.fr fr31 (by unfold DJ; decide) (by simp) (fun i _ => b2 i) (fun i _ => b3 i), by rw [(O31 _ c1.1.2.1).2.1]; exact c2⟩
    · rw [u3_e]
      show _ = if (hsK (upF CK kn K0 kn)).toNat = b then upF ca kn (hz B) kn else chA' (upF CK kn K0) (upF ca kn (hz B)) kn b
      have e1 : upF CK kn K0 kn = K0 := if_pos rfl
      have e3 : upF ca kn (hz B) kn = hz B := if_pos rfl
      rw [e1, e3, chA_up kn (Nat.le_refl _)]
      by_cases c : b = (hsK K0).toNat
      · rw [if_pos ⟨rfl, rfl, c⟩, if_pos c.symm]
      · rw [if_neg (fun z => c z.2.2), if_neg (fun z => c z.symm)]; exact a6 b hb
  refine r_cho296 (d := d) (v := v) (ho := ho) G2 F2 (fun v0 => ?_) (fun v0 => ?_) (q h2 (hz B) ⟨_, _, fr31⟩ (by rw [N31.1]; exact Nat.le_refl _) (by rw [N31.2.1]; omega) G2 F2 ((O31 _ z11).1 2) LK)
  · rcases hv with ⟨v1, v2, v3⟩ | ⟨v1, v2, v3⟩
    · exact ⟨by rw [v3, b3], by rw [v3]; exact (HX.me (j := v.toNat) (by omega)).1.2.2⟩
    · omega
  · rcases hv with ⟨v1, v2, v3⟩ | ⟨v1, v2, v3⟩
    · omega
    · exact ⟨v2, v3⟩
end
