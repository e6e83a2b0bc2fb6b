set_option maxRecDepth 20000
section
variable {ρ : Nat → Nat} {d : Nat} {Q : QT} {Γ Γ' Γ1 Γ2 : GH} {h h' h1 h2 H : ah} {C ho N M z s t o n c r i j k p a T cd fn ck mk vs rk np : Nat} {g g' : HG} {S S' S1 S2 : SS} {X X' X1 X2 : X3} {Y Y' Y1 Y2 : Y3} {ws ws' hw : List (List Int)} {x y ty v fl l1 l2 l3 : Int} {h0 : ah}
def thZ (S : SS) : SS := u2 S f_Md_thrown 0 0
theorem cn_th : sI (cn h0 T S) f_Md_thrown T 0 = cn h0 T (thZ S) := cn_sI (by decide)
theorem thZ_o {f i : Nat} (hf : f ≠ f_Md_thrown) : thZ S f i = S f i := u2_f hf
/-- output -/
def ouA (S : SS) (l1 : Int) : Int := if 0 ≤ l1 ∧ l1 < S f_Md_shown 0 then S f_Md_output l1.toNat else -1
theorem c_output (A : ALL ρ Γ h C ho X Y S g N M hw ws) (LT : LTM h C) (q : Q (Sum.inl (some (vI (ouA S l1)))) (cc h C X Y)) : wpB PGm ρ d m_LT_output 0 [(0, vR C), (1, vI l1)] [] (cc h C X Y) Q := by
  have G := A.1.1.1
  have F := A.1.1.2
  obtain ⟨⟨w, lo, a1, a2, a3, a4, a5, a6, a7⟩, -⟩ := A.1.2.2.2.2.2.2.2.1
  have rm : hR (cc h C X Y) f_LT_machine C = C + 32 := by rw [ccRo (by decide)]; exact LT.2.1
  have is : hI (cc h C X Y) f_Machine_outputSize (C + 32) = (w : Int) := by rw [ccI (by decide)]; exact a1
  have ro : hR (cc h C X Y) f_Machine_output (C + 32) = hR h f_Machine_output (C + 32) := ccRo (by decide)
  have ko : hK (cc h C X Y) (hR h f_Machine_output (C + 32)) = 3 := (G.2.2.2.1 (f_Machine_output, 32, 3) (by decide)).2
  have llo : hl (cc h C X Y) (hR h f_Machine_output (C + 32)) = lo := a4
  have ao : ∀ i, hA (cc h C X Y) (hR h f_Machine_output (C + 32)) i = X 32 f_Machine_output i := fun i => ccA G (by decide)
  unfold ouA at q
  rw [a2] at q
  refine b_LT_output_0 ⟨fun c => ?_, fun c => ⟨LT.1, ?_⟩⟩
  · rw [if_neg (by omega)] at q; exact q
  · rw [rm, is, ro, ko, llo, ao]
    refine ⟨F.1.1, fun c2 => ⟨⟨by decide, c, by omega⟩, ?_⟩, fun c2 => ?_⟩
    · rw [if_pos ⟨c, c2⟩] at q
      rw [a7 _ (by omega)]; exact q
    · rw [if_neg (by omega)] at q; exact q
theorem t_output (O : TOK h0 T) (en : S f_Md_shown 0 = (n : Int)) (hn : n ≤ 65536) (q : Q (Sum.inl (some (vI (ouA S l1)))) (cn h0 T (thZ S))) : wpB PGm ρ (d + 1) m_Md_output 0 [(0, vR T), (1, vI l1)] [] (cn h0 T S) Q := by
  obtain ⟨kT, G, kH⟩ := O
  have kM : ∀ S : SS, hK (cn h0 T S) T = k_Md := fun S => by rw [cnK]; exact kT
  have e1 : hI (cn h0 T (thZ S)) f_Md_shown T = (n : Int) := by rw [cnI (by decide), thZ_o (by decide)]; exact en
  unfold ouA at q
  rw [en] at q
  refine b_Md_output_0 ⟨kM _, ?_⟩
  dsimp only
  rw [cn_th, e1]
  have wu : w32 ((n : Int) - 1) = (n : Int) - 1 := w32_of (by omega) (by omega)
  rw [wu]
  clear wu
  refine t_inF (fun a1 a2 => ⟨fun c => absurd c (by decide), fun _ => ⟨kM _, ?_⟩⟩) (fun a1 => ⟨fun _ => ?_, fun c => absurd rfl c⟩)
  · have ⟨u, eu⟩ : ∃ u : Nat, l1 = (u : Int) := ⟨l1.toNat, by omega⟩
    subst eu
    have bu : 0 ≤ (u : Int) ∧ (u : Int) < ((65536 : Nat) : Int) := by omega
    rw [if_pos (by omega), Int.toNat_natCast] at q
    have e2 : thZ S f_Md_output u = S f_Md_output u := thZ_o (by decide)
    simp (decide := true) (disch := first | decide | omega) only [cnI, cnIe, cnR, cnK, cnl, cnA' G, cn_sI, cn_sIe, cn_sA' G, kT, kH, KN G, LN G, u2_f, u2_s, w32_aa, w32_ss, w32_p1, w32_m1, Int.toNat_natCast, true_and, and_true, false_and, and_false, or_false, false_or, ne_eq, not_false_eq_true, forall_const, implies_true, not_true_eq_false, false_implies, e2]
    first | exact q | exact ⟨bu, q⟩
  · rw [if_neg (by omega)] at q; exact q
/-- trace -/
def trA (S : SS) (l1 : Int) : Int := if 0 ≤ l1 ∧ l1 < S f_Md_traced 0 then S f_Md_trace l1.toNat else -1
theorem c_trace (A : ALL ρ Γ h C ho X Y S g N M hw ws) (LT : LTM h C) (q : Q (Sum.inl (some (vI (trA S l1)))) (cc h C X Y)) : wpB PGm ρ d m_LT_trace 0 [(0, vR C), (1, vI l1)] [] (cc h C X Y) Q := by
  have G := A.1.1.1
  have F := A.1.1.2
  obtain ⟨-, ⟨w, lo, a1, a2, a3, a4, a5, a6, a7⟩, -⟩ := A.1.2.2.2.2.2.2.2.1
  have rm : hR (cc h C X Y) f_LT_machine C = C + 32 := by rw [ccRo (by decide)]; exact LT.2.1
  have is : hI (cc h C X Y) f_Machine_traceSize (C + 32) = (w : Int) := by rw [ccI (by decide)]; exact a1
  have ro : hR (cc h C X Y) f_Machine_trace (C + 32) = hR h f_Machine_trace (C + 32) := ccRo (by decide)
  have ko : hK (cc h C X Y) (hR h f_Machine_trace (C + 32)) = 1 := (G.2.2.2.1 (f_Machine_trace, 32, 1) (by decide)).2
  have llo : hl (cc h C X Y) (hR h f_Machine_trace (C + 32)) = lo := a4
  have ao : ∀ i, hA (cc h C X Y) (hR h f_Machine_trace (C + 32)) i = X 32 f_Machine_trace i := fun i => ccA G (by decide)
  unfold trA at q
  rw [a2] at q
  refine b_LT_trace_0 ⟨fun c => ?_, fun c => ⟨LT.1, ?_⟩⟩
  · rw [if_neg (by omega)] at q; exact q
  · rw [rm, is, ro, ko, llo, ao]
    refine ⟨F.1.1, fun c2 => ⟨⟨by decide, c, by omega⟩, ?_⟩, fun c2 => ?_⟩
    · rw [if_pos ⟨c, c2⟩] at q
      rw [a7 _ (by omega)]; exact q
    · rw [if_neg (by omega)] at q; exact q
theorem t_trace (O : TOK h0 T) (en : S f_Md_traced 0 = (n : Int)) (hn : n ≤ 100000) (q : Q (Sum.inl (some (vI (trA S l1)))) (cn h0 T (thZ S))) : wpB PGm ρ (d + 1) m_Md_trace 0 [(0, vR T), (1, vI l1)] [] (cn h0 T S) Q := by
  obtain ⟨kT, G, kH⟩ := O
  have kM : ∀ S : SS, hK (cn h0 T S) T = k_Md := fun S => by rw [cnK]; exact kT
  have e1 : hI (cn h0 T (thZ S)) f_Md_traced T = (n : Int) := by rw [cnI (by decide), thZ_o (by decide)]; exact en
  unfold trA at q
  rw [en] at q
  refine b_Md_trace_0 ⟨kM _, ?_⟩
  dsimp only
  rw [cn_th, e1]
  have wu : w32 ((n : Int) - 1) = (n : Int) - 1 := w32_of (by omega) (by omega)
  rw [wu]
  clear wu
  refine t_inF (fun a1 a2 => ⟨fun c => absurd c (by decide), fun _ => ⟨kM _, ?_⟩⟩) (fun a1 => ⟨fun _ => ?_, fun c => absurd rfl c⟩)
  · have ⟨u, eu⟩ : ∃ u : Nat, l1 = (u : Int) := ⟨l1.toNat, by omega⟩
    subst eu
    have bu : 0 ≤ (u : Int) ∧ (u : Int) < ((100000 : Nat) : Int) := by omega
    rw [if_pos (by omega), Int.toNat_natCast] at q
    have e2 : thZ S f_Md_trace u = S f_Md_trace u := thZ_o (by decide)
    simp (decide := true) (disch := first | decide | omega) only [cnI, cnIe, cnR, cnK, cnl, cnA' G, cn_sI, cn_sIe, cn_sA' G, kT, kH, KN G, LN G, u2_f, u2_s, w32_aa, w32_ss, w32_p1, w32_m1, Int.toNat_natCast, true_and, and_true, false_and, and_false, or_false, false_or, ne_eq, not_false_eq_true, forall_const, implies_true, not_true_eq_false, false_implies, e2]
    first | exact q | exact ⟨bu, q⟩
  · rw [if_neg (by omega)] at q; exact q
/-- functions -/
def fnA (S : SS) (l1 l2 : Int) : Int := if 0 ≤ l1 ∧ l1 < S f_Md_functions 0 then (if l2 = 0 then S f_Md_unitOf l1.toNat else if l2 = 1 then S f_Md_parametersOf l1.toNat else if l2 = 2 then S f_Md_variablesOf l1.toNat else if l2 = 3 then S f_Md_codeSize l1.toNat else if l2 = 4 then S f_Md_siteFrom l1.toNat else if l2 = 5 then S f_Md_siteCount l1.toNat else -1) else -1
theorem eFn (F : FC h C) (G : AC h C) {i : Nat} : hB (cc h C X Y) (C + 56) i = hB h (C + 56) i := by
  have gz := G.1
  have := ccBo (X := X) (Y := Y) (i := i) G (f := f_Machine_functions) (b := C + 32) (by decide) (by omega)
  rw [F.2.1.2.2.2.2.2.2.2.1] at this
  exact this
theorem c_function (A : ALL ρ Γ h C ho X Y S g N M hw ws) (LT : LTM h C) (q : Q (Sum.inl (some (vI (fnA S l1 l2)))) (cc h C X Y)) : wpB PGm ρ (d + 12) m_LT_function 0 [(0, vR C), (1, vI l1), (2, vI l2)] [] (cc h C X Y) Q := by
  have G := A.1.1.1
  have F := A.1.1.2
  obtain ⟨fnn, fe, f400, flen, FN⟩ := id A.1.2.2.2.1
  have rm : hR (cc h C X Y) f_LT_machine C = C + 32 := by rw [ccRo (by decide)]; exact LT.2.1
  have rf : hR (cc h C X Y) f_Machine_functions (C + 32) = C + 56 := by rw [ccRo (by decide)]; exact F.2.1.2.2.2.2.2.2.2.1
  have lk : lok (cc h C X Y) (C + 56) := by rw [cclok]; exact F.2.2.2.1.2.2.1
  have lf : hl (cc h C X Y) (C + 56) = fnn := flen
  unfold fnA at q
  rw [fe] at q
  refine b_LT_function_0 (d := d + 11) (by omega) ⟨fun c => ?_, fun c => ⟨LT.1, ?_⟩⟩
  · rw [if_neg (by omega)] at q; exact q
  · rw [rm, rf, lf, eFn F G]
    refine ⟨F.1.1, lk.1, lk, fun c2 => ?_, fun c2 => ?_⟩
    · have ⟨u, eu⟩ : ∃ u : Nat, l1 = (u : Int) := ⟨l1.toNat, by omega⟩
      subst eu
      rw [Int.toNat_natCast]
      obtain ⟨⟨ka, az, a0⟩, -, b1, b2, b3, b4, b5, b6, -⟩ := FN u (by omega)
      rw [if_pos (by omega), Int.toNat_natCast] at q
      refine ⟨lk.1, ⟨lk, c, c2⟩, Or.inr (by rw [ccK, ka]; decide), ka, b_Code_tell_0 ?_⟩
      have i := fun {f : Nat} (e : noP scC f = true) => ccIo (h := h) (C := C) (X := X) (Y := Y) (a := hB h (C + 56) u) e
      rw [i (by decide), i (by decide), i (by decide), i (by decide), i (by decide), i (by decide), b1, b2, b3, b4, b5, b6]
      refine ⟨fun z => ⟨ka, by rw [if_pos z] at q; exact q⟩, fun z0 => ⟨fun z => ⟨ka, by rw [if_neg z0, if_pos z] at q; exact q⟩, fun z1 => ⟨fun z => ⟨ka, by rw [if_neg z0, if_neg z1, if_pos z] at q; exact q⟩, fun z2 => ⟨fun z => ⟨ka, by rw [if_neg z0, if_neg z1, if_neg z2, if_pos z] at q; exact q⟩, fun z3 => ⟨fun z => ⟨ka, by rw [if_neg z0, if_neg z1, if_neg z2, if_neg z3, if_pos z] at q; exact q⟩, fun z4 => ⟨fun z => ⟨ka, by rw [if_neg z0, if_neg z1, if_neg z2, if_neg z3, if_neg z4, if_pos z] at q; exact q⟩, fun z5 => by rw [if_neg z0, if_neg z1, if_neg z2, if_neg z3, if_neg z4, if_neg z5] at q; exact q⟩⟩⟩⟩⟩⟩
    · rw [if_neg (by omega)] at q; exact q
theorem t_function (O : TOK h0 T) (en : S f_Md_functions 0 = (n : Int)) (hn : n ≤ 400) (q : Q (Sum.inl (some (vI (fnA S l1 l2)))) (cn h0 T (thZ S))) : wpB PGm ρ (d + 1) m_Md_function 0 [(0, vR T), (1, vI l1), (2, vI l2)] [] (cn h0 T S) Q := by
  obtain ⟨kT, G, kH⟩ := O
  have kM : ∀ S : SS, hK (cn h0 T S) T = k_Md := fun S => by rw [cnK]; exact kT
  have e1 : hI (cn h0 T (thZ S)) f_Md_functions T = (n : Int) := by rw [cnI (by decide), thZ_o (by decide)]; exact en
  unfold fnA at q
  rw [en] at q
  refine b_Md_function_0 ⟨kM _, ?_⟩
  dsimp only
  rw [cn_th, e1]
  have wu : w32 ((n : Int) - 1) = (n : Int) - 1 := w32_of (by omega) (by omega)
  rw [wu]
  clear wu
  refine t_inF (fun a1 a2 => ⟨fun _ => ?_, fun c => absurd c (by decide)⟩) (fun a1 => ⟨fun c => absurd rfl c, fun _ => ?_⟩)
  · have ⟨u, eu⟩ : ∃ u : Nat, l1 = (u : Int) := ⟨l1.toNat, by omega⟩
    subst eu
    have bu : 0 ≤ (u : Int) ∧ (u : Int) < ((400 : Nat) : Int) := by omega
    rw [if_pos (by omega), Int.toNat_natCast] at q
    have e2 : ∀ f, f ≠ f_Md_thrown → thZ S f u = S f u := fun f hf => thZ_o hf
    simp (decide := true) (disch := first | decide | omega) only [cnI, cnIe, cnR, cnK, cnl, cnA' G, cn_sI, cn_sIe, cn_sA' G, kT, kH, KN G, LN G, u2_f, u2_s, w32_aa, w32_ss, w32_p1, w32_m1, Int.toNat_natCast, true_and, and_true, false_and, and_false, or_false, false_or, ne_eq, not_false_eq_true, forall_const, implies_true, not_true_eq_false, false_implies, e2, bu]
    refine ⟨fun z => by rw [if_pos z] at q; exact q, fun z0 => ⟨fun z => by rw [if_neg z0, if_pos z] at q; exact q, fun z1 => ⟨fun z => by rw [if_neg z0, if_neg z1, if_pos z] at q; exact q, fun z2 => ⟨fun z => by rw [if_neg z0, if_neg z1, if_neg z2, if_pos z] at q; exact q, fun z3 => ⟨fun z => by rw [if_neg z0, if_neg z1, if_neg z2, if_neg z3, if_pos z] at q; exact q, fun z4 => ⟨fun z => by rw [if_neg z0, if_neg z1, if_neg z2, if_neg z3, if_neg z4, if_pos z] at q; exact q, fun z5 => by rw [if_neg z0, if_neg z1, if_neg z2, if_neg z3, if_neg z4, if_neg z5] at q; exact q⟩⟩⟩⟩⟩⟩
  · rw [if_neg (by omega)] at q; exact q
end
