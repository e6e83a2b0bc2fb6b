/-! C: an entry is set, with classes -/
set_option maxRecDepth 20000
section
variable {ρ : Nat → Nat} {d : Nat} {Q : QT} {Γ : GH} {h h' h0 h1 h2 H : ah} {C ho T k n m f i j N M b a rr mn sn tn row e t z s be ca : Nat} {S S' S1 S2 SX : SS} {X : X3} {Y Y1 Y2 : Y3} {g : HG} {v p x y nm ty κ hd w La bv el now : Int}
theorem r_setC (HC : CORE Γ h C ho X Y S N) (ke : hK h e = k_Entry) (ez : e < hz h) (ti : X 53 f_Found_isText 0 = 0 ∨ X 53 f_Found_isText 0 = 1) (b1 : ¬ X 53 f_Found_byClasses 0 = 0) (eo : X 53 f_Found_operands 0 = (n : Int)) (n8 : n ≤ 8) (cz : hR h f_Entry_classes e ≠ 0 ∧ hK h (hR h f_Entry_classes e) = 1 ∧ hl h (hR h f_Entry_classes e) = 8) (q : Q (Sum.inl none) (cc (sI (sR (cpC (stA h e X Y) (hR h f_Entry_classes e) X n) f_Entry_next e be) f_Entry_ticks e now) C X Y)) : wpB PGm ρ d m_Entry_set 0 [(0, vR e), (1, vR (C + 53)), (2, vR be), (3, vI now)] [] (cc h C X Y) Q := by
  have ko : hK h (C + 53) = k_Found := by
    have f2 := HC.1.2
    unfold FC at f2
    exact f2.1.2.2.2.2.2.2.1
  have lf : hl h (hR h f_Found_classes (C + 53)) = 9 := by
    have f2 := HC.1.2
    unfold FC at f2
    simp (decide := true) (disch := first | decide | omega) only [f2]
  have G := HC.1.1
  have eC : hR (stA h e X Y) f_Entry_classes e = hR h f_Entry_classes e := by
    unfold stA
    simp (decide := true) only [g_hI_sI, g_hI_sR, g_hR_sI, g_hR_sR, if_false, false_and]
  have eF : ∀ f o, [f_Entry_shape, f_Entry_to, f_Entry_type, f_Entry_code, f_Entry_holder, f_Entry_member].elem f = false → hR (stA h e X Y) f o = hR h f o := fun f o hf => by
    have ne : ∀ x, [f_Entry_shape, f_Entry_to, f_Entry_type, f_Entry_code, f_Entry_holder, f_Entry_member].elem x = true → f ≠ x := fun x hx e => by subst e; rw [hx] at hf; cases hf
    unfold stA
    simp only [g_hR_sI, g_hR_sR, ne f_Entry_shape (by decide), ne f_Entry_to (by decide), ne f_Entry_type (by decide), ne f_Entry_code (by decide), ne f_Entry_holder (by decide), ne f_Entry_member (by decide), false_and, if_false]
  have GA : AC (stA h e X Y) C := G.frm stA_fr (by unfold DJ; decide +kernel)
  have oC : own f_Entry_classes := by unfold own; decide
  have nq : ∀ q, q ∈ arC → hR (stA h e X Y) q.1 (C + q.2.1) ≠ hR h f_Entry_classes e := fun q hq c => by
    have e1 := eF q.1 (C + q.2.1) (by
      have : arC.all (fun q => !([f_Entry_shape, f_Entry_to, f_Entry_type, f_Entry_code, f_Entry_holder, f_Entry_member].elem q.1)) = true := by decide +kernel
      simpa using List.all_eq_true.mp this q hq)
    rw [e1] at c
    have o1 := ownA' hq
    have hz1 : C + q.2.1 < hz h := by have := G.1; have := o1.2; omega
    have := (G.2.1.2.1 q.1 (C + q.2.1) f_Entry_classes e hz1 ez o1.1 oC c (G.2.2.2.1 q hq).1).1
    have ne : arC.all (fun q => !(Nat.beq q.1 f_Entry_classes)) = true := by decide +kernel
    have := List.all_eq_true.mp ne q hq
    simp_all
  have lp := r_set173 (ρ := ρ) (d := d) (Q := Q) (be := be) (now := now) (X := X) (Y := Y) (n := n) (ca := hR h f_Entry_classes e) GA (by rw [stA_s.2.2.1]; exact ko) (by rw [stA_s.2.2.1]; exact ke) (by unfold stA; rw [I_I, if_neg b1]; exact eo) n8 eC (by rw [stA_s.2.2.1]; exact cz.2.1) (by rw [stA_s.2.2.2.1]; exact cz.2.2) nq (by rw [eF _ _ (by decide), stA_s.2.2.2.1]; exact lf) q n 0 (by omega)
  refine r_set145 HC ke ti (fun H eH kH => ?_)
  have koH : hK (sI H f_Entry_operands e (if X 53 f_Found_byClasses 0 = 0 then -1 else X 53 f_Found_operands 0)) (C + 53) = k_Found := by rw [eH, stA_s.2.2.1]; exact ko
  have keH : hK (sI H f_Entry_operands e (if X 53 f_Found_byClasses 0 = 0 then -1 else X 53 f_Found_operands 0)) e = k_Entry := by rw [eH, stA_s.2.2.1]; exact ke
  have bH : hI (sI (cc H C X Y) f_Entry_operands e (if X 53 f_Found_byClasses 0 = 0 then -1 else X 53 f_Found_operands 0)) f_Found_byClasses (C + 53) = X 53 f_Found_byClasses 0 := by rw [I_Ine (by decide), ccI (by decide)]
  have cH : hR (sI (cc H C X Y) f_Entry_operands e (if X 53 f_Found_byClasses 0 = 0 then -1 else X 53 f_Found_operands 0)) f_Entry_classes e = hR h f_Entry_classes e := by
    rw [cc_sIo (by decide), eH, ccRo (by decide)]; exact eC
  refine b_Entry_set_145 ⟨kH, ?_⟩
  show hK (sI (cc H C X Y) f_Entry_operands e (if X 53 f_Found_byClasses 0 = 0 then -1 else X 53 f_Found_operands 0)) (C + 53) = k_Found ∧ _
  refine ⟨koH, fun c => absurd (by rw [← bH]; exact c) b1, fun _ => ⟨keH, fun _ => ?_, fun c => absurd (by rw [← cH]; exact c) cz.1⟩⟩
  show wpB PGm ρ d m_Entry_set 173 [(0, vR e), (1, vR (C + 53)), (2, vR be), (3, vI now), (5, vI 0)] [] (sI (cc H C X Y) f_Entry_operands e (if X 53 f_Found_byClasses 0 = 0 then -1 else X 53 f_Found_operands 0)) Q
  rw [cc_sIo (by decide), eH]
  exact lp
end
