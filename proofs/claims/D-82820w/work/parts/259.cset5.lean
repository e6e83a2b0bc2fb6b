/-! C: an entry is set, with a new array -/
set_option maxRecDepth 20000
def stN (h : ah) (e : Nat) (X : X3) (Y : Y3) : ah := sR (hn (stA h e X Y) 1 8 8) f_Entry_classes e (hz (stA h e X Y))
section
variable {ρ : Nat → Nat} {d : Nat} {Q : QT} {Γ : GH} {h h' h0 h1 h2 H : ah} {C ho T k n m f i j N M b a rr mn sn tn row e t z s be ca : Nat} {S S' S1 S2 SX : SS} {X : X3} {Y Y1 Y2 : Y3} {g : HG} {v p x y nm ty κ hd w La bv el now : Int}
theorem stN_fr (G : INJ h) (ez : e < hz h) : Fr LEF [] 1 8 h (stN h e X Y) := by
  unfold stN
  have f1 : Fr LEF [] (0 + 1) (0 + 8) h (hn (stA h e X Y) 1 8 8) := stA_fr.new
  have hzz : hz (stA h e X Y) = hz h := stA_s.1
  refine Fr.wO (Or.inl (Or.inl (by decide))) (by rw [hzz]; exact Nat.le_refl _) (Nat.lt_succ_self _) (INJ.new (stA_fr.inj G)) f1
theorem r_setN (HC : CORE Γ h C ho X Y S N) (ke : hK h e = k_Entry) (ez : e < hz h) (ti : X 53 f_Found_isText 0 = 0 ∨ X 53 f_Found_isText 0 = 1) (b1 : ¬ X 53 f_Found_byClasses 0 = 0) (eo : X 53 f_Found_operands 0 = (n : Int)) (n8 : n ≤ 8) (cz : hR h f_Entry_classes e = 0) (q : Q (Sum.inl none) (cc (sI (sR (cpC (stN h e X Y) (hz h) X n) f_Entry_next e be) f_Entry_ticks e now) C X Y)) : wpB PGm ρ d m_Entry_set 0 [(0, vR e), (1, vR (C + 53)), (2, vR be), (3, vI now)] [] (cc h C X Y) Q := by
  have ko : hK h (C + 53) = k_Found := by
    have f2 := HC.1.2
    unfold FC at f2
    exact f2.1.2.2.2.2.2.2.1
  have lf : hl h (hR h f_Found_classes (C + 53)) = 9 := by
    have f2 := HC.1.2
    unfold FC at f2
    simp (decide := true) (disch := first | decide | omega) only [f2]
  have G := HC.1.1
  have s53 : C + 53 < hz h := by have := CORE.hz55 HC; omega
  have hzz : hz (stA h e X Y) = hz h := stA_s.1
  have fr := stN_fr (X := X) (Y := Y) G.2.1 ez
  have GA : AC (stN h e X Y) C := G.frm fr (by unfold DJ; decide +kernel)
  have eC : hR (stA h e X Y) f_Entry_classes e = 0 := by
    rw [← cz]
    unfold stA
    simp (decide := true) only [g_hI_sI, g_hI_sR, g_hR_sI, g_hR_sR, if_false, false_and]
  have eF : ∀ q, q ∈ arC → hR (stN h e X Y) q.1 (C + q.2.1) = hR h q.1 (C + q.2.1) := fun q hq => by
    have o1 := ownA' hq
    have hz1 : C + q.2.1 < hz h := by have := G.1; have := o1.2; omega
    exact fr.R hz1 (own5 o1.1) (DJ.w (K := arC.map (fun q => q.1)) (by unfold DJ; decide +kernel) (by simpa using ⟨_, _, hq⟩))
  have nq : ∀ q, q ∈ arC → hR (stN h e X Y) q.1 (C + q.2.1) ≠ hz h := fun q hq c => by
    rw [eF q hq] at c
    have o1 := ownA' hq
    have := G.2.1.1 q.1 (C + q.2.1) (by have := G.1; have := o1.2; omega) o1.1
    omega
  have lz : hz h ≠ e := fun c => by omega
  have kc : hK (stN h e X Y) (hz h) = 1 := by
    unfold stN
    rw [g_hK_sR, ← hzz]
    exact if_pos rfl
  have lc : hl (stN h e X Y) (hz h) = 8 := by
    unfold stN
    rw [g_hl_sR, ← hzz]
    exact if_pos rfl
  have rc : hR (stN h e X Y) f_Entry_classes e = hz h := by
    unfold stN
    rw [R_R]; exact hzz
  have io : hI (stN h e X Y) f_Entry_operands e = (n : Int) := by
    have h1 : hI (stN h e X Y) f_Entry_operands e = hI (stA h e X Y) f_Entry_operands e := by
      unfold stN
      rw [g_hI_sR]
      exact if_neg (by rw [hzz]; omega)
    rw [h1]
    unfold stA; rw [I_I, if_neg b1]; exact eo
  have kx : ∀ x, x < hz h → hK (stN h e X Y) x = hK h x := fun x hx => fr.K hx
  have eF2 : hR (stN h e X Y) f_Found_classes (C + 53) = hR h f_Found_classes (C + 53) := eF (f_Found_classes, 53, 1) (by decide)
  have lf2 : hl (stN h e X Y) (hR (stN h e X Y) f_Found_classes (C + 53)) = 9 := by
    rw [eF2, fr.la (G.2.1.1 _ _ s53 (by unfold own; decide)) (by have := (G.2.2.2.1 (f_Found_classes, 53, 1) (by decide)).2; rw [this]; decide)]; exact lf
  have lp := r_set173 (ρ := ρ) (d := d) (Q := Q) (be := be) (now := now) (X := X) (Y := Y) (n := n) (ca := hz h) GA (by rw [kx _ s53]; exact ko) (by rw [kx _ ez]; exact ke) io n8 rc kc lc nq lf2 q n 0 (by omega)
  refine r_set145 HC ke ti (fun H eH kH => ?_)
  have koH : hK (sI H f_Entry_operands e (if X 53 f_Found_byClasses 0 = 0 then -1 else X 53 f_Found_operands 0)) (C + 53) = k_Found := by rw [eH, stA_s.2.2.1]; exact ko
  have keH : hK (sI H f_Entry_operands e (if X 53 f_Found_byClasses 0 = 0 then -1 else X 53 f_Found_operands 0)) e = k_Entry := by rw [eH, stA_s.2.2.1]; exact ke
  have bH : hI (sI (cc H C X Y) f_Entry_operands e (if X 53 f_Found_byClasses 0 = 0 then -1 else X 53 f_Found_operands 0)) f_Found_byClasses (C + 53) = X 53 f_Found_byClasses 0 := by rw [I_Ine (by decide), ccI (by decide)]
  have cH : hR (sI (cc H C X Y) f_Entry_operands e (if X 53 f_Found_byClasses 0 = 0 then -1 else X 53 f_Found_operands 0)) f_Entry_classes e = 0 := by
    rw [cc_sIo (by decide), eH, ccRo (by decide)]; exact eC
  refine b_Entry_set_145 ⟨kH, ?_⟩
  show hK (sI (cc H C X Y) f_Entry_operands e (if X 53 f_Found_byClasses 0 = 0 then -1 else X 53 f_Found_operands 0)) (C + 53) = k_Found ∧ _
  refine ⟨koH, fun c => absurd (by rw [← bH]; exact c) b1, fun _ => ⟨keH, fun c => absurd cH c, fun _ => ⟨?_, ?_⟩⟩⟩
  · show hK (hn (sI (cc H C X Y) f_Entry_operands e (if X 53 f_Found_byClasses 0 = 0 then -1 else X 53 f_Found_operands 0)) 1 8 8) e = k_Entry
    rw [cc_sIo (by decide), eH]
    have : hK (hn (cc (stA h e X Y) C X Y) 1 8 8) e = hK (cc (stA h e X Y) C X Y) e := if_neg (by show ¬ e = hz (stA h e X Y); rw [hzz]; omega)
    rw [this]
    show hK (stA h e X Y) e = k_Entry
    rw [stA_s.2.2.1]; exact ke
  · show wpB PGm ρ d m_Entry_set 173 [(0, vR e), (1, vR (C + 53)), (2, vR be), (3, vI now), (5, vI 0)] [] (sR (hn (sI (cc H C X Y) f_Entry_operands e (if X 53 f_Found_byClasses 0 = 0 then -1 else X 53 f_Found_operands 0)) 1 8 8) f_Entry_classes e (hz (sI (cc H C X Y) f_Entry_operands e (if X 53 f_Found_byClasses 0 = 0 then -1 else X 53 f_Found_operands 0)))) Q
    rw [cc_sIo (by decide), eH, cc_hn (G.frm stA_fr (by unfold DJ; decide +kernel)), cc_sRo (by decide)]
    exact lp
end
