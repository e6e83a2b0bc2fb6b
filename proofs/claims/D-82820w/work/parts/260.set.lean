/-! C: an entry is set, in all cases -/
set_option maxRecDepth 20000
/-- an entry's array of classes -/
def ECL (h : ah) (e : Nat) : Prop := hR h f_Entry_classes e = 0 ∨ (hR h f_Entry_classes e ≠ 0 ∧ hK h (hR h f_Entry_classes e) = 1 ∧ hl h (hR h f_Entry_classes e) = 8)
section
variable {ρ : Nat → Nat} {d : Nat} {Q : QT} {Γ : GH} {h h' h0 h1 h2 H : ah} {C ho T k n m f i j N M b a rr mn sn tn row e t z s be ca : Nat} {S S' S1 S2 SX : SS} {X : X3} {Y Y1 Y2 : Y3} {g : HG} {v p x y nm ty κ hd w La bv el now : Int}
theorem cpC_fr {L : List Nat} {P : List (Nat × Nat)} (fr : Fr L P z s h H) (ok : okA L P h ca) : ∀ j, Fr L P z s h (cpC H ca X j) := fun j => by
  induction j with
  | zero => exact fr
  | succ j ih => exact Fr.wA ok ih
theorem STQ.cp (A : STQ (sI (sR H f_Entry_next e be) f_Entry_ticks e now) e X Y be now) : STQ (sI (sR (cpC H ca X n) f_Entry_next e be) f_Entry_ticks e now) e X Y be now := by
  obtain ⟨a1, a2, -⟩ := cpC_s (H := H) (ca := ca) (X := X) n
  unfold STQ at A ⊢
  simp only [g_hI_sI, g_hI_sR, g_hR_sI, g_hR_sR, a1, a2] at A ⊢
  exact A
theorem stN_q (ez : e < hz h) : STQ (sI (sR (stN h e X Y) f_Entry_next e be) f_Entry_ticks e now) e X Y be now := by
  have hzz : hz (stA h e X Y) = hz h := stA_s.1
  have A := stA_q (h := h) (e := e) (X := X) (Y := Y) (be := be) (now := now)
  have ne : ¬ e = hz (stA h e X Y) := by omega
  have i1 : ∀ f, hI (hn (stA h e X Y) 1 8 8) f e = hI (stA h e X Y) f e := fun f => if_neg ne
  have r1 : ∀ f, hR (hn (stA h e X Y) 1 8 8) f e = hR (stA h e X Y) f e := fun f => if_neg ne
  unfold STQ at A ⊢
  unfold stN
  simp (decide := true) only [g_hI_sI, g_hI_sR, g_hR_sI, g_hR_sR, i1, r1, if_false, false_and] at A ⊢
  exact A
/-- an entry is set -/
theorem r_set (HC : CORE Γ h C ho X Y S N) (ke : hK h e = k_Entry) (ez : e < hz h) (ti : X 53 f_Found_isText 0 = 0 ∨ X 53 f_Found_isText 0 = 1) (eo : ¬ X 53 f_Found_byClasses 0 = 0 → X 53 f_Found_operands 0 = (n : Int) ∧ n ≤ 8) (cl : ECL h e) (q : ∀ h2, EJ h e h2 → STQ h2 e X Y be now → ECL h2 e → (¬ X 53 f_Found_byClasses 0 = 0 → hR h2 f_Entry_classes e ≠ 0 ∧ ∀ i, i < n → hA h2 (hR h2 f_Entry_classes e) i = X 53 f_Found_classes i) → Q (Sum.inl none) (cc h2 C X Y)) : wpB PGm ρ d m_Entry_set 0 [(0, vR e), (1, vR (C + 53)), (2, vR be), (3, vI now)] [] (cc h C X Y) Q := by
  have G := CORE.inj HC
  have oC : own f_Entry_classes := by unfold own; decide
  by_cases b0 : X 53 f_Found_byClasses 0 = 0
  · refine r_set0 HC ke ti b0 (fun h2 j1 j2 j3 j4 j5 j6 j7 => q h2 j1 j2 ?_ (fun c => absurd b0 c))
    unfold ECL
    rw [j3]
    rcases cl with c | ⟨c1, c2, c3⟩
    · exact Or.inl c
    · exact Or.inr ⟨c1, by rw [(j6 _).1]; exact c2, by rw [(j6 _).2]; exact c3⟩
  · obtain ⟨o1, o2⟩ := eo b0
    rcases cl with c | cz
    · refine r_setN HC ke ez ti b0 o1 o2 c (q _ ?_ (stN_q ez).cp ?_ (fun _ => ?_))
      · have hzz : hz (stA h e X Y) = hz h := stA_s.1
        have fr := stN_fr (X := X) (Y := Y) G ez
        obtain ⟨a1, a2, a3, a4, a5, a6, a7, a8⟩ := cpC_s (H := stN h e X Y) (ca := hz h) (X := X) n
        refine EJ.end' ⟨1, 8, by decide, by decide, cpC_fr fr (Or.inl (Nat.le_refl _)) n⟩ (fun x f hx ne => ?_) (fun x i hx => ?_) (fun x i hx _ => ?_)
        · have nz : ¬ x = hz (stA h e X Y) := by omega
          rw [a1, a2]
          have s1 := stA_o (h := h) (X := X) (Y := Y) (f := f) ne
          unfold stN
          rw [g_hI_sR, R_Rne' ne]
          exact ⟨(if_neg nz).trans s1.1, (if_neg nz).trans s1.2⟩
        · have nz : ¬ x = hz (stA h e X Y) := by omega
          rw [a7]
          unfold stN
          rw [g_hB_sR]
          exact (if_neg nz).trans (stA_s.2.2.2.2.2 x i)
        · have nz : ¬ x = hz (stA h e X Y) := by omega
          rw [a8, if_neg (fun c => by omega)]
          unfold stN
          rw [g_hA_sR]
          exact (if_neg nz).trans (stA_s.2.2.2.2.1 x i)
      all_goals
        have hzz : hz (stA h e X Y) = hz h := stA_s.1
        obtain ⟨a1, a2, a3, a4, a5, a6, a7, a8⟩ := cpC_s (H := stN h e X Y) (ca := hz h) (X := X) n
        have rc : hR (sI (sR (cpC (stN h e X Y) (hz h) X n) f_Entry_next e be) f_Entry_ticks e now) f_Entry_classes e = hz h := by
          show hR (sR (cpC (stN h e X Y) (hz h) X n) f_Entry_next e be) f_Entry_classes e = hz h
          rw [R_Rne (by decide), a2]
          unfold stN
          rw [R_R]; exact hzz
      · unfold ECL
        rw [rc]
        refine Or.inr ⟨by have := G.2.2; omega, ?_, ?_⟩
        · show hK (cpC (stN h e X Y) (hz h) X n) (hz h) = 1
          rw [a3]; unfold stN; rw [g_hK_sR, ← hzz]; exact if_pos rfl
        · show hl (cpC (stN h e X Y) (hz h) X n) (hz h) = 8
          rw [a4]; unfold stN; rw [g_hl_sR, ← hzz]; exact if_pos rfl
      · rw [rc]
        refine ⟨by have := G.2.2; omega, fun i hi => ?_⟩
        show hA (cpC (stN h e X Y) (hz h) X n) (hz h) i = _
        rw [a8, if_pos ⟨rfl, hi⟩]
    · refine r_setC HC ke ez ti b0 o1 o2 cz (q _ ?_ stA_q.cp ?_ (fun _ => ?_))
      · obtain ⟨a1, a2, a3, a4, a5, a6, a7, a8⟩ := cpC_s (H := stA h e X Y) (ca := hR h f_Entry_classes e) (X := X) n
        refine EJ.end' ⟨0, 0, by decide, by decide, cpC_fr stA_fr (Or.inr (Or.inr (Or.inr ⟨f_Entry_classes, e, ez, oC, rfl, Or.inl (Or.inl (by decide))⟩))) n⟩ (fun x f hx ne => ?_) (fun x i hx => ?_) (fun x i hx ne => ?_)
        · rw [a1, a2]; exact stA_o ne
        · rw [a7]; exact stA_s.2.2.2.2.2 x i
        · rw [a8, if_neg (fun c => ne c.1)]; exact stA_s.2.2.2.2.1 x i
      all_goals
        obtain ⟨a1, a2, a3, a4, a5, a6, a7, a8⟩ := cpC_s (H := stA h e X Y) (ca := hR h f_Entry_classes e) (X := X) n
        have rc : hR (sI (sR (cpC (stA h e X Y) (hR h f_Entry_classes e) X n) f_Entry_next e be) f_Entry_ticks e now) f_Entry_classes e = hR h f_Entry_classes e := by
          show hR (sR (cpC (stA h e X Y) (hR h f_Entry_classes e) X n) f_Entry_next e be) f_Entry_classes e = _
          rw [R_Rne (by decide), a2]
          unfold stA
          simp (decide := true) only [g_hI_sI, g_hI_sR, g_hR_sI, g_hR_sR, if_false, false_and]
      · unfold ECL
        rw [rc]
        refine Or.inr ⟨cz.1, ?_, ?_⟩
        · show hK (cpC (stA h e X Y) (hR h f_Entry_classes e) X n) (hR h f_Entry_classes e) = 1
          rw [a3, stA_s.2.2.1]; exact cz.2.1
        · show hl (cpC (stA h e X Y) (hR h f_Entry_classes e) X n) (hR h f_Entry_classes e) = 8
          rw [a4, stA_s.2.2.2.1]; exact cz.2.2
      · rw [rc]
        refine ⟨cz.1, fun i hi => ?_⟩
        show hA (cpC (stA h e X Y) (hR h f_Entry_classes e) X n) (hR h f_Entry_classes e) i = _
        rw [a8, if_pos ⟨rfl, hi⟩]
end
