set_option maxRecDepth 20000
section
variable {ρ : Nat → Nat} {d : Nat} {Q : QT} {Γ Γ' Γ1 Γ2 : GH} {h h' h1 h2 : ah} {C ho N M z s t o n c r i j k p a T : Nat} {g g' : HG} {S S' S1 S2 : SS} {X X' X1 X2 : X3} {Y Y' Y1 Y2 : Y3} {ws ws' hw : List (List Int)} {x y ty v fl : Int} {h0 : ah}
/-- T's loop of steps, from so many done on -/
def TSS (ρ : Nat → Nat) (P : ah → Nat → Prop) (S : SS) (n done : Nat) (r : Nat) (S' : SS) : Prop := ∀ (d : Nat) (h0 : ah) (T : Nat) (Q : QT), P h0 T → Q (Sum.inl (some (vI (r : Int)))) (cn h0 T S') → wpB PGm ρ (d + 201) m_Md_steps 58 [(0, vR T), (2, vI (n : Int)), (3, vI (done : Int))] [] (cn h0 T S) Q
theorem s_steps0 (O : TOK h0 T) (ht : t ≤ 1) (et : S f_Md_t 0 = (t : Int)) (hn : n ≤ i ∨ ¬ S f_Md_state t = 1) (q : Q (Sum.inl (some (vI (i : Int)))) (cn h0 T S)) : wpB PGm ρ (d + 1) m_Md_steps 58 [(0, vR T), (2, vI (n : Int)), (3, vI (i : Int))] [] (cn h0 T S) Q := by
  obtain ⟨kT, G, kH⟩ := O
  refine b_Md_steps_58 ⟨fun _ => q, fun c => ?_⟩
  have e1 : ¬ S f_Md_state t = 1 := by omega
  have a1 : hA (cn h0 T S) (hR (cn h0 T S) f_Md_state T) (hI (cn h0 T S) f_Md_t T).toNat = S f_Md_state t := by
    simp (decide := true) (disch := first | decide | omega) only [cnI, cnIe, cnR, cnK, cnl, cnA' G, cn_sI, cn_sIe, cn_sA' G, kT, kH, KN G, LN G, u2_f, u2_s, w32_aa, w32_ss, w32_p1, w32_m1, Int.toNat_natCast, true_and, and_true, false_and, and_false, or_false, false_or, ne_eq, not_false_eq_true, forall_const, implies_true, not_true_eq_false, false_implies, et]
  refine ⟨by rw [cnK]; exact kT, ?_, fun _ => q, fun z => absurd (a1.symm.trans z) e1⟩
  simp (decide := true) (disch := first | decide | omega) only [cnI, cnIe, cnR, cnK, cnl, cnA' G, cn_sI, cn_sIe, cn_sA' G, kT, kH, KN G, LN G, u2_f, u2_s, w32_aa, w32_ss, w32_p1, w32_m1, Int.toNat_natCast, true_and, and_true, false_and, and_false, or_false, false_or, ne_eq, not_false_eq_true, forall_const, implies_true, not_true_eq_false, false_implies, et]
  omega
/-- where C's outer object is -/
def LTM (h : ah) (C : Nat) : Prop := hK h C = k_LT ∧ hR h f_LT_machine C = C + 32 ∧ C < hz h
theorem LTM.fr {L : List Nat} {Pp : List (Nat × Nat)} (H : LTM h C) (fr : Fr L Pp z s h h') (n1 : ¬ okW L Pp f_LT_machine C) : LTM h' C := ⟨by rw [fr.K H.2.2]; exact H.1, by rw [fr.R H.2.2 (by decide) n1]; exact H.2.1, fr.lt H.2.2⟩
/-- C's loop of steps, and T's -/
theorem j_steps (O : HSF g N M) (hto : isTO t o) (n1 : n ≤ 1000) : ∀ (m i : Nat) (Γ : GH) (h : ah) (X : X3) (Y : Y3) (S : SS) (ws : List (List Int)), ALL ρ Γ h C ho X Y S g N M hw ws → TAT S t → LTM h C → i + m = n → S f_Md_changes 0 - (lyc h ho N : Int) + 3 * (m : Int) + 61 ≤ 1000000 →
    (∀ (r : Nat) Γ' S' h' X' Y' ws', r ≤ n → TSS ρ (PTO ρ g N M) S n i r S' → STW ρ Γ h C ho S g N M hw Γ' h' X' Y' S' ws' (3 * (m : Int)) (31 * (m : Int)) → S' f_Md_thrown 0 = 0 → Q (Sum.inl (some (vI (r : Int)))) (cc h' C X' Y')) → wpB PGm ρ (d + 202) m_LT_steps 58 [(0, vR C), (2, vI (n : Int)), (3, vR (C + o)), (4, vI (i : Int))] [] (cc h C X Y) Q := fun m => by
  obtain ⟨ht, io⟩ := hto.le
  induction m with
  | zero =>
    intro i Γ h X Y S ws A ta LT im hc q
    have STr : STW ρ Γ h C ho S g N M hw Γ h X Y S ws (3 * ((0 : Nat) : Int)) (31 * ((0 : Nat) : Int)) := STW.any A A.1 OFX.rf OFX.rf OFF.rf A.2.1.1.2.2.2.2.2.2.2.1
    refine b_LT_steps_58 (d := d + 201) ⟨fun _ => ?_, fun c => by omega⟩
    exact q i Γ S h X Y ws (by omega) (fun d' h0 T' Q' PT q' => s_steps0 (d := d' + 200) PT.1.1 ht ta.1 (Or.inl (by omega)) q') STr ta.2.2.2
  | succ m ih =>
    intro i Γ h X Y S ws A ta LT im hc q
    have F := A.1.1.2
    have STr : STW ρ Γ h C ho S g N M hw Γ h X Y S ws (3 * ((m + 1 : Nat) : Int)) (31 * ((m + 1 : Nat) : Int)) := (STW.any A A.1 OFX.rf OFX.rf OFF.rf A.2.1.1.2.2.2.2.2.2.2.1).le (by omega) (by omega)
    obtain ⟨nt, ct, rt, K⟩ := A.ct hto
    have es : hI (cc h C X Y) f_Task_state (C + o) = S f_Md_state t := by rw [ccIt io (by decide)]; exact K.2.1.1
    have kT : hK (cc h C X Y) (C + o) = k_Task := (F.t io).1
    have rm : hR (cc h C X Y) f_LT_machine C = C + 32 := by rw [ccRo (by decide)]; exact LT.2.1
    refine b_LT_steps_58 (d := d + 201) ⟨fun c => by omega, fun _ => ⟨kT, ?_⟩⟩
    rw [es, rm]
    refine ⟨fun ns => ?_, fun run => ⟨LT.1, F.1.1, ?_⟩⟩
    · exact q i Γ S h X Y ws (by omega) (fun d' h0 T' Q' PT q' => s_steps0 (d := d' + 200) PT.1.1 ht ta.1 (Or.inr ns) q') STr ta.2.2.2
    · have ly : (lyc h ho N : Int) ≤ 60 := by
        have := lyc_le (h := h) (ho := ho) (n := N)
        have hN := O.1.2.2.2.2.1
        omega
      refine j_step (d := d) A O hto ta run (by omega) (fun fl Γ1 S1 h1 X1 Y1 ws1 hf T1 ST1 ta1 => ?_)
      refine ⟨fun z => ?_, fun z => ?_⟩
      · have f0 : fl = 0 := z
        subst f0
        have s4 : S1 f_Md_state t = 4 := by
          rcases hf with w | w
          · exact w.2
          · exact absurd w (by decide)
        have wi : w32 (w32 ((i : Int) + -1) + 1) = (i : Int) := by
          rw [w32_of (x := (i : Int) + -1) (by omega) (by omega), w32_of (by omega) (by omega)]; omega
        refine q i Γ1 S1 h1 X1 Y1 ws1 (by omega) (fun d' h0 T' Q' PT q' => T1 d' h0 T' Q' _ _ PT (by omega) ?_) (ST1.le (by omega) (by omega)) ta1.2.2.2
        rw [if_pos rfl, wi]
        exact s_steps0 (d := d' + 200) PT.1.1 ht ta1.1 (Or.inr (by rw [s4]; decide)) q'
      · have f1 : fl = 1 := by
          rcases hf with w | w
          · exact absurd w.1 z
          · exact w
        subst f1
        have wi : w32 ((i : Int) + 1) = ((i + 1 : Nat) : Int) := by rw [w32_of (by omega) (by omega)]; omega
        rw [wi]
        obtain ⟨zz, ss, fr⟩ := ST1.2.2.2.1
        have hb := ST1.2.2.2.2.2.2
        refine ih (i + 1) Γ1 h1 X1 Y1 S1 ws1 ST1.1 ta1 (LT.fr fr (PSs_w (by decide +kernel) (by decide))) (by omega) (by omega) (fun r Γ' S' h' X' Y' ws' hr T2 ST2 th => ?_)
        refine q r Γ' S' h' X' Y' ws' hr (fun d' h0 T' Q' PT q' => T1 d' h0 T' Q' _ _ PT (by omega) ?_) ((ST1.tr ST2).le (by omega) (by omega)) th
        rw [if_neg (by decide), wi]
        exact T2 d' h0 T' Q' PT q'
end
