set_option maxRecDepth 20000
section
variable {ρ : Nat → Nat} {d : Nat} {Q : QT} {Γ Γ' Γ1 Γ2 : GH} {h h' h1 h2 H : ah} {C ho N M z s t o n c r i j k p a T cd fn ck mk vs rk np : Nat} {g g' : HG} {S S' S1 S2 : SS} {X X' X1 X2 : X3} {Y Y' Y1 Y2 : Y3} {ws ws' hw : List (List Int)} {x y ty v fl l1 l2 l3 l4 : Int} {h0 : ah}
/-- letters of a result -/
def sgA (S : SS) (l1 l2 : Int) : Int := if (0 ≤ l1 ∧ l1 ≤ 1) ∧ (S f_Md_state l1.toNat = 2 ∨ S f_Md_state l1.toNat = 3) ∧ S f_Md_resultType l1.toNat = 3 then (if 0 ≤ l2 ∧ l2 < S f_Md_textLength (S f_Md_resultValue l1.toNat).toNat then S f_Md_textSigns ((S f_Md_textFrom (S f_Md_resultValue l1.toNat).toNat).toNat + l2.toNat) else -1) else -1
theorem c_signQ (A : ALL ρ Γ h C ho X Y S g N M hw ws) (LT : LTM h C) (q : Q (Sum.inl (some (vI (sgA S l1 l2)))) (cc h C X Y)) : wpB PGm ρ (d + 12) m_LT_sign 0 [(0, vR C), (1, vI l1), (2, vI l2)] [] (cc h C X Y) Q := by
  have G := A.1.1.1
  have F := A.1.1.2
  have rm : hR (cc h C X Y) f_LT_machine C = C + 32 := by rw [ccRo (by decide)]; exact LT.2.1
  have rf : hR (cc h C X Y) f_Machine_tasks (C + 32) = C + 61 := by rw [ccRo (by decide)]; exact F.2.1.2.2.2.2.2.2.2.2.2.2.1
  unfold sgA at q
  refine b_LT_sign_0 (d := d + 11) ⟨fun c => ?_, fun a1 => ⟨fun c => ?_, fun a2 => ⟨LT.1, ?_⟩⟩⟩
  · rw [if_neg (fun z => by have := z.1; omega)] at q; exact q
  · rw [if_neg (fun z => by have := z.1; omega)] at q; exact q
  have ⟨t, et⟩ : ∃ t : Nat, l1 = (t : Int) := ⟨l1.toNat, by omega⟩
  subst et
  have ht : t ≤ 1 := by omega
  have ok : (0 : Int) ≤ (t : Int) ∧ (t : Int) ≤ 1 := by omega
  rw [Int.toNat_natCast] at q
  refine c_hasR A LT ht ?_
  dsimp only [cI]
  refine ⟨fun z => ?_, fun z => ⟨LT.1, ?_⟩⟩
  · have st : ¬ (S f_Md_state t = 2 ∨ S f_Md_state t = 3) := fun c => by rw [if_pos c] at z; exact absurd z (by decide)
    rw [if_neg (fun z => st z.2.1)] at q; exact q
  have st : S f_Md_state t = 2 ∨ S f_Md_state t = 3 := Classical.byContradiction fun c => z (if_neg c)
  obtain ⟨o, hto⟩ := isTO.ex ht
  obtain ⟨-, io⟩ := hto.le
  obtain ⟨n, c, r, K⟩ := A.ct hto
  have V := K.2.2.2.2.2.2.2.2.2.1 st
  have i1 : hI (cc h C X Y) f_Task_tag (C + o) = X o f_Task_tag 0 := by rw [ccIt io (by decide)]
  have i2 : hI (cc h C X Y) f_Task_word (C + o) = X o f_Task_word 0 := by rw [ccIt io (by decide)]
  have rt : hR (cc h C X Y) f_Machine_texts (C + 32) = C + 46 := by rw [ccRo (by decide)]; exact F.2.1.2.2.2.1
  have rs : hR (cc h C X Y) f_Texts_size (C + 46) = hR h f_Texts_size (C + 46) := ccRo (by decide)
  have rr : hR (cc h C X Y) f_Texts_from (C + 46) = hR h f_Texts_from (C + 46) := ccRo (by decide)
  have rb : hR (cc h C X Y) f_Texts_bytes (C + 46) = hR h f_Texts_bytes (C + 46) := ccRo (by decide)
  have ks : hK (cc h C X Y) (hR h f_Texts_size (C + 46)) = 1 := (G.2.2.2.1 (f_Texts_size, 46, 1) (by decide)).2
  have kf : hK (cc h C X Y) (hR h f_Texts_from (C + 46)) = 1 := (G.2.2.2.1 (f_Texts_from, 46, 1) (by decide)).2
  have kb : hK (cc h C X Y) (hR h f_Texts_bytes (C + 46)) = 3 := (G.2.2.2.1 (f_Texts_bytes, 46, 3) (by decide)).2
  rw [rm, rf, rt, rs, rr, rb, ks, kf, kb, Int.toNat_natCast, eTk F G hto, i1, i2, V.1]
  refine ⟨F.1.1, kTk F ht, (F.t io).1, fun t3 => ⟨kTk F ht, fun c2 => ?_, fun c2 => ?_⟩, fun t3 => ?_⟩
  · rw [if_pos ⟨ok, st, t3⟩, if_neg (by omega)] at q; exact q
  · rw [if_pos ⟨ok, st, t3⟩] at q
    obtain ⟨m, l, em, ⟨a, tb1, tb2, tb3, tb4, tb5⟩, b, b', ey, c3, c4, c5, c6, c7, c8, c9, c10⟩ := A.1.2.2.2.2.1.find V t3
    rw [em, Int.toNat_natCast, tb2, tb3, Int.toNat_natCast] at q
    have sa : hA (cc h C X Y) (hR h f_Texts_size (C + 46)) b = (l.length : Int) := by rw [ccA G (by decide)]; exact c7
    have fa : hA (cc h C X Y) (hR h f_Texts_from (C + 46)) b = (b' : Int) := by rw [ccA G (by decide)]; exact c6
    have lb : ((b : Nat) : Int) < (hl (cc h C X Y) (hR h f_Texts_size (C + 46)) : Int) ∧ ((b : Nat) : Int) < (hl (cc h C X Y) (hR h f_Texts_from (C + 46)) : Int) := by show (b : Int) < (hl h _ : Int) ∧ (b : Int) < (hl h _ : Int); omega
    have b0 : (0 : Int) ≤ (b : Int) := by omega
    have wy : w32 (X o f_Task_word 0) = (b : Int) := by rw [ey]; exact w32_of (by omega) (by omega)
    rw [wy, Int.toNat_natCast, sa, fa]
    clear wy
    refine ⟨F.1.2.2.2.2.1, ⟨by decide, b0, lb.1⟩, fun c11 => ?_, fun c11 => ?_⟩
    · have ⟨w, ew⟩ : ∃ w : Nat, l2 = (w : Int) := ⟨l2.toNat, by omega⟩
      subst ew
      have hw2 : w < l.length := by omega
      rw [if_pos (by omega), Int.toNat_natCast, tb5 w hw2] at q
      have bb : 0 ≤ ((b' + w : Nat) : Int) ∧ ((b' + w : Nat) : Int) < (hl (cc h C X Y) (hR h f_Texts_bytes (C + 46)) : Int) := by show _ ∧ _ < (hl h _ : Int); omega
      have x1 : -2147483648 ≤ (b' : Int) + (w : Int) ∧ (b' : Int) + (w : Int) < 2147483648 := by omega
      have x2 : (b' : Int) + (w : Int) = ((b' + w : Nat) : Int) := by omega
      have ba : hA (cc h C X Y) (hR h f_Texts_bytes (C + 46)) (b' + w) = l.getD w 0 := by rw [ccA G (by decide)]; exact c10 w hw2
      rw [w32_of x1.1 x1.2, x2, Int.toNat_natCast, ba]
      exact ⟨⟨by decide, b0, lb.2⟩, ⟨by decide, bb⟩, q⟩
    · rw [if_neg (by omega)] at q; exact q
  · rw [if_neg (fun z => t3 z.2.2)] at q; exact q
theorem t_signQ (O : TOK h0 T) (tx : ∀ t, t ≤ 1 → (S f_Md_state t = 2 ∨ S f_Md_state t = 3) → S f_Md_resultType t = 3 → ∃ (m : Nat) (l : List Int), S f_Md_resultValue t = (m : Int) ∧ TTX S m l) (q : Q (Sum.inl (some (vI (sgA S l1 l2)))) (cn h0 T (thZ S))) : wpB PGm ρ (d + 2) m_Md_sign 0 [(0, vR T), (1, vI l1), (2, vI l2)] [] (cn h0 T S) Q := by
  obtain ⟨kT, G, kH⟩ := O
  have kM : ∀ S : SS, hK (cn h0 T S) T = k_Md := fun S => by rw [cnK]; exact kT
  unfold sgA at q
  have no : ¬ ((0 ≤ l1 ∧ l1 ≤ 1) ∧ (S f_Md_state l1.toNat = 2 ∨ S f_Md_state l1.toNat = 3) ∧ S f_Md_resultType l1.toNat = 3) → wpB PGm ρ (d + 2) m_Md_sign 64 [(0, vR T), (1, vI l1), (2, vI l2)] [vI 0] (cn h0 T (thZ S)) Q := fun z => by
    rw [if_neg z] at q
    exact b_Md_sign_64 ⟨fun _ => b_Md_sign_80 (d := d + 1) ⟨fun _ => q, fun c => absurd rfl c⟩, fun c => absurd rfl c⟩
  refine b_Md_sign_0 (d := d + 1) ⟨kM _, ?_⟩
  dsimp only
  rw [cn_th]
  refine t_inF (fun a1 a2 => ⟨fun c => absurd c (by decide), fun _ => ?_⟩) (fun a1 => ⟨fun _ => no (fun z => a1 z.1), fun c => absurd rfl c⟩)
  have ⟨t, et⟩ : ∃ t : Nat, l1 = (t : Int) := ⟨l1.toNat, by omega⟩
  subst et
  have ht : t ≤ 1 := by omega
  have ok : (0 : Int) ≤ (t : Int) ∧ (t : Int) ≤ 1 := by omega
  rw [Int.toNat_natCast] at q no
  replace tx := tx t ht
  have bt : 0 ≤ (t : Int) ∧ (t : Int) < ((2 : Nat) : Int) := by omega
  have e2 : ∀ f, f ≠ f_Md_thrown → thZ S f t = S f t := fun f hf => thZ_o hf
  have yes : (S f_Md_state t = 2 ∨ S f_Md_state t = 3) → wpB PGm ρ (d + 2) m_Md_sign 35 [(0, vR T), (1, vI (t : Int)), (2, vI l2)] [] (cn h0 T (thZ S)) Q := fun st => by
    refine b_Md_sign_35 (d := d + 1) ⟨kM _, t_inF (fun _ _ => ⟨fun c => absurd c (by decide), fun _ => ?_⟩) (fun c => absurd ok c)⟩
    refine b_Md_sign_54 ?_
    have fin : S f_Md_resultType t = 3 → wpB PGm ρ (d + 2) m_Md_sign 64 [(0, vR T), (1, vI (t : Int)), (2, vI l2)] [vI 1] (cn h0 T (thZ S)) Q := fun t3 => by
      rw [if_pos ⟨ok, st, t3⟩] at q
      obtain ⟨m, l, em, a, tb1, tb2, tb3, tb4, tb5⟩ := tx st t3
      rw [em, Int.toNat_natCast, tb2, tb3, Int.toNat_natCast] at q
      have bm : 0 ≤ (m : Int) ∧ (m : Int) < ((16000 : Nat) : Int) := by omega
      have f1 : thZ S f_Md_textLength m = (l.length : Int) := by rw [thZ_o (by decide)]; exact tb3
      have f2 : thZ S f_Md_textFrom m = (a : Int) := by rw [thZ_o (by decide)]; exact tb2
      have f3 : thZ S f_Md_resultValue t = (m : Int) := by rw [thZ_o (by decide)]; exact em
      have g80 : wpB PGm ρ (d + 2) m_Md_sign 80 [(0, vR T), (2, vI l2), (3, vI 1)] [vI (m : Int)] (cn h0 T (thZ S)) Q := by
        refine b_Md_sign_80 (d := d + 1) ⟨fun c => absurd c (by decide), fun _ => ?_⟩
        clear no tx
        simp (decide := true) (disch := first | decide | omega) only [cnI, cnIe, cnR, cnK, cnl, cnA' G, cn_sI, cn_sIe, cn_sA' G, kT, kH, KN G, LN G, u2_f, u2_s, w32_aa, w32_ss, w32_p1, w32_m1, Int.toNat_natCast, true_and, and_true, false_and, and_false, or_false, false_or, ne_eq, not_false_eq_true, forall_const, implies_true, not_true_eq_false, false_implies, f1, bm]
        have x1 : -2147483648 ≤ (l.length : Int) - 1 ∧ (l.length : Int) - 1 < 2147483648 := by omega
        rw [w32_of x1.1 x1.2]
        refine t_inF (fun b1 b2 => ⟨fun c => absurd c (by decide), fun _ => ?_⟩) (fun b1 => ⟨fun _ => ?_, fun c => absurd rfl c⟩)
        · have ⟨w, ew⟩ : ∃ w : Nat, l2 = (w : Int) := ⟨l2.toNat, by omega⟩
          subst ew
          rw [if_pos (by omega), Int.toNat_natCast] at q
          have bb : 0 ≤ ((a + w : Nat) : Int) ∧ ((a + w : Nat) : Int) < ((269632 : Nat) : Int) := by omega
          have x2 : -2147483648 ≤ (a : Int) + (w : Int) ∧ (a : Int) + (w : Int) < 2147483648 := by omega
          have x3 : (a : Int) + (w : Int) = ((a + w : Nat) : Int) := by omega
          have f4 : thZ S f_Md_textSigns (a + w) = S f_Md_textSigns (a + w) := thZ_o (by decide)
          have c0 : hA (cn h0 T (thZ S)) (hR (cn h0 T (thZ S)) f_Md_textFrom T) m = (a : Int) := by
            simp (decide := true) (disch := first | decide | omega) only [cnI, cnIe, cnR, cnK, cnl, cnA' G, cn_sI, cn_sIe, cn_sA' G, kT, kH, KN G, LN G, u2_f, u2_s, w32_aa, w32_ss, w32_p1, w32_m1, Int.toNat_natCast, true_and, and_true, false_and, and_false, or_false, false_or, ne_eq, not_false_eq_true, forall_const, implies_true, not_true_eq_false, false_implies, f2]
          rw [c0, w32_of x2.1 x2.2, x3]
          simp (decide := true) (disch := first | decide | omega) only [cnI, cnIe, cnR, cnK, cnl, cnA' G, cn_sI, cn_sIe, cn_sA' G, kT, kH, KN G, LN G, u2_f, u2_s, w32_aa, w32_ss, w32_p1, w32_m1, Int.toNat_natCast, true_and, and_true, false_and, and_false, or_false, false_or, ne_eq, not_false_eq_true, forall_const, implies_true, not_true_eq_false, false_implies, f4, bm, bb]
          exact q
        · rw [if_neg (by omega)] at q; exact q
      have wm : w32 (m : Int) = (m : Int) := w32_of (by omega) (by omega)
      refine b_Md_sign_64 ⟨fun c => absurd c (by decide), fun _ => ?_⟩
      clear no tx q
      simp (decide := true) (disch := first | decide | omega) only [cnI, cnIe, cnR, cnK, cnl, cnA' G, cn_sI, cn_sIe, cn_sA' G, kT, kH, KN G, LN G, u2_f, u2_s, w32_aa, w32_ss, w32_p1, w32_m1, Int.toNat_natCast, true_and, and_true, false_and, and_false, or_false, false_or, ne_eq, not_false_eq_true, forall_const, implies_true, not_true_eq_false, false_implies, f3, bt]
      rw [wm]
      exact g80
    have nn : ¬ S f_Md_resultType t = 3 → wpB PGm ρ (d + 2) m_Md_sign 64 [(0, vR T), (1, vI (t : Int)), (2, vI l2)] [vI 0] (cn h0 T (thZ S)) Q := fun t3 => no (fun z => t3 z.2.2)
    clear no tx q
    simp (decide := true) (disch := first | decide | omega) only [cnI, cnIe, cnR, cnK, cnl, cnA' G, cn_sI, cn_sIe, cn_sA' G, kT, kH, KN G, LN G, u2_f, u2_s, w32_aa, w32_ss, w32_p1, w32_m1, Int.toNat_natCast, true_and, and_true, false_and, and_false, or_false, false_or, ne_eq, not_false_eq_true, forall_const, implies_true, not_true_eq_false, false_implies, e2, bt]
    exact ⟨nn, fin⟩
  have no2 : ¬ (S f_Md_state t = 2 ∨ S f_Md_state t = 3) → wpB PGm ρ (d + 2) m_Md_sign 64 [(0, vR T), (1, vI (t : Int)), (2, vI l2)] [vI 0] (cn h0 T (thZ S)) Q := fun st => no (fun z => st z.2.1)
  clear no tx q
  simp (decide := true) (disch := first | decide | omega) only [cnI, cnIe, cnR, cnK, cnl, cnA' G, cn_sI, cn_sIe, cn_sA' G, kT, kH, KN G, LN G, u2_f, u2_s, w32_aa, w32_ss, w32_p1, w32_m1, Int.toNat_natCast, true_and, and_true, false_and, and_false, or_false, false_or, ne_eq, not_false_eq_true, forall_const, implies_true, not_true_eq_false, false_implies, e2, bt]
  exact ⟨fun z => yes (Or.inl z), fun z => ⟨fun z2 => no2 (fun c => c.elim z z2), fun z2 => yes (Or.inr z2)⟩⟩
end
