/-! LOAD and STORE -/
set_option maxRecDepth 20000
section
variable {ρ : Nat → Nat} {P : ah → Nat → Prop} {d : Nat} {Q : QT} {Γ Γ' : GH} {h h' : ah} {C : Nat} {X X' : X3} {Y Y' : Y3} {S S' : SS} {N t o n c r f i j k m z s : Nat} {ty v x y : Int}
theorem r_LOAD (I : IX h C X Y o n c) {a b : Nat} {w : Nat → Nat} (ha : a ≤ 1000) (h0 : Y o f_Task_variables (c - 1) = w 0) (hw : ∀ j, j < a → hK h (w j) = k_Variables ∧ hR h f_Variables_around (w j) = w (j + 1)) (l1 : hK h (w a) = k_Variables) (l2 : w a < hz h) (l3 : hK h (hR h f_Variables_tags (w a)) = 3) (l4 : hK h (hR h f_Variables_words (w a)) = 2) (l5 : b < hl h (hR h f_Variables_tags (w a))) (l6 : b < hl h (hR h f_Variables_words (w a))) (e1 : hA h (hR h f_Variables_tags (w a)) b = x) (e2 : hA h (hR h f_Variables_words (w a)) b = y) (hv : -128 ≤ x ∧ x ≤ 127) (q1 : n < 2000 → Q (Sum.inl none) (cc h C (goX (pshX X o n x y) o c) Y)) (q0 : n = 2000 → Q (Sum.inr (C + 33)) (cc h C (erX X 11) Y)) : wpB PGm ρ (d + 20) m_Machine_instruct 0 [(0, vR (C + 32)), (1, vI 1), (2, vI (a : Int)), (3, vI (b : Int))] [] (cc h C X Y) Q := by
  obtain ⟨G, F, ht, e0, hn, hc1, hc2⟩ := I
  have f1 := F.t ht
  unfold FCt at f1
  have f2 := F
  unfold FC at f2
  have e0' := e0
  obtain ⟨k1, k2, k3⟩ := e0
  have g : wpB PGm ρ (d + 19) m_Machine_pushed 0 [(0, vR (C + 32)), (1, vI x), (2, vL y)] [] (cc h C X Y) (cV (fun h32 => Q (Sum.inl none) h32) (fun e h' => ¬ hK h' e = 0 ∧ Q (Sum.inr e) h')) := by
    refine r_pushed G F ht e0' hn ⟨hc1, hc2⟩ hv q1 (fun z => ⟨?_, q0 z⟩)
    show hK h (C + 33) ≠ 0
    rw [F.1.2.1]; decide
  clear q1 q0
  refine b_Machine_instruct_0 (by omega) ?_
  simp (decide := true) (disch := first | decide | omega) only [ccI, ccR, ccIt ht, ccRo, ccK, ccl, ccA G, ccAt G ht, ccB G, ccBt G ht, cc_sI, cc_sR, cc_sIt ht, cc_sA G, cc_sAt G ht, cc_sB G, cc_sBt G ht, f1, f2, u3_f, u3_s, KCt G ht, KC G, w32_aa, w32_ss, w32_p1, w32_m1, Int.toNat_natCast, true_and, and_true, false_and, and_false, or_false, false_or, ne_eq, not_false_eq_true, forall_const, implies_true, not_true_eq_false, false_implies, k1, k2]
  refine r_around (w := w) G F ht k1 k3 ⟨hc1, hc2⟩ ha h0 hw ?_
  simp (decide := true) (disch := first | decide | omega) only [ccI, ccR, ccIt ht, ccRo, ccK, ccl, ccA G, ccAt G ht, ccB G, ccBt G ht, cc_sI, cc_sR, cc_sIt ht, cc_sA G, cc_sAt G ht, cc_sB G, cc_sBt G ht, f1, f2, u3_f, u3_s, KCt G ht, KC G, w32_aa, w32_ss, w32_p1, w32_m1, Int.toNat_natCast, true_and, and_true, false_and, and_false, or_false, false_or, ne_eq, not_false_eq_true, forall_const, implies_true, not_true_eq_false, false_implies, cR, l1, l3, l4, ccAo G, e1, e2]
  exact ⟨by omega, by omega, g⟩
theorem r_STORE (I : IX h C X Y o n c) (hn1 : 1 ≤ n) {a b : Nat} {w : Nat → Nat} (ha : a ≤ 1000) (h0 : Y o f_Task_variables (c - 1) = w 0) (hw : ∀ j, j < a → hK h (w j) = k_Variables ∧ hR h f_Variables_around (w j) = w (j + 1)) (l1 : hK h (w a) = k_Variables) (l2 : w a < hz h) (l3 : hK h (hR h f_Variables_tags (w a)) = 3) (l4 : hK h (hR h f_Variables_words (w a)) = 2) (l5 : b < hl h (hR h f_Variables_tags (w a))) (l6 : b < hl h (hR h f_Variables_words (w a))) (hv : -128 ≤ X o f_Task_tags (n - 1) ∧ X o f_Task_tags (n - 1) ≤ 127) (G2 : AC (sA (sA h (hR h f_Variables_tags (w a)) b (X o f_Task_tags (n - 1))) (hR h f_Variables_words (w a)) b (X o f_Task_words (n - 1))) C) (F2 : FC (sA (sA h (hR h f_Variables_tags (w a)) b (X o f_Task_tags (n - 1))) (hR h f_Variables_words (w a)) b (X o f_Task_words (n - 1))) C) (q : Q (Sum.inl none) (cc (sA (sA h (hR h f_Variables_tags (w a)) b (X o f_Task_tags (n - 1))) (hR h f_Variables_words (w a)) b (X o f_Task_words (n - 1))) C (goX X o c) Y)) : wpB PGm ρ (d + 20) m_Machine_instruct 0 [(0, vR (C + 32)), (1, vI 2), (2, vI (a : Int)), (3, vI (b : Int))] [] (cc h C X Y) Q := by
  obtain ⟨G, F, ht, e0, hn, hc1, hc2⟩ := I
  have f1 := F.t ht
  unfold FCt at f1
  have f2 := F
  unfold FC at f2
  have e0' := e0
  obtain ⟨k1, k2, k3⟩ := e0
  have eT : sA (cc h C X Y) (hR h f_Variables_tags (w a)) b (X o f_Task_tags (n - 1)) = cc (sA h (hR h f_Variables_tags (w a)) b (X o f_Task_tags (n - 1))) C X Y := cc_sAo G (by decide) l2
  have eW : sA (cc (sA h (hR h f_Variables_tags (w a)) b (X o f_Task_tags (n - 1))) C X Y) (hR h f_Variables_words (w a)) b (X o f_Task_words (n - 1)) = cc (sA (sA h (hR h f_Variables_tags (w a)) b (X o f_Task_tags (n - 1))) (hR h f_Variables_words (w a)) b (X o f_Task_words (n - 1))) C X Y := cc_sAo (h := sA h (hR h f_Variables_tags (w a)) b (X o f_Task_tags (n - 1))) (f := f_Variables_words) (b := w a) G (by decide) l2
  have eA : hA (cc (sA h (hR h f_Variables_tags (w a)) b (X o f_Task_tags (n - 1))) C X Y) (hR h f_Task_words (C + o)) (n - 1) = X o f_Task_words (n - 1) := ccAt (h := sA h (hR h f_Variables_tags (w a)) b (X o f_Task_tags (n - 1))) G ht (by decide)
  have g : wpB PGm ρ (d + 20) m_Machine_instruct 242 [(0, vR (C + 32))] [] (cc (sA (sA h (hR h f_Variables_tags (w a)) b (X o f_Task_tags (n - 1))) (hR h f_Variables_words (w a)) b (X o f_Task_words (n - 1))) C X Y) Q := by
    refine b_Machine_instruct_242 ⟨F2.1.1, r_go (n := n) (c := c) G2 F2 ht ⟨k1, k2, k3⟩ ⟨hc1, hc2⟩ q⟩
  clear q G2 F2
  refine b_Machine_instruct_0 (by omega) ?_
  simp (decide := true) (disch := first | decide | omega) only [ccI, ccR, ccIt ht, ccRo, ccK, ccl, ccA G, ccAt G ht, ccB G, ccBt G ht, cc_sI, cc_sR, cc_sIt ht, cc_sA G, cc_sAt G ht, cc_sB G, cc_sBt G ht, f1, f2, u3_f, u3_s, KCt G ht, KC G, w32_aa, w32_ss, w32_p1, w32_m1, Int.toNat_natCast, true_and, and_true, false_and, and_false, or_false, false_or, ne_eq, not_false_eq_true, forall_const, implies_true, not_true_eq_false, false_implies, k1, k2]
  refine r_around (w := w) G F ht k1 k3 ⟨hc1, hc2⟩ ha h0 hw ?_
  simp (decide := true) (disch := first | decide | omega) only [ccI, ccR, ccIt ht, ccRo, ccK, ccl, ccA G, ccAt G ht, ccB G, ccBt G ht, cc_sI, cc_sR, cc_sIt ht, cc_sA G, cc_sAt G ht, cc_sB G, cc_sBt G ht, f1, f2, u3_f, u3_s, KCt G ht, KC G, w32_aa, w32_ss, w32_p1, w32_m1, Int.toNat_natCast, true_and, and_true, false_and, and_false, or_false, false_or, ne_eq, not_false_eq_true, forall_const, implies_true, not_true_eq_false, false_implies, cR, l1, l3, l4, k1, eT, eW, eA, g_hK_sA, g_hR_sA, g_hl_sA]
  exact ⟨by omega, ⟨hv, by omega⟩, by omega, by omega, g⟩
theorem op_LOAD (hP : ∀ h0 T, P h0 T → TOK h0 T) (Kv : VRC Γ h S N) (H : OPH Γ h C X Y S N t o n c r) {a b : Int} (O : OPT Γ S (fsS S t (c - 1)) (psS S t (c - 1)) 1 a b) (D : DF S t n c (fsS S t (c - 1)) (psS S t (c - 1)) k 1 a b) : SOP ρ P Γ h C X Y S N t o c 1 a b := by
  obtain ⟨nx, v1, v2, v3, v4, v5⟩ := O.2.2.1 rfl
  have F1 := H.2.2.1.2.2.2.2.2.2.1 (c - 1) (by have := H.2.2.2.1; omega)
  obtain ⟨-, -, -, ⟨i10, i11, i12, i13⟩, -⟩ := F1
  have d2 := D.2.1
  have up := Kv.up (a := a.toNat) i11 (fun j hj => by rw [i13]; exact v5 j (by omega))
  obtain ⟨kn, vn, a1, a2, a3, a4, a5, a6, a7⟩ := Kv
  obtain ⟨u1, u2, -⟩ := up a.toNat (Nat.le_refl _)
  obtain ⟨⟨b1, b2, b3⟩, b4, b5, b6, -, ⟨b8, b9, b10, b11, b12, b13⟩, b14⟩ := a5 (upN S a.toNat (ksS S t (c - 1))) (by omega)
  have vo : S f_Md_variablesOf (gcf Γ (upN S a.toNat (ksS S t (c - 1)))) = S f_Md_variablesOf (goN Γ a.toNat (fsS S t (c - 1))) := by rw [u2, i13]
  have V := b14 b.toNat (by omega)
  have ea : a = (a.toNat : Int) := by omega
  have eb : b = (b.toNat : Int) := by omega
  have hv : -128 ≤ hA h (hR h f_Variables_tags (gva Γ (upN S a.toNat (ksS S t (c - 1))))) b.toNat ∧ hA h (hR h f_Variables_tags (gva Γ (upN S a.toNat (ksS S t (c - 1))))) b.toNat ≤ 127 := by rw [V.1]; exact V.2.2.tag
  have hK' : ∀ j, j < a.toNat → hK h (gva Γ (upN S j (ksS S t (c - 1)))) = k_Variables ∧ hR h f_Variables_around (gva Γ (upN S j (ksS S t (c - 1)))) = gva Γ (upN S (j + 1) (ksS S t (c - 1))) := fun j hj => by
    obtain ⟨w1, w2, w3⟩ := up j (by omega)
    exact ⟨(a5 _ (by omega)).1.1, (w3 hj).2⟩
  have hup : ∀ j, j ≤ a.toNat → upN S j (ksS S t (c - 1)) < 8000 := fun j hj => by have := (up j hj).1; omega
  have hpos : ∀ j, j < a.toNat → 0 ≤ S f_Md_around (upN S j (ksS S t (c - 1))) := fun j hj => ((up j (by omega)).2.2 hj).1
  have ew : S f_Md_variablesFrom (upN S a.toNat (ksS S t (c - 1))) = ((S f_Md_variablesFrom (upN S a.toNat (ksS S t (c - 1)))).toNat : Int) := by omega
  have l5 : b.toNat < hl h (hR h f_Variables_tags (gva Γ (upN S a.toNat (ksS S t (c - 1))))) := by omega
  have l6 : b.toNat < hl h (hR h f_Variables_words (gva Γ (upN S a.toNat (ksS S t (c - 1))))) := by omega
  have hy : (S f_Md_variablesFrom (upN S a.toNat (ksS S t (c - 1)))).toNat + b.toNat < 60000 := by omega
  rw [ea, eb] at D ⊢
  have a60 : a.toNat ≤ 1000 := by omega
  clear a5 a6 a7 b14
  by_cases hn : n < 2000
  · exact SOP.push H nx V hn (fun d Q q => r_LOAD (d := d + 40) (w := fun j => gva Γ (upN S j (ksS S t (c - 1)))) H.ix a60 i12 hK' b1 b2 b9 b11 l5 l6 rfl rfl hv (fun _ => q) (fun z => by omega)) (fun d h0 T Q p q => s_LOAD (d := d + 52) (hP _ _ p) D i10 a60 hup hpos ew hy (fun _ => q) (fun z => by omega))
  · have h0 : n = 2000 := by omega
    exact SOP.er (x := 11) H (by decide) (fun d Q q => r_LOAD (d := d + 40) (w := fun j => gva Γ (upN S j (ksS S t (c - 1)))) H.ix a60 i12 hK' b1 b2 b9 b11 l5 l6 rfl rfl hv (fun z => absurd z hn) (fun _ => q)) (fun d h0' T Q p q => s_LOAD (d := d + 52) (hP _ _ p) D i10 a60 hup hpos ew hy (fun z => absurd z hn) (fun _ => q))
end
