/-! globals -/
set_option maxRecDepth 20000
section
variable {ρ : Nat → Nat} {P : ah → Nat → Prop} {d : Nat} {Q : QT} {Γ Γ' : GH} {h h' : ah} {C ho : Nat} {X X' : X3} {Y Y' : Y3} {S S' : SS} {N t o n c r f i j k m z s l a : Nat} {ty v x y op b : Int}
theorem r_GLOAD (I : IX h C X Y o n c) (l1 : hl h (hR h f_Machine_isGlobal (C + 32)) = l) (l2 : hl h (hR h f_Machine_globalTags (C + 32)) = l) (l3 : hl h (hR h f_Machine_globalWords (C + 32)) = l) (hv : a < l → X 32 f_Machine_isGlobal a ≠ 0 → -128 ≤ X 32 f_Machine_globalTags a ∧ X 32 f_Machine_globalTags a ≤ 127) (q1 : n < 2000 → a < l → X 32 f_Machine_isGlobal a ≠ 0 → Q (Sum.inl none) (cc h C (goX (pshX X o n (X 32 f_Machine_globalTags a) (X 32 f_Machine_globalWords a)) o c) Y)) (q2 : n ≠ 2000 → ¬ (a < l ∧ X 32 f_Machine_isGlobal a ≠ 0) → Q (Sum.inr (C + 33)) (cc h C (erX X 10) Y)) (q0 : n = 2000 → Q (Sum.inr (C + 33)) (cc h C (erX X 11) Y)) : wpB PGm ρ (d + 20) m_Machine_instruct 0 [(0, vR (C + 32)), (1, vI 3), (2, vI (a : Int)), (3, vI b)] [] (cc h C X Y) Q := by
  obtain ⟨G, F, ht, e0, hn, hc1, hc2⟩ := I
  have f1 := F.t ht
  unfold FCt at f1
  have f2 := F
  unfold FC at f2
  have e0' := e0
  obtain ⟨k1, k2, k3⟩ := e0
  have nz : hK h (C + 33) ≠ 0 := by rw [F.1.2.1]; decide
  have gp : a < l → X 32 f_Machine_isGlobal a ≠ 0 → wpB PGm ρ (d + 19) m_Machine_pushed 0 [(0, vR (C + 32)), (1, vI (X 32 f_Machine_globalTags a)), (2, vL (X 32 f_Machine_globalWords a))] [] (cc h C X Y) (cV (fun h73 => Q (Sum.inl none) h73) (fun e h' => ¬ hK h' e = 0 ∧ Q (Sum.inr e) h')) := fun z1 z2 => r_pushed G F ht e0' hn ⟨hc1, hc2⟩ (hv z1 z2) (fun z => q1 z z1 z2) (fun z => ⟨nz, q0 z⟩)
  have gs : ∀ v : Int, Q (Sum.inr (C + 33)) (cc h C (erX X v) Y) → wpB PGm ρ (d + 20) m_Machine_instruct 291 [] [vI v, vR (C + 33)] (cc h C X Y) Q := fun v q => b_Machine_instruct_291 ⟨F.1.2.1, r_sigQ G F q⟩
  have g267 : ¬ (a < l ∧ X 32 f_Machine_isGlobal a ≠ 0) → wpB PGm ρ (d + 20) m_Machine_instruct 267 [(0, vR (C + 32))] [] (cc h C X Y) Q := by
    intro z
    have w1 : n ≠ 2000 → wpB PGm ρ (d + 20) m_Machine_instruct 291 [] [vI 10, vR (C + 33)] (cc h C X Y) Q := fun y => gs _ (q2 y z)
    have w2 : n = 2000 → wpB PGm ρ (d + 20) m_Machine_instruct 291 [] [vI 11, vR (C + 33)] (cc h C X Y) Q := fun y => gs _ (q0 y)
    clear q1 q2 q0 gs gp hv
    refine b_Machine_instruct_267 ?_
    simp (decide := true) (disch := first | decide | omega) only [ccI, ccR, ccIt ht, ccRo, ccK, ccl, ccA G, ccAt G ht, ccB G, ccBt G ht, cc_sI, cc_sR, cc_sIt ht, cc_sA G, cc_sAt G ht, cc_sB G, cc_sBt G ht, f1, f2, u3_f, u3_s, KCt G ht, KC G, w32_aa, w32_ss, w32_p1, w32_m1, Int.toNat_natCast, true_and, and_true, false_and, and_false, or_false, false_or, ne_eq, not_false_eq_true, forall_const, implies_true, not_true_eq_false, false_implies, k1, k2]
    exact ⟨fun y => w1 (by omega), fun y => w2 (by omega)⟩
  clear q1 q2 q0 gs hv
  refine b_Machine_instruct_0 (by omega) ?_
  simp (decide := true) (disch := first | decide | omega) only [ccI, ccR, ccIt ht, ccRo, ccK, ccl, ccA G, ccAt G ht, ccB G, ccBt G ht, cc_sI, cc_sR, cc_sIt ht, cc_sA G, cc_sAt G ht, cc_sB G, cc_sBt G ht, f1, f2, u3_f, u3_s, KCt G ht, KC G, w32_aa, w32_ss, w32_p1, w32_m1, Int.toNat_natCast, true_and, and_true, false_and, and_false, or_false, false_or, ne_eq, not_false_eq_true, forall_const, implies_true, not_true_eq_false, false_implies, k1, k2, l1, l2, l3]
  exact ⟨fun z => g267 (fun w => by have := w.1; omega), fun z => ⟨by omega, fun z2 => ⟨by omega, by omega, gp (by omega) z2⟩, fun z2 => g267 (fun w => w.2 z2)⟩⟩
theorem op_GLOAD (hP : ∀ h0 T, P h0 T → TOK h0 T) (HG : GLB Γ h C X S N) (hN : S f_Md_names 0 ≤ 4000) (H : OPH Γ h C X Y S N t o n c r) {a : Int} (O : OPT Γ S (fsS S t (c - 1)) (psS S t (c - 1)) 3 a b) (D : DF S t n c (fsS S t (c - 1)) (psS S t (c - 1)) k 3 a b) : SOP ρ P Γ h C X Y S N t o c 3 a b := by
  obtain ⟨nx, v1, v2⟩ := O.2.2.2.2.1 rfl
  have d2 := D.2.1
  obtain ⟨l, l1, l2, l3, l4, l5, l6⟩ := HG
  obtain ⟨b1, b2, b3, -⟩ := l6 a.toNat (by omega)
  have ea : a = (a.toNat : Int) := by omega
  rw [ea] at D ⊢
  have a4 : a.toNat < 4000 := by omega
  have hv : a.toNat < l → X 32 f_Machine_isGlobal a.toNat ≠ 0 → -128 ≤ X 32 f_Machine_globalTags a.toNat ∧ X 32 f_Machine_globalTags a.toNat ≤ 127 := fun z1 z2 => by
    have e1 : S f_Md_isGlobal a.toNat = 1 := by have := b2 z1; omega
    have V := (b3 e1).2
    rw [V.1]; exact V.2.2.tag
  by_cases hn : n = 2000
  · exact SOP.er (x := 11) H (by decide) (fun d Q q => r_GLOAD (d := d + 40) H.ix l1 l2 l3 hv (fun z => by omega) (fun z => absurd hn z) (fun _ => q)) (fun d h0' T Q p q => s_GLOAD (d := d + 52) (hP _ _ p) D a4 (fun z => by omega) (fun z => by omega) (fun _ => q))
  · by_cases q : S f_Md_isGlobal a.toNat = 1
    · obtain ⟨w1, V⟩ := b3 q
      have w2 : X 32 f_Machine_isGlobal a.toNat ≠ 0 := by rw [b2 w1, q]; decide
      exact SOP.push H nx V (by omega) (fun d Q y => r_GLOAD (d := d + 40) H.ix l1 l2 l3 hv (fun _ _ _ => y) (fun _ z => absurd ⟨w1, w2⟩ z) (fun z => absurd z hn)) (fun d h0 T Q p y => s_GLOAD (d := d + 52) (hP _ _ p) D a4 (fun _ _ => y) (fun _ z => by omega) (fun z => absurd z hn))
    · have q0 : S f_Md_isGlobal a.toNat = 0 := by omega
      have nn : ¬ (a.toNat < l ∧ X 32 f_Machine_isGlobal a.toNat ≠ 0) := fun w => w.2 (by rw [b2 w.1]; exact q0)
      exact SOP.er (x := 10) H (by decide) (fun d Q y => r_GLOAD (d := d + 40) H.ix l1 l2 l3 hv (fun _ z1 z2 => absurd ⟨z1, z2⟩ nn) (fun _ _ => y) (fun z => absurd z hn)) (fun d h0' T Q p y => s_GLOAD (d := d + 52) (hP _ _ p) D a4 (fun _ z => absurd q0 z) (fun _ _ => y) (fun z => absurd z hn))
end
