set_option maxRecDepth 20000
section
variable {ρ : Nat → Nat} {d : Nat} {Q : QT} {h h' : ah} {N M z s t o n c r i j k p a T cd fn ck mk vs rk np un u : Nat} {S S' S1 S2 : SS} {x y ty v fl l1 l2 : Int} {h0 : ah}
theorem s_start (O : TOK h0 T) (eu : S f_Md_units 0 = (un : Int)) (u16 : un ≤ 16) (fu : ∀ u, u < un → ∃ fn np : Nat, S f_Md_unitFunction u = (fn : Int) ∧ fn < 400 ∧ S f_Md_variablesOf fn = 0 ∧ S f_Md_parametersOf fn = (np : Int)) (e1 : S f_Md_calls 0 = (ck : Int)) (e2 : S f_Md_allMade 0 = (mk : Int)) (e3 : S f_Md_variables 0 = (vs : Int)) (e4 : S f_Md_allSlots 0 = (rk : Int)) (b1 : ck ≤ mk ∧ mk ≤ 8000 ∧ vs ≤ 60000 ∧ rk ≤ 60000)
    (q0 : ¬ (0 ≤ l1 ∧ l1 ≤ 1 ∧ 0 ≤ l2 ∧ l2 < (un : Int) ∧ ¬ S f_Md_state l1.toNat = 1 ∧ mk < 8000) → Q (Sum.inl (some (vI 0))) (cn h0 T (u2 S f_Md_thrown 0 0)))
    (q1 : ∀ t u fn np : Nat, l1 = (t : Int) → l2 = (u : Int) → t ≤ 1 → u < un → ¬ S f_Md_state t = 1 → mk < 8000 → S f_Md_unitFunction u = (fn : Int) → S f_Md_parametersOf fn = (np : Int) → Q (Sum.inl (some (vI 1))) (cn h0 T (sbS S t fn ck mk vs rk np))) : wpB PGm ρ (d + 4) m_Md_start 0 [(0, vR T), (1, vI l1), (2, vI l2)] [] (cn h0 T S) Q := by
  have O' := O
  obtain ⟨kT, G, kH⟩ := O
  have to : ∀ f i, f ≠ f_Md_thrown → u2 S f_Md_thrown 0 0 f i = S f i := fun f i hf => u2_f hf
  have s0 : sI (cn h0 T S) f_Md_thrown T 0 = cn h0 T (u2 S f_Md_thrown 0 0) := cn_sI (by decide)
  refine b_Md_start_0 (d := d + 3) ⟨by rw [cnK]; exact kT, ?_⟩
  dsimp only
  rw [s0]
  have kM : ∀ S : SS, hK (cn h0 T S) T = k_Md := fun S => by rw [cnK]; exact kT
  have eu' : hI (cn h0 T (u2 S f_Md_thrown 0 0)) f_Md_units T = (un : Int) := by rw [cnI (by decide), to _ _ (by decide)]; exact eu
  refine t_inF (fun a1 a2 => ⟨fun c => absurd c (by decide), fun _ => ⟨kM _, ?_⟩⟩) (fun a1 => ⟨fun _ => q0 (fun c => a1 ⟨c.1, c.2.1⟩), fun c => absurd rfl c⟩)
  rw [eu']
  have wu : w32 ((un : Int) - 1) = (un : Int) - 1 := w32_of (by omega) (by omega)
  rw [wu]
  clear wu
  refine t_inF (fun a3 a4 => ⟨fun c => absurd c (by decide), fun _ => ⟨kM _, ?_⟩⟩) (fun a3 => ⟨fun _ => q0 (fun c => a3 ⟨c.2.2.1, by have := c.2.2.2.1; omega⟩), fun c => absurd rfl c⟩)
  have ⟨t, et⟩ : ∃ t : Nat, l1 = (t : Int) := ⟨l1.toNat, by omega⟩
  have ⟨u, eu2⟩ : ∃ u : Nat, l2 = (u : Int) := ⟨l2.toNat, by omega⟩
  subst et eu2
  obtain ⟨fn, np, f1, f2, f3, f4⟩ := fu u (by omega)
  have ht : t ≤ 1 := by omega
  have bt : 0 ≤ (t : Int) ∧ (t : Int) < ((2 : Nat) : Int) := by omega
  have bu : 0 ≤ (u : Int) ∧ (u : Int) < ((16 : Nat) : Int) := by omega
  have bf : 0 ≤ (fn : Int) ∧ (fn : Int) < ((400 : Nat) : Int) := by omega
  have aS : hA (cn h0 T (u2 S f_Md_thrown 0 0)) (hR (cn h0 T (u2 S f_Md_thrown 0 0)) f_Md_state T) (t : Int).toNat = S f_Md_state t := by
    simp (decide := true) (disch := first | decide | omega) only [cnI, cnIe, cnR, cnK, cnl, cnA' G, cn_sI, cn_sIe, cn_sA' G, kT, kH, KN G, LN G, u2_f, u2_s, w32_aa, w32_ss, w32_p1, w32_m1, Int.toNat_natCast, true_and, and_true, false_and, and_false, or_false, false_or, ne_eq, not_false_eq_true, forall_const, implies_true, not_true_eq_false, false_implies]
  have aU : hA (cn h0 T (u2 S f_Md_thrown 0 0)) (hR (cn h0 T (u2 S f_Md_thrown 0 0)) f_Md_unitFunction T) (u : Int).toNat = (fn : Int) := by
    simp (decide := true) (disch := first | decide | omega) only [cnI, cnIe, cnR, cnK, cnl, cnA' G, cn_sI, cn_sIe, cn_sA' G, kT, kH, KN G, LN G, u2_f, u2_s, w32_aa, w32_ss, w32_p1, w32_m1, Int.toNat_natCast, true_and, and_true, false_and, and_false, or_false, false_or, ne_eq, not_false_eq_true, forall_const, implies_true, not_true_eq_false, false_implies, f1]
  have c1 : (hK (cn h0 T (u2 S f_Md_thrown 0 0)) (hR (cn h0 T (u2 S f_Md_thrown 0 0)) f_Md_state T) ∈ [1, 11] ∧ 0 ≤ (t : Int) ∧ (t : Int) < (hl (cn h0 T (u2 S f_Md_thrown 0 0)) (hR (cn h0 T (u2 S f_Md_thrown 0 0)) f_Md_state T) : Int)) := by
    simp (decide := true) (disch := first | decide | omega) only [cnI, cnIe, cnR, cnK, cnl, cnA' G, cn_sI, cn_sIe, cn_sA' G, kT, kH, KN G, LN G, u2_f, u2_s, w32_aa, w32_ss, w32_p1, w32_m1, Int.toNat_natCast, true_and, and_true, false_and, and_false, or_false, false_or, ne_eq, not_false_eq_true, forall_const, implies_true, not_true_eq_false, false_implies]
    first | exact bt | omega
  have c2 : (hK (cn h0 T (u2 S f_Md_thrown 0 0)) (hR (cn h0 T (u2 S f_Md_thrown 0 0)) f_Md_unitFunction T) ∈ [1, 11] ∧ 0 ≤ (u : Int) ∧ (u : Int) < (hl (cn h0 T (u2 S f_Md_thrown 0 0)) (hR (cn h0 T (u2 S f_Md_thrown 0 0)) f_Md_unitFunction T) : Int)) := by
    simp (decide := true) (disch := first | decide | omega) only [cnI, cnIe, cnR, cnK, cnl, cnA' G, cn_sI, cn_sIe, cn_sA' G, kT, kH, KN G, LN G, u2_f, u2_s, w32_aa, w32_ss, w32_p1, w32_m1, Int.toNat_natCast, true_and, and_true, false_and, and_false, or_false, false_or, ne_eq, not_false_eq_true, forall_const, implies_true, not_true_eq_false, false_implies]
    first | exact bu | omega
  refine ⟨c1, ?_⟩
  rw [aS, aU]
  refine ⟨fun st => q0 (fun c => c.2.2.2.2.1 (by rw [Int.toNat_natCast]; exact st)), fun st => ⟨c2, ?_⟩⟩
  have eM : hI (cn h0 T (u2 S f_Md_thrown 0 0)) f_Md_allMade T = (mk : Int) := by rw [cnI (by decide), to _ _ (by decide)]; exact e2
  have eA : hI (cn h0 T (u2 S f_Md_thrown 0 0)) f_Md_allSlots T = (rk : Int) := by rw [cnI (by decide), to _ _ (by decide)]; exact e4
  have aV : hA (cn h0 T (u2 S f_Md_thrown 0 0)) (hR (cn h0 T (u2 S f_Md_thrown 0 0)) f_Md_variablesOf T) (fn : Int).toNat = 0 := by
    simp (decide := true) (disch := first | decide | omega) only [cnI, cnIe, cnR, cnK, cnl, cnA' G, cn_sI, cn_sIe, cn_sA' G, kT, kH, KN G, LN G, u2_f, u2_s, w32_aa, w32_ss, w32_p1, w32_m1, Int.toNat_natCast, true_and, and_true, false_and, and_false, or_false, false_or, ne_eq, not_false_eq_true, forall_const, implies_true, not_true_eq_false, false_implies, f3]
  have c3 : (hK (cn h0 T (u2 S f_Md_thrown 0 0)) (hR (cn h0 T (u2 S f_Md_thrown 0 0)) f_Md_variablesOf T) ∈ [1, 11] ∧ 0 ≤ (fn : Int) ∧ (fn : Int) < (hl (cn h0 T (u2 S f_Md_thrown 0 0)) (hR (cn h0 T (u2 S f_Md_thrown 0 0)) f_Md_variablesOf T) : Int)) := by
    simp (decide := true) (disch := first | decide | omega) only [cnI, cnIe, cnR, cnK, cnl, cnA' G, cn_sI, cn_sIe, cn_sA' G, kT, kH, KN G, LN G, u2_f, u2_s, w32_aa, w32_ss, w32_p1, w32_m1, Int.toNat_natCast, true_and, and_true, false_and, and_false, or_false, false_or, ne_eq, not_false_eq_true, forall_const, implies_true, not_true_eq_false, false_implies]
    first | exact bf | omega
  refine b_Md_hasRoomForCall_0 (d := d + 2) ⟨kM _, b_Md_hasRoomFor_0 ⟨kM _, ?_⟩⟩
  have w1 : w32 (1 + (0 : Int)) = 1 := w32_of (by omega) (by omega)
  have w2 : w32 ((mk : Int) + 1) = (mk : Int) + 1 := w32_of (by omega) (by omega)
  have w3 : w32 ((rk : Int) + 0) = (rk : Int) := by rw [w32_of (by omega) (by omega)]; omega
  rw [w1, eM, w2]
  refine ⟨fun full => ?_, fun rm => ?_⟩
  · exact ⟨fun _ => ⟨fun c => absurd rfl c, fun _ => q0 (fun c => by have := c.2.2.2.2.2; clear w1 w2 w3; omega)⟩, fun c => absurd rfl c⟩
  · have mk8 : mk < 8000 := by clear w1 w2 w3; omega
    refine ⟨fun c => absurd c (by decide), fun _ => ⟨kM _, c3, ?_⟩⟩
    rw [aV, eA, w3]
    refine ⟨fun c => absurd c (by clear w1 w2 w3; omega), fun _ => ⟨fun _ => ⟨kM _, ?_⟩, fun c => absurd c (by decide)⟩⟩
    clear w1 w2 w3 q0 aS aU aV c1 c2 c3 eM eA
    have g1 := q1 t u fn np rfl rfl ht (by omega) st mk8 f1 f4
    unfold sbS at g1
    have zo : ∀ f i, f ≠ f_Md_frames → f ≠ f_Md_height → f ≠ f_Md_tries → f ≠ f_Md_thrown → rzS (u2 S f_Md_thrown 0 0) t f i = S f i := fun f i h1 h2 h3 h4 => by unfold rzS; rw [u2_f h3, u2_f h2, u2_f h1, u2_f h4]
    have z1 : rzS (u2 S f_Md_thrown 0 0) t f_Md_frames t = 0 := by unfold rzS; rw [u2_f (by decide), u2_f (by decide), u2_s]
    have z2 : rzS (u2 S f_Md_thrown 0 0) t f_Md_height t = 0 := by unfold rzS; rw [u2_f (by decide), u2_s]
    have z3 : rzS (u2 S f_Md_thrown 0 0) t f_Md_tries t = 0 := by unfold rzS; rw [u2_s]
    have g2 := s_start78 (ρ := ρ) (d := d + 1) (Q := Q) (u := u) O' ht (by omega) z1 z2 z3 (by rw [zo _ _ (by decide) (by decide) (by decide) (by decide)]; exact f1) f2 (by rw [zo _ _ (by decide) (by decide) (by decide) (by decide)]; exact e1) (by rw [zo _ _ (by decide) (by decide) (by decide) (by decide)]; exact e2) (by rw [zo _ _ (by decide) (by decide) (by decide) (by decide)]; exact e3) (by rw [zo _ _ (by decide) (by decide) (by decide) (by decide)]; exact e4) (by omega) (by rw [zo _ _ (by decide) (by decide) (by decide) (by decide)]; exact f3) (by rw [zo _ _ (by decide) (by decide) (by decide) (by decide)]; exact f4) g1
    unfold rzS at g2
    clear g1 zo z1 z2 z3
    simp (decide := true) (disch := first | decide | omega) only [cnI, cnIe, cnR, cnK, cnl, cnA' G, cn_sI, cn_sIe, cn_sA' G, kT, kH, KN G, LN G, u2_f, u2_s, w32_aa, w32_ss, w32_p1, w32_m1, Int.toNat_natCast, true_and, and_true, false_and, and_false, or_false, false_or, ne_eq, not_false_eq_true, forall_const, implies_true, not_true_eq_false, false_implies]
    first | exact g2 | exact ⟨bt, g2⟩ | exact ⟨bt, bt, bt, g2⟩
end
