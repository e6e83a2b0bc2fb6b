set_option maxRecDepth 20000
section
variable {ρ : Nat → Nat} {d : Nat} {Q : QT} {Γ Γ' Γ1 Γ2 : GH} {h h' h1 h2 H : ah} {C ho N M z s t o n c r i j k p a T cd fn ck mk vs rk np : Nat} {g g' : HG} {S S' S1 S2 : SS} {X X' X1 X2 : X3} {Y Y' Y1 Y2 : Y3} {ws ws' hw : List (List Int)} {x y ty v fl l1 l2 l3 : Int} {h0 : ah}
/-- tasks -/
def lsF (S : SS) (t : Nat) : Nat := 200 * t + (S f_Md_frames t).toNat - 1
def tkA (S : SS) (l1 l2 : Int) : Int := if 0 ≤ l1 ∧ l1 ≤ 1 then (if l2 = 0 then S f_Md_state l1.toNat else if l2 = 1 then S f_Md_frames l1.toNat else if l2 = 2 then S f_Md_height l1.toNat else if l2 = 3 then (if 0 < S f_Md_frames l1.toNat then S f_Md_frameFunction (lsF S l1.toNat) else -1) else if l2 = 4 then (if 0 < S f_Md_frames l1.toNat then S f_Md_frameAt (lsF S l1.toNat) else -1) else -1) else -1
theorem isTO.ex (ht : t ≤ 1) : ∃ o, isTO t o := by
  by_cases z : t = 0
  · exact ⟨62, Or.inl ⟨z, rfl⟩⟩
  · exact ⟨75, Or.inr ⟨by omega, rfl⟩⟩
theorem eTk (F : FC h C) (G : AC h C) (hto : isTO t o) : hB (cc h C X Y) (C + 61) t = C + o := by
  have : hB (cc h C X Y) (C + 61) t = hB h (C + 61) t := ccB0 (fun q hq c => by
    have U := F.2.2.2.2.2.2.2.2.2.1.1
    have g1 := G.1
    have w : raC.all (fun q => ownF.elem q.1 && Nat.ble q.2.1 101) = true := by decide
    have w := List.all_eq_true.mp w q hq
    simp only [Bool.and_eq_true] at w
    have w2 := Nat.le_of_ble_eq_true w.2
    exact U q.1 (C + q.2.1) (by omega) (own_of w.1) c)
  rw [this]
  rcases hto with ⟨rfl, rfl⟩ | ⟨rfl, rfl⟩
  · exact F.2.2.2.2.1.2.2.1
  · exact F.2.2.2.2.1.2.2.2
theorem kTk (F : FC h C) (ht : t ≤ 1) : 20 ≤ hK (cc h C X Y) (C + 61) ∧ hK (cc h C X Y) (C + 61) < 100 ∧ 0 ≤ (t : Int) ∧ (t : Int) < (hl (cc h C X Y) (C + 61) : Int) := by
  have k1 : hK (cc h C X Y) (C + 61) = 26 := F.2.2.2.2.1.1
  have k2 : hl (cc h C X Y) (C + 61) = 2 := F.2.2.2.2.1.2.1
  rw [k1, k2]
  exact ⟨by decide, by decide, by omega, by omega⟩
theorem c_task (A : ALL ρ Γ h C ho X Y S g N M hw ws) (LT : LTM h C) (q : Q (Sum.inl (some (vI (tkA S l1 l2)))) (cc h C X Y)) : wpB PGm ρ (d + 12) m_LT_task 0 [(0, vR C), (1, vI l1), (2, vI l2)] [] (cc h C X Y) Q := by
  have G := A.1.1.1
  have F := A.1.1.2
  have rm : hR (cc h C X Y) f_LT_machine C = C + 32 := by rw [ccRo (by decide)]; exact LT.2.1
  have rf : hR (cc h C X Y) f_Machine_tasks (C + 32) = C + 61 := by rw [ccRo (by decide)]; exact F.2.1.2.2.2.2.2.2.2.2.2.2.1
  unfold tkA at q
  refine b_LT_task_0 (d := d + 11) ⟨fun c => ?_, fun c => ⟨fun c2 => ⟨LT.1, ?_⟩, fun c2 => ?_⟩⟩
  · rw [if_neg (by omega)] at q; exact q
  · have ⟨t, et⟩ : ∃ t : Nat, l1 = (t : Int) := ⟨l1.toNat, by omega⟩
    subst et
    have ht : t ≤ 1 := by omega
    obtain ⟨o, hto⟩ := isTO.ex ht
    obtain ⟨-, io⟩ := hto.le
    obtain ⟨n, c, r, K⟩ := A.ct hto
    obtain ⟨-, ⟨s1, s2, s3, s4, s5⟩, ⟨n1, n2, n3⟩, ⟨c1, c2', c3⟩, -, -, fr, -⟩ := K
    rw [rm, rf, Int.toNat_natCast, eTk F G hto]
    have kT : hK (cc h C X Y) (C + o) = k_Task := (F.t io).1
    have i1 : hI (cc h C X Y) f_Task_state (C + o) = S f_Md_state t := by rw [ccIt io (by decide)]; exact s1
    have i2 : hI (cc h C X Y) f_Task_calls (C + o) = (c : Int) := by rw [ccIt io (by decide)]; exact c1
    have i3 : hI (cc h C X Y) f_Task_size (C + o) = (n : Int) := by rw [ccIt io (by decide)]; exact n1
    have r2 : hR (cc h C X Y) f_Task_code (C + o) = hR h f_Task_code (C + o) := ccRo (by decide)
    have r3 : hR (cc h C X Y) f_Task_next (C + o) = hR h f_Task_next (C + o) := ccRo (by decide)
    have K := KCt G io
    have L := F.t io
    have kc : hK (cc h C X Y) (hR h f_Task_code (C + o)) = 23 := K.2.2.1
    have kn : hK (cc h C X Y) (hR h f_Task_next (C + o)) = 1 := K.2.2.2.1
    have lc : hl (cc h C X Y) (hR h f_Task_code (C + o)) = 200 := L.2.2.2.1
    have ln : hl (cc h C X Y) (hR h f_Task_next (C + o)) = 200 := L.2.2.2.2.1
    rw [if_pos (by omega), Int.toNat_natCast, n2, c2'] at q
    refine ⟨F.1.1, kTk F ht, kT, ?_⟩
    have fin : ∀ s0 : Int, (s0 = 0 → n = 0 ∧ c = 0) → (¬ s0 = 0 → 1 ≤ c) → wpB PGm ρ (d + 11) m_Task_tell 21 [(0, vR (C + o)), (1, vI l2)] [vI s0] (cc h C X Y) (cI (fun x20 h15 => Q (Sum.inl (some (vI x20))) h15) (fun e18 h17 => hK h17 e18 ≠ 0 ∧ Q (Sum.inr e18) h17)) := fun s0 z0 z1 => by
      refine b_Task_tell_21 ?_
      rw [i1, i2, i3, r2, r3, kc, kn, lc, ln]
      refine ⟨fun z => ⟨kT, by rw [if_pos z] at q; exact q⟩, fun m0 => ⟨fun z => ?_, fun m1 => ⟨fun z => ?_, fun m2 => ⟨fun z => ?_, fun m3 => ⟨fun z => ?_, fun m4 => ?_⟩⟩⟩⟩⟩
      · rw [if_neg m0, if_pos z] at q
        refine ⟨fun w => ?_, fun w => ⟨kT, q⟩⟩
        rw [(z0 w).2] at q; exact q
      · rw [if_neg m0, if_neg m1, if_pos z] at q
        refine ⟨fun w => ?_, fun w => ⟨kT, q⟩⟩
        rw [(z0 w).1] at q; exact q
      · rw [if_neg m0, if_neg m1, if_neg m2, if_pos z] at q
        refine ⟨fun w => ?_, fun w => ⟨kT, ?_⟩⟩
        · have := (z0 w).2
          rw [if_neg (by omega)] at q; exact q
        · have hc := z1 w
          rw [if_pos (by omega)] at q
          obtain ⟨⟨f1, f2, f3⟩, -⟩ := fr (c - 1) (by omega)
          obtain ⟨fnn, fe, f400, flen, FN⟩ := id A.1.2.2.2.1
          obtain ⟨⟨ka, az, a0⟩, num, -⟩ := FN (fsS S t (c - 1)) (by omega)
          have w0 : ((c : Int) - 1) = ((c - 1 : Nat) : Int) := by omega
          have w2 : 0 ≤ ((c - 1 : Nat) : Int) ∧ ((c - 1 : Nat) : Int) < ((200 : Nat) : Int) := by omega
          have w3 : lsF S t = 200 * t + (c - 1) := by unfold lsF; rw [c2', Int.toNat_natCast]; omega
          have w1 : w32 ((c : Int) - 1) = ((c - 1 : Nat) : Int) := by rw [w32_of (by omega) (by omega)]; exact w0
          have b1 : hB (cc h C X Y) (hR h f_Task_code (C + o)) (c - 1) = hB h (C + 56) (fsS S t (c - 1)) := by rw [ccBt G io (by decide)]; exact f3
          have nn : hI (cc h C X Y) f_Code_number (hB h (C + 56) (fsS S t (c - 1))) = (fsS S t (c - 1) : Int) := by rw [ccIo (by decide)]; exact num
          rw [w3, f1] at q
          rw [w1, Int.toNat_natCast, b1, nn]
          exact ⟨⟨by decide, by decide, w2⟩, ka, q⟩
      · rw [if_neg m0, if_neg m1, if_neg m2, if_neg m3, if_pos z] at q
        refine ⟨fun w => ?_, fun w => ⟨kT, ?_⟩⟩
        · have := (z0 w).2
          rw [if_neg (by omega)] at q; exact q
        · have hc := z1 w
          rw [if_pos (by omega)] at q
          obtain ⟨-, ⟨p1, p2, p3⟩, -⟩ := fr (c - 1) (by omega)
          have w0 : ((c : Int) - 1) = ((c - 1 : Nat) : Int) := by omega
          have w2 : 0 ≤ ((c - 1 : Nat) : Int) ∧ ((c - 1 : Nat) : Int) < ((200 : Nat) : Int) := by omega
          have w3 : lsF S t = 200 * t + (c - 1) := by unfold lsF; rw [c2', Int.toNat_natCast]; omega
          have w1 : w32 ((c : Int) - 1) = ((c - 1 : Nat) : Int) := by rw [w32_of (by omega) (by omega)]; exact w0
          have a1 : hA (cc h C X Y) (hR h f_Task_next (C + o)) (c - 1) = (psS S t (c - 1) : Int) := by rw [ccAt G io (by decide)]; exact p2
          rw [w3, p1] at q
          rw [w1, Int.toNat_natCast, a1]
          exact ⟨⟨by decide, w2⟩, q⟩
      · rw [if_neg m0, if_neg m1, if_neg m2, if_neg m3, if_neg m4] at q; exact q
    refine b_Task_tell_0 ⟨kT, ?_⟩
    rw [i1]
    refine ⟨fun z => fin 1 (fun c => absurd c (by decide)) (fun _ => s4 (Or.inl z)), fun z => ⟨fun z2 => fin 0 (fun _ => ?_) (fun c => absurd rfl c), fun z2 => fin 1 (fun c => absurd c (by decide)) (fun _ => s4 (Or.inr z2))⟩⟩
    obtain ⟨y1, y2, -⟩ := s5 (fun c => c.elim z z2)
    exact ⟨y1, y2⟩
  · rw [if_neg (by omega)] at q; exact q
theorem t_task (O : TOK h0 T) (en : ∀ t, t ≤ 1 → ∃ c : Nat, S f_Md_frames t = (c : Int) ∧ c ≤ 200) (q : Q (Sum.inl (some (vI (tkA S l1 l2)))) (cn h0 T (thZ S))) : wpB PGm ρ (d + 1) m_Md_task 0 [(0, vR T), (1, vI l1), (2, vI l2)] [] (cn h0 T S) Q := by
  obtain ⟨kT, G, kH⟩ := O
  have kM : ∀ S : SS, hK (cn h0 T S) T = k_Md := fun S => by rw [cnK]; exact kT
  unfold tkA at q
  refine b_Md_task_0 ⟨kM _, ?_⟩
  dsimp only
  rw [cn_th]
  refine t_inF (fun a1 a2 => ⟨fun _ => ?_, fun c => absurd c (by decide)⟩) (fun a1 => ⟨fun c => absurd rfl c, fun _ => ?_⟩)
  · have ⟨u, eu⟩ : ∃ u : Nat, l1 = (u : Int) := ⟨l1.toNat, by omega⟩
    subst eu
    have bu : 0 ≤ (u : Int) ∧ (u : Int) < ((2 : Nat) : Int) := by omega
    obtain ⟨c, ec, c2⟩ := en u (by omega)
    clear en
    rw [if_pos (by omega), Int.toNat_natCast, ec] at q
    have e2 : ∀ f, f ≠ f_Md_thrown → thZ S f u = S f u := fun f hf => thZ_o hf
    have w3 : lsF S u = 200 * u + c - 1 := by unfold lsF; rw [ec, Int.toNat_natCast]
    rw [w3] at q
    have lst : 0 < c → 0 ≤ ((200 * u + c - 1 : Nat) : Int) ∧ ((200 * u + c - 1 : Nat) : Int) < ((400 : Nat) : Int) := fun hc => by omega
    have e3 : ∀ f, f ≠ f_Md_thrown → thZ S f (200 * u + c - 1) = S f (200 * u + c - 1) := fun f hf => thZ_o hf
    have x1 : -2147483648 ≤ 200 * (u : Int) ∧ 200 * (u : Int) < 2147483648 := by omega
    have x2 : -2147483648 ≤ 200 * (u : Int) + (c : Int) ∧ 200 * (u : Int) + (c : Int) < 2147483648 := by omega
    have x3 : -2147483648 ≤ 200 * (u : Int) + (c : Int) - 1 ∧ 200 * (u : Int) + (c : Int) - 1 < 2147483648 := by omega
    have x4 : 0 < c → 200 * (u : Int) + (c : Int) - 1 = ((200 * u + c - 1 : Nat) : Int) := fun hc => by omega
    have x5 : (0 : Int) < (c : Int) → 0 < c := fun hc => by omega
    have wl : w32 (w32 (w32 (200 * (u : Int)) + (c : Int)) - 1) = 200 * (u : Int) + (c : Int) - 1 := by rw [w32_of x1.1 x1.2, w32_of x2.1 x2.2, w32_of x3.1 x3.2]
    have c0 : hA (cn h0 T (thZ S)) (hR (cn h0 T (thZ S)) f_Md_frames T) u = (c : Int) := by
      have e4 : thZ S f_Md_frames u = (c : Int) := by rw [thZ_o (by decide), ec]
      simp (decide := true) (disch := first | decide | omega) only [cnI, cnIe, cnR, cnK, cnl, cnA' G, cn_sI, cn_sIe, cn_sA' G, kT, kH, KN G, LN G, u2_f, u2_s, w32_aa, w32_ss, w32_p1, w32_m1, Int.toNat_natCast, true_and, and_true, false_and, and_false, or_false, false_or, ne_eq, not_false_eq_true, forall_const, implies_true, not_true_eq_false, false_implies, e4]
    rw [Int.toNat_natCast, c0, wl]
    clear wl
    have h109 : l2 = 4 → wpB PGm ρ (d + 1) m_Md_task 109 [(0, vR T), (1, vI (u : Int)), (3, vI (200 * (u : Int) + (c : Int) - 1))] [] (cn h0 T (thZ S)) Q := fun z => by
      have m : ¬ l2 = 0 ∧ ¬ l2 = 1 ∧ ¬ l2 = 2 ∧ ¬ l2 = 3 := by rw [z]; decide
      rw [if_neg m.1, if_neg m.2.1, if_neg m.2.2.1, if_neg m.2.2.2, if_pos z] at q
      refine b_Md_task_109 ?_
      rw [Int.toNat_natCast, c0]
      refine ⟨kM _, ⟨by simp (decide := true) (disch := first | decide | omega) only [cnI, cnIe, cnR, cnK, cnl, cnA' G, cn_sI, cn_sIe, cn_sA' G, kT, kH, KN G, LN G, u2_f, u2_s, w32_aa, w32_ss, w32_p1, w32_m1, Int.toNat_natCast, true_and, and_true, false_and, and_false, or_false, false_or, ne_eq, not_false_eq_true, forall_const, implies_true, not_true_eq_false, false_implies], by omega, ?_⟩, fun w => ?_, fun w => ?_⟩
      · simp (decide := true) (disch := first | decide | omega) only [cnI, cnIe, cnR, cnK, cnl, cnA' G, cn_sI, cn_sIe, cn_sA' G, kT, kH, KN G, LN G, u2_f, u2_s, w32_aa, w32_ss, w32_p1, w32_m1, Int.toNat_natCast, true_and, and_true, false_and, and_false, or_false, false_or, ne_eq, not_false_eq_true, forall_const, implies_true, not_true_eq_false, false_implies]
        exact bu.2
      · rw [if_neg (by omega)] at q; exact q
      · rw [if_pos w] at q
        rw [x4 (x5 w)]
        have b := lst (x5 w)
        simp (decide := true) (disch := first | decide | omega) only [cnI, cnIe, cnR, cnK, cnl, cnA' G, cn_sI, cn_sIe, cn_sA' G, kT, kH, KN G, LN G, u2_f, u2_s, w32_aa, w32_ss, w32_p1, w32_m1, Int.toNat_natCast, true_and, and_true, false_and, and_false, or_false, false_or, ne_eq, not_false_eq_true, forall_const, implies_true, not_true_eq_false, false_implies, e3, b]
        exact q
    have cc0 : ∀ {P1 P2 : Prop}, ((c : Int) ≤ 0 → P1) → (0 < c → P2) → (((c : Int) ≤ 0 → P1) ∧ ((0 : Int) < (c : Int) → P2)) := fun a b => ⟨a, fun w => b (x5 w)⟩
    have fr : l2 = 3 → (hK (cn h0 T (thZ S)) (hR (cn h0 T (thZ S)) f_Md_frames T) ∈ [1, 11] ∧ 0 ≤ (u : Int) ∧ (u : Int) < (hl (cn h0 T (thZ S)) (hR (cn h0 T (thZ S)) f_Md_frames T) : Int)) ∧ (((c : Int) ≤ 0 → Q (Sum.inl (some (vI (-1)))) (cn h0 T (thZ S))) ∧ ((0 : Int) < (c : Int) → (hK (cn h0 T (thZ S)) (hR (cn h0 T (thZ S)) f_Md_frameFunction T) ∈ [1, 11] ∧ 0 ≤ 200 * (u : Int) + (c : Int) - 1 ∧ 200 * (u : Int) + (c : Int) - 1 < (hl (cn h0 T (thZ S)) (hR (cn h0 T (thZ S)) f_Md_frameFunction T) : Int)) ∧ Q (Sum.inl (some (vI (hA (cn h0 T (thZ S)) (hR (cn h0 T (thZ S)) f_Md_frameFunction T) (200 * (u : Int) + (c : Int) - 1).toNat)))) (cn h0 T (thZ S)))) := fun z => by
      have m : ¬ l2 = 0 ∧ ¬ l2 = 1 ∧ ¬ l2 = 2 := by rw [z]; decide
      rw [if_neg m.1, if_neg m.2.1, if_neg m.2.2, if_pos z] at q
      refine ⟨⟨by simp (decide := true) (disch := first | decide | omega) only [cnI, cnIe, cnR, cnK, cnl, cnA' G, cn_sI, cn_sIe, cn_sA' G, kT, kH, KN G, LN G, u2_f, u2_s, w32_aa, w32_ss, w32_p1, w32_m1, Int.toNat_natCast, true_and, and_true, false_and, and_false, or_false, false_or, ne_eq, not_false_eq_true, forall_const, implies_true, not_true_eq_false, false_implies], by omega, ?_⟩, fun w => ?_, fun w => ?_⟩
      · simp (decide := true) (disch := first | decide | omega) only [cnI, cnIe, cnR, cnK, cnl, cnA' G, cn_sI, cn_sIe, cn_sA' G, kT, kH, KN G, LN G, u2_f, u2_s, w32_aa, w32_ss, w32_p1, w32_m1, Int.toNat_natCast, true_and, and_true, false_and, and_false, or_false, false_or, ne_eq, not_false_eq_true, forall_const, implies_true, not_true_eq_false, false_implies]
        exact bu.2
      · rw [if_neg (by omega)] at q; exact q
      · rw [if_pos w] at q
        rw [x4 (x5 w)]
        have b := lst (x5 w)
        simp (decide := true) (disch := first | decide | omega) only [cnI, cnIe, cnR, cnK, cnl, cnA' G, cn_sI, cn_sIe, cn_sA' G, kT, kH, KN G, LN G, u2_f, u2_s, w32_aa, w32_ss, w32_p1, w32_m1, Int.toNat_natCast, true_and, and_true, false_and, and_false, or_false, false_or, ne_eq, not_false_eq_true, forall_const, implies_true, not_true_eq_false, false_implies, e3, b]
        exact q
    refine ⟨kM _, ?_, fun z => ?_, fun m0 => ⟨fun z => ?_, fun m1 => ⟨fun z => ?_, fun m2 => ⟨fun z => fr z, fun m3 => ⟨fun z => h109 z, fun m4 => ?_⟩⟩⟩⟩⟩
    · clear h109 fr
      simp (decide := true) (disch := first | decide | omega) only [cnI, cnIe, cnR, cnK, cnl, cnA' G, cn_sI, cn_sIe, cn_sA' G, kT, kH, KN G, LN G, u2_f, u2_s, w32_aa, w32_ss, w32_p1, w32_m1, Int.toNat_natCast, true_and, and_true, false_and, and_false, or_false, false_or, ne_eq, not_false_eq_true, forall_const, implies_true, not_true_eq_false, false_implies, bu]
    · rw [if_pos z] at q
      clear h109 fr
      simp (decide := true) (disch := first | decide | omega) only [cnI, cnIe, cnR, cnK, cnl, cnA' G, cn_sI, cn_sIe, cn_sA' G, kT, kH, KN G, LN G, u2_f, u2_s, w32_aa, w32_ss, w32_p1, w32_m1, Int.toNat_natCast, true_and, and_true, false_and, and_false, or_false, false_or, ne_eq, not_false_eq_true, forall_const, implies_true, not_true_eq_false, false_implies, bu, e2]
      exact q
    · rw [if_neg m0, if_pos z] at q
      clear h109 fr
      have e4 : thZ S f_Md_frames u = (c : Int) := by rw [thZ_o (by decide), ec]
      simp (decide := true) (disch := first | decide | omega) only [cnI, cnIe, cnR, cnK, cnl, cnA' G, cn_sI, cn_sIe, cn_sA' G, kT, kH, KN G, LN G, u2_f, u2_s, w32_aa, w32_ss, w32_p1, w32_m1, Int.toNat_natCast, true_and, and_true, false_and, and_false, or_false, false_or, ne_eq, not_false_eq_true, forall_const, implies_true, not_true_eq_false, false_implies, bu, e4]
      exact q
    · rw [if_neg m0, if_neg m1, if_pos z] at q
      clear h109 fr
      simp (decide := true) (disch := first | decide | omega) only [cnI, cnIe, cnR, cnK, cnl, cnA' G, cn_sI, cn_sIe, cn_sA' G, kT, kH, KN G, LN G, u2_f, u2_s, w32_aa, w32_ss, w32_p1, w32_m1, Int.toNat_natCast, true_and, and_true, false_and, and_false, or_false, false_or, ne_eq, not_false_eq_true, forall_const, implies_true, not_true_eq_false, false_implies, bu, e2]
      exact q
    · rw [if_neg m0, if_neg m1, if_neg m2, if_neg m3, if_neg m4] at q; exact q
  · rw [if_neg (by omega)] at q; exact q
end
