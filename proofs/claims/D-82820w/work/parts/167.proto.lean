/-! the builtin proto -/
set_option maxRecDepth 20000
section
variable {ρ : Nat → Nat} {P : ah → Nat → Prop} {d : Nat} {Q : QT} {Γ Γ' : GH} {h h0 h1 h' : ah} {C ho T : Nat} {X X' X1 X2 : X3} {Y Y' : Y3} {S S' S1 S2 : SS} {N t o n c r f i j k m z s n' pu po p tn w sn : Nat} {ty v x y op a b p' : Int} {L : List Nat}
theorem s_hasSh (q1 : x = 4 ∨ x = 5 → Q (Sum.inl (some (vI 1))) h) (q0 : ¬ (x = 4 ∨ x = 5) → Q (Sum.inl (some (vI 0))) h) : wpB PGm ρ d m_Md_hasShape 0 [(0, vR T), (1, vI x)] [] h Q := b_Md_hasShape_0 ⟨fun z => q1 (Or.inl z), fun z => ⟨fun z2 => q0 (fun c => c.elim z z2), fun z2 => q1 (Or.inr z2)⟩⟩
theorem s_protoOf (O : TOK h0 T) (hk : k < 8000) (hs : 0 ≤ S f_Md_thingShape k ∧ S f_Md_thingShape k < 4001) (q : Q (Sum.inl (some (vI (prS S k)))) (cn h0 T S)) : wpB PGm ρ d m_Md_protoOf 0 [(0, vR T), (1, vI (k : Int))] [] (cn h0 T S) Q := by
  obtain ⟨kT, G, kH⟩ := O
  have c1 : 0 ≤ (k : Int) ∧ (k : Int) < ((8000 : Nat) : Int) := by omega
  have c2 : 0 ≤ S f_Md_thingShape k ∧ S f_Md_thingShape k < ((4001 : Nat) : Int) := by omega
  unfold prS at q
  refine b_Md_protoOf_0 ?_
  simp (decide := true) (disch := first | decide | omega) only [cnI, cnIe, cnR, cnK, cnl, cnA' G, cn_sI, cn_sIe, cn_sA' G, kT, kH, KN G, LN G, u2_f, u2_s, w32_aa, w32_ss, w32_p1, w32_m1, Int.toNat_natCast, true_and, and_true, false_and, and_false, or_false, false_or, ne_eq, not_false_eq_true, forall_const, implies_true, not_true_eq_false, false_implies]
  exact ⟨c1, c2, q⟩
/-- a prototype as a value -/
def ptT (S : SS) (p : Int) : Int := if p < 0 then 0 else S f_Md_thingKind p.toNat
def ptV (p : Int) : Int := if p < 0 then 0 else p
theorem s_puts (O : TOK h0 T) (hy : m < 4200) (hp : p' = -1 ∨ (0 ≤ p' ∧ p' < 8000)) (q : Q (Sum.inl none) (cn h0 T (putS S m (ptT S p') (ptV p')))) : wpB PGm ρ (d + 1) m_Md_puts 0 [(0, vR T), (1, vI (m : Int)), (2, vI p')] [] (cn h0 T S) Q := by
  have O' := O
  obtain ⟨kT, G, kH⟩ := O
  unfold ptT ptV at q
  by_cases n0 : p' < 0
  · rw [if_pos n0, if_pos n0] at q
    exact b_Md_puts_0 ⟨fun z => absurd n0 (by omega), fun _ => b_Md_puts_16 ⟨fun z => absurd n0 (by omega), fun _ => b_Md_puts_26 ⟨kT, s_putP O' hy q⟩⟩⟩
  · rw [if_neg n0, if_neg n0] at q
    have e : p' = (p'.toNat : Int) := by omega
    refine b_Md_puts_0 ⟨fun _ => ⟨kT, ?_⟩, fun z => absurd z n0⟩
    have c1 : 0 ≤ p' ∧ p' < ((8000 : Nat) : Int) := by omega
    simp (decide := true) (disch := first | decide | omega) only [cnI, cnIe, cnR, cnK, cnl, cnA' G, cn_sI, cn_sIe, cn_sA' G, kT, kH, KN G, LN G, u2_f, u2_s, w32_aa, w32_ss, w32_p1, w32_m1, Int.toNat_natCast, true_and, and_true, false_and, and_false, or_false, false_or, ne_eq, not_false_eq_true, forall_const, implies_true, not_true_eq_false, false_implies]
    refine ⟨c1, b_Md_puts_16 ⟨fun _ => b_Md_puts_26 ⟨kT, s_putP O' hy q⟩, fun z => absurd z n0⟩⟩
/-- things at a place of the pile -/
theorem VR.obj (V : VR Γ S N x y ty v) (H : THC Γ h C ho S N) : (x = 4 ∨ x = 5 → y = v ∧ 0 ≤ v ∧ v < S f_Md_things 0 ∧ S f_Md_thingKind v.toNat = x ∧ hK h (hB h (C + 51) y.toNat) ∈ [244, 245] ∧ hB h (C + 51) y.toNat ≠ 0) ∧ x = ty := by
  obtain ⟨e1, e2, V⟩ := V
  refine ⟨fun w => ?_, e1⟩
  subst e1
  have ev : cw Γ x v = v := by unfold cw; rw [if_neg (by omega)]
  have V' : 0 ≤ v ∧ v < S f_Md_things 0 ∧ S f_Md_thingKind v.toNat = x := by unfold VO at V; omega
  obtain ⟨tn, sn, c1, c2, c3, c4, c5, c6, c6', c7, -⟩ := H
  obtain ⟨TA, -⟩ := (c7 v.toNat (by omega)).p
  rw [e2, ev]
  refine ⟨rfl, V'.1, V'.2.1, V'.2.2, ?_, TA.2.1.2.2⟩
  rw [TA.2.1.1, V'.2.2]
  rcases w with rfl | rfl <;> decide
theorem op_PROTO (hP : ∀ h0 T, P h0 T → TOK h0 T) (HC : CORE Γ h C ho X Y S N) (H : OPH Γ h C X Y S N t o n c r) (O : OPT Γ S (fsS S t (c - 1)) (psS S t (c - 1)) 28 2 b) (D : DF S t n c (fsS S t (c - 1)) (psS S t (c - 1)) k 28 2 b) (hh : n = bsS S t (c - 1) + ghs Γ (fsS S t (c - 1)) (psS S t (c - 1))) : OPE ρ P Γ h C ho X Y S N 28 2 b := by
  obtain ⟨-, -, v1, nx⟩ := O.2.2.2.2.2.2.2.2.2.2.2.2.2.2.2.2.2.1 rfl
  have bw : bwN 2 = 1 := rfl
  rw [bw] at v1 nx
  have d2 := D.2.1
  have n1 : 1 ≤ n := by omega
  have V := H.pl (i := n - 1) (by omega)
  have ⟨VO1, VE⟩ := V.obj HC.2.2.2.2.2.2.2.2.2.1 (h := h) (C := C)
  have THC0 := HC.2.2.2.2.2.2.2.2.2.1
  have T7 := THC0
  obtain ⟨tn, sn, c1, c2, c3, c4, c5, c6, c6', c7, c8, -⟩ := T7
  have G := H.1
  have F := H.2.1
  have I := H.ix
  have kS : hK h (C + 33) ≠ 0 := by rw [F.1.2.1]; decide
  have w1 : w32 ((n : Int) - 1) = ((n - 1 : Nat) : Int) := w32_m1 (by omega)
  have w2 : w32 (((2100 * t + n : Nat) : Int) - 1) = ((2100 * t + n - 1 : Nat) : Int) := w32_m1 (by omega)
  have p1 : 2100 * t + n - 1 = 2100 * t + (n - 1) := by omega
  have b1 : 0 ≤ ((n - 1 : Nat) : Int) ∧ ((n - 1 : Nat) : Int) < ((2001 : Nat) : Int) := by omega
  have VV : X o f_Task_tags (n - 1) = 4 ∨ X o f_Task_tags (n - 1) = 5 → 0 ≤ X o f_Task_words (n - 1) ∧ X o f_Task_words (n - 1) < (tn : Int) ∧ hK h (hB h (C + 51) (X o f_Task_words (n - 1)).toNat) ∈ [244, 245] := fun w => by
    obtain ⟨a1, a2, a3, a4, a5, a6⟩ := VO1 w
    exact ⟨by omega, by omega, a5⟩
  have cr : ∀ (d : Nat) (Q : QT), ((X o f_Task_tags (n - 1) = 4 ∨ X o f_Task_tags (n - 1) = 5) → hR h f_Shape_prototype (hR h f_Obj_shape (obA h C (X o f_Task_tags (n - 1)) (X o f_Task_words (n - 1)))) = 0 → Q (Sum.inl none) (cc h C (ansX X o (n - 1) c 0 0) Y)) → ((X o f_Task_tags (n - 1) = 4 ∨ X o f_Task_tags (n - 1) = 5) → ∀ q : Nat, hR h f_Shape_prototype (hR h f_Obj_shape (obA h C (X o f_Task_tags (n - 1)) (X o f_Task_words (n - 1)))) = hB h (C + 51) q → (q : Int) < S f_Md_things 0 → (S f_Md_thingKind q = 4 ∨ S f_Md_thingKind q = 5) → Q (Sum.inl none) (cc h C (ansX X o (n - 1) c (S f_Md_thingKind q) (q : Int)) Y)) → (¬ (X o f_Task_tags (n - 1) = 4 ∨ X o f_Task_tags (n - 1) = 5) → Q (Sum.inr (C + 33)) (cc h C (erX X 12) Y)) → wpB PGm ρ (d + 60) m_Machine_instruct 0 [(0, vR (C + 32)), (1, vI 28), (2, vI 2), (3, vI b)] [] (cc h C X Y) Q := by
    intro d Q q1 q2 q3
    refine r_BLT (w := 1) (d := d + 40) I n1 (Or.inr ⟨by decide, rfl⟩) (b_Machine_builtin_27 ?_)
    obtain ⟨G', F', ht, ⟨e1, e2, e3⟩, hn, hc1, hc2⟩ := I
    have f1 := F.t ht
    unfold FCt at f1
    have f2 := F
    unfold FC at f2
    have w1' : w32 ((n : Int) - ((1 : Nat) : Int)) = ((n - 1 : Nat) : Int) := w1
    simp (decide := true) only [ccI, ccR, ccRo, ccK, ccl, ccA G, ccAt G ht, KC G, KCt G ht, f1, f2, e1, w1', Int.toNat_natCast, true_and, and_true, false_implies, forall_const]
    refine ⟨b1, b1, r_objectOf G F (by omega) c3 c6 VV ⟨fun x0 => ?_, fun x0 => ?_⟩⟩
    · have w : X o f_Task_tags (n - 1) = 4 ∨ X o f_Task_tags (n - 1) = 5 := Classical.byContradiction fun c => x0 (if_neg c)
      obtain ⟨a1, a2, a3, a4, a5, a6⟩ := VO1 w
      have eo : obA h C (X o f_Task_tags (n - 1)) (X o f_Task_words (n - 1)) = hB h (C + 51) (X o f_Task_words (n - 1)).toNat := if_pos w
      obtain ⟨TA, TB, TC, TD⟩ := (c7 (X o f_Task_words (n - 1)).toNat (by omega)).p
      obtain ⟨⟨u1, u1'⟩, u2, -⟩ := TC.1 (by rw [a1, a4]; exact w)
      have SH := c8 (S f_Md_thingShape (X o f_Task_words (n - 1)).toNat).toNat (by omega)
      rw [eo, u2] at q1 q2
      have ro : ∀ x, hR (cc h C X Y) f_Obj_shape x = hR h f_Obj_shape x := fun x => ccRo (by decide)
      have rp : ∀ x, hR (cc h C X Y) f_Shape_prototype x = hR h f_Shape_prototype x := fun x => ccRo (by decide)
      rw [eo]
      simp only [ccK, ro, rp, u2]
      refine ⟨a5, SH.1.1, fun z => ?_, fun z => ?_⟩
      · rcases SH.2.2.1 with y1 | ⟨y1, y2, y3, y4⟩
        · exact absurd y1.2 z
        · obtain ⟨TA2, -⟩ := (c7 (S f_Md_shapeProto (S f_Md_thingShape (X o f_Task_words (n - 1)).toNat).toNat).toNat (by omega)).p
          have g := q2 w _ y4 (by omega) y3
          rw [y4]
          have fin : ∀ kd : Int, S f_Md_thingKind (S f_Md_shapeProto (S f_Md_thingShape (X o f_Task_words (n - 1)).toNat).toNat).toNat = kd → (kd = 4 ∨ kd = 5) → wpB PGm ρ (d + 59) m_Machine_builtin 237 [(8, vR (hB h (C + 51) (S f_Md_shapeProto (S f_Md_thingShape (X o f_Task_words (n - 1)).toNat).toNat).toNat))] [vI kd, vI ((n - 1 : Nat) : Int), vR (C + 32)] (cc h C X Y) (cV (fun h3 => Q (Sum.inl none) h3) (fun e h' => ¬ hK h' e = 0 ∧ Q (Sum.inr e) h')) := fun kd ek hk => by
            refine b_Machine_builtin_237 ⟨fun _ => ⟨?_, b_Machine_builtin_252 ⟨F.1.1, r_answer (d := d + 57) (n := n - 1) (c := c) G F ht e1 e3 (by omega) ⟨hc1, hc2⟩ (by omega) ?_⟩⟩, fun z => absurd z TA2.2.1.2.2⟩
            · show hK h _ ∈ _
              rw [TA2.2.1.1, ek]
              rcases hk with rfl | rfl <;> decide
            · rw [ccIo (by decide), TA2.2.2.1, ← ek]; exact g
          rw [TA2.2.1.1]
          rcases y3 with y3 | y3
          · rw [y3]
            exact ⟨fun _ => b_Obj_tag_0 (fin 4 y3 (Or.inl rfl)), fun z => absurd rfl z⟩
          · rw [y3]
            exact ⟨fun z => absurd z (by decide), fun _ => ⟨fun _ => b_Fun_tag_0 (fin 5 y3 (Or.inr rfl)), fun z => absurd rfl z⟩⟩
      · refine b_Machine_builtin_237 ⟨fun y => absurd z y, fun _ => b_Machine_builtin_252 ⟨F.1.1, r_answer (d := d + 57) (n := n - 1) (c := c) G F ht e1 e3 (by omega) ⟨hc1, hc2⟩ (by decide) (q1 w z)⟩⟩
    · have w : ¬ (X o f_Task_tags (n - 1) = 4 ∨ X o f_Task_tags (n - 1) = 5) := fun c => by
        have eo : obA h C (X o f_Task_tags (n - 1)) (X o f_Task_words (n - 1)) = hB h (C + 51) (X o f_Task_words (n - 1)).toNat := if_pos c
        rw [eo] at x0
        exact (VO1 c).2.2.2.2.2 x0
      have es : hR (cc h C X Y) f_Machine_signal (C + 32) = C + 33 := by rw [ccRo (by decide)]; exact F.2.1.1
      rw [es]
      exact ⟨F.1.1, F.1.2.1, r_sigQ G F ⟨kS, q3 w⟩⟩
  have tr : ∀ (d : Nat) (h0 : ah) (T : Nat) (Q : QT), P h0 T → ((X o f_Task_tags (n - 1) = 4 ∨ X o f_Task_tags (n - 1) = 5) → Q (Sum.inl none) (cn h0 T (atS (putS S (2100 * t + (n - 1)) (ptT S (prS S (X o f_Task_words (n - 1)).toNat)) (ptV (prS S (X o f_Task_words (n - 1)).toNat))) t c ((psS S t (c - 1) + 1 : Nat) : Int)))) → (¬ (X o f_Task_tags (n - 1) = 4 ∨ X o f_Task_tags (n - 1) = 5) → Q (Sum.inr (hR h0 f_Md_halt T)) (cn h0 T (erS S 12))) → wpB PGm ρ (d + 60) m_Md_does 0 [(0, vR T)] [] (cn h0 T S) Q := by
    intro d h0 T Q pp q1 q2
    have O' := hP _ _ pp
    refine s_BLT (d := d + 52) O' D ?_
    have hTF := D.1
    have kT := O'.1
    have G0 := O'.2.1
    refine b_Md_builtins_0 ⟨O'.1, s_h O' hTF d2.1 (by omega) ?_⟩
    have c1' : 0 ≤ ((2100 * t + n - 1 : Nat) : Int) ∧ ((2100 * t + n - 1 : Nat) : Int) < ((4200 : Nat) : Int) := by omega
    have VE' : S f_Md_pileType (2100 * t + n - 1) = X o f_Task_tags (n - 1) := by rw [p1, VE]
    simp (decide := true) only [cI, cnI, cnR, cnK, cnl, cnA' G0, kT, KN G0, LN G0, w2, VE', Int.toNat_natCast, true_and, and_true, false_implies, forall_const]
    refine ⟨c1', s_hasSh (fun w => ⟨fun _ => ?_, fun z => absurd z (by decide)⟩) (fun w => ⟨fun z => absurd rfl z, fun _ => ⟨kT, s_error O' ⟨by rw [cnK, O'.2.2]; decide, bK_er O' (q2 w)⟩⟩⟩)⟩
    obtain ⟨a1, a2, a3, a4, a5, a6⟩ := VO1 w
    obtain ⟨TA, TB, TC, TD⟩ := (c7 (X o f_Task_words (n - 1)).toNat (by omega)).p
    obtain ⟨⟨u1, u1'⟩, u2, -⟩ := TC.1 (by rw [a1, a4]; exact w)
    have SH := c8 (S f_Md_thingShape (X o f_Task_words (n - 1)).toNat).toNat (by omega)
    have e5 : S f_Md_pileValue (2100 * t + n - 1) = X o f_Task_words (n - 1) := by rw [p1, ← a1]
    have w3 : w32 (X o f_Task_words (n - 1)) = (((X o f_Task_words (n - 1)).toNat : Nat) : Int) := by rw [w32_of (by omega) (by omega)]; omega
    have gg := s_protoOf (ρ := ρ) (d := d + 57) (k := (X o f_Task_words (n - 1)).toNat) (S := S) O' (by omega) ⟨u1, by omega⟩ (Q := cI (fun x10 h5 => hK h5 T = k_Md ∧ wpB PGm ρ (d + 57) m_Md_puts 0 [(0, vR T), (1, vI ((2100 * t + n - 1 : Nat) : Int)), (2, vI x10)] [] h5 (cV (fun h13 => bK ρ (d + 52) T Q (Sum.inl none) h13) (fun e16 h15 => hK h15 e16 ≠ 0 ∧ bK ρ (d + 52) T Q (Sum.inr e16) h15))) (fun e8 h7 => hK h7 e8 ≠ 0 ∧ bK ρ (d + 52) T Q (Sum.inr e8) h7)) ⟨kT, s_puts (d := d + 56) O' (by omega) (by
      rcases SH.2.2.1 with y1 | ⟨y1, y2, y3, y4⟩
      · exact Or.inl y1.1
      · exact Or.inr ⟨y1, by unfold prS; omega⟩) (bK_fin O' D (by unfold putS; rw [u2_f (by decide), u2_f (by decide)]) (by unfold putS; rw [u2_f (by decide), u2_f (by decide)]) (by rw [p1]; exact q1 w))⟩
    refine b_Md_builtins_194 ⟨kT, ?_⟩
    simp (decide := true) only [cnR, cnK, cnl, cnA' G0, KN G0, LN G0, e5, w3, Int.toNat_natCast, true_and, and_true]
    exact ⟨c1', gg⟩
  by_cases w : X o f_Task_tags (n - 1) = 4 ∨ X o f_Task_tags (n - 1) = 5
  · obtain ⟨a1, a2, a3, a4, a5, a6⟩ := VO1 w
    obtain ⟨TA, TB, TC, TD⟩ := (c7 (X o f_Task_words (n - 1)).toNat (by omega)).p
    obtain ⟨⟨u1, u1'⟩, u2, -⟩ := TC.1 (by rw [a1, a4]; exact w)
    have SH := c8 (S f_Md_thingShape (X o f_Task_words (n - 1)).toNat).toNat (by omega)
    have eo : obA h C (X o f_Task_tags (n - 1)) (X o f_Task_words (n - 1)) = hB h (C + 51) (X o f_Task_words (n - 1)).toNat := if_pos w
    have hgt : S f_Md_height t = (n : Int) := D.1.2.2.2.1
    have epu : ∀ (ty v : Int), putS S (2100 * t + (n - 1)) ty v = pshA S t (n - 1) ty v := fun ty v => by
      unfold pshA
      rw [u2_id (f := f_Md_height) (i := t) (S := S) (v := ((n - 1 + 1 : Nat) : Int)) (by rw [hgt]; omega)]
    rw [eo, u2] at cr
    refine ⟨none, _, fun d h0 T Q pp q => tr d h0 T Q pp (fun _ => q) (fun z => absurd w z), fun d Q q => cr d Q (fun _ z => q _ _ _ ?_) (fun _ q' e3 e4 e5 => q _ _ _ ?_) (fun z => absurd w z)⟩
    · have pz : prS S (X o f_Task_words (n - 1)).toNat = -1 := by
        rcases SH.2.2.1 with y1 | ⟨y1, y2, y3, y4⟩
        · exact y1.1
        · rw [z] at y4
          exact absurd y4.symm (c7 _ (by omega)).p.1.2.1.2.2
      rw [pz, epu]
      exact RLC.ans H nx HC H.2.2.1 GRO.rf EXS.rf (fun _ _ _ => rfl) (fun _ _ _ _ => rfl) (Fr.r0 (L := LHc) (P := [])) (BND.rf.le (by decide) (by decide)) ⟨rfl, rfl, Or.inl ⟨rfl, rfl⟩⟩ (by omega) (by omega)
    · have pz : prS S (X o f_Task_words (n - 1)).toNat = (q' : Int) := by
        rcases SH.2.2.1 with y1 | ⟨y1, y2, y3, y4⟩
        · rw [y1.2] at e3
          exact absurd e3.symm (c7 _ (by omega)).p.1.2.1.2.2
        · rw [y4] at e3
          have x1 := (c7 q' (by omega)).p.1.2.2.1
          have x2 := (c7 (S f_Md_shapeProto (S f_Md_thingShape (X o f_Task_words (n - 1)).toNat).toNat).toNat (by omega)).p.1.2.2.1
          rw [e3] at x2
          unfold prS; omega
      have e6 : ptT S (q' : Int) = S f_Md_thingKind q' := by unfold ptT; rw [if_neg (by omega), Int.toNat_natCast]
      have e7 : ptV (q' : Int) = (q' : Int) := if_neg (by omega)
      rw [pz, e6, e7, epu]
      refine RLC.ans H nx HC H.2.2.1 GRO.rf EXS.rf (fun _ _ _ => rfl) (fun _ _ _ _ => rfl) (Fr.r0 (L := LHc) (P := [])) (BND.rf.le (by decide) (by decide)) ⟨rfl, ?_, Or.inr (Or.inr (Or.inr (Or.inr (Or.inl ⟨by omega, by omega, by omega, e4, by rw [Int.toNat_natCast]⟩))))⟩ (by omega) (by omega)
      unfold cw; rw [if_neg (by omega)]
  · exact (OPC.er (x := 12) HC H (by decide) (fun d Q q => cr d Q (fun z => absurd z w) (fun z => absurd z w) (fun _ => q)) (fun d h0 T Q pp q => tr d h0 T Q pp (fun z => absurd z w) (fun _ => q))).e
end
