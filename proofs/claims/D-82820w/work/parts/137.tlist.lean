/-! T: a list is made -/
set_option maxRecDepth 20000
/-- the first j values from b on have joined thing l -/
def lstS (S : SS) (l sk rk b : Nat) : Nat → SS
  | 0 => S
  | j + 1 => adsS (lstS S l sk rk b j) l (sk + j) (rk + j) j (-1) (S f_Md_pileType (b + j)) (S f_Md_pileValue (b + j))
section
variable {ρ : Nat → Nat} {d : Nat} {h h' h0 : ah} {Q : QT} {T k f g n c t i j x p tn mk sk rk m l b : Nat} {op a v w kd nm ty bb : Int} {S X : SS}
theorem lstS_o (e : LAS.elem f = false) : ∀ j, lstS S l sk rk b j f i = S f i
  | 0 => rfl
  | j + 1 => by unfold lstS; rw [adsS_o e]; exact lstS_o e j
theorem lstS_t (hf : LTT.elem f = true) (hk : k ≠ l) : ∀ j, lstS S l sk rk b j f k = S f k
  | 0 => rfl
  | j + 1 => by unfold lstS; rw [adsS_t hf hk]; exact lstS_t hf hk j
theorem lstS_1 (e1 : S f_Md_slots 0 = (sk : Int)) (e2 : S f_Md_allSlots 0 = (rk : Int)) (e3 : S f_Md_thingCount l = 0) : ∀ j, lstS S l sk rk b j f_Md_slots 0 = ((sk + j : Nat) : Int) ∧ lstS S l sk rk b j f_Md_allSlots 0 = ((rk + j : Nat) : Int) ∧ lstS S l sk rk b j f_Md_thingCount l = (j : Int) ∧ (j ≠ 0 → lstS S l sk rk b j f_Md_thingLast l = ((sk + (j - 1) : Nat) : Int)) ∧ (∀ i, i < j → slS (lstS S l sk rk b j) l i = sk + i) ∧ (∀ i, i < j → lstS S l sk rk b j f_Md_slotType (sk + i) = S f_Md_pileType (b + i) ∧ lstS S l sk rk b j f_Md_slotValue (sk + i) = S f_Md_pileValue (b + i) ∧ lstS S l sk rk b j f_Md_slotName (sk + i) = -1) ∧ (∀ f i, LSL.elem f = true → i < sk → lstS S l sk rk b j f i = S f i) ∧ (j ≠ 0 → lstS S l sk rk b j f_Md_thingFirst l = (sk : Int)) ∧ (∀ i, i + 1 < j → lstS S l sk rk b j f_Md_slotNext (sk + i) = ((sk + i + 1 : Nat) : Int))
  | 0 => ⟨by rw [Nat.add_zero]; exact e1, by rw [Nat.add_zero]; exact e2, e3, fun z => absurd rfl z, fun i hi => by omega, fun i hi => by omega, fun f i _ _ => rfl, fun z => absurd rfl z, fun i hi => by omega⟩
  | j + 1 => by
    obtain ⟨a1, a2, a3, a4, a5, a6, a7, a8, a9⟩ := lstS_1 e1 e2 e3 j
    obtain ⟨b1, b2, b3, b4, b5, b6, b7, b8⟩ := adsS_1 (S := lstS S l sk rk b j) (k := l) (sk := sk + j) (rk := rk + j) (m := j) (nm := -1) (ty := S f_Md_pileType (b + j)) (v := S f_Md_pileValue (b + j))
    have lst : (lstS S l sk rk b j f_Md_thingLast l).toNat = sk + (j - 1) ∨ j = 0 := by
      by_cases z : j = 0
      · exact Or.inr z
      · rw [a4 z, Int.toNat_natCast]; exact Or.inl rfl
    have sl := adsS_s (S := lstS S l sk rk b j) (k := l) (sk := sk + j) (rk := rk + j) (m := j) (nm := -1) (ty := S f_Md_pileType (b + j)) (v := S f_Md_pileValue (b + j)) (fun z => by rw [a4 z, a5 _ (by omega)]) (fun i i' hi hi' e => by rw [a5 i hi, a5 i' hi'] at e; omega) (fun i hi => by rw [a5 i hi]; omega)
    unfold lstS
    refine ⟨by rw [b1]; rfl, by rw [b2]; rfl, b3, fun _ => by rw [b4]; rfl, fun i hi => ?_, fun i hi => ?_, fun f i hf hi => ?_, fun _ => ?_, fun i hi => ?_⟩
    · rw [sl i (by omega)]
      by_cases z : i = j
      · rw [if_pos z, z]
      · rw [if_neg z]; exact a5 i (by omega)
    · by_cases z : i = j
      · subst z; exact ⟨b6, b7, b8⟩
      · obtain ⟨c1, c2, c3⟩ := a6 i (by omega)
        rw [adsS_l (by decide) (by omega) (fun _ w => absurd w (by decide)), adsS_l (by decide) (by omega) (fun _ w => absurd w (by decide)), adsS_l (by decide) (by omega) (fun _ w => absurd w (by decide))]
        exact ⟨c1, c2, c3⟩
    · rw [adsS_l hf (by omega) (fun z _ => by omega)]; exact a7 f i hf hi
    · rw [b5]
      by_cases z : j = 0
      · rw [if_pos z, z]; rfl
      · rw [if_neg z]; exact a8 z
    · by_cases z : i + 1 = j
      · have jz : j ≠ 0 := by omega
        have e : sk + i = (lstS S l sk rk b j f_Md_thingLast l).toNat := by omega
        rw [e, adsS_n jz]; omega
      · rw [adsS_l (by decide) (by omega) (fun _ _ => by omega)]; exact a9 i (by omega)
theorem s_list58 (O : TOK h0 T) (F : TF S t x c) (ht : t ≤ 1) (hx : x + m ≤ 2000) (hl : l < 8000) (e1 : S f_Md_slots 0 = (sk : Int)) (e2 : S f_Md_allSlots 0 = (rk : Int)) (hr : sk + m ≤ 60000 ∧ rk + m ≤ 60000) (e3 : S f_Md_thingCount l = 0) (q : Q (Sum.inl none) (cn h0 T (pshS (lstS S l sk rk (2100 * t + x) m) t x 6 (l : Int)))) : ∀ r j, j + r = m → wpB PGm ρ (d + 2) m_Md_list 58 [(0, vR T), (1, vI (m : Int)), (2, vI (l : Int)), (3, vI (j : Int))] [] (cn h0 T (lstS S l sk rk (2100 * t + x) j)) Q := by
  intro r
  have Fj : ∀ j, TF (lstS S l sk rk (2100 * t + x) j) t x c := fun j => by
    obtain ⟨x1, x2, x3, x4, x5⟩ := F
    exact ⟨by rw [lstS_o (by decide)]; exact x1, by rw [lstS_o (by decide)]; exact x2, by rw [lstS_o (by decide)]; exact x3, by rw [lstS_o (by decide)]; exact x4, by rw [lstS_o (by decide)]; exact x5⟩
  induction r with
  | zero =>
    intro j hj
    have : j = m := by omega
    subst this
    have O' := O
    obtain ⟨kT, G, kH⟩ := O
    refine b_Md_list_58 ⟨fun _ => ?_, fun z => by omega⟩
    simp (decide := true) (disch := first | decide | omega) only [cnI, cnIe, cnR, cnK, cnl, cnA' G, cn_sI, cn_sIe, cn_sA' G, kT, kH, KN G, LN G, u2_f, u2_s, w32_aa, w32_ss, w32_p1, w32_m1, Int.toNat_natCast, true_and, and_true, false_and, and_false, or_false, false_or, ne_eq, not_false_eq_true, forall_const, implies_true, not_true_eq_false, false_implies]
    exact s_push O' (Fj j) ht (by omega) q
  | succ r ih =>
    intro j hj
    obtain ⟨a1, a2, a3, a4, -⟩ := lstS_1 (b := 2100 * t + x) e1 e2 e3 j
    have p1 : lstS S l sk rk (2100 * t + x) j f_Md_pileType (2100 * t + x + j) = S f_Md_pileType (2100 * t + x + j) := lstS_o (by decide) j
    have p2 : lstS S l sk rk (2100 * t + x) j f_Md_pileValue (2100 * t + x + j) = S f_Md_pileValue (2100 * t + x + j) := lstS_o (by decide) j
    have nxt := ih (j + 1) (by omega)
    have O' := O
    obtain ⟨kT, G, kH⟩ := O
    refine b_Md_list_58 ⟨fun z => by omega, fun _ => ?_⟩
    simp (decide := true) (disch := first | decide | omega) only [cnI, cnIe, cnR, cnK, cnl, cnA' G, cn_sI, cn_sIe, cn_sA' G, kT, kH, KN G, LN G, u2_f, u2_s, w32_aa, w32_ss, w32_p1, w32_m1, Int.toNat_natCast, true_and, and_true, false_and, and_false, or_false, false_or, ne_eq, not_false_eq_true, forall_const, implies_true, not_true_eq_false, false_implies]
    refine s_h O' (Fj j) ht (by omega) ?_
    simp (decide := true) (disch := first | decide | omega) only [cnI, cnIe, cnR, cnK, cnl, cnA' G, cn_sI, cn_sIe, cn_sA' G, kT, kH, KN G, LN G, u2_f, u2_s, w32_aa, w32_ss, w32_p1, w32_m1, Int.toNat_natCast, true_and, and_true, false_and, and_false, or_false, false_or, ne_eq, not_false_eq_true, forall_const, implies_true, not_true_eq_false, false_implies, cI]
    refine ⟨by omega, s_h O' (Fj j) ht (by omega) ?_⟩
    simp (decide := true) (disch := first | decide | omega) only [cnI, cnIe, cnR, cnK, cnl, cnA' G, cn_sI, cn_sIe, cn_sA' G, kT, kH, KN G, LN G, u2_f, u2_s, w32_aa, w32_ss, w32_p1, w32_m1, Int.toNat_natCast, true_and, and_true, false_and, and_false, or_false, false_or, ne_eq, not_false_eq_true, forall_const, implies_true, not_true_eq_false, false_implies, cI, p1, p2]
    refine ⟨by omega, s_addSlot (x := sk + (j - 1)) O' a1 (by omega) a2 (by omega) hl a3 (by omega) (fun z => ⟨a4 z, by omega⟩) ?_⟩
    simp (decide := true) (disch := first | decide | omega) only [cnI, cnIe, cnR, cnK, cnl, cnA' G, cn_sI, cn_sIe, cn_sA' G, kT, kH, KN G, LN G, u2_f, u2_s, w32_aa, w32_ss, w32_p1, w32_m1, Int.toNat_natCast, true_and, and_true, false_and, and_false, or_false, false_or, ne_eq, not_false_eq_true, forall_const, implies_true, not_true_eq_false, false_implies, cV]
    exact nxt
def lisS (S : SS) (tn mk sk rk t n m : Nat) : SS := pshS (lstS (u2 (nthS S tn mk 6) f_Md_height t ((n - m : Nat) : Int)) tn sk rk (2100 * t + (n - m)) m) t (n - m) 6 (tn : Int)
theorem s_LIST (O : TOK h0 T) (D : DF S t n c f p k 25 (m : Int) bb) (hm : m ≤ n) (e1 : S f_Md_things 0 = (tn : Int)) (ht : tn ≤ mk) (e2 : S f_Md_allMade 0 = (mk : Int)) (hmk : mk ≤ 8000) (e3 : S f_Md_slots 0 = (sk : Int)) (e4 : S f_Md_allSlots 0 = (rk : Int)) (hs : sk ≤ rk) (hr : rk ≤ 60000) (q1 : (m = 0 → n < 2000) → mk + 1 ≤ 8000 → rk + m ≤ 60000 → Q (Sum.inl none) (cn h0 T (atS (lisS S tn mk sk rk t n m) t c ((p + 1 : Nat) : Int)))) (q0 : m = 0 → n = 2000 → Q (Sum.inr (hR h0 f_Md_halt T)) (cn h0 T (erS S 11))) (q2 : (m = 0 → n < 2000) → ¬ (mk + 1 ≤ 8000 ∧ rk + m ≤ 60000) → Q (Sum.inr (hR h0 f_Md_halt T)) (cn h0 T (erS S 99))) : wpB PGm ρ (d + 14) m_Md_does 0 [(0, vR T)] [] (cn h0 T S) Q := by
  have O' := O
  refine s_does_oth O D (by omega) ?_
  obtain ⟨kT, G, kH⟩ := O
  obtain ⟨F, ⟨d1, d2, d3, d4, d5, d6⟩, g1, g2, g3, g4, g5, g6, g7, g8⟩ := D
  refine b_Md_others_0 ?_
  simp (decide := true) (disch := first | decide | omega) only [cnI, cnIe, cnR, cnK, cnl, cnA' G, cn_sI, cn_sIe, cn_sA' G, kT, kH, KN G, LN G, u2_f, u2_s, w32_aa, w32_ss, w32_p1, w32_m1, Int.toNat_natCast, true_and, and_true, false_and, and_false, or_false, false_or, ne_eq, not_false_eq_true, forall_const, implies_true, not_true_eq_false, false_implies]
  refine s_h O' F d1 (by omega) ?_
  simp (decide := true) (disch := first | decide | omega) only [cnI, cnIe, cnR, cnK, cnl, cnA' G, cn_sI, cn_sIe, cn_sA' G, kT, kH, KN G, LN G, u2_f, u2_s, w32_aa, w32_ss, w32_p1, w32_m1, Int.toNat_natCast, true_and, and_true, false_and, and_false, or_false, false_or, ne_eq, not_false_eq_true, forall_const, implies_true, not_true_eq_false, false_implies, cI]
  have L8 : (m = 0 → n < 2000) → wpB PGm ρ (d + 12) m_Md_list 8 [(0, vR T), (1, vI (m : Int))] [] (cn h0 T S) (cV (fun h107 => cV (fun h' => wpB PGm ρ (d + 14) m_Md_does 137 [(0, vR T)] [] h' Q) (fun e h' => ¬ hK h' e = 0 ∧ Q (Sum.inr e) h') (Sum.inl none) h107) (fun e h' => ¬ hK h' e = 0 ∧ cV (fun h' => wpB PGm ρ (d + 14) m_Md_does 137 [(0, vR T)] [] h' Q) (fun e h' => ¬ hK h' e = 0 ∧ Q (Sum.inr e) h') (Sum.inr e) h')) := by
    intro z
    have bad : ¬ (mk + 1 ≤ 8000 ∧ rk + m ≤ 60000) → wpB PGm ρ (d + 12) m_Md_list 33 [(0, vR T), (1, vI (m : Int))] [vI 0, vR T] (cn h0 T S) (cV (fun h107 => cV (fun h' => wpB PGm ρ (d + 14) m_Md_does 137 [(0, vR T)] [] h' Q) (fun e h' => ¬ hK h' e = 0 ∧ Q (Sum.inr e) h') (Sum.inl none) h107) (fun e h' => ¬ hK h' e = 0 ∧ cV (fun h' => wpB PGm ρ (d + 14) m_Md_does 137 [(0, vR T)] [] h' Q) (fun e h' => ¬ hK h' e = 0 ∧ Q (Sum.inr e) h') (Sum.inr e) h')) := by
      intro w
      refine b_Md_list_33 ?_
      simp (decide := true) (disch := first | decide | omega) only [cnI, cnIe, cnR, cnK, cnl, cnA' G, cn_sI, cn_sIe, cn_sA' G, kT, kH, KN G, LN G, u2_f, u2_s, w32_aa, w32_ss, w32_p1, w32_m1, Int.toNat_natCast, true_and, and_true, false_and, and_false, or_false, false_or, ne_eq, not_false_eq_true, forall_const, implies_true, not_true_eq_false, false_implies]
      refine s_room O' (fun z2 => absurd rfl z2) (fun _ => ?_)
      simp (decide := true) (disch := first | decide | omega) only [cnI, cnIe, cnR, cnK, cnl, cnA' G, cn_sI, cn_sIe, cn_sA' G, kT, kH, KN G, LN G, u2_f, u2_s, w32_aa, w32_ss, w32_p1, w32_m1, Int.toNat_natCast, true_and, and_true, false_and, and_false, or_false, false_or, ne_eq, not_false_eq_true, forall_const, implies_true, not_true_eq_false, false_implies, cV]
      exact q2 z w
    refine b_Md_list_8 ?_
    simp (decide := true) (disch := first | decide | omega) only [cnI, cnIe, cnR, cnK, cnl, cnA' G, cn_sI, cn_sIe, cn_sA' G, kT, kH, KN G, LN G, u2_f, u2_s, w32_aa, w32_ss, w32_p1, w32_m1, Int.toNat_natCast, true_and, and_true, false_and, and_false, or_false, false_or, ne_eq, not_false_eq_true, forall_const, implies_true, not_true_eq_false, false_implies]
    refine s_hasRoomFor (n := 1) O' e2 (by omega) (by omega) (fun z1 => ?_) (fun z1 => ?_)
    · simp (decide := true) (disch := first | decide | omega) only [cnI, cnIe, cnR, cnK, cnl, cnA' G, cn_sI, cn_sIe, cn_sA' G, kT, kH, KN G, LN G, u2_f, u2_s, w32_aa, w32_ss, w32_p1, w32_m1, Int.toNat_natCast, true_and, and_true, false_and, and_false, or_false, false_or, ne_eq, not_false_eq_true, forall_const, implies_true, not_true_eq_false, false_implies, cI, e4]
      refine ⟨fun z2 => bad (by omega), fun z2 => ?_⟩
      refine b_Md_list_33 ?_
      simp (decide := true) (disch := first | decide | omega) only [cnI, cnIe, cnR, cnK, cnl, cnA' G, cn_sI, cn_sIe, cn_sA' G, kT, kH, KN G, LN G, u2_f, u2_s, w32_aa, w32_ss, w32_p1, w32_m1, Int.toNat_natCast, true_and, and_true, false_and, and_false, or_false, false_or, ne_eq, not_false_eq_true, forall_const, implies_true, not_true_eq_false, false_implies]
      refine s_room O' (fun _ => ?_) (fun z3 => absurd z3 (by decide))
      simp (decide := true) (disch := first | decide | omega) only [cnI, cnIe, cnR, cnK, cnl, cnA' G, cn_sI, cn_sIe, cn_sA' G, kT, kH, KN G, LN G, u2_f, u2_s, w32_aa, w32_ss, w32_p1, w32_m1, Int.toNat_natCast, true_and, and_true, false_and, and_false, or_false, false_or, ne_eq, not_false_eq_true, forall_const, implies_true, not_true_eq_false, false_implies, cV]
      refine s_newThing O' e1 (by omega) e2 hmk ?_
      have w1 : nthS S tn mk 6 f_Md_t 0 = (t : Int) := by rw [nthS_o (by decide)]; exact F.1
      have w2 : nthS S tn mk 6 f_Md_height t = (n : Int) := by rw [nthS_o (by decide)]; exact F.2.2.2.1
      simp (decide := true) (disch := first | decide | omega) only [cnI, cnIe, cnR, cnK, cnl, cnA' G, cn_sI, cn_sIe, cn_sA' G, kT, kH, KN G, LN G, u2_f, u2_s, w32_aa, w32_ss, w32_p1, w32_m1, Int.toNat_natCast, true_and, and_true, false_and, and_false, or_false, false_or, ne_eq, not_false_eq_true, forall_const, implies_true, not_true_eq_false, false_implies, cI, w1, w2]
      refine ⟨by omega, by omega, ?_⟩
      have F2 : TF (u2 (nthS S tn mk 6) f_Md_height t ((n - m : Nat) : Int)) t (n - m) c := by
        obtain ⟨x1, x2, x3, x4, x5⟩ := F
        refine ⟨?_, ?_, ?_, ?_, ?_⟩ <;> simp (decide := true) (disch := first | decide | omega) only [u2_f, u2_s, nthS_o, x1, x2, x3, x5]
      refine s_list58 (d := d + 10) (sk := sk) (rk := rk) (m := m) (l := tn) O' F2 d1 (by omega) (by omega) (by simp (decide := true) (disch := first | decide | omega) only [u2_f, nthS_o]; exact e3) (by simp (decide := true) (disch := first | decide | omega) only [u2_f, nthS_o]; exact e4) (by omega) (by unfold nthS; simp (decide := true) (disch := first | decide | omega) only [u2_f, u2_s]) ?_ m 0 (by omega)
      simp (decide := true) (disch := first | decide | omega) only [cV]
      refine s_d137 (v := ((p + 1 : Nat) : Int)) (t := t) (c := c) O' ?_ ?_ d1 (by omega) (q1 z (by omega) (by omega))
      · unfold pshS; simp (decide := true) (disch := first | decide | omega) only [cnI, cnIe, cnR, cnK, cnl, cnA' G, cn_sI, cn_sIe, cn_sA' G, kT, kH, KN G, LN G, u2_f, u2_s, w32_aa, w32_ss, w32_p1, w32_m1, Int.toNat_natCast, true_and, and_true, false_and, and_false, or_false, false_or, ne_eq, not_false_eq_true, forall_const, implies_true, not_true_eq_false, false_implies, lstS_o, nthS_o, g1]
      · unfold pshS; simp (decide := true) (disch := first | decide | omega) only [cnI, cnIe, cnR, cnK, cnl, cnA' G, cn_sI, cn_sIe, cn_sA' G, kT, kH, KN G, LN G, u2_f, u2_s, w32_aa, w32_ss, w32_p1, w32_m1, Int.toNat_natCast, true_and, and_true, false_and, and_false, or_false, false_or, ne_eq, not_false_eq_true, forall_const, implies_true, not_true_eq_false, false_implies, lstS_o, nthS_o, g2]
    · simp (decide := true) (disch := first | decide | omega) only [cnI, cnIe, cnR, cnK, cnl, cnA' G, cn_sI, cn_sIe, cn_sA' G, kT, kH, KN G, LN G, u2_f, u2_s, w32_aa, w32_ss, w32_p1, w32_m1, Int.toNat_natCast, true_and, and_true, false_and, and_false, or_false, false_or, ne_eq, not_false_eq_true, forall_const, implies_true, not_true_eq_false, false_implies, cI]
      exact bad (by omega)
  refine b_Md_list_0 ⟨fun z => L8 (fun w => by omega), fun z => ?_⟩
  simp (decide := true) (disch := first | decide | omega) only [cnI, cnIe, cnR, cnK, cnl, cnA' G, cn_sI, cn_sIe, cn_sA' G, kT, kH, KN G, LN G, u2_f, u2_s, w32_aa, w32_ss, w32_p1, w32_m1, Int.toNat_natCast, true_and, and_true, false_and, and_false, or_false, false_or, ne_eq, not_false_eq_true, forall_const, implies_true, not_true_eq_false, false_implies]
  refine s_mayPile O' F d1 (fun w => ?_) (fun w => ?_)
  · simp (decide := true) (disch := first | decide | omega) only [cnI, cnIe, cnR, cnK, cnl, cnA' G, cn_sI, cn_sIe, cn_sA' G, kT, kH, KN G, LN G, u2_f, u2_s, w32_aa, w32_ss, w32_p1, w32_m1, Int.toNat_natCast, true_and, and_true, false_and, and_false, or_false, false_or, ne_eq, not_false_eq_true, forall_const, implies_true, not_true_eq_false, false_implies, cV]
    exact L8 (fun _ => w)
  · simp (decide := true) (disch := first | decide | omega) only [cnI, cnIe, cnR, cnK, cnl, cnA' G, cn_sI, cn_sIe, cn_sA' G, kT, kH, KN G, LN G, u2_f, u2_s, w32_aa, w32_ss, w32_p1, w32_m1, Int.toNat_natCast, true_and, and_true, false_and, and_false, or_false, false_or, ne_eq, not_false_eq_true, forall_const, implies_true, not_true_eq_false, false_implies, cV]
    exact q0 (by omega) (by omega)
end
