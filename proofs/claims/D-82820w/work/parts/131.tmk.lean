/-! T: an object, a fun is made -/
set_option maxRecDepth 20000
/-- thing tn is new, of a kind, with nothing in it -/
def nthS (S : SS) (tn mk : Nat) (kd : Int) : SS := u2 (u2 (u2 (u2 (u2 (u2 (u2 (u2 (u2 (u2 (u2 (u2 S f_Md_thingKind tn kd) f_Md_thingShape tn (-1)) f_Md_thingFirst tn (-1)) f_Md_thingCount tn 0) f_Md_thingFunction tn (-1)) f_Md_thingAround tn (-1)) f_Md_thingClass tn (-1)) f_Md_isWatched tn 0) f_Md_epoch tn 0) f_Md_changedAt tn 0) f_Md_things 0 ((tn + 1 : Nat) : Int)) f_Md_allMade 0 ((mk + 1 : Nat) : Int)
def LNT : List Nat := [f_Md_thingKind, f_Md_thingShape, f_Md_thingFirst, f_Md_thingCount, f_Md_thingFunction, f_Md_thingAround, f_Md_thingClass, f_Md_isWatched, f_Md_epoch, f_Md_changedAt, f_Md_things, f_Md_allMade]
def nobS (S : SS) (tn mk : Nat) : SS := u2 (nthS S tn mk 4) f_Md_thingShape tn 0
def nfnS (S : SS) (tn mk : Nat) (f a : Int) : SS := u2 (u2 (u2 (nthS S tn mk 5) f_Md_thingShape tn 0) f_Md_thingFunction tn f) f_Md_thingAround tn a
section
variable {ρ : Nat → Nat} {d : Nat} {h h' h0 : ah} {Q : QT} {T k f g n c t i j x p tn mk : Nat} {op a b v w kd : Int} {S X : SS}
theorem nthS_o (e : LNT.elem f = false) : nthS S tn mk kd f i = S f i := by
  have nn : ∀ g, LNT.elem g = true → f ≠ g := by rintro g hg rfl; rw [hg] at e; cases e
  unfold nthS
  rw [u2_f (nn _ (by decide)), u2_f (nn _ (by decide)), u2_f (nn _ (by decide)), u2_f (nn _ (by decide)), u2_f (nn _ (by decide)), u2_f (nn _ (by decide)), u2_f (nn _ (by decide)), u2_f (nn _ (by decide)), u2_f (nn _ (by decide)), u2_f (nn _ (by decide)), u2_f (nn _ (by decide)), u2_f (nn _ (by decide))]
theorem s_newThing (O : TOK h0 T) (e1 : S f_Md_things 0 = (tn : Int)) (ht : tn < 8000) (e2 : S f_Md_allMade 0 = (mk : Int)) (hm : mk ≤ 8000) (q : Q (Sum.inl (some (vI (tn : Int)))) (cn h0 T (nthS S tn mk kd))) : wpB PGm ρ d m_Md_newThing 0 [(0, vR T), (1, vI kd)] [] (cn h0 T S) Q := by
  obtain ⟨kT, G, kH⟩ := O
  have b1 : (tn : Int) < ((8000 : Nat) : Int) := by omega
  have b0 : 0 ≤ (tn : Int) := by omega
  have b2 : (0 : Int) = 0 ∨ (0 : Int) = 1 := Or.inl rfl
  refine b_Md_newThing_0 ?_
  simp (decide := true) (disch := first | decide | omega) only [cnI, cnIe, cnR, cnK, cnl, cnA' G, cn_sI, cn_sIe, cn_sA' G, kT, kH, KN G, LN G, u2_f, u2_s, w32_aa, w32_ss, w32_p1, w32_m1, Int.toNat_natCast, true_and, and_true, false_and, and_false, or_false, false_or, ne_eq, not_false_eq_true, forall_const, implies_true, not_true_eq_false, false_implies, e1]
  refine ⟨by omega, by omega, by omega, by omega, by omega, by omega, by omega, by omega, by omega, by omega, ?_⟩
  refine b_Md_newThing_75 ?_
  simp (decide := true) (disch := first | decide | omega) only [cnI, cnIe, cnR, cnK, cnl, cnA' G, cn_sI, cn_sIe, cn_sA' G, kT, kH, KN G, LN G, u2_f, u2_s, w32_aa, w32_ss, w32_p1, w32_m1, Int.toNat_natCast, true_and, and_true, false_and, and_false, or_false, false_or, ne_eq, not_false_eq_true, forall_const, implies_true, not_true_eq_false, false_implies, e1, e2]
  exact q
theorem s_OBJECT (O : TOK h0 T) (D : DF S t n c f p k 26 a b) (e1 : S f_Md_things 0 = (tn : Int)) (ht : tn ≤ mk) (e2 : S f_Md_allMade 0 = (mk : Int)) (hm : mk ≤ 8000) (q1 : n < 2000 → mk + 1 ≤ 8000 → Q (Sum.inl none) (cn h0 T (atS (pshS (nobS S tn mk) t n 4 (tn : Int)) t c ((p + 1 : Nat) : Int)))) (q0 : n = 2000 → Q (Sum.inr (hR h0 f_Md_halt T)) (cn h0 T (erS S 11))) (q2 : n < 2000 → ¬ mk + 1 ≤ 8000 → Q (Sum.inr (hR h0 f_Md_halt T)) (cn h0 T (erS S 99))) : wpB PGm ρ (d + 8) m_Md_does 0 [(0, vR T)] [] (cn h0 T S) Q := by
  have O' := O
  refine s_does_oth O D (by omega) ?_
  obtain ⟨kT, G, kH⟩ := O
  obtain ⟨F, ⟨d1, d2, d3, d4, d5, d6⟩, g1, g2, g3, g4, g5, g6, g7, g8⟩ := D
  refine b_Md_others_0 ?_
  simp (decide := true) (disch := first | decide | omega) only [cnI, cnIe, cnR, cnK, cnl, cnA' G, cn_sI, cn_sIe, cn_sA' G, kT, kH, KN G, LN G, u2_f, u2_s, w32_aa, w32_ss, w32_p1, w32_m1, Int.toNat_natCast, true_and, and_true, false_and, and_false, or_false, false_or, ne_eq, not_false_eq_true, forall_const, implies_true, not_true_eq_false, false_implies]
  refine s_h O' F d1 (by omega) ?_
  simp (decide := true) (disch := first | decide | omega) only [cnI, cnIe, cnR, cnK, cnl, cnA' G, cn_sI, cn_sIe, cn_sA' G, kT, kH, KN G, LN G, u2_f, u2_s, w32_aa, w32_ss, w32_p1, w32_m1, Int.toNat_natCast, true_and, and_true, false_and, and_false, or_false, false_or, ne_eq, not_false_eq_true, forall_const, implies_true, not_true_eq_false, false_implies, cI]
  refine s_mayPile O' F d1 (fun z => ?_) (fun z => ?_)
  · simp (decide := true) (disch := first | decide | omega) only [cnI, cnIe, cnR, cnK, cnl, cnA' G, cn_sI, cn_sIe, cn_sA' G, kT, kH, KN G, LN G, u2_f, u2_s, w32_aa, w32_ss, w32_p1, w32_m1, Int.toNat_natCast, true_and, and_true, false_and, and_false, or_false, false_or, ne_eq, not_false_eq_true, forall_const, implies_true, not_true_eq_false, false_implies, cV]
    refine s_hasRoomFor (n := 1) O' e2 (by omega) (by omega) (fun z1 => ?_) (fun z1 => ?_)
    · simp (decide := true) (disch := first | decide | omega) only [cnI, cnIe, cnR, cnK, cnl, cnA' G, cn_sI, cn_sIe, cn_sA' G, kT, kH, KN G, LN G, u2_f, u2_s, w32_aa, w32_ss, w32_p1, w32_m1, Int.toNat_natCast, true_and, and_true, false_and, and_false, or_false, false_or, ne_eq, not_false_eq_true, forall_const, implies_true, not_true_eq_false, false_implies, cI]
      refine s_room O' (fun _ => ?_) (fun z2 => absurd z2 (by decide))
      simp (decide := true) (disch := first | decide | omega) only [cnI, cnIe, cnR, cnK, cnl, cnA' G, cn_sI, cn_sIe, cn_sA' G, kT, kH, KN G, LN G, u2_f, u2_s, w32_aa, w32_ss, w32_p1, w32_m1, Int.toNat_natCast, true_and, and_true, false_and, and_false, or_false, false_or, ne_eq, not_false_eq_true, forall_const, implies_true, not_true_eq_false, false_implies, cV]
      refine s_newThing O' e1 (by omega) e2 hm ?_
      simp (decide := true) (disch := first | decide | omega) only [cnI, cnIe, cnR, cnK, cnl, cnA' G, cn_sI, cn_sIe, cn_sA' G, kT, kH, KN G, LN G, u2_f, u2_s, w32_aa, w32_ss, w32_p1, w32_m1, Int.toNat_natCast, true_and, and_true, false_and, and_false, or_false, false_or, ne_eq, not_false_eq_true, forall_const, implies_true, not_true_eq_false, false_implies, cI]
      refine ⟨by omega, ?_⟩
      have F2 : TF (nobS S tn mk) t n c := by
        unfold nobS nthS
        obtain ⟨x1, x2, x3, x4, x5⟩ := F
        refine ⟨?_, ?_, ?_, ?_, ?_⟩ <;> simp (decide := true) (disch := first | decide | omega) only [cnI, cnIe, cnR, cnK, cnl, cnA' G, cn_sI, cn_sIe, cn_sA' G, kT, kH, KN G, LN G, u2_f, u2_s, w32_aa, w32_ss, w32_p1, w32_m1, Int.toNat_natCast, true_and, and_true, false_and, and_false, or_false, false_or, ne_eq, not_false_eq_true, forall_const, implies_true, not_true_eq_false, false_implies, x1, x2, x3, x4, x5]
      refine s_push O' F2 d1 (by omega) ?_
      simp (decide := true) (disch := first | decide | omega) only [cnI, cnIe, cnR, cnK, cnl, cnA' G, cn_sI, cn_sIe, cn_sA' G, kT, kH, KN G, LN G, u2_f, u2_s, w32_aa, w32_ss, w32_p1, w32_m1, Int.toNat_natCast, true_and, and_true, false_and, and_false, or_false, false_or, ne_eq, not_false_eq_true, forall_const, implies_true, not_true_eq_false, false_implies, cV]
      refine s_d137 (v := ((p + 1 : Nat) : Int)) (t := t) (c := c) O' ?_ ?_ d1 (by omega) (q1 z (by omega))
      · unfold pshS nthS; simp (decide := true) (disch := first | decide | omega) only [cnI, cnIe, cnR, cnK, cnl, cnA' G, cn_sI, cn_sIe, cn_sA' G, kT, kH, KN G, LN G, u2_f, u2_s, w32_aa, w32_ss, w32_p1, w32_m1, Int.toNat_natCast, true_and, and_true, false_and, and_false, or_false, false_or, ne_eq, not_false_eq_true, forall_const, implies_true, not_true_eq_false, false_implies, g1]
      · unfold pshS nthS; simp (decide := true) (disch := first | decide | omega) only [cnI, cnIe, cnR, cnK, cnl, cnA' G, cn_sI, cn_sIe, cn_sA' G, kT, kH, KN G, LN G, u2_f, u2_s, w32_aa, w32_ss, w32_p1, w32_m1, Int.toNat_natCast, true_and, and_true, false_and, and_false, or_false, false_or, ne_eq, not_false_eq_true, forall_const, implies_true, not_true_eq_false, false_implies, g2]
    · simp (decide := true) (disch := first | decide | omega) only [cnI, cnIe, cnR, cnK, cnl, cnA' G, cn_sI, cn_sIe, cn_sA' G, kT, kH, KN G, LN G, u2_f, u2_s, w32_aa, w32_ss, w32_p1, w32_m1, Int.toNat_natCast, true_and, and_true, false_and, and_false, or_false, false_or, ne_eq, not_false_eq_true, forall_const, implies_true, not_true_eq_false, false_implies, cI]
      refine s_room O' (fun z2 => absurd rfl z2) (fun _ => ?_)
      simp (decide := true) (disch := first | decide | omega) only [cnI, cnIe, cnR, cnK, cnl, cnA' G, cn_sI, cn_sIe, cn_sA' G, kT, kH, KN G, LN G, u2_f, u2_s, w32_aa, w32_ss, w32_p1, w32_m1, Int.toNat_natCast, true_and, and_true, false_and, and_false, or_false, false_or, ne_eq, not_false_eq_true, forall_const, implies_true, not_true_eq_false, false_implies, cV]
      exact q2 z (by omega)
  · simp (decide := true) (disch := first | decide | omega) only [cnI, cnIe, cnR, cnK, cnl, cnA' G, cn_sI, cn_sIe, cn_sA' G, kT, kH, KN G, LN G, u2_f, u2_s, w32_aa, w32_ss, w32_p1, w32_m1, Int.toNat_natCast, true_and, and_true, false_and, and_false, or_false, false_or, ne_eq, not_false_eq_true, forall_const, implies_true, not_true_eq_false, false_implies, cV]
    exact q0 (by omega)
theorem s_FUN (O : TOK h0 T) (D : DF S t n c f p k 24 a b) {ar : Nat} (ea : S f_Md_frameAround (200 * t + (c - 1)) = (ar : Int)) (e1 : S f_Md_things 0 = (tn : Int)) (ht : tn ≤ mk) (e2 : S f_Md_allMade 0 = (mk : Int)) (hm : mk ≤ 8000) (q1 : n < 2000 → mk + 1 ≤ 8000 → Q (Sum.inl none) (cn h0 T (atS (pshS (nfnS S tn mk a (ar : Int)) t n 5 (tn : Int)) t c ((p + 1 : Nat) : Int)))) (q0 : n = 2000 → Q (Sum.inr (hR h0 f_Md_halt T)) (cn h0 T (erS S 11))) (q2 : n < 2000 → ¬ mk + 1 ≤ 8000 → Q (Sum.inr (hR h0 f_Md_halt T)) (cn h0 T (erS S 99))) : wpB PGm ρ (d + 8) m_Md_does 0 [(0, vR T)] [] (cn h0 T S) Q := by
  have O' := O
  refine s_does_oth O D (by omega) ?_
  obtain ⟨kT, G, kH⟩ := O
  obtain ⟨F, ⟨d1, d2, d3, d4, d5, d6⟩, g1, g2, g3, g4, g5, g6, g7, g8⟩ := D
  refine b_Md_others_0 ?_
  simp (decide := true) (disch := first | decide | omega) only [cnI, cnIe, cnR, cnK, cnl, cnA' G, cn_sI, cn_sIe, cn_sA' G, kT, kH, KN G, LN G, u2_f, u2_s, w32_aa, w32_ss, w32_p1, w32_m1, Int.toNat_natCast, true_and, and_true, false_and, and_false, or_false, false_or, ne_eq, not_false_eq_true, forall_const, implies_true, not_true_eq_false, false_implies]
  refine s_h O' F d1 (by omega) ?_
  simp (decide := true) (disch := first | decide | omega) only [cnI, cnIe, cnR, cnK, cnl, cnA' G, cn_sI, cn_sIe, cn_sA' G, kT, kH, KN G, LN G, u2_f, u2_s, w32_aa, w32_ss, w32_p1, w32_m1, Int.toNat_natCast, true_and, and_true, false_and, and_false, or_false, false_or, ne_eq, not_false_eq_true, forall_const, implies_true, not_true_eq_false, false_implies, cI]
  refine s_mayPile O' F d1 (fun z => ?_) (fun z => ?_)
  · simp (decide := true) (disch := first | decide | omega) only [cnI, cnIe, cnR, cnK, cnl, cnA' G, cn_sI, cn_sIe, cn_sA' G, kT, kH, KN G, LN G, u2_f, u2_s, w32_aa, w32_ss, w32_p1, w32_m1, Int.toNat_natCast, true_and, and_true, false_and, and_false, or_false, false_or, ne_eq, not_false_eq_true, forall_const, implies_true, not_true_eq_false, false_implies, cV]
    refine s_hasRoomFor (n := 1) O' e2 (by omega) (by omega) (fun z1 => ?_) (fun z1 => ?_)
    · simp (decide := true) (disch := first | decide | omega) only [cnI, cnIe, cnR, cnK, cnl, cnA' G, cn_sI, cn_sIe, cn_sA' G, kT, kH, KN G, LN G, u2_f, u2_s, w32_aa, w32_ss, w32_p1, w32_m1, Int.toNat_natCast, true_and, and_true, false_and, and_false, or_false, false_or, ne_eq, not_false_eq_true, forall_const, implies_true, not_true_eq_false, false_implies, cI]
      refine s_room O' (fun _ => ?_) (fun z2 => absurd z2 (by decide))
      simp (decide := true) (disch := first | decide | omega) only [cnI, cnIe, cnR, cnK, cnl, cnA' G, cn_sI, cn_sIe, cn_sA' G, kT, kH, KN G, LN G, u2_f, u2_s, w32_aa, w32_ss, w32_p1, w32_m1, Int.toNat_natCast, true_and, and_true, false_and, and_false, or_false, false_or, ne_eq, not_false_eq_true, forall_const, implies_true, not_true_eq_false, false_implies, cV]
      refine s_newThing O' e1 (by omega) e2 hm ?_
      have w1 : nthS S tn mk 5 f_Md_top 0 = ((200 * t + (c - 1) : Nat) : Int) := by rw [nthS_o (by decide)]; exact g1
      have w2 : nthS S tn mk 5 f_Md_frameAround (200 * t + (c - 1)) = (ar : Int) := by rw [nthS_o (by decide)]; exact ea
      simp (decide := true) (disch := first | decide | omega) only [cnI, cnIe, cnR, cnK, cnl, cnA' G, cn_sI, cn_sIe, cn_sA' G, kT, kH, KN G, LN G, u2_f, u2_s, w32_aa, w32_ss, w32_p1, w32_m1, Int.toNat_natCast, true_and, and_true, false_and, and_false, or_false, false_or, ne_eq, not_false_eq_true, forall_const, implies_true, not_true_eq_false, false_implies, cI, w1, w2]
      refine ⟨by omega, by omega, by omega, by omega, ?_⟩
      have F2 : TF (nfnS S tn mk a (ar : Int)) t n c := by
        unfold nfnS nthS
        obtain ⟨x1, x2, x3, x4, x5⟩ := F
        refine ⟨?_, ?_, ?_, ?_, ?_⟩ <;> simp (decide := true) (disch := first | decide | omega) only [cnI, cnIe, cnR, cnK, cnl, cnA' G, cn_sI, cn_sIe, cn_sA' G, kT, kH, KN G, LN G, u2_f, u2_s, w32_aa, w32_ss, w32_p1, w32_m1, Int.toNat_natCast, true_and, and_true, false_and, and_false, or_false, false_or, ne_eq, not_false_eq_true, forall_const, implies_true, not_true_eq_false, false_implies, x1, x2, x3, x4, x5]
      refine s_push O' F2 d1 (by omega) ?_
      simp (decide := true) (disch := first | decide | omega) only [cnI, cnIe, cnR, cnK, cnl, cnA' G, cn_sI, cn_sIe, cn_sA' G, kT, kH, KN G, LN G, u2_f, u2_s, w32_aa, w32_ss, w32_p1, w32_m1, Int.toNat_natCast, true_and, and_true, false_and, and_false, or_false, false_or, ne_eq, not_false_eq_true, forall_const, implies_true, not_true_eq_false, false_implies, cV]
      refine b_Md_others_232 ?_
      simp (decide := true) (disch := first | decide | omega) only [cnI, cnIe, cnR, cnK, cnl, cnA' G, cn_sI, cn_sIe, cn_sA' G, kT, kH, KN G, LN G, u2_f, u2_s, w32_aa, w32_ss, w32_p1, w32_m1, Int.toNat_natCast, true_and, and_true, false_and, and_false, or_false, false_or, ne_eq, not_false_eq_true, forall_const, implies_true, not_true_eq_false, false_implies, cV]
      refine s_d137 (v := ((p + 1 : Nat) : Int)) (t := t) (c := c) O' ?_ ?_ d1 (by omega) (q1 z (by omega))
      · unfold pshS nthS; simp (decide := true) (disch := first | decide | omega) only [cnI, cnIe, cnR, cnK, cnl, cnA' G, cn_sI, cn_sIe, cn_sA' G, kT, kH, KN G, LN G, u2_f, u2_s, w32_aa, w32_ss, w32_p1, w32_m1, Int.toNat_natCast, true_and, and_true, false_and, and_false, or_false, false_or, ne_eq, not_false_eq_true, forall_const, implies_true, not_true_eq_false, false_implies, g1]
      · unfold pshS nthS; simp (decide := true) (disch := first | decide | omega) only [cnI, cnIe, cnR, cnK, cnl, cnA' G, cn_sI, cn_sIe, cn_sA' G, kT, kH, KN G, LN G, u2_f, u2_s, w32_aa, w32_ss, w32_p1, w32_m1, Int.toNat_natCast, true_and, and_true, false_and, and_false, or_false, false_or, ne_eq, not_false_eq_true, forall_const, implies_true, not_true_eq_false, false_implies, g2]
    · simp (decide := true) (disch := first | decide | omega) only [cnI, cnIe, cnR, cnK, cnl, cnA' G, cn_sI, cn_sIe, cn_sA' G, kT, kH, KN G, LN G, u2_f, u2_s, w32_aa, w32_ss, w32_p1, w32_m1, Int.toNat_natCast, true_and, and_true, false_and, and_false, or_false, false_or, ne_eq, not_false_eq_true, forall_const, implies_true, not_true_eq_false, false_implies, cI]
      refine s_room O' (fun z2 => absurd rfl z2) (fun _ => ?_)
      simp (decide := true) (disch := first | decide | omega) only [cnI, cnIe, cnR, cnK, cnl, cnA' G, cn_sI, cn_sIe, cn_sA' G, kT, kH, KN G, LN G, u2_f, u2_s, w32_aa, w32_ss, w32_p1, w32_m1, Int.toNat_natCast, true_and, and_true, false_and, and_false, or_false, false_or, ne_eq, not_false_eq_true, forall_const, implies_true, not_true_eq_false, false_implies, cV]
      exact q2 z (by omega)
  · simp (decide := true) (disch := first | decide | omega) only [cnI, cnIe, cnR, cnK, cnl, cnA' G, cn_sI, cn_sIe, cn_sA' G, kT, kH, KN G, LN G, u2_f, u2_s, w32_aa, w32_ss, w32_p1, w32_m1, Int.toNat_natCast, true_and, and_true, false_and, and_false, or_false, false_or, ne_eq, not_false_eq_true, forall_const, implies_true, not_true_eq_false, false_implies, cV]
    exact q0 (by omega)
end
