/-! builtins: front and end -/
set_option maxRecDepth 20000
def putS (S : SS) (y : Nat) (ty v : Int) : SS := u2 (u2 S f_Md_pileType y ty) f_Md_pileValue y v
/-- a value at m, which is the last one then -/
def pshA (S : SS) (t m : Nat) (ty v : Int) : SS := putS (u2 S f_Md_height t ((m + 1 : Nat) : Int)) (2100 * t + m) ty v
abbrev bK (ρ : Nat → Nat) (d T : Nat) (Q : QT) : QT := cV (fun h' => dK ρ d T Q (Sum.inl none) h') (fun e h' => hK h' e ≠ 0 ∧ dK ρ d T Q (Sum.inr e) h')
def obA (h : ah) (C : Nat) (x y : Int) : Nat := if x = 4 ∨ x = 5 then hB h (C + 51) y.toNat else 0
section
variable {ρ : Nat → Nat} {P : ah → Nat → Prop} {d : Nat} {Q : QT} {Γ Γ' : GH} {h h0 h1 h' : ah} {C ho T : Nat} {X X' X1 X2 : X3} {Y Y' : Y3} {S S' S1 S2 : SS} {N t o n c r f i j k m z s n' pu po p tn w : Nat} {ty v x y op a b : Int} {L : List Nat}
theorem u2_id {i : Nat} (e : S f i = v) : u2 S f i v = S := by
  funext g j
  rw [u2_e]
  by_cases q : g = f ∧ j = i
  · rw [if_pos q, q.1, q.2, e]
  · rw [if_neg q]
theorem s_putP (O : TOK h0 T) (hy : m < 4200) (q : Q (Sum.inl none) (cn h0 T (putS S m ty v))) : wpB PGm ρ d m_Md_put 0 [(0, vR T), (1, vI (m : Int)), (2, vI ty), (3, vL v)] [] (cn h0 T S) Q := by
  obtain ⟨kT, G, kH⟩ := O
  have c1 : 0 ≤ (m : Int) ∧ (m : Int) < ((4200 : Nat) : Int) := by omega
  unfold putS at q
  refine b_Md_put_0 ?_
  simp (decide := true) (disch := first | decide | omega) only [cnI, cnIe, cnR, cnK, cnl, cnA' G, cn_sI, cn_sIe, cn_sA' G, kT, kH, KN G, LN G, u2_f, u2_s, w32_aa, w32_ss, w32_p1, w32_m1, Int.toNat_natCast, true_and, and_true, false_and, and_false, or_false, false_or, ne_eq, not_false_eq_true, forall_const, implies_true, not_true_eq_false, false_implies]
  exact ⟨c1, c1, q⟩
theorem s_BLT (O : TOK h0 T) (D : DF S t n c f p k 28 a b) (q : wpB PGm ρ (d + 6) m_Md_builtins 0 [(0, vR T), (1, vI a)] [] (cn h0 T S) (bK ρ d T Q)) : wpB PGm ρ (d + 8) m_Md_does 0 [(0, vR T)] [] (cn h0 T S) Q := by
  have O' := O
  refine s_does_oth O D (by omega) ?_
  obtain ⟨kT, G, kH⟩ := O
  obtain ⟨F, ⟨d1, d2, d3, d4, d5, d6⟩, g1, g2, g3, g4, g5, g6, g7, g8⟩ := D
  refine b_Md_others_0 ?_
  simp (decide := true) (disch := first | decide | omega) only [cnI, cnIe, cnR, cnK, cnl, cnA' G, cn_sI, cn_sIe, cn_sA' G, kT, kH, KN G, LN G, u2_f, u2_s, w32_aa, w32_ss, w32_p1, w32_m1, Int.toNat_natCast, true_and, and_true, false_and, and_false, or_false, false_or, ne_eq, not_false_eq_true, forall_const, implies_true, not_true_eq_false, false_implies]
  refine s_h O' F d1 (by omega) ?_
  simp (decide := true) (disch := first | decide | omega) only [cnI, cnIe, cnR, cnK, cnl, cnA' G, cn_sI, cn_sIe, cn_sA' G, kT, kH, KN G, LN G, u2_f, u2_s, w32_aa, w32_ss, w32_p1, w32_m1, Int.toNat_natCast, true_and, and_true, false_and, and_false, or_false, false_or, ne_eq, not_false_eq_true, forall_const, implies_true, not_true_eq_false, false_implies, cI]
  exact q
theorem bK_fin (O : TOK h0 T) (D : DF S t n c f p k op a b) (e1 : S1 f_Md_top 0 = S f_Md_top 0) (e2 : S1 f_Md_after 0 = S f_Md_after 0) (q : Q (Sum.inl none) (cn h0 T (atS S1 t c ((p + 1 : Nat) : Int)))) : bK ρ d T Q (Sum.inl none) (cn h0 T S1) := by
  obtain ⟨F, ⟨d1, d2, d3, d4, d5, d6⟩, g1, g2, g3, g4, g5, g6, g7, g8⟩ := D
  exact s_d137 (v := ((p + 1 : Nat) : Int)) (t := t) (c := c) O (by rw [e1]; exact g1) (by rw [e2]; exact g2) d1 ⟨d3, d4⟩ q
theorem bK_er (O : TOK h0 T) (q : Q (Sum.inr (hR h0 f_Md_halt T)) (cn h0 T S1)) : bK ρ d T Q (Sum.inr (hR h0 f_Md_halt T)) (cn h0 T S1) := by
  have kH : hK h0 (hR h0 f_Md_halt T) ≠ 0 := by rw [O.2.2]; decide
  exact ⟨kH, kH, q⟩
theorem r_objectOf (G : AC h C) (F : FC h C) (hd : 10 ≤ d) (et : hl h (C + 51) = tn) (ht : tn ≤ 8000) (V : x = 4 ∨ x = 5 → 0 ≤ y ∧ y < (tn : Int) ∧ hK h (hB h (C + 51) y.toNat) ∈ [244, 245]) (q : Q (Sum.inl (some (vR (obA h C x y)))) (cc h C X Y)) : wpB PGm ρ d m_Machine_objectOf 0 [(0, vR (C + 32)), (1, vI x), (2, vL y)] [] (cc h C X Y) Q := by
  have gz := G.1
  have eB : ∀ i, hB (cc h C X Y) (C + 51) i = hB h (C + 51) i := fun i => by
    have := ccBo (X := X) (Y := Y) (i := i) (f := f_Heap_things) (b := C + 50) G (by decide) (by omega)
    rw [F.2.2.1.2.1] at this; exact this
  have g : x = 4 ∨ x = 5 → wpB PGm ρ d m_Machine_objectOf 10 [(0, vR (C + 32)), (2, vL y)] [] (cc h C X Y) Q := fun z => by
    obtain ⟨v1, v2, v3⟩ := V z
    have w1 : w32 y = y := w32_of (by omega) (by omega)
    have e : obA h C x y = hB h (C + 51) y.toNat := if_pos z
    rw [e] at q
    have k51 : hK h (C + 51) = k_ArrayList := F.2.2.2.1.1.1
    have l51 : lok h (C + 51) := F.2.2.2.1.1
    have b1 : 0 ≤ y ∧ y < (hl h (C + 51) : Int) := by omega
    have f2 := F
    unfold FC at f2
    refine b_Machine_objectOf_10 hd ?_
    simp (decide := true) only [ccRo, ccK, ccl, cclok, f2, w1, eB, k51, l51, true_and]
    exact ⟨b1, Or.inr v3, q⟩
  refine b_Machine_objectOf_0 ⟨fun z => g (Or.inl z), fun z => ⟨fun z2 => ?_, fun z2 => g (Or.inr z2)⟩⟩
  have e : obA h C x y = 0 := if_neg (fun c => c.elim z z2)
  rw [e] at q; exact q
/-- C's front: the object at the place -/
theorem r_BLT (I : IX h C X Y o n c) (hw : w ≤ n) (ha : (a = 3 ∨ a = 4 ∨ a = 5) ∧ w = 2 ∨ ¬ (a = 3 ∨ a = 4 ∨ a = 5) ∧ w = 1) (q : wpB PGm ρ (d + 19) m_Machine_builtin 27 [(0, vR (C + 32)), (1, vI a)] [vI (w : Int), vI (n : Int)] (cc h C X Y) (cV (fun h3 => Q (Sum.inl none) h3) (fun e h' => hK h' e ≠ 0 ∧ Q (Sum.inr e) h'))) : wpB PGm ρ (d + 20) m_Machine_instruct 0 [(0, vR (C + 32)), (1, vI 28), (2, vI a), (3, vI b)] [] (cc h C X Y) Q := by
  obtain ⟨G, F, ht, ⟨e1, e2, e3⟩, hn, hc1, hc2⟩ := I
  have eT : hR (cc h C X Y) f_Machine_t (C + 32) = C + o := by rw [ccR (by decide), e1]
  have kT : hK (cc h C X Y) (C + o) = k_Task := (F.t ht).1
  have eS : hI (cc h C X Y) f_Task_size (C + o) = (n : Int) := by rw [ccIt ht (by decide), e2]
  have g : wpB PGm ρ (d + 19) m_Machine_builtin 0 [(0, vR (C + 32)), (1, vI a)] [] (cc h C X Y) (cV (fun h3 => Q (Sum.inl none) h3) (fun e h' => hK h' e ≠ 0 ∧ Q (Sum.inr e) h')) := by
    refine b_Machine_builtin_0 ⟨F.1.1, ?_, ?_⟩
    · rw [eT]; exact kT
    · rw [eT, eS]
      rcases ha with ⟨w1, rfl⟩ | ⟨w1, rfl⟩
      · exact ⟨fun _ => q, fun z => ⟨fun _ => q, fun z2 => ⟨fun z3 => absurd w1 (by omega), fun _ => q⟩⟩⟩
      · exact ⟨fun z => absurd (Or.inl z) w1, fun z => ⟨fun z => absurd (Or.inr (Or.inl z)) w1, fun z2 => ⟨fun _ => q, fun z => absurd (Or.inr (Or.inr z)) w1⟩⟩⟩
  refine b_Machine_instruct_0 (by omega) ⟨F.1.1, ?_, ?_⟩
  · rw [eT]; exact kT
  · clear q e1 e2 e3 hn hc1 hc2 eS
    simp (decide := true) only [true_and, and_true, false_implies, forall_const]
    exact g
/-- the value's end: C -/
theorem RLC.ans (H : OPH Γ h C X Y S N t o n c r) (nx : NXT Γ S (fsS S t (c - 1)) (psS S t (c - 1)) pu po 0 0) (M1 : CORE Γ' h1 C ho X1 Y S1 N) (K1 : CT Γ' h1 C X1 Y S1 N t o n c r) (g : GRO Γ Γ' h h1 C S S1) (e0 : EXS (LTK ++ [f_Md_t, f_Md_p0, f_Md_f0, f_Md_top, f_Md_after, f_Md_codeSize]) S S1) (nsc : NSc S S1) (nxc : NXc X X1) (fr : Fr LHc [] z s h h1) (bd : BND h C S h1 S1 1 8) (V : VR Γ' S1 N x y ty v) (hm : m < n) (hn' : m + 1 + po = n + pu) : RLC Γ h C ho X Y S N none (atS (pshA S1 t m ty v) t c ((psS S t (c - 1) + 1 : Nat) : Int)) h1 (ansX X1 o m c x y) Y := by
  have K := H.2.2.1
  have h20 := K.2.2.1.2.2
  have ns : NSt t S1 (pshA S1 t m ty v) := by
    unfold pshA putS
    exact NSt.u (tk2 (by decide) (by omega)) (NSt.u (tk2 (by decide) (by omega)) (NSt.u (tk1 (by decide)) NSt.rf))
  have es : EXS LS8 S1 (pshA S1 t m ty v) := by
    unfold pshA putS
    exact EXS.u (by decide) (EXS.u (by decide) (EXS.u (by decide) EXS.rf))
  have pl : PIL Γ' (u3 (u3 (u3 X1 o f_Task_size 0 ((m + 1 : Nat) : Int)) o f_Task_tags m x) o f_Task_words m y) (pshA S1 t m ty v) N o t (m + 1) := by
    intro i hi
    have a1 : pshA S1 t m ty v f_Md_pileType (2100 * t + i) = if i = m then ty else S1 f_Md_pileType (2100 * t + i) := by
      unfold pshA putS
      rw [u2_f (by decide), u2_e]
      by_cases q : i = m
      · rw [if_pos ⟨rfl, by omega⟩, if_pos q]
      · rw [if_neg (fun z => q (by omega)), if_neg q, u2_f (by decide)]
    have a2 : pshA S1 t m ty v f_Md_pileValue (2100 * t + i) = if i = m then v else S1 f_Md_pileValue (2100 * t + i) := by
      unfold pshA putS
      rw [u2_e]
      by_cases q : i = m
      · rw [if_pos ⟨rfl, by omega⟩, if_pos q]
      · rw [if_neg (fun z => q (by omega)), if_neg q, u2_f (by decide), u2_f (by decide)]
    have a3 : u3 (u3 (u3 X1 o f_Task_size 0 ((m + 1 : Nat) : Int)) o f_Task_tags m x) o f_Task_words m y o f_Task_tags i = if i = m then x else X1 o f_Task_tags i := by
      rw [u3_f (by decide), u3_e]
      by_cases q : i = m
      · rw [if_pos ⟨rfl, rfl, q⟩, if_pos q]
      · rw [if_neg (fun z => q z.2.2), if_neg q, u3_f (by decide)]
    have a4 : u3 (u3 (u3 X1 o f_Task_size 0 ((m + 1 : Nat) : Int)) o f_Task_tags m x) o f_Task_words m y o f_Task_words i = if i = m then y else X1 o f_Task_words i := by
      rw [u3_e]
      by_cases q : i = m
      · rw [if_pos ⟨rfl, rfl, q⟩, if_pos q]
      · rw [if_neg (fun z => q z.2.2), if_neg q, u3_f (by decide), u3_f (by decide)]
    rw [a1, a2, a3, a4]
    by_cases q : i = m
    · rw [if_pos q, if_pos q, if_pos q, if_pos q]
      exact ns.vr V
    · rw [if_neg q, if_neg q, if_neg q, if_neg q]
      exact ns.vr (K1.2.2.2.2.2.1 i (by omega))
  exact RLC.fin (n' := m + 1) H nx M1 K1 g e0 nsc nxc fr (fun _ w => w) bd ns es (EXX.u (by decide) (EXX.u (by decide) (EXX.u (by decide) EXX.rf))) (NXo.u (by decide) (NXo.u (by decide) (NXo.u (by decide) NXo.rf))) (by rw [u3_f (by decide), u3_f (by decide), u3_s]) (by unfold pshA putS; rw [u2_f (by decide), u2_f (by decide), u2_s]) (by omega) hn' pl
end
