/-! C: what is printed -/
set_option maxRecDepth 20000
/-- the texts of both programs -/
def txM : List (Nat × List Int) := [(0, [118, 111, 105, 100]), (1, [105, 110, 116]), (2, [108, 111, 110, 103]), (3, [98, 111, 111, 108]), (4, [73, 110, 116]), (5, [76, 111, 110, 103]), (6, [66, 111, 111, 108]), (7, [84, 101, 120, 116]), (8, [65, 110, 121]), (9, [105, 110, 116, 101, 114, 102, 97, 99, 101]), (10, [99, 108, 97, 115, 115]), (11, [115, 116, 97, 116, 105, 99]), (12, [110, 101, 119]), (13, [110, 117, 108, 108]), (14, [116, 101, 120, 116]), (15, [111, 98, 106, 101, 99, 116]), (16, [102, 117, 110]), (17, [108, 105, 115, 116]), (18, [104, 111, 115, 116]), (19, [103, 101, 116]), (20, [105, 115]), (21, [115, 101, 116]), (22, [102, 97, 108, 115, 101]), (23, [116, 114, 117, 101]), (24, [123, 125]), (25, [91, 93]), (26, [115, 105, 122, 101]), (27, [115, 117, 98]), (28, [112, 117, 115, 104]), (29, [112, 111, 112]), (30, []), (31, [32, 118, 111, 105, 100, 32, 105, 110, 116, 32, 108, 111, 110, 103, 32, 98, 111, 111, 108, 32, 73, 110, 116, 32, 76, 111, 110, 103, 32, 66, 111, 111, 108, 32, 84, 101, 120, 116, 32, 65, 110, 121, 32, 99, 108, 97, 115, 115, 32, 105, 110, 116, 101, 114, 102, 97, 99, 101, 32, 115, 116, 97, 116, 105, 99, 32, 110, 101, 119, 32]), (32, [32, 118, 111, 105, 100, 32, 105, 110, 116, 32, 108, 111, 110, 103, 32, 98, 111, 111, 108, 32, 73, 110, 116, 32, 76, 111, 110, 103, 32, 66, 111, 111, 108, 32, 84, 101, 120, 116, 32, 65, 110, 121, 32]), (33, [101, 108, 115, 101]), (34, [99, 97, 116, 99, 104]), (35, [32, 118, 97, 114, 32, 105, 102, 32, 101, 108, 115, 101, 32, 119, 104, 105, 108, 101, 32, 114, 101, 116, 117, 114, 110, 32, 116, 104, 114, 111, 119, 32, 116, 114, 121, 32, 99, 97, 116, 99, 104, 32]), (36, [118, 97, 114]), (37, [105, 102]), (38, [119, 104, 105, 108, 101]), (39, [114, 101, 116, 117, 114, 110]), (40, [116, 104, 114, 111, 119]), (41, [116, 114, 121]), (42, [32, 118, 97, 114, 32, 102, 117, 110, 32, 105, 102, 32, 101, 108, 115, 101, 32, 119, 104, 105, 108, 101, 32, 114, 101, 116, 117, 114, 110, 32, 116, 104, 114, 111, 119, 32, 116, 114, 121, 32, 99, 97, 116, 99, 104, 32, 110, 101, 119, 32, 116, 104, 105, 115, 32, 110, 117, 108, 108, 32, 116, 114, 117, 101, 32, 102, 97, 108, 115, 101, 32, 112, 114, 105, 110, 116, 32, 109, 97, 107, 101, 32, 112, 114, 111, 116, 111, 32, 116, 117, 114, 110, 32, 100, 114, 111, 112, 32, 104, 97, 115, 32, 107, 105, 110, 100, 32, 104, 111, 115, 116, 32]), (43, [116, 104, 105, 115]), (44, [32, 112, 114, 105, 110, 116, 32, 109, 97, 107, 101, 32, 112, 114, 111, 116, 111, 32, 116, 117, 114, 110, 32, 100, 114, 111, 112, 32, 104, 97, 115, 32, 107, 105, 110, 100, 32, 104, 111, 115, 116, 32]), (45, [64]), (46, [45]), (47, [112, 114, 105, 110, 116]), (48, [109, 97, 107, 101]), (49, [112, 114, 111, 116, 111]), (50, [116, 117, 114, 110]), (51, [100, 114, 111, 112]), (52, [104, 97, 115]), (53, [107, 105, 110, 100])]
def SOK (h : ah) (r : Nat) (w : List Int) : Prop := STR h r w ∧ r < hz h ∧ r ≠ 0 ∧ UNO h r
def STM (ρ : Nat → Nat) (h : ah) : Prop := ∀ q, q ∈ txM → SOK h (ρ q.1) q.2
def PRL (h : ah) (C p : Nat) : Prop := (hl h (hR h f_Machine_print (C + 32)) = 256 ∨ hl h (hR h f_Machine_print (C + 32)) = 4096 ∨ hl h (hR h f_Machine_print (C + 32)) = 200100) ∧ p ≤ hl h (hR h f_Machine_print (C + 32))
/-- bytes are printed behind p -/
def PUT (h : ah) (C : Nat) (X : X3) (p : Nat) (bs : List Int) (h' : ah) (X' : X3) : Prop := AC h' C ∧ FC h' C ∧ (∃ z s, Fr (LCC ++ [f_Machine_print]) [] z s h h') ∧ GRB h C h' ∧ PRL h' C (p + bs.length) ∧ X' 32 f_Machine_printed 0 = ((p + bs.length : Nat) : Int) ∧ (∀ i, i < p → X' 32 f_Machine_print i = X 32 f_Machine_print i) ∧ (∀ i, i < bs.length → X' 32 f_Machine_print (p + i) = bs.getD i 0) ∧ (∀ o f i, [f_Machine_print, f_Machine_printed].elem f = false → X' o f i = X o f i)
section
variable {ρ : Nat → Nat} {d : Nat} {Q : QT} {h h1 h' : ah} {C k n m o c x y z s f i j p r : Nat} {X X' X1 : X3} {Y : Y3} {L : List Nat} {P : List (Nat × Nat)} {v w : Int} {bs cs : List Int}
theorem SOK.fr (H : SOK h r bs) (fr : Fr L P z s h h') (p0 : ∀ y, (0, y) ∉ P) : SOK h' r bs := ⟨H.1.frm fr p0 H.2, fr.lt H.2.1, H.2.2.1, H.2.2.2.fr H.2.1 H.2.2.1 fr⟩
theorem STM.fr (H : STM ρ h) (fr : Fr L P z s h h') (p0 : ∀ y, (0, y) ∉ P) : STM ρ h' := fun q hq => (H q hq).fr fr p0
theorem STM.g (H : STM ρ h) {w : List Int} (e : txM.elem (x, w) = true) : SOK h (ρ x) w := H (x, w) (by simpa using e)
theorem SOK.cc (H : SOK h r bs) (G : AC h C) : hK (cc h C X Y) r = 191 ∧ hl (cc h C X Y) r = bs.length ∧ ∀ i, i < bs.length → hA (cc h C X Y) r i = bs.getD i 0 := by
  obtain ⟨⟨a1, a2, a3, a4⟩, a5, a6, a7⟩ := H
  refine ⟨a1, a2, fun i hi => ?_⟩
  rw [ccA0 (fun q m c => a7 q.1 (C + q.2.1) (by have := (ownA' m).2; have := G.1; omega) (ownA' m).1 c)]
  exact a4 i hi
theorem PUT.nil (G : AC h C) (F : FC h C) (pl : PRL h C p) (e : X 32 f_Machine_printed 0 = (p : Int)) : PUT h C X p [] h X := ⟨G, F, ⟨0, 0, Fr.r0⟩, GRB.rf, pl, e, fun _ _ => rfl, fun i hi => absurd hi (Nat.not_lt_zero _), fun _ _ _ _ => rfl⟩
theorem PUT.app (A : PUT h C X p bs h1 X1) (B : PUT h1 C X1 (p + bs.length) cs h' X') : PUT h C X p (bs ++ cs) h' X' := by
  obtain ⟨a1, a2, ⟨z, s, a3⟩, a4, a5, a6, a7, a8, a9⟩ := A
  obtain ⟨b1, b2, ⟨z', s', b3⟩, b4, b5, b6, b7, b8, b9⟩ := B
  refine ⟨b1, b2, ⟨_, _, a3.trans b3⟩, a4.tr b4, by rw [List.length_append, ← Nat.add_assoc]; exact b5, by rw [List.length_append, ← Nat.add_assoc]; exact b6, fun i hi => by rw [b7 i (by omega)]; exact a7 i hi, fun i hi => ?_, fun o f i hf => by rw [b9 o f i hf]; exact a9 o f i hf⟩
  rw [List.length_append] at hi
  rw [List.getD_eq_getElem?_getD, List.getElem?_append]
  by_cases q : i < bs.length
  · rw [if_pos q, b7 _ (by omega), a8 i q, List.getD_eq_getElem?_getD]
  · rw [if_neg q, ← List.getD_eq_getElem?_getD, ← b8 (i - bs.length) (by omega)]
    congr 1; omega
theorem w8_r : -128 ≤ w8 v ∧ w8 v ≤ 127 := by unfold w8; constructor <;> (have := Int.bmod_lt (x := v) (m := 256) (by decide); have := Int.le_bmod (x := v) (m := 256) (by decide); omega)
theorem r_put33 (G : AC h C) (F : FC h C) (e : X 32 f_Machine_printed 0 = (p : Int)) (hp : p < hl h (hR h f_Machine_print (C + 32))) (hp2 : p ≤ 200100) (q : Q (Sum.inl none) (cc h C (u3 (u3 X 32 f_Machine_print p (w8 v)) 32 f_Machine_printed 0 ((p + 1 : Nat) : Int)) Y)) : wpB PGm ρ d m_Machine_put 33 [(0, vR (C + 32)), (1, vI v)] [] (cc h C X Y) Q := by
  have b1 := w8_r (v := v)
  have b0 : 0 ≤ (p : Int) := by omega
  have b2 : (p : Int) < (hl h (hR h f_Machine_print (C + 32)) : Int) := by omega
  have f2 := F
  unfold FC at f2
  have f1 := trivial
  have ht : isT 62 := Or.inl rfl
  refine b_Machine_put_33 ?_
  simp (decide := true) (disch := first | decide | omega) only [ccI, ccR, ccIt ht, ccRo, ccK, ccl, ccA G, ccAt G ht, ccB G, ccBt G ht, cc_sI, cc_sR, cc_sIt ht, cc_sA G, cc_sAt G ht, cc_sB G, cc_sBt G ht, f1, f2, u3_f, u3_s, KCt G ht, KC G, w32_aa, w32_ss, w32_p1, w32_m1, Int.toNat_natCast, true_and, and_true, false_and, and_false, or_false, false_or, ne_eq, not_false_eq_true, forall_const, implies_true, not_true_eq_false, false_implies, e]
  exact ⟨⟨b1, b0, b2⟩, q⟩
theorem PUT.one (G : AC h C) (F : FC h C) (e : PRL h C p) (hp : p < hl h (hR h f_Machine_print (C + 32))) : PUT h C X p [v] h (u3 (u3 X 32 f_Machine_print p v) 32 f_Machine_printed 0 ((p + 1 : Nat) : Int)) := by
  refine ⟨G, F, ⟨0, 0, Fr.r0⟩, GRB.rf, ⟨e.1, hp⟩, u3_s, fun i hi => ?_, fun i hi => ?_, fun o f i hf => ?_⟩
  · rw [u3_f (by decide), u3_e, if_neg (fun c => by have := c.2.2; omega)]
  · have : i = 0 := by simp at hi; exact hi
    subst this
    rw [u3_f (by decide), Nat.add_zero, u3_s]; rfl
  · rw [u3_f (by rintro rfl; revert hf; decide), u3_f (by rintro rfl; revert hf; decide)]
/-- a byte is printed -/
theorem r_put (G : AC h C) (F : FC h C) (e : X 32 f_Machine_printed 0 = (p : Int)) (pl : PRL h C p) (hp : p < 200100) (hd : 10 ≤ d) (q : ∀ h' X', PUT h C X p [w8 v] h' X' → Q (Sum.inl none) (cc h' C X' Y)) : wpB PGm ρ (d + 1) m_Machine_put 0 [(0, vR (C + 32)), (1, vI v)] [] (cc h C X Y) Q := by
  by_cases hlp : p = hl h (hR h f_Machine_print (C + 32))
  · -- it grows
    have hn' : ∃ n : Nat, 2 * p ≤ n ∧ n ≤ 200100 ∧ (n = 4096 ∨ n = 200100) ∧ ∀ (H : ah) (Q : QT), Q (Sum.inl (some (vI (n : Int)))) H → wpB PGm ρ d m_LT_larger 0 [(0, vI (p : Int)), (1, vI 200100)] [] H Q := by
      rcases pl.1 with w | w | w
      · refine ⟨4096, by omega, by omega, Or.inl rfl, fun H Q q => b_LT_larger_0 ⟨fun z => by omega, fun _ => ⟨fun z => by omega, fun _ => q⟩⟩⟩
      · refine ⟨200100, by omega, by omega, Or.inr rfl, fun H Q q => b_LT_larger_0 ⟨fun _ => q, fun z => by omega⟩⟩
      · omega
    obtain ⟨n, n1, n2, n3, n4⟩ := hn'
    have p1 : 1 ≤ p := by rcases pl.1 with w | w | w <;> omega
    obtain ⟨h1, g1, G1, F1, R1, L1, Z1⟩ := cc_grow (X := X) (Y := Y) (f := f_Machine_print) (o := 32) (n := n) (k := 3) G F (by decide) (by decide) (by unfold DJ; rfl) (KC G).2.2.2.2.2.2.2.1.symm
    rw [← hlp] at g1
    have pl1 : PRL h1 C p := ⟨by rw [L1]; exact Or.inr n3, by rw [L1]; omega⟩
    have x1 : trX X 32 f_Machine_print p n 32 f_Machine_printed 0 = (p : Int) := by
      show (if 32 = 32 ∧ f_Machine_printed = f_Machine_print then _ else X 32 f_Machine_printed 0) = _
      rw [if_neg (fun c => absurd c.2 (by decide))]; exact e
    have A := PUT.one (X := trX X 32 f_Machine_print p n) (v := w8 v) G1 F1 pl1 (by omega)
    have g4 : wpB PGm ρ (d + 1) m_Machine_put 33 [(0, vR (C + 32)), (1, vI v)] [] (cc h1 C (trX X 32 f_Machine_print p n) Y) Q := by
      refine r_put33 G1 F1 x1 (by omega) (by omega) (q _ _ ?_)
      obtain ⟨a1, a2, ⟨z, s, a3⟩, a4, a5, a6, a7, a8, a9⟩ := A
      refine ⟨a1, a2, ⟨_, _, frP R1 (by decide) (M := [f_Machine_print]) (by decide)⟩, GRB.grow G F (by decide) R1 (by decide) L1 (by omega) (by omega) (by decide), a5, a6, fun i hi => ?_, a8, fun o f i hf => ?_⟩
      · rw [a7 i hi]
        show (if 32 = 32 ∧ f_Machine_print = f_Machine_print then _ else _) = _
        rw [if_pos ⟨rfl, rfl⟩, if_pos ⟨hi, by omega⟩]
      · rw [a9 o f i hf]
        show (if o = 32 ∧ f = f_Machine_print then _ else _) = _
        rw [if_neg (by rintro ⟨-, rfl⟩; revert hf; decide)]
    have hk1 : hK (hcp (cc h C X Y) 3 (hR h f_Machine_print (C + 32)) n) (C + 32) = k_Machine := hcp_K (by have := G.1; show C + 32 < hz h; omega) F.1.1
    have b1 : 0 ≤ (n : Int) ∧ (n : Int) ≤ 67108864 := by omega
    have hd1 : 10 ≤ d + 1 := by omega
    have el : hl h (hR h f_Machine_print (C + 32)) = p := hlp.symm
    clear q A hlp R1 L1 Z1 n1 n2 n3 pl pl1
    have f2 := F
    unfold FC at f2
    have f1 := trivial
    have ht : isT 62 := Or.inl rfl
    refine b_Machine_put_0 hd1 ?_
    simp (decide := true) (disch := first | decide | omega) only [ccI, ccR, ccIt ht, ccRo, ccK, ccl, ccA G, ccAt G ht, ccB G, ccBt G ht, cc_sI, cc_sR, cc_sIt ht, cc_sA G, cc_sAt G ht, cc_sB G, cc_sBt G ht, f1, f2, u3_f, u3_s, KCt G ht, KC G, w32_aa, w32_ss, w32_p1, w32_m1, Int.toNat_natCast, true_and, and_true, false_and, and_false, or_false, false_or, ne_eq, not_false_eq_true, forall_const, implies_true, not_true_eq_false, false_implies, e, el]
    refine n4 _ _ ?_
    simp (decide := true) (disch := first | decide | omega) only [ccI, ccR, ccIt ht, ccRo, ccK, ccl, ccA G, ccAt G ht, ccB G, ccBt G ht, cc_sI, cc_sR, cc_sIt ht, cc_sA G, cc_sAt G ht, cc_sB G, cc_sBt G ht, f1, f2, u3_f, u3_s, KCt G ht, KC G, w32_aa, w32_ss, w32_p1, w32_m1, Int.toNat_natCast, true_and, and_true, false_and, and_false, or_false, false_or, ne_eq, not_false_eq_true, forall_const, implies_true, not_true_eq_false, false_implies, cI, ccz, g1, hk1, b1]
    exact g4
  · have hp1 : p < hl h (hR h f_Machine_print (C + 32)) := by have := pl.2; omega
    have g := r_put33 (ρ := ρ) (d := d + 1) (Q := Q) (v := v) (Y := Y) G F e hp1 (by omega) (q _ _ (PUT.one G F pl hp1))
    have ne : ((p : Int) = (hl h (hR h f_Machine_print (C + 32)) : Int)) = False := eq_false (by omega)
    have hd1 : 10 ≤ d + 1 := by omega
    clear q
    have f2 := F
    unfold FC at f2
    have f1 := trivial
    have ht : isT 62 := Or.inl rfl
    refine b_Machine_put_0 hd1 ?_
    simp (decide := true) (disch := first | decide | omega) only [ccI, ccR, ccIt ht, ccRo, ccK, ccl, ccA G, ccAt G ht, ccB G, ccBt G ht, cc_sI, cc_sR, cc_sIt ht, cc_sA G, cc_sAt G ht, cc_sB G, cc_sBt G ht, f1, f2, u3_f, u3_s, KCt G ht, KC G, w32_aa, w32_ss, w32_p1, w32_m1, Int.toNat_natCast, true_and, and_true, false_and, and_false, or_false, false_or, ne_eq, not_false_eq_true, forall_const, implies_true, not_true_eq_false, false_implies, e, ne]
    exact g
/-- bytes one behind the other, as a method puts them -/
theorem puts_ind {F1 : Nat → ah → Prop} (bs : List Int) (q : ∀ h' X', PUT h C X p bs h' X' → F1 bs.length (cc h' C X' Y)) (hp : p + bs.length ≤ 200100) (st : ∀ j h' X', j < bs.length → PUT h C X p (bs.take j) h' X' → (∀ h2 X2, PUT h' C X' (p + j) [bs.getD j 0] h2 X2 → F1 (j + 1) (cc h2 C X2 Y)) → F1 j (cc h' C X' Y)) (G : AC h C) (F : FC h C) (pl : PRL h C p) (e : X 32 f_Machine_printed 0 = (p : Int)) : F1 0 (cc h C X Y) := by
  have key : ∀ r j h' X', j + r = bs.length → PUT h C X p (bs.take j) h' X' → F1 j (cc h' C X' Y) := by
    intro r
    induction r with
    | zero =>
      intro j h' X' hj A
      have : j = bs.length := by omega
      subst this
      rw [List.take_length] at A
      exact q h' X' A
    | succ r ih =>
      intro j h' X' hj A
      refine st j h' X' (by omega) A (fun h2 X2 B => ih (j + 1) h2 X2 (by omega) ?_)
      have l1 : (bs.take j).length = j := by rw [List.length_take]; omega
      have C1 := A.app (cs := [bs.getD j 0]) (by rw [l1]; exact B)
      have : bs.take (j + 1) = bs.take j ++ [bs.getD j 0] := by
        rw [List.take_succ, List.getD_eq_getElem?_getD]
        have : bs[j]? = some (bs[j]'(by omega)) := List.getElem?_eq_getElem (by omega)
        rw [this]; rfl
      rw [this]; exact C1
  exact key bs.length 0 h X (by omega) (PUT.nil G F pl e)
end
