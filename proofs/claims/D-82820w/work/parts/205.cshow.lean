/-! C prints a value -/
set_option maxRecDepth 20000
/-- bytes of the output -/
def oX (X : X3) (w : Nat) (bs : List Int) : X3 := fun o f i => if o = 32 ∧ f = f_Machine_output ∧ w ≤ i ∧ i < w + bs.length then bs.getD (i - w) 0 else X o f i
/-- room for the output -/
def OGW (h : ah) (C : Nat) (X : X3) (w : Nat) (h' : ah) (X' : X3) : Prop := AC h' C ∧ FC h' C ∧ (∃ z s, Fr (LCC ++ [f_Machine_output]) [] z s h h') ∧ GRB h C h' ∧ (hl h' (hR h' f_Machine_output (C + 32)) = 256 ∨ hl h' (hR h' f_Machine_output (C + 32)) = 4096 ∨ hl h' (hR h' f_Machine_output (C + 32)) = 65536) ∧ hl h (hR h f_Machine_output (C + 32)) ≤ hl h' (hR h' f_Machine_output (C + 32)) ∧ (∀ i, i < w → X' 32 f_Machine_output i = X 32 f_Machine_output i) ∧ (∀ o f i, f ≠ f_Machine_output → X' o f i = X o f i)
section
variable {ρ : Nat → Nat} {P : ah → Nat → Prop} {d : Nat} {Q : QT} {Γ Γ' : GH} {h h0 h1 h' : ah} {C ho T : Nat} {X X' X1 X2 : X3} {Y Y' : Y3} {S S' S1 S2 : SS} {N t o n c r f i j k m z s n' pu po tn w sn sm l1 s0 nn p0 kk kx M p x : Nat} {ty v y op a b : Int} {L : List Nat} {ws : List (List Int)} {l bs cs : List Int} {g : HG}
theorem oX_o (hf : f ≠ f_Machine_output) : oX X w bs o f i = X o f i := if_neg fun c => hf c.2.1
theorem oX_n (hi : i < w) : oX X w bs o f i = X o f i := if_neg fun c => by have := c.2.2.1; omega
theorem oX_g (hi : i < bs.length) : oX X w bs 32 f_Machine_output (w + i) = bs.getD i 0 := by
  unfold oX
  rw [if_pos ⟨rfl, rfl, by omega, by omega⟩, Nat.add_sub_cancel_left]
theorem oX_nil : oX X w [] = X := by
  funext o f i
  exact if_neg (fun c => by have := c.2.2.2; simp at this; omega)
theorem oX_u (hj : j < bs.length) : u3 (oX X w (bs.take j)) 32 f_Machine_output (w + j) (bs.getD j 0) = oX X w (bs.take (j + 1)) := by
  funext o f i
  have l1 : (bs.take j).length = j := by rw [List.length_take]; omega
  have l2 : (bs.take (j + 1)).length = j + 1 := by rw [List.length_take]; omega
  have g : ∀ m x, x < m → (bs.take m).getD x 0 = bs.getD x 0 := fun m x hx => by
    simp only [List.getD, List.getElem?_take, if_pos hx]
  show (if o = 32 ∧ f = f_Machine_output ∧ i = w + j then bs.getD j 0 else oX X w (bs.take j) o f i) = _
  unfold oX
  rw [l1, l2]
  by_cases e : o = 32 ∧ f = f_Machine_output ∧ i = w + j
  · rw [if_pos e, if_pos ⟨e.1, e.2.1, by omega, by omega⟩, g _ _ (by omega)]
    congr 1; omega
  · rw [if_neg e]
    by_cases e2 : o = 32 ∧ f = f_Machine_output ∧ w ≤ i ∧ i < w + j
    · rw [if_pos e2, if_pos ⟨e2.1, e2.2.1, e2.2.2.1, by omega⟩, g _ _ (by omega), g _ _ (by omega)]
    · rw [if_neg e2, if_neg (fun c => e2 ⟨c.1, c.2.1, c.2.2.1, by
        have : ¬ i = w + j := fun q => e ⟨c.1, c.2.1, q⟩
        omega⟩)]
theorem OGW.rf (G : AC h C) (F : FC h C) (e : hl h (hR h f_Machine_output (C + 32)) = 256 ∨ hl h (hR h f_Machine_output (C + 32)) = 4096 ∨ hl h (hR h f_Machine_output (C + 32)) = 65536) : OGW h C X w h X := ⟨G, F, ⟨0, 0, Fr.r0⟩, GRB.rf, e, Nat.le_refl _, fun _ _ => rfl, fun _ _ _ _ => rfl⟩
theorem OGW.tr (A : OGW h C X w h1 X1) (B : OGW h1 C X1 w h' X') : OGW h C X w h' X' := by
  obtain ⟨-, -, ⟨z1, s1, f1⟩, b1, -, l1, x1, y1⟩ := A
  obtain ⟨G, F, ⟨z2, s2, f2⟩, b2, e2, l2, x2, y2⟩ := B
  exact ⟨G, F, ⟨_, _, f1.trans f2⟩, b1.tr b2, e2, Nat.le_trans l1 l2, fun i hi => by rw [x2 i hi, x1 i hi], fun o f i hf => by rw [y2 _ _ _ hf, y1 _ _ _ hf]⟩
/-- one step of growing -/
theorem r_p39s (G : AC h C) (F : FC h C) (hd : 10 ≤ d) (el : hl h (hR h f_Machine_output (C + 32)) = 256 ∧ n' = 4096 ∨ hl h (hR h f_Machine_output (C + 32)) = 4096 ∧ n' = 65536) (e1 : X 32 f_Machine_outputSize 0 = (w : Int)) (e2 : X 32 f_Machine_printed 0 = (n : Int)) (rm : w + n ≤ 65536) (lt : hl h (hR h f_Machine_output (C + 32)) < w + n) (hw : w ≤ hl h (hR h f_Machine_output (C + 32))) (q : ∀ h' X', OGW h C X w h' X' → hl h' (hR h' f_Machine_output (C + 32)) = n' → wpB PGm ρ (d + 1) m_Machine_print 39 [(0, vR (C + 32)), (1, vI a)] [] (cc h' C X' Y) Q) : wpB PGm ρ (d + 1) m_Machine_print 39 [(0, vR (C + 32)), (1, vI a)] [] (cc h C X Y) Q := by
  have lg : ∀ (H : ah) (Q : QT), Q (Sum.inl (some (vI (n' : Int)))) H → wpB PGm ρ d m_LT_larger 0 [(0, vI (hl h (hR h f_Machine_output (C + 32)) : Int)), (1, vI 65536)] [] H Q := fun H Q q => by
    rcases el with ⟨w1, rfl⟩ | ⟨w1, rfl⟩
    · exact b_LT_larger_0 ⟨fun z => by omega, fun _ => ⟨fun z => by omega, fun _ => q⟩⟩
    · exact b_LT_larger_0 ⟨fun _ => q, fun z => by omega⟩
  obtain ⟨h1, g1, G1, F1, R1, L1, Z1⟩ := cc_grow (X := X) (Y := Y) (f := f_Machine_output) (o := 32) (n := n') (k := 3) G F (by decide) (by decide) (by unfold DJ; rfl) (G.2.2.2.1 (f_Machine_output, 32, 3) (by decide)).2.symm
  have kO : hK h (hR h f_Machine_output (C + 32)) = 3 := (G.2.2.2.1 (f_Machine_output, 32, 3) (by decide)).2
  have OG : OGW h C X w h1 (trX X 32 f_Machine_output (hl h (hR h f_Machine_output (C + 32))) n') := by
    refine ⟨G1, F1, ⟨_, _, frP R1 (by decide) (M := [f_Machine_output]) (by decide)⟩, GRB.grow G F (by decide) R1 (by decide) L1 (by omega) (by omega) (by decide), by rw [L1]; omega, by rw [L1]; omega, fun i hi => ?_, fun o f i hf => ?_⟩
    · show (if 32 = 32 ∧ f_Machine_output = f_Machine_output then _ else _) = _
      rw [if_pos ⟨rfl, rfl⟩, if_pos ⟨by omega, by omega⟩]
    · show (if o = 32 ∧ f = f_Machine_output then _ else _) = _
      rw [if_neg (fun c => hf c.2)]
  have g4 := q _ _ OG L1
  have hk1 : hK (hcp (cc h C X Y) 3 (hR h f_Machine_output (C + 32)) n') (C + 32) = k_Machine := hcp_K (by have := G.1; show C + 32 < hz h; omega) F.1.1
  have b1 : 0 ≤ (n' : Int) ∧ (n' : Int) ≤ 67108864 := by omega
  have hd1 : 10 ≤ d + 1 := by omega
  have y1 : w + n ≤ 2000000000 := by omega
  have nle : ¬ ((w + n : Nat) : Int) ≤ (hl h (hR h f_Machine_output (C + 32)) : Int) := by omega
  have w1 : w32 ((w : Int) + (n : Int)) = ((w + n : Nat) : Int) := w32_aa y1
  clear q OG R1 L1 Z1 el rm lt hw
  generalize hL : hl h (hR h f_Machine_output (C + 32)) = lo at *
  have f2 := F
  unfold FC at f2
  have f1 := trivial
  have ht : isT 62 := Or.inl rfl
  refine b_Machine_print_39 hd1 ?_
  simp (decide := true) only [ccI, ccR, ccRo, ccK, ccl, KC G, f2, e1, e2, w1, kO, hL, Int.toNat_natCast, true_and, and_true]
  refine ⟨fun z => absurd z nle, fun _ => lg _ _ ?_⟩
  simp (decide := true) only [cI, ccK, ccRo, ccz, kO, Int.toNat_natCast, g1, hk1, b1, true_and, and_true]
  exact g4
/-- the output grows until there is room -/
theorem r_p39 (G : AC h C) (F : FC h C) (hd : 10 ≤ d) (el : hl h (hR h f_Machine_output (C + 32)) = 256 ∨ hl h (hR h f_Machine_output (C + 32)) = 4096 ∨ hl h (hR h f_Machine_output (C + 32)) = 65536) (e1 : X 32 f_Machine_outputSize 0 = (w : Int)) (e2 : X 32 f_Machine_printed 0 = (n : Int)) (rm : w + n ≤ 65536) (hw : w ≤ hl h (hR h f_Machine_output (C + 32))) (q : ∀ h' X', OGW h C X w h' X' → w + n ≤ hl h' (hR h' f_Machine_output (C + 32)) → wpB PGm ρ (d + 1) m_Machine_print 83 [(0, vR (C + 32)), (1, vI a), (5, vI 0)] [] (cc h' C X' Y) Q) : wpB PGm ρ (d + 1) m_Machine_print 39 [(0, vR (C + 32)), (1, vI a)] [] (cc h C X Y) Q := by
  have fin : ∀ h' X', OGW h C X w h' X' → w + n ≤ hl h' (hR h' f_Machine_output (C + 32)) → wpB PGm ρ (d + 1) m_Machine_print 39 [(0, vR (C + 32)), (1, vI a)] [] (cc h' C X' Y) Q := fun h' X' A le => by
    have g := q h' X' A le
    obtain ⟨G2, F2, -, -, -, -, -, x2⟩ := A
    have kO : hK h' (hR h' f_Machine_output (C + 32)) = 3 := (G2.2.2.2.1 (f_Machine_output, 32, 3) (by decide)).2
    have e1' : X' 32 f_Machine_outputSize 0 = (w : Int) := by rw [x2 _ _ _ (by decide)]; exact e1
    have e2' : X' 32 f_Machine_printed 0 = (n : Int) := by rw [x2 _ _ _ (by decide)]; exact e2
    have y1 : w + n ≤ 2000000000 := by omega
    have lt : ¬ (hl h' (hR h' f_Machine_output (C + 32)) : Int) < ((w + n : Nat) : Int) := by omega
    have hd1 : 10 ≤ d + 1 := by omega
    have w1 : w32 ((w : Int) + (n : Int)) = ((w + n : Nat) : Int) := w32_aa y1
    have f2 := F2
    unfold FC at f2
    refine b_Machine_print_39 hd1 ?_
    simp (decide := true) only [ccI, ccR, ccRo, ccK, ccl, f2, e1', e2', w1, kO, true_and, and_true]
    exact ⟨fun _ => g, fun z => absurd z lt⟩
  have st4 : ∀ h' X', OGW h C X w h' X' → hl h' (hR h' f_Machine_output (C + 32)) = 4096 → wpB PGm ρ (d + 1) m_Machine_print 39 [(0, vR (C + 32)), (1, vI a)] [] (cc h' C X' Y) Q := fun h' X' A e => by
    by_cases z : w + n ≤ 4096
    · exact fin h' X' A (by omega)
    · have A' := A
      obtain ⟨G2, F2, -, -, -, l2, -, x2⟩ := A
      exact r_p39s G2 F2 hd (Or.inr ⟨e, rfl⟩) (by rw [x2 _ _ _ (by decide)]; exact e1) (by rw [x2 _ _ _ (by decide)]; exact e2) rm (by omega) (by omega) (fun h3 X3 B e3 => fin h3 X3 (A'.tr B) (by omega))
  by_cases z : w + n ≤ hl h (hR h f_Machine_output (C + 32))
  · exact fin h X (OGW.rf G F el) z
  · rcases el with e | e | e
    · exact r_p39s G F hd (Or.inl ⟨e, rfl⟩) e1 e2 rm (by omega) hw (fun h3 X3 B e3 => st4 h3 X3 B e3)
    · exact st4 h X (OGW.rf G F (Or.inr (Or.inl e))) e
    · omega
/-- the bytes go to the output -/
theorem r_p83 (G : AC h C) (F : FC h C) (e1 : X 32 f_Machine_outputSize 0 = (w : Int)) (e2 : X 32 f_Machine_printed 0 = (bs.length : Int)) (ep : ∀ i, i < bs.length → X 32 f_Machine_print i = bs.getD i 0) (rg : ∀ i, i < bs.length → -128 ≤ bs.getD i 0 ∧ bs.getD i 0 ≤ 127) (l1 : w + bs.length ≤ hl h (hR h f_Machine_output (C + 32))) (l2 : bs.length ≤ hl h (hR h f_Machine_print (C + 32))) (rm : w + bs.length ≤ 65536) (q : wpB PGm ρ d m_Machine_answer 0 [(0, vR (C + 32)), (1, vI a), (2, vI 0), (3, vL 0)] [] (cc h C (u3 (oX X w bs) 32 f_Machine_outputSize 0 ((w + bs.length : Nat) : Int)) Y) (cV (fun h10 => Q (Sum.inl none) h10) (fun e13 h12 => hK h12 e13 ≠ 0 ∧ Q (Sum.inr e13) h12))) : wpB PGm ρ (d + 1) m_Machine_print 83 [(0, vR (C + 32)), (1, vI a), (5, vI 0)] [] (cc h C X Y) Q := by
  have kO : hK h (hR h f_Machine_output (C + 32)) = 3 := (G.2.2.2.1 (f_Machine_output, 32, 3) (by decide)).2
  have kP : hK h (hR h f_Machine_print (C + 32)) = 3 := (G.2.2.2.1 (f_Machine_print, 32, 3) (by decide)).2
  have lp : ∀ mm j, j + mm = bs.length → wpB PGm ρ (d + 1) m_Machine_print 83 [(0, vR (C + 32)), (1, vI a), (5, vI (j : Int))] [] (cc h C (oX X w (bs.take j)) Y) Q := by
    intro mm
    induction mm with
    | zero =>
      intro j hj
      have e : j = bs.length := by omega
      subst e
      rw [List.take_length]
      have e1' : oX X w bs 32 f_Machine_outputSize 0 = (w : Int) := by rw [oX_o (by decide)]; exact e1
      have e2' : oX X w bs 32 f_Machine_printed 0 = (bs.length : Int) := by rw [oX_o (by decide)]; exact e2
      have y1 : w + bs.length ≤ 2000000000 := by omega
      have w1 : w32 ((w : Int) + (bs.length : Int)) = ((w + bs.length : Nat) : Int) := w32_aa y1
      have f2 := F
      unfold FC at f2
      refine b_Machine_print_83 ?_
      simp (decide := true) only [ccI, ccR, ccRo, ccK, ccl, cc_sI, f2, e1', e2', w1, true_and, and_true]
      exact ⟨fun _ => q, fun z => absurd z (Int.lt_irrefl _)⟩
    | succ mm ih =>
      intro j hj
      have hj' : j < bs.length := by omega
      have nx := ih (j + 1) (by omega)
      have e1' : oX X w (bs.take j) 32 f_Machine_outputSize 0 = (w : Int) := by rw [oX_o (by decide)]; exact e1
      have e2' : oX X w (bs.take j) 32 f_Machine_printed 0 = (bs.length : Int) := by rw [oX_o (by decide)]; exact e2
      have e3' : oX X w (bs.take j) 32 f_Machine_print j = bs.getD j 0 := by rw [oX_o (by decide)]; exact ep j hj'
      have rj := rg j hj'
      have u := oX_u (X := X) (w := w) hj'
      have nlt : ¬ (bs.length : Int) ≤ (j : Int) := by omega
      have b1 : 0 ≤ (j : Int) ∧ (j : Int) < (hl h (hR h f_Machine_print (C + 32)) : Int) := by omega
      have b2 : 0 ≤ ((w + j : Nat) : Int) ∧ ((w + j : Nat) : Int) < (hl h (hR h f_Machine_output (C + 32)) : Int) := by omega
      have y1 : w + j ≤ 2000000000 := by omega
      have y2 : j ≤ 2000000000 := by omega
      have w1 : w32 ((w : Int) + (j : Int)) = ((w + j : Nat) : Int) := w32_aa y1
      have w2 : w32 ((j : Int) + 1) = ((j + 1 : Nat) : Int) := w32_s y2
      have f2 := F
      unfold FC at f2
      clear ih q
      refine b_Machine_print_83 ?_
      simp (decide := true) only [ccI, ccR, ccRo, ccK, ccl, ccA G, cc_sI, cc_sA G, KC G, f2, e1', e2', e3', kO, kP, w1, w2, u, Int.toNat_natCast, true_and, and_true, or_false, false_and]
      exact ⟨fun z => absurd z nlt, fun _ => ⟨b1, ⟨rj, b2⟩, nx⟩⟩
  have g := lp bs.length 0 (Nat.zero_add _)
  rw [List.take_zero, oX_nil] at g
  exact g
end
