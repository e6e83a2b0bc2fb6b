/-! C: shapes are found and made -/
set_option maxRecDepth 20000
/-- a new shape -/
def nshB (h : ah) (num : Int) (l2 l3 : Nat) (nm sz : Int) : ah := sI (sI (sR (sR (sI (hn h k_Shape 7 0) f_Shape_number (hz h) num) f_Shape_prototype (hz h) l2) f_Shape_before (hz h) l3) f_Shape_name (hz h) nm) f_Shape_size (hz h) sz
section
variable {ρ : Nat → Nat} {d : Nat} {Q : QT} {h h1 h' H : ah} {C k n m o c x y z s f i j a l2 l3 sn sm : Nat} {X X' : X3} {Y : Y3} {L : List Nat} {P : List (Nat × Nat)} {v w num nm sz : Int}
theorem nshB_f : Fr [] [] 1 7 h (nshB h num l2 l3 nm sz) ∧ hz (nshB h num l2 l3 nm sz) = hz h + 1 ∧ hs (nshB h num l2 l3 nm sz) = hs h + 7 := by
  refine ⟨?_, rfl, rfl⟩
  have f1 : Fr [] [] 1 7 h (hn h k_Shape 7 0) := (Fr.r0.new (k := k_Shape) (n := 7) (m := 0)).le (by omega) (by omega)
  exact Fr.nI (Nat.le_refl _) (Fr.nI (Nat.le_refl _) (Fr.nR (Nat.le_refl _) (by unfold own; decide) (Fr.nR (Nat.le_refl _) (by unfold own; decide) (Fr.nI (Nat.le_refl _) f1))))
theorem nshB_g : hK (nshB h num l2 l3 nm sz) (hz h) = k_Shape ∧ hI (nshB h num l2 l3 nm sz) f_Shape_number (hz h) = num ∧ hR (nshB h num l2 l3 nm sz) f_Shape_prototype (hz h) = l2 ∧ hR (nshB h num l2 l3 nm sz) f_Shape_before (hz h) = l3 ∧ hI (nshB h num l2 l3 nm sz) f_Shape_name (hz h) = nm ∧ hI (nshB h num l2 l3 nm sz) f_Shape_size (hz h) = sz ∧ hR (nshB h num l2 l3 nm sz) f_Shape_child (hz h) = 0 ∧ hR (nshB h num l2 l3 nm sz) f_Shape_sibling (hz h) = 0 := by
  refine ⟨if_pos rfl, ?_, ?_, ?_, ?_, ?_, ?_, ?_⟩
  · unfold nshB
    rw [I_Ine (by decide), I_Ine (by decide)]
    show hI (sI (hn h k_Shape 7 0) f_Shape_number (hz h) num) f_Shape_number (hz h) = num
    rw [I_I]
  · unfold nshB
    show hR (sR (sR (sI (hn h k_Shape 7 0) f_Shape_number (hz h) num) f_Shape_prototype (hz h) l2) f_Shape_before (hz h) l3) f_Shape_prototype (hz h) = l2
    rw [R_Rne (by decide), R_R]
  · unfold nshB
    show hR (sR (sR (sI (hn h k_Shape 7 0) f_Shape_number (hz h) num) f_Shape_prototype (hz h) l2) f_Shape_before (hz h) l3) f_Shape_before (hz h) = l3
    rw [R_R]
  · unfold nshB; rw [I_Ine (by decide), I_I]
  · unfold nshB; rw [I_I]
  · unfold nshB
    show hR (sR (sR (sI (hn h k_Shape 7 0) f_Shape_number (hz h) num) f_Shape_prototype (hz h) l2) f_Shape_before (hz h) l3) f_Shape_child (hz h) = 0
    rw [R_Rne (by decide), R_Rne (by decide)]
    exact if_pos rfl
  · unfold nshB
    show hR (sR (sR (sI (hn h k_Shape 7 0) f_Shape_number (hz h) num) f_Shape_prototype (hz h) l2) f_Shape_before (hz h) l3) f_Shape_sibling (hz h) = 0
    rw [R_Rne (by decide), R_Rne (by decide)]
    exact if_pos rfl
theorem nsh_init (G : AC h C) (hd : 10 ≤ d) (hb : (l3 = 0 ∧ sz = 0) ∨ (l3 ≠ 0 ∧ l3 < hz h ∧ hK h l3 = k_Shape ∧ hI h f_Shape_size l3 + 1 = sz ∧ 0 ≤ sz ∧ sz ≤ 10000)) (q : Q (Sum.inl none) (cc (nshB h num l2 l3 nm sz) C X Y)) : wpB PGm ρ d m_Shape_init 0 [(0, vR (hz h)), (1, vI num), (2, vR l2), (3, vR l3), (4, vI nm)] [] (hn (cc h C X Y) k_Shape 7 0) Q := by
  rw [cc_hn G]
  have k1 : hK (hn h k_Shape 7 0) (hz h) = k_Shape := if_pos rfl
  have e1 : ∀ {h : ah} {v : Int} {a : Nat}, sI (cc h C X Y) f_Shape_number a v = cc (sI h f_Shape_number a v) C X Y := cc_sIo (by decide)
  have e2 : ∀ {h : ah} {v : Nat} {a : Nat}, sR (cc h C X Y) f_Shape_prototype a v = cc (sR h f_Shape_prototype a v) C X Y := cc_sRo (by decide)
  have e3 : ∀ {h : ah} {v : Nat} {a : Nat}, sR (cc h C X Y) f_Shape_before a v = cc (sR h f_Shape_before a v) C X Y := cc_sRo (by decide)
  have e4 : ∀ {h : ah} {v : Int} {a : Nat}, sI (cc h C X Y) f_Shape_name a v = cc (sI h f_Shape_name a v) C X Y := cc_sIo (by decide)
  have e5 : ∀ {h : ah} {v : Int} {a : Nat}, sI (cc h C X Y) f_Shape_size a v = cc (sI h f_Shape_size a v) C X Y := cc_sIo (by decide)
  refine b_Shape_init_0 hd ⟨by rw [ccK, k1]; decide, by rw [ccK, k1], fun z => ?_, fun z => ?_⟩
  · rcases hb with w | ⟨w1, w2, w3, w4, w5, w6⟩
    · exact absurd w.1 z
    · refine ⟨?_, ?_⟩
      · show hK (hn h k_Shape 7 0) l3 = k_Shape
        rw [hnK w2]; exact w3
      · rw [e1, e2, e3, e4, e5]
        have e6 : w32 (hI (cc (sI (sR (sR (sI (hn h k_Shape 7 0) f_Shape_number (hz h) num) f_Shape_prototype (hz h) l2) f_Shape_before (hz h) l3) f_Shape_name (hz h) nm) C X Y) f_Shape_size l3 + 1) = sz := by
          rw [ccIo (by decide), I_Ine (by decide)]
          show w32 (hI (sI (hn h k_Shape 7 0) f_Shape_number (hz h) num) f_Shape_size l3 + 1) = sz
          rw [I_Ine (by decide), hnI w2, w4, w32_of (by omega) (by omega)]
        rw [e6]
        exact q
  · rcases hb with w | w
    · rw [e1, e2, e3, e4, e5]
      rw [w.2] at q
      exact q
    · exact absurd z w.1
/-- a shape joins the others -/
theorem cc_lad52 (G : AC h C) (F : FC h C) (es : hl h (C + 52) = sn) : ∃ h' z s, ladd (cc h C X Y) (C + 52) x = cc h' C X Y ∧ AC h' C ∧ FC h' C ∧ Fr (LCC ++ [f_Heap_shapes + 1]) [] z s h h' ∧ hl h' (C + 52) = sn + 1 ∧ (∀ i, hB h' (C + 52) i = if i = sn then x else hB h (C + 52) i) ∧ hz h' ≤ hz h + 1 ∧ (hs h' : Int) ≤ hs h + 4 * (hI h' 2 (C + 52) - hI h 2 (C + 52)) := by
  have g1 := G.1
  have eR : hR (cc h C X Y) f_Heap_shapes (C + 50) = C + 52 := by rw [ccRo (by decide)]; exact F.2.2.1.2.2.1
  have k52 : hK h (C + 52) = k_ArrayList := F.2.2.2.1.2.1.1
  have fr : Fr [f_Heap_shapes + 1] [] (0 + 1) (0 + (2 * hl (cc h C X Y) (C + 52) + 10)) (cc h C X Y) (ladd (cc h C X Y) (C + 52) x) := by
    refine Fr.lad (Or.inr (Or.inr (Or.inr ⟨f_Heap_shapes, C + 50, by show C + 50 < hz h; omega, by unfold own; decide, eR, Or.inr (Or.inl (by simp))⟩))) (Or.inr ?_) Fr.r0
    show 100 ≤ hK h (C + 52)
    rw [k52]; decide
  obtain ⟨G2, F2, E2, R2⟩ := mat G F fr (by unfold DJ; decide)
  have z1 : C + 52 < hz (cc h C X Y) := by show C + 52 < hz h; omega
  have kp := lad_s (H := cc h C X Y) (a := C + 52) (x := x)
  rw [ccI4 (h := h) (f := 2) (a := C + 52) (by decide)] at kp
  refine ⟨_, _, _, E2.symm, G2, F2, R2, by rw [l_ladd z1 z1, if_pos rfl]; show hl h (C + 52) + 1 = _; omega, fun i => ?_, kp.1, by have := kp.2; rw [ccs] at this; omega⟩
  rw [B_ladd z1 z1]
  show (if C + 52 = C + 52 ∧ i = hl h (C + 52) then x else hB (cc h C X Y) (C + 52) i) = _
  have eb : hB (cc h C X Y) (C + 52) i = hB h (C + 52) i := by
    have := ccBo (X := X) (Y := Y) (i := i) (f := f_Heap_shapes) (b := C + 50) G (by decide) (by omega)
    rw [F.2.2.1.2.2.1] at this; exact this
  rw [eb, es]
  by_cases w : i = sn
  · rw [if_pos ⟨rfl, w⟩, if_pos w]
  · rw [if_neg (fun c => w c.2), if_neg w]
theorem r_wantShapes (G : AC h C) (F : FC h C) (e1 : X 50 f_Heap_shapesMade 0 = (sm : Int)) (hsm : sm ≤ 4000) (hn : n ≤ 10000) (q1 : sm + n ≤ 4000 → Q (Sum.inl none) (cc h C X Y)) (q0 : ¬ sm + n ≤ 4000 → Q (Sum.inr (C + 33)) (cc h C (erX X 0) Y)) : wpB PGm ρ (d + 2) m_Heap_wantShapes 0 [(0, vR (C + 50)), (1, vI (n : Int))] [] (cc h C X Y) Q := by
  have e2 : (((sm + n : Nat) : Int) ≤ 4000) = (sm + n ≤ 4000) := propext (by omega)
  have e3 : (4000 < ((sm + n : Nat) : Int)) = (¬ sm + n ≤ 4000) := propext (by omega)
  have g : ¬ sm + n ≤ 4000 → wpB PGm ρ (d + 1) m_Heap_full 0 [(0, vR (C + 50))] [] (cc h C X Y) (cR (fun x34 h29 => hK h29 x34 ≠ 0 ∧ Q (Sum.inr x34) h29) (fun e32 h31 => hK h31 e32 ≠ 0 ∧ Q (Sum.inr e32) h31)) := fun z => r_full G F ⟨by rw [ccK, F.1.2.1]; decide, q0 z⟩
  have w1 : w32 ((sm : Int) + (n : Int)) = ((sm + n : Nat) : Int) := w32_aa (by omega)
  clear q0
  have f2 := F
  unfold FC at f2
  refine b_Heap_wantShapes_0 ?_
  simp (decide := true) only [ccI, ccK, f2, e1, w1, e2, e3, true_and]
  exact ⟨q1, g⟩
end
