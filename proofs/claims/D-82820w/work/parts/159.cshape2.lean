/-! C: roots, and shapes that go on -/
set_option maxRecDepth 20000
/-- a shape more -/
def NSQ (C : Nat) (h h' : ah) (sn l2 l3 sb : Nat) (nm sz : Int) : Prop := AC h' C ∧ FC h' C ∧ hl h' (C + 52) = sn + 1 ∧ (∀ i, hB h' (C + 52) i = if i = sn then hz h else hB h (C + 52) i) ∧ hz h < hz h' ∧ hz h' ≤ hz h + 2 ∧ (hs h' : Int) ≤ hs h + 7 + 4 * (hI h' 2 (C + 52) - hI h 2 (C + 52)) ∧ hK h' (hz h) = k_Shape ∧ hI h' f_Shape_number (hz h) = (sn : Int) ∧ hR h' f_Shape_prototype (hz h) = l2 ∧ hR h' f_Shape_before (hz h) = l3 ∧ hI h' f_Shape_name (hz h) = nm ∧ hI h' f_Shape_size (hz h) = sz ∧ hR h' f_Shape_child (hz h) = 0 ∧ hR h' f_Shape_sibling (hz h) = sb
section
theorem lastB_sp {S : SS} {b : Nat} : ∀ m, (lastB S b m ≠ 0 → S f_Md_shapeBefore (lastB S b m) = (b : Int) ∧ ∀ r, lastB S b m < r → r < m → ¬ S f_Md_shapeBefore r = (b : Int)) ∧ (lastB S b m = 0 → ∀ r, 1 ≤ r → r < m → ¬ S f_Md_shapeBefore r = (b : Int))
  | 0 => ⟨fun w => absurd rfl w, fun _ r h1 h2 => by omega⟩
  | m + 1 => by
    have ih := lastB_sp (S := S) (b := b) m
    unfold lastB
    by_cases q : m ≠ 0 ∧ S f_Md_shapeBefore m = (b : Int)
    · rw [if_pos q]
      exact ⟨fun _ => ⟨q.2, fun r h1 h2 => by omega⟩, fun w => absurd w q.1⟩
    · rw [if_neg q]
      refine ⟨fun w => ⟨(ih.1 w).1, fun r h1 h2 => ?_⟩, fun w r h1 h2 => ?_⟩
      · by_cases e : r = m
        · rw [e]; exact fun c => q ⟨by omega, c⟩
        · exact (ih.1 w).2 r h1 (by omega)
      · by_cases e : r = m
        · rw [e]; exact fun c => q ⟨by omega, c⟩
        · exact ih.2 w r h1 (by omega)
variable {ρ : Nat → Nat} {d : Nat} {Q : QT} {h h1 h' H : ah} {C k n m o c x y z s f i j a l1 l2 l3 sn sm : Nat} {X X' : X3} {Y : Y3} {L : List Nat} {P : List (Nat × Nat)} {v w num nm sz : Int} {S : SS} {b : Nat}
theorem fc52 (F : FC h C) : hK h (C + 50) = k_Heap ∧ hR h f_Heap_shapes (C + 50) = C + 52 ∧ hK h (C + 52) = k_ArrayList ∧ lok h (C + 52) := ⟨F.1.2.2.2.2.2.1, F.2.2.1.2.2.1, F.2.2.2.1.2.1.1, F.2.2.2.1.2.1⟩
theorem r_rootNew (G : AC h C) (F : FC h C) (hd : 12 ≤ d) (h1 : l1 ≠ 0) (z1 : l1 < hz h) (k1 : hK h l1 ∈ [244, 245]) (r0 : hR h f_Obj_root l1 = 0) (e1 : X 50 f_Heap_shapesMade 0 = (sm : Int)) (hsm : sm ≤ 4000) (es : hl h (C + 52) = sn) (hsn : sn ≤ 4001) (q1 : sm + 1 ≤ 4000 → ∀ h' z s, NSQ C h h' sn l1 0 0 (-1) 0 → Fr (LCC ++ [f_Heap_shapes + 1]) [(f_Obj_root, l1), (f_Obj_epoch, l1)] z s h h' → hR h' f_Obj_root l1 = hz h → hI h' f_Obj_epoch l1 = 0 → Q (Sum.inl (some (vR (hz h)))) (cc h' C (u3 X 50 f_Heap_shapesMade 0 ((sm + 1 : Nat) : Int)) Y)) (q0 : ¬ sm + 1 ≤ 4000 → Q (Sum.inr (C + 33)) (cc h C (erX X 0) Y)) : wpB PGm ρ (d + 3) m_Heap_rootOf 0 [(0, vR (C + 50)), (1, vR l1)] [] (cc h C X Y) Q := by
  have gz := G.1
  have nok : ¬ okC [] [(f_Obj_root, l1)] f_Heap_shapes (C + 50) := by unfold okC okW; simp; exact ⟨fun c => absurd c (by decide), fun c => absurd c (by decide)⟩
  have kS : hK h (C + 33) ≠ 0 := by rw [F.1.2.1]; decide
  refine b_Heap_rootOf_0 (by omega) ⟨fun _ => ⟨k1, fun w => ?_, fun _ => ⟨F.1.2.2.2.2.2.1, ?_⟩⟩, fun w => absurd w h1⟩
  · rw [ccRo (by decide)] at w; exact absurd r0 w
  refine r_wantShapes (n := 1) G F e1 hsm (by omega) (fun rm => ?_) (fun rm => ⟨kS, q0 rm⟩)
  have f0 : Fr [] [] 1 7 h (hn h k_Shape 7 0) := (Fr.r0.new (k := k_Shape) (n := 7) (m := 0)).le (by omega) (by omega)
  have G0 : AC (hn h k_Shape 7 0) C := G.frm f0 (by unfold DJ; decide)
  have F0 : FC (hn h k_Shape 7 0) C := F.frm G f0 (by unfold DJ; decide) ⟨by simp, by simp, by simp⟩
  obtain ⟨c1, c2, c3, c4⟩ := fc52 F0
  have c5 : hl (hn h k_Shape 7 0) (C + 52) = sn := by rw [hnl (by omega)]; exact es
  have e0 : hn (cc h C X Y) k_Shape 7 0 = cc (hn h k_Shape 7 0) C X Y := cc_hn G
  have rr : ∀ {H : ah} {x : Nat}, hR (cc H C X Y) f_Heap_shapes x = hR H f_Heap_shapes x := ccRo (by decide)
  show let h18 := hn (cc h C X Y) k_Shape 7 0
    hK h18 (C + 50) = k_Heap ∧ _
  simp only [e0, ccK, rr, cclok, ccl, ccz, c1, c2, c3, c4, c5, true_and]
  rw [← e0]
  refine nsh_init G (by omega) (Or.inl ⟨rfl, rfl⟩) ?_
  obtain ⟨n1, n2, n3⟩ := nshB_f (h := h) (num := (sn : Int)) (l2 := l1) (l3 := 0) (nm := -1) (sz := 0)
  obtain ⟨b1, b2, b3, b4, b5, b6, b7, b8⟩ := nshB_g (h := h) (num := (sn : Int)) (l2 := l1) (l3 := 0) (nm := -1) (sz := 0)
  generalize nshB h (sn : Int) l1 0 (-1) 0 = B1 at *
  have f2 : Fr [] [(f_Obj_root, l1)] 1 7 h (sR B1 f_Obj_root l1 (hz h)) := Fr.wR (Or.inr (by simp)) (by unfold own; decide) (n1.mono (fun _ q => q) (fun _ q => by cases q))
  have G2 : AC (sR B1 f_Obj_root l1 (hz h)) C := G.frm f2 (by unfold DJ; rfl)
  have F2 : FC (sR B1 f_Obj_root l1 (hz h)) C := F.frm G f2 (by unfold DJ; rfl) ⟨by simp, by simp, by simp⟩
  obtain ⟨c6, c7, c8, c9⟩ := fc52 F2
  have c10 : hl (sR B1 f_Obj_root l1 (hz h)) (C + 52) = sn := by
    have := (f2.ar G.2.1 (f := f_Heap_shapes) (x := C + 50) (by unfold own; decide) (by omega) (fc52 F).2.1 (by omega) nok (by simp)).1
    rw [this]; exact es
  have k2 : hK (sR B1 f_Obj_root l1 (hz h)) l1 = hK h l1 := f2.K z1
  have kA : hK (sR B1 f_Obj_root l1 (hz h)) (hz h) = k_Shape := b1
  obtain ⟨B3, z3, s3, e3, G3, F3, R3, d1, d2, d3, d4⟩ := cc_lad52 (X := X) (Y := Y) (x := hz h) G2 F2 c10
  have f3 : Fr (LCC ++ [f_Heap_shapes + 1]) [(f_Obj_root, l1), (f_Obj_epoch, l1)] (1 + z3) (7 + s3) h B3 := (f2.mono (fun f q => by cases q) (fun q hq => by simp at hq; rw [hq]; simp)).trans (R3.mono (fun _ q => q) (fun _ q => by cases q))
  have f4 : Fr (LCC ++ [f_Heap_shapes + 1]) [(f_Obj_root, l1), (f_Obj_epoch, l1)] (1 + z3) (7 + s3) h (sI B3 f_Obj_epoch l1 0) := Fr.wI (by decide) (Or.inr (by simp)) f3
  have fe : Fr [] [(f_Obj_epoch, l1)] 0 0 B3 (sI B3 f_Obj_epoch l1 0) := Fr.wI (by decide) (Or.inr (by simp)) Fr.r0
  have aB : hz h < hz (sR B1 f_Obj_root l1 (hz h)) := by show hz h < hz B1; omega
  have rt : hR B3 f_Obj_root l1 = hz h := by rw [R3.R (by show l1 < hz B1; omega) (by decide) (fun c => c.elim (by decide) (fun w => by cases w)), R_R]
  have kz : hz (sR B1 f_Obj_root l1 (hz h)) = hz B1 := rfl
  have ks : hs (sR B1 f_Obj_root l1 (hz h)) = hs B1 := rfl
  have cap : hI (sR B1 f_Obj_root l1 (hz h)) 2 (C + 52) = hI h 2 (C + 52) := f2.arC G.2.1 (f := f_Heap_shapes) (x := C + 50) (by unfold own; decide) (by omega) (fc52 F).2.1 (by omega) nok (by simp)
  have cap2 : hI (sI B3 f_Obj_epoch l1 0) 2 (C + 52) = hI B3 2 (C + 52) := I_Ine (by decide)
  have nI : ∀ {f : Nat}, f ∉ LCC ++ [f_Heap_shapes + 1] → f ≠ f_Obj_epoch → 5 ≤ f → hI (sI B3 f_Obj_epoch l1 0) f (hz h) = hI B1 f (hz h) := fun {f} w1 w2 w3 => by
    rw [I_Ine w2, R3.I aB w3 (fun c => c.elim w1 (fun w => by cases w))]; rfl
  have nR : ∀ {f : Nat}, f ∉ LCC ++ [f_Heap_shapes + 1] → f ≠ f_Obj_root → 5 ≤ f → hR (sI B3 f_Obj_epoch l1 0) f (hz h) = hR B1 f (hz h) := fun {f} w1 w2 w3 => by
    show hR B3 f (hz h) = _
    rw [R3.R aB w3 (fun c => c.elim w1 (fun w => by cases w)), R_Rne w2]
  have nsq : NSQ C h (sI B3 f_Obj_epoch l1 0) sn l1 0 0 (-1) 0 := by
    refine ⟨G3.frm fe (by unfold DJ; rfl), F3.frm G3 fe (by unfold DJ; rfl) ⟨by simp, by simp, by simp⟩, d1, fun i => ?_, ?_, ?_, ?_, ?_, ?_, ?_, ?_, ?_, ?_, ?_, ?_⟩
    · show hB B3 (C + 52) i = _
      rw [d2 i]
      have sa := (f2.ar G.2.1 (f := f_Heap_shapes) (x := C + 50) (by unfold own; decide) (by omega) (fc52 F).2.1 (by omega) nok (by simp)).2.2 i
      rw [sa]
    · show hz h < hz B3
      have := R3.1.1; omega
    · show hz B3 ≤ _
      omega
    · show (hs B3 : Int) ≤ _
      rw [cap2]; omega
    · show hK B3 (hz h) = _
      rw [R3.K aB]; exact b1
    · rw [nI (by decide) (by decide) (by decide)]; exact b2
    · rw [nR (by decide) (by decide) (by decide)]; exact b3
    · rw [nR (by decide) (by decide) (by decide)]; exact b4
    · rw [nI (by decide) (by decide) (by decide)]; exact b5
    · rw [nI (by decide) (by decide) (by decide)]; exact b6
    · rw [nR (by decide) (by decide) (by decide)]; exact b7
    · rw [nR (by decide) (by decide) (by decide)]; exact b8
  have g := q1 rm _ _ _ nsq f4 rt (I_I _ _ _ _)
  have k3 : hK B3 l1 = hK h l1 := f3.K z1
  have cA : ∀ {H : ah} {v : Nat}, sR (cc H C X Y) f_Obj_root l1 v = cc (sR H f_Obj_root l1 v) C X Y := cc_sRo (by decide)
  have cB : ∀ {H : ah} {X : X3} {v : Int}, sI (cc H C X Y) f_Obj_epoch l1 v = cc (sI H f_Obj_epoch l1 v) C X Y := cc_sIo (by decide)
  have rO : ∀ {H : ah} {X : X3}, hR (cc H C X Y) f_Obj_root l1 = hR H f_Obj_root l1 := ccRo (by decide)
  have rx : hR (sR B1 f_Obj_root l1 (hz h)) f_Obj_root l1 = hz h := R_R _ _ _ _
  have xk : hK B1 l1 = hK h l1 := n1.K z1
  have hK3 : hK B3 (C + 50) = k_Heap := F3.1.2.2.2.2.2.1
  have w1 : w32 ((sm : Int) + 1) = ((sm + 1 : Nat) : Int) := w32_s (by omega)
  have b19 : 190 ≤ k_Shape := by decide
  have l4 : sn < 1000000 := by omega
  have rt2 : hR (sI B3 f_Obj_epoch l1 0) f_Obj_root l1 = hz h := rt
  clear q1 q0 nsq f4 f3 fe nI nR R3 d1 d2 d3 d4 f2 n1 cap cap2 kz ks
  show hK (cc B1 C X Y) l1 ∈ [244, 245] ∧ _
  simp (decide := true) only [ccK, ccl, xk, k1, cA, rr, cclok, c6, c7, c8, c9, c10, rO, rx, kA, b19, l4, or_true, e3, hK3, k3, ccI, cc_sI, e1, w1, cB, rt2, true_and, and_true]
  exact g
/-- a shape that goes on from another one -/
theorem r_afterNew (G : AC h C) (F : FC h C) (hd : 12 ≤ d) (h1 : l1 ≠ 0) (z1 : l1 < hz h) (k1 : hK h l1 = k_Shape) (s1 : hI h f_Shape_size l1 + 1 = sz) (s2 : 0 ≤ sz ∧ sz ≤ 10000) (e1 : X 50 f_Heap_shapesMade 0 = (sm : Int)) (hsm : sm ≤ 4000) (es : hl h (C + 52) = sn) (hsn : sn ≤ 4001) (kn : ∀ Q : QT, Q (Sum.inl (some (vR 0))) (cc h C X Y) → wpB PGm ρ (d + 2) m_Shape_known 0 [(0, vR l1), (1, vI nm)] [] (cc h C X Y) Q) (q1 : sm + 1 ≤ 4000 → ∀ h' z s, NSQ C h h' sn (hR h f_Shape_prototype l1) l1 (hR h f_Shape_child l1) nm sz → Fr (LCC ++ [f_Heap_shapes + 1]) [(f_Shape_child, l1)] z s h h' → hR h' f_Shape_child l1 = hz h → Q (Sum.inl (some (vR (hz h)))) (cc h' C (u3 X 50 f_Heap_shapesMade 0 ((sm + 1 : Nat) : Int)) Y)) (q0 : ¬ sm + 1 ≤ 4000 → Q (Sum.inr (C + 33)) (cc h C (erX X 0) Y)) : wpB PGm ρ (d + 3) m_Heap_after 0 [(0, vR (C + 50)), (1, vR l1), (2, vI nm)] [] (cc h C X Y) Q := by
  have gz := G.1
  have kS : hK h (C + 33) ≠ 0 := by rw [F.1.2.1]; decide
  refine b_Heap_after_0 (by omega) ⟨k1, kn _ ⟨fun _ => ⟨F.1.2.2.2.2.2.1, ?_⟩, fun w => absurd rfl w⟩⟩
  refine r_wantShapes (n := 1) G F e1 hsm (by omega) (fun rm => ?_) (fun rm => ⟨kS, q0 rm⟩)
  have f0 : Fr [] [] 1 7 h (hn h k_Shape 7 0) := (Fr.r0.new (k := k_Shape) (n := 7) (m := 0)).le (by omega) (by omega)
  have G0 : AC (hn h k_Shape 7 0) C := G.frm f0 (by unfold DJ; decide)
  have F0 : FC (hn h k_Shape 7 0) C := F.frm G f0 (by unfold DJ; decide) ⟨by simp, by simp, by simp⟩
  obtain ⟨c1, c2, c3, c4⟩ := fc52 F0
  have c5 : hl (hn h k_Shape 7 0) (C + 52) = sn := by rw [hnl (by omega)]; exact es
  have e0 : hn (cc h C X Y) k_Shape 7 0 = cc (hn h k_Shape 7 0) C X Y := cc_hn G
  have rr : ∀ {H : ah} {x : Nat}, hR (cc H C X Y) f_Heap_shapes x = hR H f_Heap_shapes x := ccRo (by decide)
  have rp : ∀ {H : ah} {x : Nat}, hR (cc H C X Y) f_Shape_prototype x = hR H f_Shape_prototype x := ccRo (by decide)
  have c11 : hK (hn h k_Shape 7 0) l1 = k_Shape := by rw [hnK z1]; exact k1
  have c12 : hR (hn h k_Shape 7 0) f_Shape_prototype l1 = hR h f_Shape_prototype l1 := hnR z1
  show let h20 := hn (cc h C X Y) k_Shape 7 0
    hK h20 (C + 50) = k_Heap ∧ _
  simp only [e0, ccK, rr, rp, cclok, ccl, ccz, c1, c2, c3, c4, c5, c11, c12, true_and]
  rw [← e0]
  refine nsh_init G (by omega) (Or.inr ⟨h1, z1, k1, s1, s2⟩) ?_
  obtain ⟨n1, n2, n3⟩ := nshB_f (h := h) (num := (sn : Int)) (l2 := hR h f_Shape_prototype l1) (l3 := l1) (nm := nm) (sz := sz)
  obtain ⟨b1, b2, b3, b4, b5, b6, b7, b8⟩ := nshB_g (h := h) (num := (sn : Int)) (l2 := hR h f_Shape_prototype l1) (l3 := l1) (nm := nm) (sz := sz)
  generalize nshB h (sn : Int) (hR h f_Shape_prototype l1) l1 nm sz = B1 at *
  have nok : ¬ okC [] [] f_Heap_shapes (C + 50) := by unfold okC okW; simp
  have G2 : AC B1 C := G.frm n1 (by unfold DJ; rfl)
  have F2 : FC B1 C := F.frm G n1 (by unfold DJ; rfl) ⟨by simp, by simp, by simp⟩
  obtain ⟨c6, c7, c8, c9⟩ := fc52 F2
  have c10 : hl B1 (C + 52) = sn := by
    have := (n1.ar G.2.1 (f := f_Heap_shapes) (x := C + 50) (by unfold own; decide) (by omega) (fc52 F).2.1 (by omega) nok (by simp)).1
    rw [this]; exact es
  obtain ⟨B3, z3, s3, e3, G3, F3, R3, d1, d2, d3, d4⟩ := cc_lad52 (X := X) (Y := Y) (x := hz h) G2 F2 c10
  have aB : hz h < hz B1 := by omega
  have f3 : Fr (LCC ++ [f_Heap_shapes + 1]) [(f_Shape_child, l1)] (1 + z3) (7 + s3) h B3 := (n1.mono (fun f q => by cases q) (fun q hq => by cases hq)).trans (R3.mono (fun _ q => q) (fun _ q => by cases q))
  have ch : hR B3 f_Shape_child l1 = hR h f_Shape_child l1 := by rw [R3.R (by omega) (by decide) (fun c => c.elim (by decide) (fun w => by cases w)), n1.R z1 (by decide) (fun c => c.elim (by decide) (fun w => by cases w))]
  have f4 : Fr (LCC ++ [f_Heap_shapes + 1]) [(f_Shape_child, l1)] (1 + z3) (7 + s3) h (sR B3 f_Shape_sibling (hz h) (hR h f_Shape_child l1)) := Fr.nR (Nat.le_refl _) (by unfold own; decide) f3
  have f5 : Fr (LCC ++ [f_Heap_shapes + 1]) [(f_Shape_child, l1)] (1 + z3) (7 + s3) h (sR (sR B3 f_Shape_sibling (hz h) (hR h f_Shape_child l1)) f_Shape_child l1 (hz h)) := Fr.wR (Or.inr (by simp)) (by unfold own; decide) f4
  have fe : Fr [] [(f_Shape_sibling, hz h), (f_Shape_child, l1)] 0 0 B3 (sR (sR B3 f_Shape_sibling (hz h) (hR h f_Shape_child l1)) f_Shape_child l1 (hz h)) := Fr.wR (Or.inr (by simp)) (by unfold own; decide) (Fr.wR (Or.inr (by simp)) (by unfold own; decide) Fr.r0)
  have nl : hz h ≠ l1 := by omega
  have cap : hI B1 2 (C + 52) = hI h 2 (C + 52) := n1.arC G.2.1 (f := f_Heap_shapes) (x := C + 50) (by unfold own; decide) (by omega) (fc52 F).2.1 (by omega) nok (by simp)
  have nI : ∀ {f : Nat}, f ∉ LCC ++ [f_Heap_shapes + 1] → 5 ≤ f → hI B3 f (hz h) = hI B1 f (hz h) := fun {f} w1 w3 => R3.I aB w3 (fun c => c.elim w1 (fun w => by cases w))
  have nR : ∀ {f : Nat}, f ∉ LCC ++ [f_Heap_shapes + 1] → f ≠ f_Shape_sibling → f ≠ f_Shape_child → 5 ≤ f → hR (sR (sR B3 f_Shape_sibling (hz h) (hR h f_Shape_child l1)) f_Shape_child l1 (hz h)) f (hz h) = hR B1 f (hz h) := fun {f} w1 w2 w4 w3 => by
    rw [R_Rne w4, R_Rne w2, R3.R aB w3 (fun c => c.elim w1 (fun w => by cases w))]
  have nsq : NSQ C h (sR (sR B3 f_Shape_sibling (hz h) (hR h f_Shape_child l1)) f_Shape_child l1 (hz h)) sn (hR h f_Shape_prototype l1) l1 (hR h f_Shape_child l1) nm sz := by
    refine ⟨G3.frm fe (by unfold DJ; rfl), F3.frm G3 fe (by unfold DJ; rfl) ⟨by simp, by simp, by simp⟩, d1, fun i => ?_, ?_, ?_, ?_, ?_, ?_, ?_, ?_, ?_, ?_, ?_, ?_⟩
    · show hB B3 (C + 52) i = _
      rw [d2 i]
      have sa := (n1.ar G.2.1 (f := f_Heap_shapes) (x := C + 50) (by unfold own; decide) (by omega) (fc52 F).2.1 (by omega) nok (by simp)).2.2 i
      rw [sa]
    · show hz h < hz B3
      have := R3.1.1; omega
    · show hz B3 ≤ _
      omega
    · show (hs B3 : Int) ≤ hs h + 7 + 4 * (hI B3 2 (C + 52) - hI h 2 (C + 52))
      omega
    · show hK B3 (hz h) = _
      rw [R3.K aB]; exact b1
    · show hI B3 f_Shape_number (hz h) = _
      rw [nI (by decide) (by decide)]; exact b2
    · rw [nR (by decide) (by decide) (by decide) (by decide)]; exact b3
    · rw [nR (by decide) (by decide) (by decide) (by decide)]; exact b4
    · show hI B3 f_Shape_name (hz h) = _
      rw [nI (by decide) (by decide)]; exact b5
    · show hI B3 f_Shape_size (hz h) = _
      rw [nI (by decide) (by decide)]; exact b6
    · have : hR (sR (sR B3 f_Shape_sibling (hz h) (hR h f_Shape_child l1)) f_Shape_child l1 (hz h)) f_Shape_child (hz h) = hR (sR B3 f_Shape_sibling (hz h) (hR h f_Shape_child l1)) f_Shape_child (hz h) := if_neg (fun c => nl c.2)
      rw [this, R_Rne (by decide), R3.R aB (by decide) (fun c => c.elim (by decide) (fun w => by cases w))]; exact b7
    · rw [R_Rne (by decide), R_R]
  have g := q1 rm _ _ _ nsq f5 (R_R _ _ _ _)
  have k3 : hK B3 l1 = k_Shape := by rw [f3.K z1]; exact k1
  have kA : hK B3 (hz h) = k_Shape := by rw [R3.K aB]; exact b1
  have kA1 : hK B1 (hz h) = k_Shape := b1
  have cA : ∀ {H : ah} {X : X3} {a v : Nat}, sR (cc H C X Y) f_Shape_sibling a v = cc (sR H f_Shape_sibling a v) C X Y := cc_sRo (by decide)
  have cB : ∀ {H : ah} {X : X3} {a v : Nat}, sR (cc H C X Y) f_Shape_child a v = cc (sR H f_Shape_child a v) C X Y := cc_sRo (by decide)
  have rO : ∀ {H : ah} {X : X3}, hR (cc H C X Y) f_Shape_child l1 = hR H f_Shape_child l1 := ccRo (by decide)
  have hK3 : hK B3 (C + 50) = k_Heap := F3.1.2.2.2.2.2.1
  have w1 : w32 ((sm : Int) + 1) = ((sm + 1 : Nat) : Int) := w32_s (by omega)
  have b19 : 190 ≤ k_Shape := by decide
  have l4 : sn < 1000000 := by omega
  clear q1 q0 nsq f4 f3 f5 fe nI nR R3 d1 d2 d3 d4 n1 cap
  show hK (cc B1 C X Y) (C + 50) = k_Heap ∧ _
  simp (decide := true) only [ccK, ccl, cA, rr, cclok, c6, c7, c8, c9, c10, rO, kA1, b19, l4, or_true, e3, hK3, k3, kA, ccI, cc_sI, e1, w1, cB, ch, true_and, and_true]
  exact g
/-- a shape is sought among those that go on -/
theorem r_known (kk : ∀ s, s < sn → hK h (hB h (C + 52) s) = k_Shape ∧ hB h (C + 52) s ≠ 0 ∧ hI h f_Shape_name (hB h (C + 52) s) = S f_Md_shapeName s ∧ (0 ≤ S f_Md_shapeBefore s → hR h f_Shape_sibling (hB h (C + 52) s) = shA h C (lastB S (S f_Md_shapeBefore s).toNat s))) (hb : b < sn) (hc : hR h f_Shape_child (hB h (C + 52) b) = shA h C (lastB S b sn)) (q1 : ∀ r : Nat, 1 ≤ r → r < sn → S f_Md_shapeBefore r = (b : Int) → S f_Md_shapeName r = nm → Q (Sum.inl (some (vR (hB h (C + 52) r)))) (cc h C X Y)) (q0 : (∀ r : Nat, 1 ≤ r → r < sn → S f_Md_shapeBefore r = (b : Int) → ¬ S f_Md_shapeName r = nm) → Q (Sum.inl (some (vR 0))) (cc h C X Y)) : wpB PGm ρ d m_Shape_known 0 [(0, vR (hB h (C + 52) b)), (1, vI nm)] [] (cc h C X Y) Q := by
  have key : ∀ m, m ≤ sn → (∀ r : Nat, m ≤ r → r < sn → S f_Md_shapeBefore r = (b : Int) → ¬ S f_Md_shapeName r = nm) → wpB PGm ρ d m_Shape_known 5 [(1, vI nm), (2, vR (shA h C (lastB S b m)))] [] (cc h C X Y) Q := by
    intro m
    induction m using Nat.strongRecOn with
    | _ m ih =>
      intro hm hn
      have lb := lastB_lt (S := S) (k := b) m
      have sp := lastB_sp (S := S) (b := b) m
      by_cases l0 : lastB S b m = 0
      · have e : shA h C (lastB S b m) = 0 := by unfold shA; rw [if_pos l0]
        rw [e]
        refine b_Shape_known_5 ⟨fun _ => q0 (fun r r1 r2 r3 => ?_), fun w => absurd rfl w⟩
        by_cases w : m ≤ r
        · exact hn r w r2 r3
        · exact absurd r3 ((sp.2 l0) r r1 (by omega))
      · have lt : lastB S b m < m := by omega
        have ⟨p1, p2⟩ := sp.1 l0
        obtain ⟨k1, k2, k3, k4⟩ := kk (lastB S b m) (by omega)
        have e : shA h C (lastB S b m) = hB h (C + 52) (lastB S b m) := by unfold shA; rw [if_neg l0]
        rw [e]
        have e4 := k4 (by rw [p1]; omega)
        rw [p1, Int.toNat_natCast] at e4
        refine b_Shape_known_5 ⟨fun w => absurd w k2, fun _ => ⟨k1, fun w => ?_, fun w => ?_⟩⟩
        · rw [ccIo (by decide), k3] at w
          exact q1 _ (by omega) (by omega) p1 w
        · rw [ccIo (by decide), k3] at w
          rw [ccRo (by decide), e4]
          refine ih _ lt (by omega) (fun r r1 r2 r3 => ?_)
          by_cases w2 : m ≤ r
          · exact hn r w2 r2 r3
          · by_cases w3 : r = lastB S b m
            · rw [w3]; exact w
            · exact absurd r3 (p2 r (by omega) (by omega))
  refine b_Shape_known_0 ⟨(kk b hb).1, ?_⟩
  rw [ccRo (by decide), hc]
  exact key sn (Nat.le_refl _) (fun r r1 r2 => by omega)
end
