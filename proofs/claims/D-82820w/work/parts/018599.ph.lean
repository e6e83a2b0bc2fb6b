/-! primitive calls and what stands for what -/
section
variable {G : GX}
theorem hl_sN (h : ah) (a n b : Nat) : hl (sN h a n) b = if b = a then n else hl h b := rfl
theorem hB_sB (h : ah) (a i v b j : Nat) : hB (sB h a i v) b j = if b = a ∧ j = i then v else hB h b j := rfl
theorem hI_sI (h : ah) (f a : Nat) (v : Int) (g b : Nat) : hI (sI h f a v) g b = if g = f ∧ b = a then v else hI h g b := rfl
theorem hR_sR (h : ah) (f a v g b : Nat) : hR (sR h f a v) g b = if g = f ∧ b = a then v else hR h g b := rfl
theorem ofI_N (n : Nat) : Int32.ofInt (n : Int) = Int32.ofNat n := rfl
theorem ek20m : ∀ q ∈ clsT, q.1 ∈ (ekT.lookup 20).getD [] := by
  have h : clsT.all (fun q => decide (q.1 ∈ (ekT.lookup 20).getD [])) = true := by decide +kernel
  intro q hq
  simpa using List.all_eq_true.mp h q hq
theorem isO_of {h : ah} {H : Heap} (r : Rep (gD G) (gA G) (gB G) (gH G) (gE G) h H) {b : Nat} (hb : b = 0 ∨ 190 ≤ hK h b) : isO G H (cv (vR b)) := by
  by_cases h0 : b = 0
  · left; rw [h0]; rfl
  · right
    have hk := hb.resolve_left h0
    obtain ⟨x, cell, rfl, e1, e2⟩ := r.cell (a := b) (by omega)
    unfold cellOf at e2
    rw [if_neg (by omega), if_neg (by omega), if_neg (by omega)] at e2
    by_cases h7 : hK h (x + 1) = 190 ∨ hK h (x + 1) = 191
    · rw [if_pos h7] at e2
      refine ⟨x, _, cell, rfl, e1, e2.2.1.1, e2.1, ?_⟩
      rcases h7 with h7 | h7 <;> (rw [h7]; decide +kernel)
    · rw [if_neg h7] at e2
      obtain ⟨q, hq, e3, c1, c2, -⟩ := e2
      exact ⟨x, _, cell, rfl, e1, by rw [c2]; rfl, c1, by rw [← e3]; exact ek20m q hq⟩
theorem listCell {h : ah} {H : Heap} (r : Rep (gD G) (gA G) (gB G) (gH G) (gE G) h H) {a : Nat} (hk : hK h a = 190) : ∃ x cell, a = x + 1 ∧ H[x]? = some cell ∧ cell.vm = .none ∧ cell.cls = (gD G).1 190 ∧ lsC (gD G) h a cell ∧ gB G ≤ x := by
  obtain ⟨x, cell, rfl, e1, e2⟩ := r.cell (a := a) (by rw [hk]; decide)
  have := r.2.2.2.2.1 (x + 1) (by rw [hk]; rfl)
  unfold cellOf at e2
  rw [hk, if_neg (by decide), if_neg (by decide), if_neg (by decide), if_pos (Or.inl rfl)] at e2
  exact ⟨x, cell, rfl, e1, (e2.2.2 rfl).1, e2.1, (e2.2.2 rfl).2, by omega⟩
theorem listOf {h : ah} {H : Heap} (r : Rep (gD G) (gA G) (gB G) (gH G) (gE G) h H) {a : Nat} (hk : lok h a) : ∃ x ee cap mo F, a = x + 1 ∧ LAt G H x ee mo (Int32.ofNat (hl h a)) cap (hl h a) F ∧ (cap : Int) = hI h 2 a ∧ hl h a ≤ cap ∧ cap ≤ 3000000 ∧ x ≠ ee ∧ (cap = 0 → ee = gE G) ∧ (0 < cap → gB G ≤ ee ∧ ee + 1 = hR h 1 a ∧ hK h (ee + 1) = 105 ∧ hR h 3 (ee + 1) = a) ∧ (∀ i, i < hl h a → F i = cv (vR (hB h a i)) ∧ (hB h a i = 0 ∨ 190 ≤ hK h (hB h a i))) ∧ gB G ≤ x := by
  obtain ⟨x, cell, rfl, e1, e2, e3, e4, e5⟩ := listCell r hk.1
  obtain ⟨ee, cl, cE, mc, cap9, l1, l2, l3, l4, l5, l6, l7, l8, l9, l10, l11, l12⟩ := r.2.2.2.2.2.1 _ hk.1 hk.2
  have hx1 : x + 1 - 1 = x := by omega
  rw [hx1] at l1
  cases e1.symm.trans l1
  rw [ofI_N] at l3
  have hcap : cap9 = 0 ↔ hI h 2 (x + 1) = 0 := by omega
  refine ⟨x, ee, cap9, mc, fun i => cv (vR (hB h (x + 1) i)), rfl, ⟨cell, cE, e1, e2, e3, l4, l2, l3, l5, l6, l7.1, l7.2, fun i hi => (l11 i hi).1⟩, l8, l9, l10, ?_, fun z => ?_, fun z => ?_, fun i hi => ⟨rfl, (l11 i hi).2⟩, e5⟩
  · intro z
    subst z
    by_cases h0 : hI h 2 (x + 1) = 0
    · rw [if_pos h0] at l12
      have := r.1.2.2; omega
    · rw [if_neg h0] at l12
      have := l12.2.1
      rw [hk.1] at this; cases this
  · rw [if_pos (hcap.mp z)] at l12; exact l12
  · rw [if_neg (fun w => by have := hcap.mpr w; omega)] at l12
    have := r.2.2.2.2.1 (ee + 1) (by rw [l12.2.1]; rfl)
    exact ⟨by omega, l12⟩
theorem ph_1 (hG : GOK G) : PHok G 1 1 (fun a H KH _ _ => ∃ (x : Nat) (cell : Cell), a = #[.ref x] ∧ H[x]? = some cell ∧ cell.vm = .none ∧ cell.cls = (gD G).1 190 ∧ (∀ j, j < 3 → ∃ w, cell.slots[(gD G).2 190 j]? = some w) ∧ gB G ≤ x ∧ (∀ q, q < gB G → H[q]? = (gH G)[q]?) ∧
    ∀ H', one1 H H' x ((cell.setSlot ((gD G).2 190 0) (.int 0)).setSlot ((gD G).2 190 1) (.ref (gE G))) → KH none H' 0) := by
  intro as h K H mc ms s hEV hlen hcan r hcap hpr
  obtain ⟨a, s', rfl, ⟨h1, h2⟩, h3⟩ := pR_e hpr
  obtain rfl : s' = [] := List.length_eq_zero_iff.mp (by simpa using hlen)
  obtain ⟨x, cell, rfl, e1, e2, e3, ⟨e4, e6⟩, e5⟩ := listCell r h1
  obtain ⟨g1, g2, g3⟩ := e6 h2
  have n01 := l_apart hEV (i := 0) (j := 1) (by decide) (by decide) (by decide)
  have n02 := l_apart hEV (i := 0) (j := 2) (by decide) (by decide) (by decide)
  have n12 := l_apart hEV (i := 1) (j := 2) (by decide) (by decide) (by decide)
  have n10 := l_apart hEV (i := 1) (j := 0) (by decide) (by decide) (by decide)
  refine ⟨x, cell, rfl, e1, e2, e3, e4, e5, r.2.2.2.1, fun H' ho => ⟨none, sI h 4 (x + 1) 1, h3, rfl, (fun w z => by cases z), ?_, rfl⟩⟩
  obtain ⟨cE, m1, m2, m3, m4⟩ := (hG.2 s hEV.2.2.2.2.2).2.1
  obtain ⟨w0, hw0⟩ := e4 0 (by decide)
  obtain ⟨w1, hw1⟩ := e4 1 (by decide)
  have hs1 : ((cell.setSlot ((gD G).2 190 0) (.int 0)).setSlot ((gD G).2 190 1) (.ref (gE G))).slots[(gD G).2 190 1]? = some (.ref (gE G)) := st_eq (by rw [st_ne n01]; exact hw1)
  have hs0 : ((cell.setSlot ((gD G).2 190 0) (.int 0)).setSlot ((gD G).2 190 1) (.ref (gE G))).slots[(gD G).2 190 0]? = some (.int 0) := by rw [st_ne n10]; exact st_eq hw0
  have hs2 : ((cell.setSlot ((gD G).2 190 0) (.int 0)).setSlot ((gD G).2 190 1) (.ref (gE G))).slots[(gD G).2 190 2]? = some (.int 0) := by rw [st_ne n12, st_ne n02]; exact g1
  have hI4 : hI (sI h 4 (x + 1) 1) 4 (x + 1) = 1 := if_pos ⟨rfl, rfl⟩
  refine rep_L r (x := x) (y := x) h1 (by rw [ho.2.1]; exact r.1.1) (Or.inl ⟨ho.2.1, fun _ => rfl, Or.inl rfl⟩) (fun q _ hq _ => ho.2.2 q hq) (fun b hb _ => sI_same h 4 _ _ hb) (fun _ _ _ => rfl) ho.1 e3 e2 ⟨fun j hj => ?_, fun z => by rw [hI4] at z; cases z⟩ (fun _ => ?_)
  · match j, hj with
    | 0, _ => exact ⟨_, hs0⟩
    | 1, _ => exact ⟨_, hs1⟩
    | 2, _ => exact ⟨_, hs2⟩
  · have hl0 : hl (sI h 4 (x + 1) 1) (x + 1) = 0 := g2
    have hI2 : hI (sI h 4 (x + 1) 1) 2 (x + 1) = 0 := g3
    refine ⟨gE G, _, cE, 0, 0, ho.1, hs1, by rw [hl0]; exact hs2, hs0, ?_, m2, ⟨m3, m4, fun z => by omega⟩, by rw [hI2]; rfl, by rw [hl0]; omega, by omega, fun i hi => by rw [hl0] at hi; omega, by rw [if_pos hI2]⟩
    have := r.1.2.2
    rw [ho.2.2 _ (by omega), r.2.2.2.1 _ r.1.2.2]; exact m1
theorem ph_5 : PHok G 1 5 (fun a H KH _ _ => ∃ (x : Nat) (cell : Cell) (n : Int32), a = #[.ref x] ∧ H[x]? = some cell ∧ cell.vm = .none ∧ cell.slots[(gD G).2 190 2]? = some (.int n) ∧ KH (some (.int n)) H 0) := by
  intro as h K H mc ms s hEV hlen hcan r hcap hpr
  obtain ⟨a, s', rfl, h1, h3⟩ := pR_e hpr
  obtain rfl : s' = [] := List.length_eq_zero_iff.mp (by simpa using hlen)
  obtain ⟨x, ee, cap, mo, F, rfl, ⟨cell, cE, c1, c2, c3, c4, c5, c6, c7, -⟩, l8, l9, l10, -⟩ := listOf r h1
  refine ⟨x, cell, _, rfl, c1, c2, c6, some (vI (hl h (x + 1))), h, h3, rfl, fun w z => ?_, r, rfl⟩
  cases z
  exact ⟨by omega, by omega⟩
theorem ph_4 : PHok G 2 4 (fun a H KH _ _ => ∃ (x ee : Nat) (cell cE : Cell) (i n : Int32) (v : Value), a = #[.ref x, .int i] ∧ H[x]? = some cell ∧ cell.vm = .none ∧ cell.cls = (gD G).1 190 ∧ cell.slots[(gD G).2 190 1]? = some (.ref ee) ∧ cell.slots[(gD G).2 190 2]? = some (.int n) ∧ H[ee]? = some cE ∧ cE.cls = (gA G) 20 ∧ okV cE.vm ∧ ¬ i < 0 ∧ i < n ∧ cE.slots[i.toNatClampNeg]? = some v ∧ (v = .null ∨ ∃ b, v = .ref b) ∧ KH (some v) H 0) := by
  intro as h K H mc ms s hEV hlen hcan r hcap hpr
  obtain ⟨a, s', rfl, hpr⟩ := pR_e hpr
  obtain ⟨i, s'', rfl, ⟨h1, h2, h4⟩, h3⟩ := pI_e hpr
  obtain rfl : s'' = [] := List.length_eq_zero_iff.mp (by simpa using hlen)
  obtain ⟨x, ee, cap, mo, F, rfl, ⟨cell, cE, c1, c2, c3, c4, c5, c6, c7, c8, c9, c10, c11⟩, l8, l9, l10, l11, l12, l13, l14, l15⟩ := listOf r h1
  have hi32 : in32 i := hcan (vI i) (by simp)
  have hcl := cl32 h2 hi32
  have hlt : i.toNat < hl h (x + 1) := by omega
  refine ⟨x, ee, cell, cE, Int32.ofInt i, _, _, rfl, c1, c2, c3, c5, c6, c7, c8, c9, nn32 h2 hi32, ?_, by rw [hcl]; exact c11 _ hlt, ?_, some (vR (hB h (x + 1) i.toNat)), h, h3, ?_, fun w z => by cases z; trivial, r, rfl⟩
  · rw [← ofI_N]
    exact (lt32 hi32 ⟨by omega, by omega⟩).mpr h4
  · rw [(l14 _ hlt).1]
    cases hB h (x + 1) i.toNat with
    | zero => exact Or.inl rfl
    | succ b => exact Or.inr ⟨b, rfl⟩
  · rw [(l14 _ hlt).1]; rfl
theorem lgrow_cap (c : Nat) : lcap (c : Int) = lgrow c := by
  unfold lcap lgrow
  by_cases h : c = 0
  · subst h; rfl
  · rw [if_neg (by omega), if_neg h]; rfl
theorem ph_3 : PHok G 2 3 (fun a H KH mc ms => ∃ (x ee n cap : Nat) (mo : Int32) (F : Nat → Value) (v : Value), a = #[.ref x, v] ∧ addPre G H x ee mo n cap F v mc ms ∧ ∀ H' mo', ladded G H H' x ee mo' n cap F v → KH (some (.int 1)) H' (addS n cap)) := by
  intro as h K H mc ms s hEV hlen hcan r hcap hpr
  obtain ⟨a, s', rfl, hpr⟩ := pR_e hpr
  obtain ⟨b, s'', rfl, ⟨h1, h2, h4⟩, h3⟩ := pR_e hpr
  obtain rfl : s'' = [] := List.length_eq_zero_iff.mp (by simpa using hlen)
  obtain ⟨x, ee, cap, mo, F, rfl, hLA, l8, l9, l10, l11, l12, l13, l14, l15⟩ := listOf r h1
  have hc := hcap _ _ h3
  have hz1 := r.1.1
  have hxl : x < H.size := by obtain ⟨cell, cE, c1, -⟩ := hLA; exact (Array.getElem?_eq_some_iff.mp c1).1
  refine ⟨x, ee, hl h (x + 1), cap, mo, F, cv (vR b), rfl, ⟨hLA, l9, l10, by omega, l11, isO_of r h4, l12, fun z => (l13 z).1, fun i hi => ?_, l15, r.1.2.1, r.2.2.2.1, fun z => ?_⟩, fun H' mo' hadd => ?_⟩
  · rw [(l14 i hi).1]; exact isO_of r (l14 i hi).2
  · unfold ladd at hc
    rw [if_pos (by omega), ← l8, lgrow_cap] at hc
    have e1 : hz (lput (lroom h (x + 1) (lgrow cap)) (x + 1) b) = hz h + 1 := rfl
    have e2 : hs (lput (lroom h (x + 1) (lgrow cap)) (x + 1) b) = hs h + lgrow cap := rfl
    rw [e1, e2] at hc
    rw [z]; omega
  · refine ⟨some (vI 1), ladd h (x + 1) b, h3, rfl, fun w z => by cases z; exact ⟨by decide, by decide⟩, ?_, ?_⟩
    · obtain ⟨ee', cap', ⟨cell', cE', a1, a2, a3, a4, a5, a6, a7, a8, a9, a10, a11⟩, hcase⟩ := hadd
      have els : ∀ h9 : ah, (∀ i9, hB h9 (x + 1) i9 = hB h (x + 1) i9) → (∀ b9, hK h b9 ≠ 0 → hK h9 b9 = hK h b9) → hl h9 (x + 1) = hl h (x + 1) → ∀ i, i < hl (lput h9 (x + 1) b) (x + 1) → cE'.slots[i]? = some (cv (vR (hB (lput h9 (x + 1) b) (x + 1) i))) ∧ (hB (lput h9 (x + 1) b) (x + 1) i = 0 ∨ 190 ≤ hK (lput h9 (x + 1) b) (hB (lput h9 (x + 1) b) (x + 1) i)) := by
        intro h9 e1 e2 e3 i hi
        have eh : hl (lput h9 (x + 1) b) (x + 1) = hl h (x + 1) + 1 := by unfold lput; rw [hl_sN, if_pos rfl, e3]
        have eb : hB (lput h9 (x + 1) b) (x + 1) i = if i = hl h (x + 1) then b else hB h (x + 1) i := by
          show hB (sB h9 (x + 1) (hl h9 (x + 1)) b) (x + 1) i = _
          rw [hB_sB, e1, e3]
          by_cases hi9 : i = hl h (x + 1)
          · rw [if_pos ⟨rfl, hi9⟩, if_pos hi9]
          · rw [if_neg (fun z => hi9 z.2), if_neg hi9]
        have ek : ∀ b9, hK h b9 ≠ 0 → hK (lput h9 (x + 1) b) b9 = hK h b9 := e2
        rw [eh] at hi
        have a12 : cE'.slots[i]? = some (if i = hl h (x + 1) then cv (vR b) else F i) := a11 i hi
        rw [a12, eb]
        by_cases hi9 : i = hl h (x + 1)
        · rw [if_pos hi9, if_pos hi9]
          exact ⟨rfl, h4.imp_right fun z => by rw [ek _ (by omega)]; exact z⟩
        · rw [if_neg hi9, if_neg hi9, (l14 i (by omega)).1]
          exact ⟨rfl, (l14 i (by omega)).2.imp_right fun z => by rw [ek _ (by omega)]; exact z⟩
      have hcl : lsC (gD G) (ladd h (x + 1) b) (x + 1) cell' := by
        refine ⟨fun j hj => ?_, fun z => ?_⟩
        · match j, hj with
          | 0, _ => exact ⟨_, a4⟩
          | 1, _ => exact ⟨_, a5⟩
          | 2, _ => exact ⟨_, a6⟩
        · exfalso
          have : hI (ladd h (x + 1) b) 4 (x + 1) = 1 := by
            unfold ladd
            split
            · have e9 : hI (lput (lroom h (x + 1) (lcap (hI h 2 (x + 1)))) (x + 1) b) 4 (x + 1) = hI (hn h 105 (lcap (hI h 2 (x + 1))) (lcap (hI h 2 (x + 1)))) 4 (x + 1) := by
                show hI (sI (sR (sR (hn h 105 (lcap (hI h 2 (x + 1))) (lcap (hI h 2 (x + 1)))) 1 (x + 1) (hz h)) 3 (hz h) (x + 1)) 2 (x + 1) (lcap (hI h 2 (x + 1)))) 4 (x + 1) = _
                rw [hI_sI, if_neg (by omega)]
                rfl
              rw [e9, (hn_same h 105 _ _ (show x + 1 ≠ hz h by omega)).1]
              exact h1.2
            · exact h1.2
          rw [this] at z; cases z
      rcases hcase with ⟨b2, rfl, rfl, b5, b6⟩ | ⟨b2, rfl, rfl, b5, b6⟩
      · have eL : ladd h (x + 1) b = lput h (x + 1) b := by unfold ladd; rw [if_neg (by omega)]
        rw [eL] at hcl ⊢
        have hcp : 0 < cap' := by omega
        refine rep_L r (x := x) (y := ee') h1.1 (by rw [b5]; exact hz1) (Or.inl ⟨b5, fun _ => rfl, Or.inr ⟨(l13 hcp).2.2.1, (l13 hcp).2.2.2⟩⟩) (fun q _ h1 h2 => b6 q h1 h2) (fun b9 hb _ => ⟨fun _ => rfl, fun _ => rfl, if_neg hb, fun _ => rfl, fun i => if_neg (fun z => hb z.1)⟩) (fun _ _ _ => rfl) a1 a3 a2 hcl (fun _ => ?_)
        have eh : hl (lput h (x + 1) b) (x + 1) = hl h (x + 1) + 1 := by unfold lput; rw [hl_sN, if_pos rfl]
        refine ⟨ee', cell', cE', mo', cap', a1, a5, by rw [eh, ofI_N]; exact a6, a4, a7, a8, ⟨a9, a10⟩, l8, by rw [eh]; omega, l10, els h (fun _ => rfl) (fun _ _ => rfl) rfl, ?_⟩
        have e2 : hI (lput h (x + 1) b) 2 (x + 1) = hI h 2 (x + 1) := rfl
        rw [e2, if_neg (by omega)]
        exact (l13 hcp).2
      · have eL : ladd h (x + 1) b = lput (lroom h (x + 1) (lgrow (hl h (x + 1)))) (x + 1) b := by
          unfold ladd; rw [if_pos (by omega), ← l8, lgrow_cap, b2]
        rw [eL] at hcl ⊢
        have hNp : hl h (x + 1) < lgrow (hl h (x + 1)) ∧ lgrow (hl h (x + 1)) ≤ 3000000 := by unfold lgrow; split <;> omega
        generalize lgrow (hl h (x + 1)) = N at *
        have ehr : hl (lroom h (x + 1) N) (x + 1) = hl h (x + 1) := if_neg (show x + 1 ≠ hz h by omega)
        have eh : hl (lput (lroom h (x + 1) N) (x + 1) b) (x + 1) = hl h (x + 1) + 1 := by unfold lput; rw [hl_sN, if_pos rfl, ehr]
        have eI2 : hI (lput (lroom h (x + 1) N) (x + 1) b) 2 (x + 1) = N := if_pos ⟨rfl, rfl⟩
        have eR1 : hR (lput (lroom h (x + 1) N) (x + 1) b) 1 (x + 1) = hz h := by
          show hR (sR (sR (hn h 105 N N) 1 (x + 1) (hz h)) 3 (hz h) (x + 1)) 1 (x + 1) = hz h
          rw [hR_sR, if_neg (by omega), hR_sR, if_pos ⟨rfl, rfl⟩]
        have eR3 : hR (lput (lroom h (x + 1) N) (x + 1) b) 3 (hz h) = x + 1 := if_pos ⟨rfl, rfl⟩
        have eK : ∀ b9, hK (lput (lroom h (x + 1) N) (x + 1) b) b9 = if b9 = hz h then 105 else hK h b9 := fun _ => rfl
        refine rep_L r (x := x) (y := H.size) h1.1 (by rw [b5]; show H.size + 1 + 1 = hz h + 1; omega) (Or.inr ⟨b5, rfl, eK⟩) (fun q h1 h2 _ => b6 q h1 h2) (fun b9 hb hb2 => ?_) (fun b9 hb hb2 => ?_) a1 a3 a2 hcl (fun _ => ?_)
        · have hb2' : b9 ≠ hz h := by omega
          obtain ⟨s1, s2, s3, s4, s5⟩ := hn_same h 105 N N hb2'
          refine ⟨fun f => ?_, fun f => ?_, ?_, fun i => ?_, fun i => ?_⟩
          · show hI (sI (sR (sR (hn h 105 N N) 1 (x + 1) (hz h)) 3 (hz h) (x + 1)) 2 (x + 1) N) f b9 = _
            rw [hI_sI, if_neg (fun z => hb z.2)]; exact s1 f
          · show hR (sR (sR (hn h 105 N N) 1 (x + 1) (hz h)) 3 (hz h) (x + 1)) f b9 = _
            rw [hR_sR, if_neg (fun z => hb2' z.2), hR_sR, if_neg (fun z => hb z.2)]; exact s2 f
          · unfold lput; rw [hl_sN, if_neg hb]; exact s3
          · exact s4 i
          · show hB (sB (lroom h (x + 1) N) (x + 1) _ b) b9 i = _
            rw [hB_sB, if_neg (fun z => hb z.1)]; exact s5 i
        · show hR (sR (sR (hn h 105 N N) 1 (x + 1) (hz h)) 3 (hz h) (x + 1)) 3 b9 = _
          rw [hR_sR, if_neg (fun z => hb2 z.2), hR_sR, if_neg (by omega)]
          exact (hn_same h 105 N N hb2).2.1 3
        · have ehz : H.size + 1 = hz h := hz1
          refine ⟨H.size, cell', cE', mo', N, a1, a5, by rw [eh, ofI_N]; exact a6, a4, a7, a8, ⟨a9, a10⟩, by rw [eI2], by rw [eh]; omega, by omega, els (lroom h (x + 1) N) ?_ (fun b9 hb9 => ?_) ehr, ?_⟩
          · intro i9; exact if_neg (show x + 1 ≠ hz h by omega)
          · have := (r.2.1 b9 hb9).2
            exact if_neg (by omega)
          · rw [eI2, if_neg (by omega), eR1, ehz]
            exact ⟨rfl, by rw [eK, if_pos rfl], eR3⟩
    · unfold addS ladd
      by_cases z : hl h (x + 1) = cap
      · rw [if_pos z, if_pos (by omega), ← l8, lgrow_cap, z]
        rfl
      · rw [if_neg z, if_neg (by omega)]; rfl
theorem ph_2 : PHok G 2 2 (fun a H KH mc ms => ∃ (x : Nat) (cell : Cell) (n : Int32), a = #[.ref x, .int n] ∧ H[x]? = some cell ∧ cell.vm = .none ∧ cell.cls = (gD G).1 190 ∧ (∀ j, j < 3 → ∃ w, cell.slots[(gD G).2 190 j]? = some w) ∧ gB G ≤ x ∧ 0 < n ∧ n.toNatClampNeg ≤ 1000 ∧ 1 ≤ mc ∧ n.toNatClampNeg ≤ ms ∧
    ∀ H1 H', newO G H H1 n.toNatClampNeg → one1 H1 H' x ((cell.setSlot ((gD G).2 190 0) (.int 0)).setSlot ((gD G).2 190 1) (.ref H.size)) → KH none H' n.toNatClampNeg) := by
  intro as h K H mc ms s hEV hlen hcan r hcap hpr
  obtain ⟨a, s', rfl, hpr⟩ := pR_e hpr
  obtain ⟨i, s'', rfl, ⟨h1, h2, h5, h6⟩, h3⟩ := pI_e hpr
  obtain rfl : s'' = [] := List.length_eq_zero_iff.mp (by simpa using hlen)
  obtain ⟨x, cell, rfl, e1, e2, e3, ⟨e4, e6⟩, e5⟩ := listCell r h1
  obtain ⟨g1, g2, g3⟩ := e6 h2
  have hi32 : in32 i := ⟨by omega, by omega⟩
  have hcl := cl32 (by omega) hi32
  have n01 := l_apart hEV (i := 0) (j := 1) (by decide) (by decide) (by decide)
  have n02 := l_apart hEV (i := 0) (j := 2) (by decide) (by decide) (by decide)
  have n12 := l_apart hEV (i := 1) (j := 2) (by decide) (by decide) (by decide)
  have n10 := l_apart hEV (i := 1) (j := 0) (by decide) (by decide) (by decide)
  have hz1 := r.1.1
  have hxl : x < H.size := (Array.getElem?_eq_some_iff.mp e1).1
  have hc := hcap _ _ h3
  have ec1 : hz (sI (lroom h (x + 1) i.toNat) 4 (x + 1) 1) = hz h + 1 := rfl
  have ec2 : hs (sI (lroom h (x + 1) i.toNat) 4 (x + 1) 1) = hs h + i.toNat := rfl
  rw [ec1, ec2] at hc
  refine ⟨x, cell, Int32.ofInt i, rfl, e1, e2, e3, e4, e5, ?_, by rw [hcl]; omega, by omega, by rw [hcl]; omega, fun H1 H' hn ho => ?_⟩
  · have z0 : Int32.ofInt 0 = 0 := rfl
    rw [← z0]
    exact (lt32 z32 hi32).mpr h5
  rw [hcl] at hn ⊢
  obtain ⟨b1, b2, b3⟩ := hn
  rw [repl_arr] at b1
  have hN : 0 < i.toNat ∧ i.toNat ≤ 1000 := by omega
  refine ⟨none, sI (lroom h (x + 1) i.toNat) 4 (x + 1) 1, h3, rfl, (fun w z => by cases z), ?_, ec2⟩
  generalize i.toNat = N at *
  obtain ⟨w0, hw0⟩ := e4 0 (by decide)
  obtain ⟨w1, hw1⟩ := e4 1 (by decide)
  have hs1 : ((cell.setSlot ((gD G).2 190 0) (.int 0)).setSlot ((gD G).2 190 1) (.ref H.size)).slots[(gD G).2 190 1]? = some (.ref H.size) := st_eq (by rw [st_ne n01]; exact hw1)
  have hs0 : ((cell.setSlot ((gD G).2 190 0) (.int 0)).setSlot ((gD G).2 190 1) (.ref H.size)).slots[(gD G).2 190 0]? = some (.int 0) := by rw [st_ne n10]; exact st_eq hw0
  have hs2 : ((cell.setSlot ((gD G).2 190 0) (.int 0)).setSlot ((gD G).2 190 1) (.ref H.size)).slots[(gD G).2 190 2]? = some (.int 0) := by rw [st_ne n12, st_ne n02]; exact g1
  have hI4 : hI (sI (lroom h (x + 1) N) 4 (x + 1) 1) 4 (x + 1) = 1 := if_pos ⟨rfl, rfl⟩
  have ehr : hl (sI (lroom h (x + 1) N) 4 (x + 1) 1) (x + 1) = 0 := (if_neg (show x + 1 ≠ hz h by omega)).trans g2
  have eI2 : hI (sI (lroom h (x + 1) N) 4 (x + 1) 1) 2 (x + 1) = N := by
    rw [hI_sI, if_neg (by omega)]
    exact if_pos ⟨rfl, rfl⟩
  have eR1 : hR (sI (lroom h (x + 1) N) 4 (x + 1) 1) 1 (x + 1) = hz h := by
    show hR (sR (sR (hn h 105 N N) 1 (x + 1) (hz h)) 3 (hz h) (x + 1)) 1 (x + 1) = hz h
    rw [hR_sR, if_neg (by omega), hR_sR, if_pos ⟨rfl, rfl⟩]
  have eR3 : hR (sI (lroom h (x + 1) N) 4 (x + 1) 1) 3 (hz h) = x + 1 := if_pos ⟨rfl, rfl⟩
  have eK : ∀ b9, hK (sI (lroom h (x + 1) N) 4 (x + 1) 1) b9 = if b9 = hz h then 105 else hK h b9 := fun _ => rfl
  refine rep_L r (x := x) (y := H.size) h1 (by rw [ho.2.1, b2]; show H.size + 1 + 1 = hz h + 1; omega) (Or.inr ⟨by rw [ho.2.1, b2], rfl, eK⟩) (fun q h1 h2 _ => by rw [ho.2.2 q h2, b3 q h1]) (fun b9 hb hb2 => ?_) (fun b9 hb hb2 => ?_) ho.1 e3 e2 ⟨fun j hj => ?_, fun z => by rw [hI4] at z; cases z⟩ (fun _ => ?_)
  · have hb2' : b9 ≠ hz h := by omega
    obtain ⟨s1, s2, s3, s4, s5⟩ := hn_same h 105 N N hb2'
    refine ⟨fun f => ?_, fun f => ?_, s3, s4, s5⟩
    · rw [hI_sI, if_neg (fun z => hb z.2)]
      show hI (sI (sR (sR (hn h 105 N N) 1 (x + 1) (hz h)) 3 (hz h) (x + 1)) 2 (x + 1) N) f b9 = _
      rw [hI_sI, if_neg (fun z => hb z.2)]; exact s1 f
    · show hR (sR (sR (hn h 105 N N) 1 (x + 1) (hz h)) 3 (hz h) (x + 1)) f b9 = _
      rw [hR_sR, if_neg (fun z => hb2' z.2), hR_sR, if_neg (fun z => hb z.2)]; exact s2 f
  · show hR (sR (sR (hn h 105 N N) 1 (x + 1) (hz h)) 3 (hz h) (x + 1)) 3 b9 = _
    rw [hR_sR, if_neg (fun z => hb2 z.2), hR_sR, if_neg (by omega)]
    exact (hn_same h 105 N N hb2).2.1 3
  · match j, hj with
    | 0, _ => exact ⟨_, hs0⟩
    | 1, _ => exact ⟨_, hs1⟩
    | 2, _ => exact ⟨_, hs2⟩
  · refine ⟨H.size, _, _, 0, N, ho.1, hs1, by rw [ehr]; exact hs2, hs0, by rw [ho.2.2 _ (by omega)]; exact b1, rfl, ⟨okV_n, szC_of (arrV_size _ _ _)⟩, by rw [eI2], by rw [ehr]; omega, by omega, fun i hi => by rw [ehr] at hi; omega, ?_⟩
    rw [eI2, if_neg (by omega), eR1, hz1]
    exact ⟨rfl, by rw [eK, if_pos rfl], eR3⟩
theorem ph_6 : PHok G 1 6 (fun a H KH mc ms => ∃ (x ee n cap : Nat) (mo : Int32) (F : Nat → Value), a = #[.ref x] ∧ LAt G H x ee mo (Int32.ofNat n) cap n F ∧ n ≤ cap ∧ cap ≤ 3000000 ∧ x ≠ ee ∧ (0 < cap → gB G ≤ ee) ∧ gB G ≤ x ∧ ∀ H' mo', LAt G H' x ee mo' 0 cap 0 F → H'.size = H.size → (∀ q, q ≠ x → q ≠ ee → H'[q]? = H[q]?) → (cap = 0 → H'[ee]? = H[ee]?) → KH none H' 0) := by
  intro as h K H mc ms s hEV hlen hcan r hcap hpr
  obtain ⟨a, s', rfl, h1, h3⟩ := pR_e hpr
  obtain rfl : s' = [] := List.length_eq_zero_iff.mp (by simpa using hlen)
  obtain ⟨x, ee, cap, mo, F, rfl, hLA, l8, l9, l10, l11, l12, l13, l14, l15⟩ := listOf r h1
  refine ⟨x, ee, _, cap, mo, F, rfl, hLA, l9, l10, l11, fun z => (l13 z).1, l15, fun H' mo' hL' hsz hoth h0 => ⟨none, sN h (x + 1) 0, h3, rfl, (fun w z => by cases z), ?_, rfl⟩⟩
  obtain ⟨cell', cE', a1, a2, a3, a4, a5, a6, a7, a8, a9, a10, -⟩ := hL'
  have ehl : hl (sN h (x + 1) 0) (x + 1) = 0 := if_pos rfl
  have eI4 : hI (sN h (x + 1) 0) 4 (x + 1) = 1 := h1.2
  have eI2 : hI (sN h (x + 1) 0) 2 (x + 1) = cap := l8.symm
  have hcl : lsC (gD G) (sN h (x + 1) 0) (x + 1) cell' := by
    refine ⟨fun j hj => ?_, fun z => by rw [eI4] at z; cases z⟩
    match j, hj with
    | 0, _ => exact ⟨_, a4⟩
    | 1, _ => exact ⟨_, a5⟩
    | 2, _ => exact ⟨_, a6⟩
  have hLR : LRep (gD G) (gA G) (gE G) (sN h (x + 1) 0) H' (x + 1) := by
    refine ⟨ee, cell', cE', mo', cap, a1, a5, by rw [ehl]; exact a6, a4, a7, a8, ⟨a9, a10⟩, eI2.symm, by rw [ehl]; omega, l10, fun i hi => by rw [ehl] at hi; omega, ?_⟩
    rw [eI2]
    by_cases hc0 : cap = 0
    · rw [if_pos (by omega)]; exact l12 hc0
    · rw [if_neg (by omega)]; exact (l13 (by omega)).2
  have hsm : ∀ b, b ≠ x + 1 → sameAt h (sN h (x + 1) 0) b := fun b hb => ⟨fun _ => rfl, fun _ => rfl, if_neg hb, fun _ => rfl, fun _ => rfl⟩
  by_cases hc0 : cap = 0
  · exact rep_L r (x := x) (y := x) h1.1 (by rw [hsz]; exact r.1.1) (Or.inl ⟨hsz, fun _ => rfl, Or.inl rfl⟩) (fun q _ hq _ => by
      by_cases hqe : q = ee
      · rw [hqe]; exact h0 hc0
      · exact hoth q hq hqe) (fun b hb _ => hsm b hb) (fun _ _ _ => rfl) a1 a3 a2 hcl (fun _ => hLR)
  · exact rep_L r (x := x) (y := ee) h1.1 (by rw [hsz]; exact r.1.1) (Or.inl ⟨hsz, fun _ => rfl, Or.inr ⟨(l13 (by omega)).2.2.1, (l13 (by omega)).2.2.2⟩⟩) (fun q _ h1 h2 => hoth q h1 h2) (fun b hb _ => hsm b hb) (fun _ _ _ => rfl) a1 a3 a2 hcl (fun _ => hLR)
end
