/-! a global is stored -/
set_option maxRecDepth 20000
def LG3 : List Nat := [f_Machine_globalWords, f_Machine_globalTags, f_Machine_isGlobal]
section
variable {ρ : Nat → Nat} {P : ah → Nat → Prop} {d : Nat} {Q : QT} {Γ Γ' : GH} {h h' : ah} {C ho : Nat} {X X' : X3} {Y Y' : Y3} {S S' : SS} {N t o n c r f i j k m z s l a : Nat} {ty v x y op b : Int}
/-- another array of the machine keeps its length when one grows -/
theorem lenK {h h1 : ah} {f g o o' z s : Nat} (G : AC h C) (R : Fr LCC [(f, C + o)] z s h h1) (e : inA arC g o' = true) (lc : LCC.elem g = false) (ne : g ≠ f ∨ o' ≠ o) (ho' : o' ≤ 101) : hR h1 g (C + o') = hR h g (C + o') ∧ hl h1 (hR h1 g (C + o')) = hl h (hR h g (C + o')) := by
  obtain ⟨k, m⟩ := inA_mem e
  have o1 := ownA' m
  simp only at o1
  have g1 := G.1
  have k1 : arC.all (fun q => Nat.blt q.2.2 100) = true := by decide
  have k2 := List.all_eq_true.mp k1 _ m
  have nw : ¬ okW LCC [(f, C + o)] g (C + o') := by
    rintro (q | q)
    · have : LCC.elem g = true := by simpa using q
      rw [this] at lc; cases lc
    · simp at q
      rcases ne with w | w
      · exact w q.1
      · exact w (by omega)
  have eR := R.R (x := C + o') (by omega) (own5 o1.1) nw
  refine ⟨eR, ?_⟩
  rw [eR, R.la (G.2.1.1 _ _ (by omega) o1.1)]
  rw [(G.2.2.2.1 _ m).2]
  exact Nat.le_of_ble_eq_true k2
theorem frP {L M : List Nat} {f x : Nat} (R : Fr L [(f, x)] z s h h') (h0 : f ≠ 0) (hf : f ∈ M) : Fr (L ++ M) [] z s h h' := by
  refine ⟨R.1, R.2.1, fun g a ha h5 hg => R.2.2.1 g a ha h5 (fun c => hg ?_), fun x h1 hx hp hm => R.2.2.2.1 x h1 hx (by simp; intro c; exact absurd c.symm h0) (fun g a ha hg e c => hm g a ha hg e ?_), R.2.2.2.2⟩
  · rcases c with c | c
    · exact Or.inl (List.mem_append_left _ c)
    · simp at c; exact Or.inl (List.mem_append_right _ (by rw [c.1]; exact hf))
  · rcases c with c | c
    · rcases c with c | c
      · exact Or.inl (Or.inl (List.mem_append_left _ c))
      · simp at c; exact Or.inl (Or.inl (List.mem_append_right _ (by rw [c.1]; exact hf)))
    · rcases c with c | c
      · exact Or.inr (Or.inl (List.mem_append_left _ c))
      · simp at c; exact Or.inr (Or.inl (List.mem_append_right _ (by rw [c.1]; exact hf)))
theorem hcp_K {hh : ah} {x m kk y r : Nat} (q : y < hz hh) (w : hK hh y = r) : hK (hcp hh kk x m) y = r := by
  show (if y = hz hh then kk else hK hh y) = r
  rw [if_neg (by omega)]; exact w
def stX (X : X3) (a : Nat) (ty v : Int) : X3 := u3 (u3 (u3 X 32 f_Machine_globalTags a ty) 32 f_Machine_globalWords a v) 32 f_Machine_isGlobal a 1
theorem r_storeGlobal (ht : isT o) (hc : 1 ≤ c ∧ c ≤ 200) (hv : -128 ≤ ty ∧ ty ≤ 127) (ha : a < 4000) : ∀ fu l h X, a + 1 - l < fu → AC h C → FC h C → XF X Y C o n c → hl h (hR h f_Machine_isGlobal (C + 32)) = l → hl h (hR h f_Machine_globalTags (C + 32)) = l → hl h (hR h f_Machine_globalWords (C + 32)) = l → 64 ≤ l → l ≤ 8192 → ∃ h' Xg l' z s, AC h' C ∧ FC h' C ∧ Fr (LCC ++ LG3) [] z s h h' ∧ (hl h' (hR h' f_Machine_isGlobal (C + 32)) = l' ∧ hl h' (hR h' f_Machine_globalTags (C + 32)) = l' ∧ hl h' (hR h' f_Machine_globalWords (C + 32)) = l' ∧ a < l' ∧ l ≤ l' ∧ l' ≤ 8192) ∧ (∀ o' g i, ¬ (o' = 32 ∧ LG3.elem g = true ∧ l ≤ i) → Xg o' g i = X o' g i) ∧ (∀ i, l ≤ i → i < l' → Xg 32 f_Machine_isGlobal i = 0) ∧ (∀ g o', inA arC g o' = true → o' ≤ 101 → LCC.elem g = false → LG3.elem g = false → hl h' (hR h' g (C + o')) = hl h (hR h g (C + o'))) ∧ GRB h C h' ∧ ∀ (d : Nat) (Q : QT), 10 ≤ d → Q (Sum.inl none) (cc h' C (goX (stX Xg a ty v) o c) Y) → wpB PGm ρ (d + 1) m_Machine_storeGlobal 0 [(0, vR (C + 32)), (1, vI (a : Int)), (2, vI ty), (3, vL v)] [] (cc h C X Y) Q := by
  intro fu
  induction fu with
  | zero => intro l h X hf; omega
  | succ fu ih =>
    intro l h X hfu G F e0 l1 l2 l3 l4 l5
    have e00 := e0
    obtain ⟨k1, k2, k3⟩ := e0
    by_cases hal : a < l
    · refine ⟨h, X, l, 0, 0, G, F, Fr.r0, ⟨l1, l2, l3, hal, Nat.le_refl _, l5⟩, fun _ _ _ _ => rfl, fun i z1 z2 => by omega, fun _ _ _ _ _ _ => rfl, GRB.rf, fun d Q hd q => ?_⟩
      have g : wpB PGm ρ d m_Machine_go 0 [(0, vR (C + 32))] [] (cc h C (stX X a ty v) Y) (cV (fun h12 => Q (Sum.inl none) h12) (fun e h' => ¬ hK h' e = 0 ∧ Q (Sum.inr e) h')) := by
        refine r_go (n := n) (c := c) G F ht ⟨k1, ?_, ?_⟩ hc q
        · unfold stX; rw [u3_f (by decide), u3_f (by decide), u3_f (by decide)]; exact k2
        · unfold stX; rw [u3_f (by decide), u3_f (by decide), u3_f (by decide)]; exact k3
      have b0 : 0 ≤ (a : Int) ∧ (a : Int) < (l : Int) := by omega
      have hd1 : 10 ≤ d + 1 := by omega
      clear ih q
      have f1 := F.t ht
      unfold FCt at f1
      have f2 := F
      unfold FC at f2
      refine b_Machine_storeGlobal_0 hd1 ?_
      simp (decide := true) (disch := first | decide | omega) only [ccI, ccR, ccIt ht, ccRo, ccK, ccl, ccA G, ccAt G ht, ccB G, ccBt G ht, cc_sI, cc_sR, cc_sIt ht, cc_sA G, cc_sAt G ht, cc_sB G, cc_sBt G ht, f1, f2, u3_f, u3_s, KCt G ht, KC G, w32_aa, w32_ss, w32_p1, w32_m1, Int.toNat_natCast, true_and, and_true, false_and, and_false, or_false, false_or, ne_eq, not_false_eq_true, forall_const, implies_true, not_true_eq_false, false_implies, l1, l2, l3]
      exact ⟨fun z => ⟨⟨hv, b0⟩, b0, b0, g⟩, fun z => absurd b0.2 (Int.not_lt.mpr z)⟩
    · -- the rows grow
      obtain ⟨h1, g1, G1, F1, R1, L1', Z1⟩ := cc_grow (X := X) (Y := Y) (f := f_Machine_globalWords) (o := 32) (n := 2 * l) (k := 2) G F (by decide) (by decide) (by unfold DJ; rfl) (KC G).2.2.1.symm
      rw [l3] at g1
      obtain ⟨h2, g2, G2, F2, R2, L2', Z2⟩ := cc_grow (X := trX X 32 f_Machine_globalWords l (2 * l)) (Y := Y) (f := f_Machine_globalTags) (o := 32) (n := 2 * l) (k := 3) G1 F1 (by decide) (by decide) (by unfold DJ; rfl) (KC G1).2.2.2.1.symm
      rw [(lenK G R1 (g := f_Machine_globalTags) (o' := 32) (by decide) (by decide) (Or.inl (by decide)) (by decide)).2, l2] at g2
      obtain ⟨h3, g3, G3, F3, R3, L3', Z3⟩ := cc_grow (X := trX (trX X 32 f_Machine_globalWords l (2 * l)) 32 f_Machine_globalTags l (2 * l)) (Y := Y) (f := f_Machine_isGlobal) (o := 32) (n := 2 * l) (k := 4) G2 F2 (by decide) (by decide) (by unfold DJ; rfl) (KC G2).2.2.2.2.1.symm
      rw [(lenK G1 R2 (g := f_Machine_isGlobal) (o' := 32) (by decide) (by decide) (Or.inl (by decide)) (by decide)).2, (lenK G R1 (g := f_Machine_isGlobal) (o' := 32) (by decide) (by decide) (Or.inl (by decide)) (by decide)).2, l1] at g3
      have c1 : hl h1 (hR h1 f_Machine_globalTags (C + 32)) = l := by rw [(lenK G R1 (g := f_Machine_globalTags) (o' := 32) (by decide) (by decide) (Or.inl (by decide)) (by decide)).2]; exact l2
      have c2 : hl h2 (hR h2 f_Machine_isGlobal (C + 32)) = l := by rw [(lenK G1 R2 (g := f_Machine_isGlobal) (o' := 32) (by decide) (by decide) (Or.inl (by decide)) (by decide)).2, (lenK G R1 (g := f_Machine_isGlobal) (o' := 32) (by decide) (by decide) (Or.inl (by decide)) (by decide)).2]; exact l1
      have m1 : hl h3 (hR h3 f_Machine_globalWords (C + 32)) = 2 * l := by
        rw [(lenK G2 R3 (g := f_Machine_globalWords) (o' := 32) (by decide) (by decide) (Or.inl (by decide)) (by decide)).2, (lenK G1 R2 (g := f_Machine_globalWords) (o' := 32) (by decide) (by decide) (Or.inl (by decide)) (by decide)).2]; exact L1'
      have m2 : hl h3 (hR h3 f_Machine_globalTags (C + 32)) = 2 * l := by
        rw [(lenK G2 R3 (g := f_Machine_globalTags) (o' := 32) (by decide) (by decide) (Or.inl (by decide)) (by decide)).2]; exact L2'
      have mo : ∀ o' g i, ¬ (o' = 32 ∧ LG3.elem g = true ∧ l ≤ i) → trX (trX (trX X 32 f_Machine_globalWords l (2 * l)) 32 f_Machine_globalTags l (2 * l)) 32 f_Machine_isGlobal l (2 * l) o' g i = X o' g i := by
        intro o' g i hq
        rw [trX_o (fun z => hq ⟨z.1, by rw [z.2.1]; decide, z.2.2⟩) (by omega), trX_o (fun z => hq ⟨z.1, by rw [z.2.1]; decide, z.2.2⟩) (by omega), trX_o (fun z => hq ⟨z.1, by rw [z.2.1]; decide, z.2.2⟩) (by omega)]
      have mz : ∀ i, l ≤ i → trX (trX (trX X 32 f_Machine_globalWords l (2 * l)) 32 f_Machine_globalTags l (2 * l)) 32 f_Machine_isGlobal l (2 * l) 32 f_Machine_isGlobal i = 0 := by
        intro i hi
        show (if (32 : Nat) = 32 ∧ f_Machine_isGlobal = f_Machine_isGlobal then _ else _) = (0 : Int)
        rw [if_pos ⟨rfl, rfl⟩, if_neg (by omega)]
      obtain ⟨h', Xg, l', z, s, i1, i2, i3, ⟨i4, i5, i6, i7, i8, i9⟩, i10, i11, i12, i14, i13⟩ := ih (2 * l) h3 (trX (trX (trX X 32 f_Machine_globalWords l (2 * l)) 32 f_Machine_globalTags l (2 * l)) 32 f_Machine_isGlobal l (2 * l)) (by omega) G3 F3 ⟨k1, by rw [mo _ _ _ (fun z => absurd z.2.1 (by decide))]; exact k2, by rw [mo _ _ _ (fun z => absurd z.2.1 (by decide))]; exact k3⟩ L3' m2 m1 (by omega) (by omega)
      refine ⟨h', Xg, l', _, _, i1, i2, (((frP R1 (by decide) (M := LG3) (by decide)).trans (frP R2 (by decide) (M := LG3) (by decide))).trans (frP R3 (by decide) (M := LG3) (by decide))).trans i3, ⟨i4, i5, i6, i7, by omega, i9⟩, fun o' g i hq => ?_, fun i z1 z2 => ?_, fun g o' hg ho' lc lg => ?_, (((GRB.grow G F (by decide) R1 (by decide) L1' (by omega) (by omega) (by decide)).tr (GRB.grow G1 F1 (by decide) R2 (by decide) L2' (by rw [c1]; omega) (by rw [c1]; omega) (by decide))).tr (GRB.grow G2 F2 (by decide) R3 (by decide) L3' (by rw [c2]; omega) (by rw [c2]; omega) (by decide))).tr i14, fun d Q hd q => ?_⟩
      · rw [i10 o' g i (fun w => hq ⟨w.1, w.2.1, by omega⟩)]; exact mo o' g i hq
      · by_cases w : 2 * l ≤ i
        · exact i11 i w z2
        · rw [i10 _ _ _ (fun y => w y.2.2)]; exact mz i z1
      · have nn : ∀ f, LG3.elem f = true → g ≠ f := by rintro f hf rfl; rw [hf] at lg; cases lg
        rw [i12 g o' hg ho' lc lg, (lenK G2 R3 hg lc (Or.inl (nn _ (by decide))) ho').2, (lenK G1 R2 hg lc (Or.inl (nn _ (by decide))) ho').2, (lenK G R1 hg lc (Or.inl (nn _ (by decide))) ho').2]
      · have g4 := i13 d Q hd q
        have w1 : w32 (2 * (l : Int)) = ((2 * l : Nat) : Int) := by rw [w32_of (by omega) (by omega)]; omega
        have hk1 : hK (hcp (cc h C X Y) 2 (hR h f_Machine_globalWords (C + 32)) (2 * l)) (C + 32) = k_Machine := hcp_K (by have := G.1; show C + 32 < hz h; omega) F.1.1
        have hk2 : hK (hcp (cc h1 C (trX X 32 f_Machine_globalWords l (2 * l)) Y) 3 (hR h1 f_Machine_globalTags (C + 32)) (2 * l)) (C + 32) = k_Machine := hcp_K (by have := G1.1; show C + 32 < hz h1; omega) F1.1.1
        have hk3 : hK (hcp (cc h2 C (trX (trX X 32 f_Machine_globalWords l (2 * l)) 32 f_Machine_globalTags l (2 * l)) Y) 4 (hR h2 f_Machine_isGlobal (C + 32)) (2 * l)) (C + 32) = k_Machine := hcp_K (by have := G2.1; show C + 32 < hz h2; omega) F2.1.1
        have b1 : (0 ≤ ((2 * l : Nat) : Int) ∧ ((2 * l : Nat) : Int) ≤ 67108864) := by omega
        clear ih i13 mo mz m1 m2 q R1 R2 R3 i10 i11 i12 i3 L1' L2' L3'
        have hd1 : 10 ≤ d + 1 := by omega
        have nl : (l : Int) ≤ (a : Int) := by omega
        clear hfu l4 l5 hal i7 i8 i9 Z1 Z2 Z3
        have kc1 := KC G1
        have kc2 := KC G2
        have f1 := F.t ht
        unfold FCt at f1
        have f2 := F
        unfold FC at f2
        refine b_Machine_storeGlobal_0 hd1 ?_
        simp (decide := true) (disch := first | decide | omega) only [ccI, ccR, ccIt ht, ccRo, ccK, ccl, ccA G, ccAt G ht, ccB G, ccBt G ht, cc_sI, cc_sR, cc_sIt ht, cc_sA G, cc_sAt G ht, cc_sB G, cc_sBt G ht, f1, f2, u3_f, u3_s, KCt G ht, KC G, w32_aa, w32_ss, w32_p1, w32_m1, Int.toNat_natCast, true_and, and_true, false_and, and_false, or_false, false_or, ne_eq, not_false_eq_true, forall_const, implies_true, not_true_eq_false, false_implies, l1, w1, ccz, g1, g2, g3, hk1, hk2, hk3, kc1, kc2, b1]
        exact ⟨fun z => absurd z (Int.not_lt.mpr nl), fun _ => g4⟩
end
