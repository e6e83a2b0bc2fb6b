/-! C: whether a member's name begins with a word -/
set_option maxRecDepth 20000
section
variable {ρ : Nat → Nat} {d : Nat} {Q : QT} {h h1 h' : ah} {C ho N M k n m r i j nm : Nat} {g : HG} {pf L : List Int} {hw : List (List Int)} {F : Int → ah → Prop} {E : Nat → ah → Prop}
theorem HCX.wd (H : HCX ρ h ho g N M hw) : ∃ by_ fr sz nx, WD h (ho + 4) 512 15360 hw by_ fr sz nx (ho + 9) := by
  obtain ⟨g', -, b, f, z, n, H⟩ := H
  exact ⟨b, f, z, n, H.2.2.2.2.2.2.2⟩
theorem r_beg (HX : HCX ρ h ho g N M hw) (kM : hK h (C + 32) = k_Machine) (hho : hR h f_Machine_host (C + 32) = ho) (s1 : hK h r = 191) (s2 : hl h r = pf.length) (s3 : ∀ i, i < pf.length → hA h r i = pf.getD i 0) (hn1 : nm < hw.length) (hn2 : hw.getD nm [] = L) (hpf : pf.length ≤ 100) (q1 : pfxB pf L = true → F 1 h) (q0 : ¬ pfxB pf L = true → F 0 h) : wpB PGm ρ (d + 11) m_Machine_begins 0 [(0, vR (C + 32)), (1, vI (nm : Int)), (2, vR r)] [] h (cI F E) := by
  obtain ⟨by_, fr, sz, nx, W⟩ := HX.wd
  have W0 := W
  obtain ⟨⟨a1, a2, a3, a4, a5, a6, a7⟩, ⟨b1, b2, b3, b4, b5⟩, ⟨c1, c2, c3, c4, c5⟩, -, ⟨g1, g2, g3, g4, g5, g6, g7⟩, -, H7, -⟩ := W
  obtain ⟨x1, x2, -, -⟩ := H7 nm hn1
  rw [hn2] at x2
  have hh := HX.hh
  have rw4 : hR h f_Host_words ho = ho + 4 := hh.2.2.2.2.1
  have kH : hK h ho = k_Host := hh.1
  have bn : 0 ≤ (nm : Int) ∧ (nm : Int) < (hl h sz : Int) := by omega
  -- the last letter
  have g77 : ∀ u : Int, (u = 0 ∨ u = 1) → (u = 1 → pf.length < L.length ∧ ∀ i, i < pf.length → L.getD i 0 = pf.getD i 0) → (u = 0 → ¬ pfxB pf L = true) → wpB PGm ρ (d + 11) m_Machine_begins 77 [(0, vR (C + 32)), (1, vI (nm : Int)), (3, vI (pf.length : Int)), (4, vI u)] [] h (cI F E) := fun u hu u1 u0 => by
    refine b_Machine_begins_77 (d := d + 10) ⟨fun z => q0 (u0 z), fun z => ⟨kM, ?_⟩⟩
    rw [hho, rw4]
    obtain ⟨l1, l2⟩ := u1 (by omega)
    have key : (65 ≤ L.getD pf.length 0 ∧ L.getD pf.length 0 ≤ 90) ↔ pfxB pf L = true := by
      unfold pfxB
      simp only [Bool.and_eq_true, decide_eq_true_eq]
      exact ⟨fun z => ⟨l1, l2, z⟩, fun z => z.2.2⟩
    refine ⟨kH, a1, c_byteAt W0 hn1 (by rw [hn2]; exact l1) ?_⟩
    rw [hn2]
    refine ⟨fun z => q0 (fun w => by have := key.mpr w; omega), fun z => ⟨kM, ?_⟩⟩
    rw [hho, rw4]
    refine ⟨kH, a1, c_byteAt W0 hn1 (by rw [hn2]; exact l1) ?_⟩
    rw [hn2]
    exact ⟨fun z2 => q0 (fun w => by have := key.mpr w; omega), fun z2 => q1 (key.mp ⟨z, z2⟩)⟩
  -- the letters of the word
  have lp : ∀ mm j, j + mm = pf.length → ∀ u : Int, (u = 0 ∨ u = 1) → (u = 1 → pf.length < L.length ∧ ∀ i, i < j → L.getD i 0 = pf.getD i 0) → (u = 0 → ¬ pfxB pf L = true) → wpB PGm ρ (d + 11) m_Machine_begins 31 [(0, vR (C + 32)), (1, vI (nm : Int)), (2, vR r), (3, vI (pf.length : Int)), (4, vI u), (5, vI (j : Int))] [] h (cI F E) := fun mm => by
    induction mm with
    | zero =>
      intro j hj u hu u1 u0
      have ej : j = pf.length := by omega
      subst ej
      exact b_Machine_begins_31 (d := d + 10) (by omega) ⟨fun _ => g77 u hu u1 u0, fun z => absurd z (by omega)⟩
    | succ mm ih =>
      intro j hj u hu u1 u0
      refine b_Machine_begins_31 (d := d + 10) (by omega) ⟨fun z => absurd z (by omega), fun _ => ⟨fun z => g77 u hu (fun w => by omega) u0, fun z => ⟨kM, ?_⟩⟩⟩
      obtain ⟨l1, l2⟩ := u1 (by omega)
      rw [hho, rw4]
      refine ⟨kH, a1, c_byteAt W0 hn1 (by rw [hn2]; omega) ⟨s1, ⟨s1, by omega, by rw [s2]; omega⟩, ?_⟩⟩
      rw [hn2, Int.toNat_natCast, s3 j (by omega)]
      refine ⟨fun w => b_Machine_begins_69 ?_, fun w => b_Machine_begins_69 ?_⟩
      · rw [w32_p1 (by omega)]
        refine ih (j + 1) (by omega) 0 (Or.inl rfl) (fun c => absurd c (by decide)) (fun _ c => w ?_)
        unfold pfxB at c
        simp only [Bool.and_eq_true, decide_eq_true_eq] at c
        exact c.2.1 j (by omega)
      · rw [w32_p1 (by omega)]
        refine ih (j + 1) (by omega) 1 (Or.inr rfl) (fun _ => ⟨l1, fun i hi => ?_⟩) (fun c => absurd c (by decide))
        by_cases e : i = j
        · rw [e]; exact w
        · exact l2 i (by omega)
  refine b_Machine_begins_0 (by omega) ⟨s1, s1, kM, ?_⟩
  rw [hho, rw4, b3, Int.toNat_natCast, x2, s2]
  refine ⟨kH, a1, ⟨by rw [c3]; decide, bn⟩, fun z => b_Machine_begins_26 (lp pf.length 0 (by omega) 0 (Or.inl rfl) (fun c => absurd c (by decide)) (fun _ c => ?_)), fun z => b_Machine_begins_26 (lp pf.length 0 (by omega) 1 (Or.inr rfl) (fun _ => ⟨by omega, fun i hi => by omega⟩) (fun c => absurd c (by decide)))⟩
  unfold pfxB at c
  simp only [Bool.and_eq_true, decide_eq_true_eq] at c
  omega
end
