/-! C: a text is added and made -/
set_option maxRecDepth 20000
section
variable {ρ : Nat → Nat} {d : Nat} {Q : QT} {h h1 h' h2 : ah} {C k n m o c x y z s f i j p r a mn us l : Nat} {X X' X1 X2 : X3} {Y : Y3} {L : List Nat} {P : List (Nat × Nat)} {v w : Int} {bs cs : List Int}
theorem r_tadd (G : AC h C) (F : FC h C) (hd : 10 ≤ d) (e1 : X 46 f_Texts_many 0 = (mn : Int)) (e2 : X 46 f_Texts_used 0 = (us : Int)) (T : TGL h C mn us) (hm : mn < 16000) (hn : us + bs.length ≤ 265600) (ha : a + bs.length ≤ 500000) (hr : r < hz h) (kr : hK h r ∈ [3, 4, 13]) (lr : a + bs.length ≤ hl h r) (rg : ∀ i, i < bs.length → -128 ≤ bs.getD i 0 ∧ bs.getD i 0 ≤ 127) (src : ∀ h' X', TGX h C X h' X' mn us → ∀ X'', (∀ o f i, f ≠ f_Texts_bytes → X'' o f i = X' o f i) → ∀ i, i < bs.length → hA (cc h' C X'' Y) r (a + i) = bs.getD i 0) (q : ∀ h' X', TGX h C X h' X' mn us → TGL h' C (mn + 1) (us + bs.length) → Q (Sum.inl (some (vI (mn : Int)))) (cc h' C (taX X' mn us bs) Y)) : wpB PGm ρ (d + 1) m_Texts_add 0 [(0, vR (C + 46)), (1, vR r), (2, vI (a : Int)), (3, vI (bs.length : Int))] [] (cc h C X Y) Q := by
  have fin : ∀ h1 X1, TGX h C X h1 X1 mn us → TGL h1 C mn us → mn < hl h1 (hR h1 f_Texts_from (C + 46)) → wpB PGm ρ (d + 1) m_Texts_add 54 [(0, vR (C + 46)), (1, vR r), (2, vI (a : Int)), (3, vI (bs.length : Int))] [] (cc h1 C X1 Y) Q := by
    intro h1 X1 A B ml
    have kp : ∀ {h' X'}, TGX h C X h' X' mn us → X' 46 f_Texts_many 0 = (mn : Int) ∧ X' 46 f_Texts_used 0 = (us : Int) := fun {h' X'} A => ⟨by rw [A.2.2.2.2.1 _ _ _ (fun c => absurd c.2 (by decide))]; exact e1, by rw [A.2.2.2.2.1 _ _ _ (fun c => absurd c.2 (by decide))]; exact e2⟩
    refine r_t54 hd hn _ h1 X1 (Nat.lt_succ_self _) A.1 A.2.1 (kp A).2 B (fun h' X' A2 B2 e => ?_)
    have A3 := A.tr A2
    obtain ⟨b1, b2, b3, b4, b5⟩ := B2
    obtain ⟨z, s, fr⟩ := A3.2.2.1
    have k1 : hK h' r = hK h r := fr.K hr
    have k2 : hl h' r = hl h r := fr.la hr (by revert kr; simp; omega)
    have ml' : mn < hl h' (hR h' f_Texts_from (C + 46)) := by rw [e]; exact ml
    exact r_tcopy A3.1 A3.2.1 (kp A3).1 (kp A3).2 ml' b2 b3 ⟨by omega, by omega, by omega⟩ (by rw [k1]; exact kr) (by rw [k2]; exact lr) rg (src h' X' A3) (q h' X' A3 ⟨by omega, b2, b3, b4, b5⟩)
  have T' := T
  obtain ⟨t1, t2, t3, t4, t5⟩ := T'
  have hd1 : 10 ≤ d + 1 := by omega
  by_cases w : mn = hl h (hR h f_Texts_from (C + 46))
  · obtain ⟨n', n1, n2, n3, n4⟩ := lrg (ρ := ρ) (d := d) (l := mn) (m := 16000) (by omega) (Or.inl rfl)
    obtain ⟨h1, g1, T1, L1, L2⟩ := TGX.g1 (X := X) (Y := Y) (k := 1) (mn := mn) (us := us) G F (f := f_Texts_from) (by decide) w.symm (by omega) n1 (Or.inl (by omega)) (Or.inr (by decide)) (G.2.2.2.1 (f_Texts_from, 46, 1) (by decide)).2.symm
    have ls := L2 f_Texts_size (by decide) (by decide)
    have lb := L2 f_Texts_bytes (by decide) (by decide)
    obtain ⟨h2, g2, T2, M1, M2⟩ := TGX.g1 (l := mn) (X := trX X 46 f_Texts_from mn n') (Y := Y) (k := 1) (mn := mn) (us := us) T1.1 T1.2.1 (f := f_Texts_size) (by decide) (by rw [ls]; omega) (by omega) n1 (Or.inl (by omega)) (Or.inr (by decide)) (T1.1.2.2.2.1 (f_Texts_size, 46, 1) (by decide)).2.symm
    have mf := M2 f_Texts_from (by decide) (by decide)
    have mb := M2 f_Texts_bytes (by decide) (by decide)
    have g4 := fin _ _ (T1.tr T2) ⟨by rw [mf, L1]; omega, by rw [mf, L1, M1], by rw [mb, lb]; exact t3, by rw [mf, L1]; omega, by rw [mb, lb]; exact t5⟩ (by rw [mf, L1]; omega)
    have x1 : trX X 46 f_Texts_from mn n' 46 f_Texts_many 0 = (mn : Int) := by rw [T1.2.2.2.2.1 _ _ _ (fun c => absurd c.2 (by decide))]; exact e1
    have hk1 : hK (hcp (cc h C X Y) 1 (hR h f_Texts_from (C + 46)) n') (C + 46) = k_Texts := hcp_K (by have := G.1; show C + 46 < hz h; omega) (by have := F; unfold FC at this; simp only [ccK, this])
    have hk2 : hK (hcp (cc h1 C (trX X 46 f_Texts_from mn n') Y) 1 (hR h1 f_Texts_size (C + 46)) n') (C + 46) = k_Texts := hcp_K (by have := T1.1.1; show C + 46 < hz h1; omega) (by have := T1.2.1; unfold FC at this; simp only [ccK, this])
    have e : (hl h (hR h f_Texts_from (C + 46)) : Int) = (mn : Int) := by omega
    have G1 := T1.1
    have F1 := T1.2.1
    clear q fin src T t1 t2 t3 t4 t5 hn ha lr rg kr T1 T2 L1 L2 ls lb mf mb M1 M2 n1 n2
    have f2 := F
    unfold FC at f2
    refine b_Texts_add_0 hd1 ?_
    simp (decide := true) only [ccI, ccR, ccRo, ccK, ccl, KC G, f2, e1, e, true_and, and_true, not_true_eq_false, false_implies, forall_const]
    refine n4 _ _ ?_
    simp (decide := true) only [ccI, ccR, ccRo, ccK, ccl, ccz, KC G, f2, n3, cI, Int.toNat_natCast, g1, hk1, x1, true_and, and_true]
    refine n4 _ _ ?_
    have f3 := F1
    unfold FC at f3
    simp (decide := true) only [ccI, ccR, ccRo, ccK, ccl, ccz, KC G1, f3, n3, cI, Int.toNat_natCast, g2, hk2, x1, true_and, and_true]
    exact g4
  · have g := fin h X (TGX.rf G F) T (by omega)
    have ne : ((mn : Int) = (hl h (hR h f_Texts_from (C + 46)) : Int)) = False := eq_false (by omega)
    clear q fin src T t1 t2 t3 t4 t5 hn ha lr rg kr
    have f2 := F
    unfold FC at f2
    refine b_Texts_add_0 hd1 ?_
    simp (decide := true) only [ccI, ccR, ccRo, ccK, ccl, KC G, f2, e1, ne, true_and, and_true, not_false_eq_true, false_implies, forall_const]
    exact g
end
