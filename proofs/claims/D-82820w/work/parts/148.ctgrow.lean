/-! C: a text is added, with room -/
set_option maxRecDepth 20000
section
variable {ρ : Nat → Nat} {d : Nat} {Q : QT} {h h1 h' h2 : ah} {C k n m o c x y z s f i j p r a mn us l : Nat} {X X' X1 X2 : X3} {Y : Y3} {L : List Nat} {P : List (Nat × Nat)} {v w : Int} {bs cs : List Int}
theorem TGX.rf (G : AC h C) (F : FC h C) : TGX h C X h X mn us := ⟨G, F, ⟨0, 0, Fr.r0⟩, GRB.rf, fun _ _ _ _ => rfl, fun _ _ => ⟨rfl, rfl⟩, fun _ _ => rfl⟩
theorem TGX.tr (A : TGX h C X h1 X1 mn us) (B : TGX h1 C X1 h' X' mn us) : TGX h C X h' X' mn us := by
  obtain ⟨a1, a2, ⟨z, s, a3⟩, a4, a5, a6, a7⟩ := A
  obtain ⟨b1, b2, ⟨z', s', b3⟩, b4, b5, b6, b7⟩ := B
  exact ⟨b1, b2, ⟨_, _, a3.trans b3⟩, a4.tr b4, fun o f i q => by rw [b5 o f i q]; exact a5 o f i q, fun i q => ⟨by rw [(b6 i q).1]; exact (a6 i q).1, by rw [(b6 i q).2]; exact (a6 i q).2⟩, fun i q => by rw [b7 i q]; exact a7 i q⟩
/-- one of the three grows -/
theorem TGX.g1 (G : AC h C) (F : FC h C) (hf : LTG.elem f = true) (e : hl h (hR h f (C + 46)) = l) (h1 : 1 ≤ l) (h2 : 2 * l ≤ n) (hm : mn ≤ l ∨ f = f_Texts_bytes) (hu : us ≤ l ∨ f ≠ f_Texts_bytes) (hk : k = hK h (hR h f (C + 46))) : ∃ h2, sR (hcp (cc h C X Y) k (hR h f (C + 46)) n) f (C + 46) (hz h) = cc h2 C (trX X 46 f l n) Y ∧ TGX h C X h2 (trX X 46 f l n) mn us ∧ hl h2 (hR h2 f (C + 46)) = n ∧ ∀ g, LTG.elem g = true → g ≠ f → hl h2 (hR h2 g (C + 46)) = hl h (hR h g (C + 46)) := by
  have ff : f = f_Texts_from ∨ f = f_Texts_size ∨ f = f_Texts_bytes := by unfold LTG at hf; simpa using hf
  have iA : inA arC f 46 = true := by rcases ff with rfl | rfl | rfl <;> decide
  have nd : DJ LFC [] [(f, C + 46)] := by rcases ff with rfl | rfl | rfl <;> (unfold DJ; rfl)
  have f0 : f ≠ 0 := by rcases ff with rfl | rfl | rfl <;> decide
  have fl : (LCC.elem f || LPH.elem f) = false := by rcases ff with rfl | rfl | rfl <;> decide
  obtain ⟨h2', g1, G1, F1, R1, L1, Z1⟩ := cc_grow (X := X) (Y := Y) (f := f) (o := 46) (n := n) (k := k) G F iA (by decide) nd hk
  rw [e] at g1
  refine ⟨h2', g1, ⟨G1, F1, ⟨_, _, frP R1 f0 (M := LTG) (by simpa using hf)⟩, GRB.grow G F iA R1 fl L1 (by omega) (by omega) f0, fun o g i q => ?_, fun i hi => ⟨?_, ?_⟩, fun i hi => ?_⟩, L1, fun g hg ne => ?_⟩
  · exact trX_o (fun c => q ⟨c.1, by rw [c.2.1]; exact hf⟩) (by omega)
  · refine trX_o (fun c => ?_) (by omega)
    rcases hm with w | w
    · have := c.2.2; omega
    · rw [← c.2.1] at w; exact absurd w (by decide)
  · refine trX_o (fun c => ?_) (by omega)
    rcases hm with w | w
    · have := c.2.2; omega
    · rw [← c.2.1] at w; exact absurd w (by decide)
  · refine trX_o (fun c => ?_) (by omega)
    rcases hu with w | w
    · have := c.2.2; omega
    · exact w c.2.1.symm
  · have gg : g = f_Texts_from ∨ g = f_Texts_size ∨ g = f_Texts_bytes := by unfold LTG at hg; simpa using hg
    have iG : inA arC g 46 = true := by rcases gg with rfl | rfl | rfl <;> decide
    have lc : LCC.elem g = false := by rcases gg with rfl | rfl | rfl <;> decide
    exact (lenK G R1 (g := g) (o' := 46) iG lc (Or.inl ne) (by decide)).2
theorem lrg (hl : l = 256 ∨ l = 1024 ∨ l = 4096) (hb : m = 16000 ∨ m = 265600) : ∃ n : Nat, 2 * l ≤ n ∧ (n = 4096 ∨ n = m) ∧ (0 ≤ (n : Int) ∧ (n : Int) ≤ 67108864) ∧ ∀ (H : ah) (Q : QT), Q (Sum.inl (some (vI (n : Int)))) H → wpB PGm ρ d m_LT_larger 0 [(0, vI (l : Int)), (1, vI (m : Int))] [] H Q := by
  by_cases w : l < 4096
  · exact ⟨4096, by omega, Or.inl rfl, by omega, fun H Q q => b_LT_larger_0 ⟨fun z => by omega, fun _ => ⟨fun z => by omega, fun _ => q⟩⟩⟩
  · exact ⟨m, by omega, Or.inr rfl, by omega, fun H Q q => b_LT_larger_0 ⟨fun _ => q, fun z => by omega⟩⟩
/-- room for the bytes -/
theorem r_t54 (hd : 10 ≤ d) (hn : us + n ≤ 265600) {l2 : Int} : ∀ fu h X, 265600 - hl h (hR h f_Texts_bytes (C + 46)) < fu → AC h C → FC h C → X 46 f_Texts_used 0 = (us : Int) → TGL h C mn us → (∀ h' X', TGX h C X h' X' mn us → TGL h' C mn (us + n) → hl h' (hR h' f_Texts_from (C + 46)) = hl h (hR h f_Texts_from (C + 46)) → wpB PGm ρ (d + 1) m_Texts_add 95 [(0, vR (C + 46)), (1, vR r), (2, vI l2), (3, vI (n : Int)), (4, vI 0)] [] (cc h' C X' Y) Q) → wpB PGm ρ (d + 1) m_Texts_add 54 [(0, vR (C + 46)), (1, vR r), (2, vI l2), (3, vI (n : Int))] [] (cc h C X Y) Q := by
  intro fu
  induction fu with
  | zero => intro h X hf; omega
  | succ fu ih =>
    intro h X hfu G F e L q
    obtain ⟨l1, l2', l3, l4, l5⟩ := L
    have hd1 : 10 ≤ d + 1 := by omega
    have c1 : us + n ≤ 2000000000 := by omega
    by_cases fit : us + n ≤ hl h (hR h f_Texts_bytes (C + 46))
    · have g := q h X (TGX.rf G F) ⟨l1, l2', fit, l4, l5⟩ rfl
      have b1 : ((us + n : Nat) : Int) ≤ (hl h (hR h f_Texts_bytes (C + 46)) : Int) := by omega
      have w1 : w32 ((us : Int) + (n : Int)) = ((us + n : Nat) : Int) := w32_aa c1
      clear q ih hfu l1 l2' l3 l4 l5 fit hn
      have f2 := F
      unfold FC at f2
      refine b_Texts_add_54 hd1 ?_
      simp (decide := true) only [ccI, ccR, ccRo, ccK, ccl, KC G, f2, e, w1, true_and, and_true]
      exact ⟨fun _ => g, fun w => absurd b1 (Int.not_le.mpr w)⟩
    · generalize hl0 : hl h (hR h f_Texts_bytes (C + 46)) = l at *
      obtain ⟨n', n1, n2, n3, n4⟩ := lrg (ρ := ρ) (d := d) (l := l) (m := 265600) (by omega) (Or.inr rfl)
      obtain ⟨h1, g1, T1, L1, L2⟩ := TGX.g1 (X := X) (Y := Y) (k := 3) (mn := mn) (us := us) G F (f := f_Texts_bytes) (by decide) hl0 (by omega) n1 (Or.inr rfl) (Or.inl (by omega)) (G.2.2.2.1 (f_Texts_bytes, 46, 3) (by decide)).2.symm
      have lf := L2 f_Texts_from (by decide) (by decide)
      have ls := L2 f_Texts_size (by decide) (by decide)
      have g4 := ih h1 (trX X 46 f_Texts_bytes l n') (by rw [L1]; omega) T1.1 T1.2.1 (by rw [T1.2.2.2.2.1 _ _ _ (fun c => absurd c.2 (by decide))]; exact e) ⟨by rw [lf]; exact l1, by rw [lf, ls]; exact l2', by rw [L1]; omega, by rw [lf]; exact l4, by rw [L1]; omega⟩ (fun h' X' A B c => q h' X' (T1.tr A) B (by rw [c, lf]))
      have hk1 : hK (hcp (cc h C X Y) 3 (hR h f_Texts_bytes (C + 46)) n') (C + 46) = k_Texts := hcp_K (by have := G.1; show C + 46 < hz h; omega) (by have := F; unfold FC at this; simp only [ccK, this])
      have b1 : (l : Int) < ((us + n : Nat) : Int) := by omega
      have w1 : w32 ((us : Int) + (n : Int)) = ((us + n : Nat) : Int) := w32_aa c1
      clear q ih hfu l1 l2' l3 l4 l5 fit hn T1 L1 L2 lf ls n1 n2
      have f2 := F
      unfold FC at f2
      refine b_Texts_add_54 hd1 ?_
      simp (decide := true) only [ccI, ccR, ccRo, ccK, ccl, KC G, f2, e, w1, hl0, true_and, and_true]
      refine ⟨fun w => absurd b1 (Int.not_lt.mpr w), fun _ => n4 _ _ ?_⟩
      simp (decide := true) only [ccI, ccR, ccRo, ccK, ccl, ccz, KC G, f2, n3, cI, Int.toNat_natCast, g1, hk1, true_and, and_true]
      exact g4
end
