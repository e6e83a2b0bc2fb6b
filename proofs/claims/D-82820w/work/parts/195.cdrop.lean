/-! C: values move down -/
set_option maxRecDepth 20000
def PWT (a : Nat) : List (Nat × Nat) := [(f_Thing_words + 1, a), (f_Thing_tags + 1, a)]
/-- the values from i on move down by one, as far as j -/
def SFT (h h' : ah) (a i j : Nat) : Prop := Fr [] (PWT a) 0 0 h h' ∧ (∀ x, hA h' (hR h f_Thing_words a) x = if i ≤ x ∧ x + 1 < j then hA h (hR h f_Thing_words a) (x + 1) else hA h (hR h f_Thing_words a) x) ∧ (∀ x, hA h' (hR h f_Thing_tags a) x = if i ≤ x ∧ x + 1 < j then hA h (hR h f_Thing_tags a) (x + 1) else hA h (hR h f_Thing_tags a) x)
section
variable {ρ : Nat → Nat} {d : Nat} {Q : QT} {Γ : GH} {h h1 h' h2 : ah} {C ho k n m o c x y z s f i j a N l : Nat} {X X' : X3} {Y : Y3} {S S' : SS} {v w : Int} {ep tk : Int} {b : Bool}
theorem SFT.wt (H : SFT h h' a i j) (ha : a < hz h) : hR h' f_Thing_words a = hR h f_Thing_words a ∧ hR h' f_Thing_tags a = hR h f_Thing_tags a := by
  have nw : ∀ f, [f_Thing_words, f_Thing_tags].elem f = true → ¬ okW [] (PWT a) f a := fun f hf => by
    have : f = f_Thing_words ∨ f = f_Thing_tags := by simpa using hf
    rintro (c | c)
    · cases c
    · unfold PWT at c; simp at c
      rcases this with rfl | rfl <;> (revert c; decide)
  exact ⟨H.1.R ha (by decide) (nw _ (by decide)), H.1.R ha (by decide) (nw _ (by decide))⟩
theorem SFT.oth (H : SFT h h' a i j) (ha : a < hz h) {f : Nat} (h5 : 5 ≤ f) (hf : [f_Thing_words + 1, f_Thing_tags + 1].elem f = false) : hI h' f x = hI h f x ∨ ¬ x < hz h := by
  by_cases q : x < hz h
  · refine Or.inl (H.1.I q h5 ?_)
    rintro (c | c)
    · cases c
    · unfold PWT at c; simp at c
      rcases c with c | c <;> (rw [c.1] at hf; exact absurd hf (by decide))
  · exact Or.inr q
/-- a value is set -/
theorem r_tset (G : AC h C) (ha : a < hz h) (ka : hK h a ∈ [244, 245]) (kw : hK h (hR h f_Thing_words a) = 2) (kt : hK h (hR h f_Thing_tags a) = 3) (lw : m < hl h (hR h f_Thing_words a)) (lt : hl h (hR h f_Thing_tags a) = hl h (hR h f_Thing_words a)) (hv : -128 ≤ v ∧ v ≤ 127) (q : Q (Sum.inl none) (cc (sA (sA h (hR h f_Thing_words a) m w) (hR h f_Thing_tags a) m v) C X Y)) : wpB PGm ρ d m_Thing_set 0 [(0, vR a), (1, vI (m : Int)), (2, vI v), (3, vL w)] [] (cc h C X Y) Q := by
  have hk4 : hK h a ∈ [244, 245, 246, 249] := by
    have : hK h a = 244 ∨ hK h a = 245 := by simpa using ka
    rcases this with e | e <;> rw [e] <;> decide
  have r1 : hR (cc h C X Y) f_Thing_words a = hR h f_Thing_words a := ccRo (by decide)
  have r2 : ∀ {H : ah}, hR (cc H C X Y) f_Thing_tags a = hR H f_Thing_tags a := ccRo (by decide)
  have s1 : sA (cc h C X Y) (hR h f_Thing_words a) m w = cc (sA h (hR h f_Thing_words a) m w) C X Y := cc_sAo G (by decide) ha
  have fw : Fr [] (PWT a) 0 0 h (sA h (hR h f_Thing_words a) m w) := Fr.wA (Or.inr (Or.inr (Or.inr ⟨f_Thing_words, a, ha, by unfold own; decide, rfl, Or.inr (Or.inr (by unfold PWT; simp))⟩))) Fr.r0
  have G1 : AC (sA h (hR h f_Thing_words a) m w) C := G.frm fw (by unfold DJ; rfl)
  have s2 : sA (cc (sA h (hR h f_Thing_words a) m w) C X Y) (hR (sA h (hR h f_Thing_words a) m w) f_Thing_tags a) m v = cc (sA (sA h (hR h f_Thing_words a) m w) (hR (sA h (hR h f_Thing_words a) m w) f_Thing_tags a) m v) C X Y := cc_sAo G1 (by decide) ha
  have b1 : 0 ≤ (m : Int) ∧ (m : Int) < (hl h (hR h f_Thing_words a) : Int) := ⟨Int.natCast_nonneg m, Int.ofNat_lt.mpr lw⟩
  refine b_Thing_set_0 ⟨hk4, ?_⟩
  rw [r1]
  refine ⟨⟨kw, b1⟩, ?_⟩
  show ((((hK (sA (cc h C X Y) (hR h f_Thing_words a) (m : Int).toNat w) (hR (sA (cc h C X Y) (hR h f_Thing_words a) (m : Int).toNat w) f_Thing_tags a) = 3 ∧ _) ∨ _) ∧ _) ∧ _)
  rw [Int.toNat_natCast, s1, r2]
  refine ⟨⟨Or.inl ⟨kt, hv⟩, ?_⟩, ?_⟩
  · show 0 ≤ (m : Int) ∧ (m : Int) < (hl h (hR h f_Thing_tags a) : Int)
    rw [lt]; exact b1
  · rw [s2]; exact q
theorem SFT.step (H : SFT h h' a i j) (ij : INJ h) (ha : a < hz h) (hi : i + 1 ≤ j) (nz : hR h f_Thing_words a ≠ 0 ∧ hR h f_Thing_tags a ≠ 0) (ne : hR h f_Thing_words a ≠ hR h f_Thing_tags a) : SFT h (sA (sA h' (hR h f_Thing_words a) (j - 1) (hA h (hR h f_Thing_words a) j)) (hR h f_Thing_tags a) (j - 1) (hA h (hR h f_Thing_tags a) j)) a i (j + 1) := by
  obtain ⟨fr, h1, h2⟩ := H
  refine ⟨Fr.wA (Or.inr (Or.inr (Or.inr ⟨f_Thing_tags, a, ha, by unfold own; decide, rfl, Or.inr (Or.inr (by unfold PWT; simp))⟩))) (Fr.wA (Or.inr (Or.inr (Or.inr ⟨f_Thing_words, a, ha, by unfold own; decide, rfl, Or.inr (Or.inr (by unfold PWT; simp))⟩))) fr), fun x => ?_, fun x => ?_⟩
  · rw [A_Ane ne]
    by_cases q : x = j - 1
    · subst q
      rw [A_A, if_pos ⟨by omega, by omega⟩]
      congr 1; omega
    · rw [A_Ane' q, h1]
      by_cases q2 : i ≤ x ∧ x + 1 < j
      · rw [if_pos q2, if_pos ⟨q2.1, by omega⟩]
      · rw [if_neg q2, if_neg (fun c => q2 ⟨c.1, by omega⟩)]
  · by_cases q : x = j - 1
    · subst q
      rw [A_A, if_pos ⟨by omega, by omega⟩]
      congr 1; omega
    · rw [A_Ane' q, A_Ane ne.symm, h2]
      by_cases q2 : i ≤ x ∧ x + 1 < j
      · rw [if_pos q2, if_pos ⟨q2.1, by omega⟩]
      · rw [if_neg q2, if_neg (fun c => q2 ⟨c.1, by omega⟩)]
/-- the loop -/
theorem r_d68 (G : AC h C) (F : FC h C) (ha : a < hz h) (ka : hK h a ∈ [244, 245]) (kw : hK h (hR h f_Thing_words a) = 2) (kt : hK h (hR h f_Thing_tags a) = 3) (nz : hR h f_Thing_words a ≠ 0 ∧ hR h f_Thing_tags a ≠ 0) (lw : n ≤ hl h (hR h f_Thing_words a)) (lt : hl h (hR h f_Thing_tags a) = hl h (hR h f_Thing_words a)) (sz : hI h f_Thing_size a = (n : Int)) (hn : n ≤ 60000) (hi : i < n) (tg : ∀ x, x < n → -128 ≤ hA h (hR h f_Thing_tags a) x ∧ hA h (hR h f_Thing_tags a) x ≤ 127) (ee : hI h f_Obj_epoch a = if b = true then ep else -1) (he : 0 ≤ ep ∧ ep ≤ 1000000) (et : X 50 f_Heap_ticks 0 = tk) (htk : 0 ≤ tk ∧ tk ≤ 1000000) (q : ∀ h', SFT h h' a i n → Q (Sum.inl (some (vI 1))) (cc (grwB (sI h' f_Thing_size a ((n - 1 : Nat) : Int)) a b ep tk) C (grwX X b tk) Y)) : ∀ m j h', j + m = n → i + 1 ≤ j → SFT h h' a i j → wpB PGm ρ (d + 1) m_Heap_drop 68 [(0, vR (C + 50)), (1, vR a), (4, vI (j : Int))] [] (cc h' C X Y) Q := by
  have ka4 : hK h a ∈ [244, 245, 246, 249] := by
    have : hK h a = 244 ∨ hK h a = 245 := by simpa using ka
    rcases this with e | e <;> rw [e] <;> decide
  have ne : hR h f_Thing_words a ≠ hR h f_Thing_tags a := fun c => by rw [c, kt] at kw; exact absurd kw (by decide)
  have wz : hR h f_Thing_words a < hz h := G.2.1.1 _ _ ha (by unfold own; decide)
  have tz : hR h f_Thing_tags a < hz h := G.2.1.1 _ _ ha (by unfold own; decide)
  intro m
  induction m with
  | zero =>
    intro j h' hj hij H
    have e : j = n := by omega
    subst e
    have g := q h' H
    have szh : hI h' f_Thing_size a = (j : Int) := by
      rcases H.oth ha (f := f_Thing_size) (x := a) (by decide) (by decide) with w | w
      · rw [w]; exact sz
      · exact absurd ha w
    have eph : hI (sI h' f_Thing_size a ((j - 1 : Nat) : Int)) f_Obj_epoch a = if b = true then ep else -1 := by
      rw [I_Ine (by decide)]
      rcases H.oth ha (f := f_Obj_epoch) (x := a) (by decide) (by decide) with w | w
      · rw [w]; exact ee
      · exact absurd ha w
    have frs : Fr [] ((f_Thing_size, a) :: PWT a) 0 0 h (sI h' f_Thing_size a ((j - 1 : Nat) : Int)) := Fr.wI (by decide) (Or.inr (by simp)) (H.1.mono (fun _ q => q) (fun q hq => List.mem_cons_of_mem _ hq))
    have F3 : FC (sI h' f_Thing_size a ((j - 1 : Nat) : Int)) C := F.frm G frs (by unfold DJ; rfl) ⟨by unfold PWT; simp, by unfold PWT; simp, by unfold PWT; simp⟩
    have kh : hK h' a = hK h a := H.1.K ha
    have x1 : 1 ≤ j ∧ j ≤ 2000000000 := by omega
    have gg : wpB PGm ρ d m_Heap_grew 0 [(0, vR (C + 50)), (1, vR a)] [] (cc (sI h' f_Thing_size a ((j - 1 : Nat) : Int)) C X Y) (cV (fun h10 => Q (Sum.inl (some (vI 1))) h10) (fun e13 h12 => hK h12 e13 ≠ 0 ∧ Q (Sum.inr e13) h12)) := r_grew F3 (by show hK h' a ∈ _; rw [kh]; exact ka) eph he et htk g
    refine b_Heap_drop_68 ⟨by rw [ccK, kh]; exact ka4, fun _ => ?_, fun z => ?_⟩
    · show hK (sI (cc h' C X Y) f_Thing_size a (w32 (hI (cc h' C X Y) f_Thing_size a - 1))) (C + 50) = k_Heap ∧ _
      rw [ccIo (by decide), szh, w32_m1 x1, cc_sIo (by decide)]
      exact ⟨F3.1.2.2.2.2.2.1, gg⟩
    · rw [ccIo (by decide), szh] at z
      exact absurd z (Int.lt_irrefl _)
  | succ m ih =>
    intro j h' hj hij H
    have hjn : j < n := by omega
    obtain ⟨e1, e2⟩ := H.wt ha
    have nx := ih (j + 1) _ (by omega) (by omega) (H.step G.2.1 ha hij nz ne)
    have szh : hI h' f_Thing_size a = (n : Int) := by
      rcases H.oth ha (f := f_Thing_size) (x := a) (by decide) (by decide) with w | w
      · rw [w]; exact sz
      · exact absurd ha w
    have G1 : AC h' C := G.frm H.1 (by unfold DJ; rfl)
    have kh : hK h' a = hK h a := H.1.K ha
    have kwh : hK h' (hR h f_Thing_words a) = 2 := by rw [H.1.K wz]; exact kw
    have kth : hK h' (hR h f_Thing_tags a) = 3 := by rw [H.1.K tz]; exact kt
    have lwh : hl h' (hR h f_Thing_words a) = hl h (hR h f_Thing_words a) := H.1.la wz (by rw [kw]; decide)
    have lth : hl h' (hR h f_Thing_tags a) = hl h (hR h f_Thing_tags a) := H.1.la tz (by rw [kt]; decide)
    have aw : hA (cc h' C X Y) (hR h f_Thing_words a) j = hA h (hR h f_Thing_words a) j := by
      rw [← e1, ccAo G1 (by decide) (H.1.lt ha), e1, H.2.1, if_neg (by omega)]
    have at' : hA (cc h' C X Y) (hR h f_Thing_tags a) j = hA h (hR h f_Thing_tags a) j := by
      rw [← e2, ccAo G1 (by decide) (H.1.lt ha), e2, H.2.2, if_neg (by omega)]
    have r1 : hR (cc h' C X Y) f_Thing_words a = hR h f_Thing_words a := by rw [ccRo (by decide)]; exact e1
    have r2 : hR (cc h' C X Y) f_Thing_tags a = hR h f_Thing_tags a := by rw [ccRo (by decide)]; exact e2
    have tgj := tg j hjn
    have bt : 0 ≤ (j : Int) ∧ (j : Int) < (hl h (hR h f_Thing_tags a) : Int) := by rw [lt]; omega
    have bw : 0 ≤ (j : Int) ∧ (j : Int) < (hl h (hR h f_Thing_words a) : Int) := by omega
    have lt1 : j - 1 < hl h' (hR h' f_Thing_words a) := by rw [e1, lwh]; omega
    have x1 : 1 ≤ j ∧ j ≤ 2000000000 := by omega
    have x2 : j ≤ 2000000000 := by omega
    have nle : ¬ (n : Int) ≤ (j : Int) := by omega
    rw [← w32_s x2] at nx
    have gs : ∀ E, wpB PGm ρ d m_Thing_set 0 [(0, vR a), (1, vI ((j - 1 : Nat) : Int)), (2, vI (hA h (hR h f_Thing_tags a) j)), (3, vL (hA h (hR h f_Thing_words a) j))] [] (cc h' C X Y) (cV (fun h15 => wpB PGm ρ (d + 1) m_Heap_drop 68 [(0, vR (C + 50)), (1, vR a), (4, vI (w32 ((j : Int) + 1)))] [] h15 Q) E) := fun E => by
      refine r_tset (m := j - 1) G1 (H.1.lt ha) (by rw [kh]; exact ka) (by rw [e1]; exact kwh) (by rw [e2]; exact kth) lt1 (by rw [e1, e2, lwh, lth]; exact lt) tgj ?_
      rw [e1, e2]; exact nx
    refine b_Heap_drop_68 ⟨by rw [ccK, kh]; exact ka4, fun z => ?_, fun _ => ?_⟩
    · rw [ccIo (by decide), szh] at z; exact absurd z nle
    · rw [r1, r2]
      refine ⟨⟨by rw [ccK, kth]; decide, by rw [ccl, lth]; exact bt⟩, ⟨by rw [ccK, kwh]; decide, by rw [ccl, lwh]; exact bw⟩, ?_⟩
      rw [Int.toNat_natCast, aw, at', w32_m1 x1]
      have : hK h a = 244 ∨ hK h a = 245 := by simpa using ka
      refine ⟨fun _ => gs _, fun z => ⟨fun _ => gs _, fun z2 => ?_⟩⟩
      rw [ccK, kh] at z z2
      rcases this with w | w
      · exact absurd w z
      · exact absurd w z2
end
