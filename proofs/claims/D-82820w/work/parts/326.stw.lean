/-! C's host: a static value is written -/
set_option maxRecDepth 20000
def PSV (a : Nat) : List (Nat × Nat) := [(f_HostType_tags + 1, a), (f_HostType_words + 1, a)]
/-- a static value of class address a -/
def stwH (h : ah) (a j : Nat) (x y : Int) : ah := sA (sA h (hR h f_HostType_tags a) j x) (hR h f_HostType_words a) j y
section
variable {ρ : Nat → Nat} {d : Nat} {Q : QT} {Γ Γ' : GH} {h h' h1 h2 H : ah} {C ho k i j N M a z s r f o c t n m m0 rr l0 l2 : Nat} {g : HG} {v w hd ty κ x y : Int} {S S' S1 : SS} {X X' X1 X2 : X3} {Y Y' Y1 Y2 : Y3} {hw : List (List Int)}
theorem HCX.stw (H0 : HCX ρ h ho g N M hw) (ij : INJ h) (hc : c < N) (n1 : hR h f_HostType_words (hB h (ho + 2) c) ≠ 0) (n2 : hR h f_HostType_tags (hB h (ho + 2) c) ≠ 0) (hj : j < (g.1 4 c).toNat) (dis : ∀ c' : Nat, c' < N → ∀ k : Nat, (k : Int) < g.1 4 c' → (g.1 3 c').toNat + k = (g.1 3 c).toNat + j → c' = c ∧ k = j) : HCX ρ (stwH h (hB h (ho + 2) c) j x y) ho g N M hw := by
  have tad := H0.tad
  obtain ⟨g', ⟨q1, q2⟩, b_, f_, z_, n_, ⟨hs, hl1, hl2, hn6, hm4, hty, hme, hwd⟩⟩ := H0
  have ad := (hty c hc).1.2.1
  have oW : own f_HostType_words := by unfold own; decide
  have oT : own f_HostType_tags := by unfold own; decide
  have ne : hR h f_HostType_words (hB h (ho + 2) c) ≠ hR h f_HostType_tags (hB h (ho + 2) c) := fun e => absurd (ij.2.1 _ _ _ _ ad ad oW oT e n1).1 (by decide)
  have fr : Fr [] (PSV (hB h (ho + 2) c)) 0 0 h (stwH h (hB h (ho + 2) c) j x y) := by
    unfold stwH
    exact Fr.wA (Or.inr (Or.inr (Or.inr ⟨f_HostType_words, _, ad, oW, rfl, Or.inr (Or.inr (by simp [PSV]))⟩))) (Fr.wA (Or.inr (Or.inr (Or.inr ⟨f_HostType_tags, _, ad, oT, rfl, Or.inr (Or.inr (by simp [PSV]))⟩))) Fr.r0)
  have p0 : ∀ y, (0, y) ∉ PSV (hB h (ho + 2) c) := fun y c => by unfold PSV at c; simp at c
  have nP : ∀ f a, f ≠ f_HostType_tags + 1 → f ≠ f_HostType_words + 1 → ¬ okW [] (PSV (hB h (ho + 2) c)) f a := fun f a w1 w2 => by
    rintro (e | e)
    · cases e
    · unfold PSV at e; simp at e
      rcases e with e | e
      · exact w1 e.1
      · exact w2 e.1
  have e0 : ∀ f i, f ≠ 11 → f ≠ 12 → (fun f i => if f = 11 ∧ i = (g.1 3 c).toNat + j then y else if f = 12 ∧ i = (g.1 3 c).toNat + j then x else g'.1 f i) f i = g'.1 f i := fun f i w1 w2 => by
    show (if f = 11 ∧ i = _ then y else if f = 12 ∧ i = _ then x else g'.1 f i) = _
    rw [if_neg (fun e => w1 e.1), if_neg (fun e => w2 e.1)]
  have w3 : ∀ i, (fun f i => if f = 11 ∧ i = (g.1 3 c).toNat + j then y else if f = 12 ∧ i = (g.1 3 c).toNat + j then x else g'.1 f i) 11 i = if i = (g.1 3 c).toNat + j then y else g'.1 11 i := fun i => by
    show (if 11 = 11 ∧ i = _ then y else if 11 = 12 ∧ i = _ then x else g'.1 11 i) = _
    by_cases w : i = (g.1 3 c).toNat + j
    · rw [if_pos ⟨rfl, w⟩, if_pos w]
    · rw [if_neg (fun e => w e.2), if_neg (fun e => w e.2), if_neg w]
  have w4 : ∀ i, (fun f i => if f = 11 ∧ i = (g.1 3 c).toNat + j then y else if f = 12 ∧ i = (g.1 3 c).toNat + j then x else g'.1 f i) 12 i = if i = (g.1 3 c).toNat + j then x else g'.1 12 i := fun i => by
    show (if 12 = 11 ∧ i = _ then y else if 12 = 12 ∧ i = _ then x else g'.1 12 i) = _
    by_cases w : i = (g.1 3 c).toNat + j
    · rw [if_neg (fun e => absurd e.1 (by decide)), if_pos ⟨rfl, w⟩, if_pos w]
    · rw [if_neg (fun e => w e.2), if_neg (fun e => w e.2), if_neg w]
  have rA : ∀ (a' : Nat) i', a' ≠ hR h f_HostType_words (hB h (ho + 2) c) → a' ≠ hR h f_HostType_tags (hB h (ho + 2) c) → hA (stwH h (hB h (ho + 2) c) j x y) a' i' = hA h a' i' := fun a' i' u1 u2 => by
    unfold stwH
    rw [A_Ane u1, A_Ane u2]
  have rW : ∀ i', hA (stwH h (hB h (ho + 2) c) j x y) (hR h f_HostType_words (hB h (ho + 2) c)) i' = if i' = j then y else hA h (hR h f_HostType_words (hB h (ho + 2) c)) i' := fun i' => by
    unfold stwH
    by_cases w : i' = j
    · rw [w, A_A, if_pos rfl]
    · rw [A_Ane' w, A_Ane ne, if_neg w]
  have rT : ∀ i', hA (stwH h (hB h (ho + 2) c) j x y) (hR h f_HostType_tags (hB h (ho + 2) c)) i' = if i' = j then x else hA h (hR h f_HostType_tags (hB h (ho + 2) c)) i' := fun i' => by
    unfold stwH
    rw [A_Ane (fun e => ne e.symm)]
    by_cases w : i' = j
    · rw [w, A_A, if_pos rfl]
    · rw [A_Ane' w, if_neg w]
  generalize eG : (fun f i => if f = 11 ∧ i = (g.1 3 c).toNat + j then y else if f = 12 ∧ i = (g.1 3 c).toNat + j then x else g'.1 f i) = G1 at *
  refine ⟨(G1, g'.2), ⟨fun f i u1 u2 => ?_, q2⟩, b_, f_, z_, n_, hs.frm fr (fun f hf => nP f ho (by rintro rfl; revert hf; decide) (by rintro rfl; revert hf; decide)) (p0 _), hl1, hl2, hn6, hm4, fun i hi => ?_, fun k hk => ?_, hwd.frm fr (fun f hf => ?_) ?_⟩
  · show G1 f i = g.1 f i
    rw [e0 f i u1 u2]; exact q1 f i u1 u2
  · obtain ⟨t1, t2, t3, t4, t5, t6, t7, t8, t9, t10, ⟨t11, t12, t13, t14⟩, t15⟩ := hty i hi
    have adi := t1.2.1
    have oO : own f_HostType_over := by unfold own; decide
    have d1 : hR h f_HostType_over (hB h (ho + 2) i) ≠ hR h f_HostType_words (hB h (ho + 2) c) := fun e => absurd (ij.2.1 _ _ _ _ adi ad oO oW e t11).1 (by decide)
    have d2 : hR h f_HostType_over (hB h (ho + 2) i) ≠ hR h f_HostType_tags (hB h (ho + 2) c) := fun e => absurd (ij.2.1 _ _ _ _ adi ad oO oT e t11).1 (by decide)
    have k1 := e0 1 i (by decide) (by decide)
    have k2 := e0 2 i (by decide) (by decide)
    have k3 := e0 3 i (by decide) (by decide)
    have k4 := e0 4 i (by decide) (by decide)
    have k5 := e0 10 i (by decide) (by decide)
    have g3 : g'.1 3 i = g.1 3 i := q1 3 i (by decide) (by decide)
    have g4 : g'.1 4 i = g.1 4 i := q1 4 i (by decide) (by decide)
    unfold TYO SVA
    dsimp only
    rw [k1, k2, k3, k4, k5]
    refine ⟨t1, t2, t3, t4, t5, t6, t7, t8, t9, t10, ⟨t11, t12, t13, fun j' hj' => ?_⟩, ?_⟩
    · rw [e0 (100 + i) j' (by omega) (by omega)]
      have := t14 j' hj'
      rw [← rA _ j' d1 d2] at this
      exact this
    · rcases t15 with u | ⟨u1, u2, u3, u4, u5, u6, u7, u8⟩
      · exact Or.inl u
      · refine Or.inr ⟨u1, u2, u3, u4, u5, u6, u7, fun k' hk' => ?_⟩
        obtain ⟨v1, v2⟩ := u8 k' hk'
        rw [w3, w4]
        by_cases wc : i = c
        · subst wc
          show hA (stwH h (hB h (ho + 2) i) j x y) (hR h f_HostType_words (hB h (ho + 2) i)) k' = _ ∧ hA (stwH h (hB h (ho + 2) i) j x y) (hR h f_HostType_tags (hB h (ho + 2) i)) k' = _
          rw [rW, rT, g3]
          rw [g3] at v1 v2
          by_cases wk : k' = j
          · rw [if_pos wk, if_pos wk, if_pos (by omega), if_pos (by omega)]; exact ⟨rfl, rfl⟩
          · rw [if_neg wk, if_neg wk, if_neg (by omega), if_neg (by omega)]; exact ⟨v1, v2⟩
        · have nn : hB h (ho + 2) i ≠ hB h (ho + 2) c := fun e => wc (tad i c hi hc e)
          have s1 : hR h f_HostType_words (hB h (ho + 2) i) ≠ hR h f_HostType_words (hB h (ho + 2) c) := fun e => nn (ij.2.1 _ _ _ _ adi ad oW oW e u2).2
          have s2 : hR h f_HostType_words (hB h (ho + 2) i) ≠ hR h f_HostType_tags (hB h (ho + 2) c) := fun e => absurd (ij.2.1 _ _ _ _ adi ad oW oT e u2).1 (by decide)
          have s3 : hR h f_HostType_tags (hB h (ho + 2) i) ≠ hR h f_HostType_words (hB h (ho + 2) c) := fun e => absurd (ij.2.1 _ _ _ _ adi ad oT oW e u3).1 (by decide)
          have s4 : hR h f_HostType_tags (hB h (ho + 2) i) ≠ hR h f_HostType_tags (hB h (ho + 2) c) := fun e => nn (ij.2.1 _ _ _ _ adi ad oT oT e u3).2
          have ni : ¬ (g'.1 3 i).toNat + k' = (g.1 3 c).toNat + j := fun e => wc (dis i hi k' (by omega) (by rw [← g3]; exact e)).1
          rw [if_neg ni, if_neg ni]
          show hA (stwH h (hB h (ho + 2) c) j x y) (hR h f_HostType_words (hB h (ho + 2) i)) k' = _ ∧ hA (stwH h (hB h (ho + 2) c) j x y) (hR h f_HostType_tags (hB h (ho + 2) i)) k' = _
          rw [rA _ _ s1 s2, rA _ _ s3 s4]
          exact ⟨v1, v2⟩
  · have := (hme k hk).frm fr (fun f hf => nP f _ (by rintro rfl; revert hf; decide) (by rintro rfl; revert hf; decide)) p0 (fun _ _ => rfl)
    unfold MEO at this ⊢
    dsimp only
    rw [e0 5 k (by decide) (by decide), e0 6 k (by decide) (by decide), e0 7 k (by decide) (by decide), e0 8 k (by decide) (by decide), e0 9 k (by decide) (by decide)]
    exact this
  · intro cc'
    have hf' : f = f_Words_most ∨ f = f_Words_mostBytes ∨ f = f_Words_many ∨ f = f_Words_used ∨ f = f_Words_bytes ∨ f = f_Words_from ∨ f = f_Words_size ∨ f = f_Words_next ∨ f = f_Words_heads := by simpa using hf
    rcases hf' with rfl | rfl | rfl | rfl | rfl | rfl | rfl | rfl | rfl <;> exact cc'.elim (nP _ _ (by decide) (by decide)) (nP _ _ (by decide) (by decide))
  · exact ⟨p0 _, p0 _, p0 _, p0 _, p0 _⟩
end
