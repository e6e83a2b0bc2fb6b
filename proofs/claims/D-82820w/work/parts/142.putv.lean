/-! C: values are printed -/
set_option maxRecDepth 20000
section
variable {ρ : Nat → Nat} {d : Nat} {Q : QT} {h h1 h' : ah} {C k n m o c x y z s f i j p r a : Nat} {X X' X1 : X3} {Y : Y3} {L : List Nat} {P : List (Nat × Nat)} {v w : Int} {bs cs : List Int}
theorem PUT.ok (A : PUT h C X p bs h' X') : AC h' C ∧ FC h' C ∧ PRL h' C (p + bs.length) ∧ X' 32 f_Machine_printed 0 = ((p + bs.length : Nat) : Int) := ⟨A.1, A.2.1, A.2.2.2.2.1, A.2.2.2.2.2.1⟩
/-- a text of the program is printed -/
theorem r_puts (G : AC h C) (F : FC h C) (e : X 32 f_Machine_printed 0 = (p : Int)) (pl : PRL h C p) (sk : SOK h r bs) (hb : ∀ i, i < bs.length → -128 ≤ bs.getD i 0 ∧ bs.getD i 0 ≤ 127) (hp : p + bs.length ≤ 200100) (hd : 11 ≤ d) (q : ∀ h' X', PUT h C X p bs h' X' → Q (Sum.inl none) (cc h' C X' Y)) : wpB PGm ρ (d + 1) m_Machine_put_2 0 [(0, vR (C + 32)), (1, vR r)] [] (cc h C X Y) Q := by
  refine b_Machine_put_2_0 ?_
  refine puts_ind (F1 := fun j H => wpB PGm ρ (d + 1) m_Machine_put_2 2 [(0, vR (C + 32)), (1, vR r), (2, vI (j : Int))] [] H Q) bs (fun h' X' A => ?_) hp (fun j h' X' hj A nx => ?_) G F pl e
  · obtain ⟨G2, F2, -, -⟩ := A.ok
    obtain ⟨z, s, fr⟩ := A.2.2.1
    obtain ⟨s1, s2, s3⟩ := (sk.fr fr (by simp)).cc (X := X') (Y := Y) G2
    refine b_Machine_put_2_2 (by omega) ⟨s1, s1, fun _ => q h' X' A, fun w => ?_⟩
    rw [s2] at w; omega
  · obtain ⟨G2, F2, pl2, e2⟩ := A.ok
    obtain ⟨z, s, fr⟩ := A.2.2.1
    obtain ⟨s1, s2, s3⟩ := (sk.fr fr (by simp)).cc (X := X') (Y := Y) G2
    have l1 : (bs.take j).length = j := by rw [List.length_take]; omega
    rw [l1] at pl2 e2
    have w1 : w32 ((j : Int) + 1) = ((j + 1 : Nat) : Int) := w32_s (by omega)
    refine b_Machine_put_2_2 (by omega) ⟨s1, s1, fun w => ?_, fun _ => ⟨s1, ⟨s1, by omega, by rw [s2]; omega⟩, F2.1.1, ?_⟩⟩
    · rw [s2] at w; omega
    · rw [Int.toNat_natCast, s3 j hj, w1]
      obtain ⟨d', rfl⟩ : ∃ d', d = d' + 1 := ⟨d - 1, by omega⟩
      refine r_put G2 F2 e2 pl2 (by omega) (by omega) (fun h2 X2 B => ?_)
      rw [w8_of (hb j hj).1 (by have := (hb j hj).2; omega)] at B
      exact nx h2 X2 B
/-- the digits -/
theorem r_digits (hv : -9223372036854775808 ≤ v ∧ v < 9223372036854775808) (hd : 11 ≤ d) : ∀ (k p : Nat) (h : ah) (X : X3), k ≤ 18 → AC h C → FC h C → X 32 f_Machine_printed 0 = (p : Int) → PRL h C p → p + k + 1 ≤ 200100 → (∀ h' X', PUT h C X p (dgL v k) h' X' → Q (Sum.inl none) (cc h' C X' Y)) → wpB PGm ρ (d + 1) m_Machine_putNumber 43 [(0, vR (C + 32)), (1, vL v), (3, vL ((10 ^ k : Nat) : Int))] [] (cc h C X Y) Q := by
  intro k
  obtain ⟨d', rfl⟩ : ∃ d', d = d' + 1 := ⟨d - 1, by omega⟩
  induction k with
  | zero =>
    intro p h X hk G F e pl hp q
    refine b_Machine_putNumber_43 (by omega) ⟨fun w => absurd w (by decide), fun _ => ⟨by decide, by decide, F.1.1, ?_⟩⟩
    refine r_put G F e pl (by omega) (by omega) (fun h2 X2 B => ?_)
    rw [dg_c hv hk] at B
    refine ⟨by decide, ?_⟩
    rw [t10d hk, if_pos rfl]
    exact b_Machine_putNumber_43 (by omega) ⟨fun _ => q h2 X2 B, fun w => absurd w (by decide)⟩
  | succ k ih =>
    intro p h X hk G F e pl hp q
    have t := t10 hk
    have sg : (if ((10 ^ (k + 1) : Nat) : Int) < 0 then (-1 : Int) else if ((10 ^ (k + 1) : Nat) : Int) = 0 then 0 else 1) = 1 := by rw [if_neg (by omega), if_neg (by omega)]
    refine b_Machine_putNumber_43 (by omega) ?_
    rw [sg]
    refine ⟨fun w => absurd w (by decide), fun _ => ⟨by omega, by decide, F.1.1, ?_⟩⟩
    refine r_put G F e pl (by omega) (by omega) (fun h2 X2 B => ?_)
    rw [dg_c hv hk] at B
    refine ⟨by decide, ?_⟩
    rw [t10d hk, if_neg (by omega), Nat.add_sub_cancel]
    obtain ⟨G2, F2, pl2, e2⟩ := B.ok
    refine ih (p + 1) h2 X2 (by omega) G2 F2 e2 pl2 (by omega) (fun h3 X3 D => q h3 X3 ?_)
    exact B.app (bs := [dgN v (k + 1)]) D
/-- the first digit is sought -/
theorem r_unit (hv : -9223372036854775808 ≤ v ∧ v < 9223372036854775808) : ∀ f k, f + k = 18 → wpB PGm ρ d m_Machine_putNumber 43 [(0, vR (C + 32)), (1, vL v), (3, vL ((10 ^ (ndK v f k) : Nat) : Int))] [] h Q → wpB PGm ρ d m_Machine_putNumber 14 [(0, vR (C + 32)), (1, vL v), (3, vL ((10 ^ k : Nat) : Int))] [] h Q := by
  intro f
  induction f with
  | zero =>
    intro k hk q
    have t := t10 (k := k) (by omega)
    have e := o64_d hv (u := ((10 ^ k : Nat) : Int)) (by omega)
    have nd := ndC_18 hv
    have : k = 18 := by omega
    subst this
    unfold ndC at nd
    refine b_Machine_putNumber_14 ?_
    rw [e]
    refine ⟨by omega, fun w => ?_, fun _ => ⟨by omega, fun _ => q, fun w => ?_⟩⟩
    · exfalso; revert w; split
      · decide
      · split
        · decide
        · omega
    · exfalso; revert w; split
      · omega
      · split <;> decide
  | succ f ih =>
    intro k hk q
    have t := t10 (k := k) (by omega)
    have e := o64_d hv (u := ((10 ^ k : Nat) : Int)) (by omega)
    unfold ndK at q
    have up : ndC v k → wpB PGm ρ d m_Machine_putNumber 34 [(0, vR (C + 32)), (1, vL v), (3, vL ((10 ^ k : Nat) : Int))] [] h Q := fun c => by
      have c' : 9 < v.tdiv ((10 ^ k : Nat) : Int) ∨ v.tdiv ((10 ^ k : Nat) : Int) < -9 := c
      rw [if_pos c'] at q
      refine b_Machine_putNumber_34 ?_
      rw [t10s (by omega)]
      exact ih (k + 1) (by omega) q
    refine b_Machine_putNumber_14 ?_
    rw [e]
    refine ⟨by omega, fun w => up (Or.inl ?_), fun w1 => ⟨by omega, fun w2 => ?_, fun w => up (Or.inr ?_)⟩⟩
    · revert w; split
      · intro w; exact absurd w (by decide)
      · split
        · intro w; exact absurd w (by decide)
        · intro _; omega
    · rw [if_neg (fun c => ?_)] at q
      · exact q
      · rcases c with c | c
        · revert w1; rw [if_neg (by omega), if_neg (by omega)]; decide
        · revert w2; rw [if_pos (by omega)]; decide
    · revert w; split
      · intro _; omega
      · split <;> (intro w; exact absurd w (by decide))
theorem r_putNumber (hv : -9223372036854775808 ≤ v ∧ v < 9223372036854775808) (G : AC h C) (F : FC h C) (e : X 32 f_Machine_printed 0 = (p : Int)) (pl : PRL h C p) (hp : p + 20 ≤ 200100) (hd : 11 ≤ d) (q : ∀ h' X', PUT h C X p (nuL v) h' X' → Q (Sum.inl none) (cc h' C X' Y)) : wpB PGm ρ (d + 1) m_Machine_putNumber 0 [(0, vR (C + 32)), (1, vL v)] [] (cc h C X Y) Q := by
  have nk := ndK_le (v := v) 18 0
  refine b_Machine_putNumber_0 ⟨fun w => ?_, fun w => ⟨F.1.1, ?_⟩⟩
  · have nv : ¬ v < 0 := fun c => by rw [if_pos c] at w; exact absurd w (by decide)
    unfold nuL at q
    rw [if_neg nv, List.nil_append] at q
    exact r_unit hv 18 0 rfl (r_digits hv hd _ p h X (by omega) G F e pl (by omega) q)
  · have nv : v < 0 := Classical.byContradiction fun c => by
      rw [if_neg c] at w
      revert w; split <;> decide
    unfold nuL at q
    rw [if_pos nv] at q
    obtain ⟨d', rfl⟩ : ∃ d', d = d' + 1 := ⟨d - 1, by omega⟩
    refine r_put G F e pl (by omega) (by omega) (fun h2 X2 B => ?_)
    rw [show w8 45 = 45 by decide] at B
    obtain ⟨G2, F2, pl2, e2⟩ := B.ok
    exact r_unit hv 18 0 rfl (r_digits hv hd _ (p + 1) h2 X2 (by omega) G2 F2 e2 pl2 (by omega) (fun h3 X3 D => q h3 X3 (B.app (bs := [45]) D)))
/-- the bytes of a text -/
def txB (X : X3) (a n : Nat) : List Int := (List.range n).map (fun i => X 46 f_Texts_bytes (a + i))
theorem txB_len : (txB X a n).length = n := by unfold txB; rw [List.length_map, List.length_range]
theorem txB_g (hi : i < n) : (txB X a n).getD i 0 = X 46 f_Texts_bytes (a + i) := by
  unfold txB
  rw [List.getD_eq_getElem?_getD, List.getElem?_map, List.getElem?_range hi]; rfl
theorem r_putText (G : AC h C) (F : FC h C) (e : X 32 f_Machine_printed 0 = (p : Int)) (pl : PRL h C p) (hx : x < hl h (hR h f_Texts_size (C + 46)) ∧ x < hl h (hR h f_Texts_from (C + 46))) (e1 : X 46 f_Texts_from x = (a : Int)) (e2 : X 46 f_Texts_size x = (n : Int)) (ha : a + n ≤ hl h (hR h f_Texts_bytes (C + 46))) (ha2 : a + n ≤ 1000000) (hb : ∀ i, i < n → -128 ≤ X 46 f_Texts_bytes (a + i) ∧ X 46 f_Texts_bytes (a + i) ≤ 127) (hp : p + n ≤ 200100) (hd : 11 ≤ d) (q : ∀ h' X', PUT h C X p (txB X a n) h' X' → Q (Sum.inl none) (cc h' C X' Y)) : wpB PGm ρ (d + 1) m_Machine_putValue 94 [(0, vR (C + 32)), (4, vI (x : Int)), (5, vI 0)] [] (cc h C X Y) Q := by
  have sm : ∀ {bs : List Int} {h' : ah} {X' : X3}, PUT h C X p bs h' X' → (hl h' (hR h' f_Texts_size (C + 46)) = hl h (hR h f_Texts_size (C + 46)) ∧ hl h' (hR h' f_Texts_from (C + 46)) = hl h (hR h f_Texts_from (C + 46)) ∧ hl h' (hR h' f_Texts_bytes (C + 46)) = hl h (hR h f_Texts_bytes (C + 46))) ∧ ∀ f i, [f_Texts_size, f_Texts_from, f_Texts_bytes].elem f = true → X' 46 f i = X 46 f i := fun {bs h' X'} A => by
    obtain ⟨z, s, fr⟩ := A.2.2.1
    refine ⟨⟨ac_len G fr (by decide) (by unfold DJ; decide), ac_len G fr (by decide) (by unfold DJ; decide), ac_len G fr (by decide) (by unfold DJ; decide)⟩, fun f i hf => A.2.2.2.2.2.2.2.2 46 f i ?_⟩
    have : f = f_Texts_size ∨ f = f_Texts_from ∨ f = f_Texts_bytes := by simpa using hf
    rcases this with rfl | rfl | rfl <;> decide
  refine puts_ind (F1 := fun j H => wpB PGm ρ (d + 1) m_Machine_putValue 94 [(0, vR (C + 32)), (4, vI (x : Int)), (5, vI (j : Int))] [] H Q) (txB X a n) (fun h' X' A => ?_) (by rw [txB_len]; exact hp) (fun j h' X' hj A nx => ?_) G F pl e
  · obtain ⟨G2, F2, -, -⟩ := A.ok
    obtain ⟨⟨m1, m2, m3⟩, m4⟩ := sm A
    have y2 : X' 46 f_Texts_size x = (n : Int) := by rw [m4 _ _ (by decide)]; exact e2
    have fin := q h' X' A
    rw [txB_len]
    clear q sm A m4 hb
    have f2 := F2
    unfold FC at f2
    have f1 := trivial
    have ht : isT 62 := Or.inl rfl
    refine b_Machine_putValue_94 ?_
    simp (decide := true) (disch := first | decide | omega) only [ccK, ccRo, ccl, ccA G2, KC G2, f2, y2, w32_aa, w32_ss, w32_p1, w32_m1, Int.toNat_natCast, true_and, and_true, false_and, and_false, or_false, false_or, ne_eq, not_false_eq_true, forall_const, implies_true, not_true_eq_false, false_implies]
    exact ⟨by omega, fun _ => fin, fun w => by omega⟩
  · rw [txB_len] at hj
    obtain ⟨G2, F2, pl2, e3⟩ := A.ok
    have l1 : ((txB X a n).take j).length = j := by rw [List.length_take, txB_len]; omega
    rw [l1] at pl2 e3
    obtain ⟨⟨m1, m2, m3⟩, m4⟩ := sm A
    have y1 : X' 46 f_Texts_from x = (a : Int) := by rw [m4 _ _ (by decide)]; exact e1
    have y2 : X' 46 f_Texts_size x = (n : Int) := by rw [m4 _ _ (by decide)]; exact e2
    have y3 : X' 46 f_Texts_bytes (a + j) = X 46 f_Texts_bytes (a + j) := m4 _ _ (by decide)
    obtain ⟨d', rfl⟩ : ∃ d', d = d' + 1 := ⟨d - 1, by omega⟩
    have go : wpB PGm ρ (d' + 1) m_Machine_put 0 [(0, vR (C + 32)), (1, vI (X 46 f_Texts_bytes (a + j)))] [] (cc h' C X' Y) (cV (fun h11 => wpB PGm ρ (d' + 1 + 1) m_Machine_putValue 94 [(0, vR (C + 32)), (4, vI (x : Int)), (5, vI ((j + 1 : Nat) : Int))] [] h11 Q) (fun e h' => ¬ hK h' e = 0 ∧ Q (Sum.inr e) h')) := by
      refine r_put G2 F2 e3 pl2 (by omega) (by omega) (fun h2 X2 B => nx h2 X2 ?_)
      rw [w8_of (hb j hj).1 (by have := (hb j hj).2; omega)] at B
      rw [txB_g hj]; exact B
    have jn : (j : Int) < (n : Int) := by omega
    clear q nx sm A m4 hb
    have b1 : 0 ≤ (x : Int) ∧ (x : Int) < (hl h' (hR h' f_Texts_size (C + 46)) : Int) := by omega
    have b2 : 0 ≤ (x : Int) ∧ (x : Int) < (hl h' (hR h' f_Texts_from (C + 46)) : Int) := by omega
    have b3 : 0 ≤ ((a + j : Nat) : Int) ∧ ((a + j : Nat) : Int) < (hl h' (hR h' f_Texts_bytes (C + 46)) : Int) := by omega
    have c1 : j ≤ 2000000000 := by omega
    have c2 : a + j ≤ 2000000000 := by omega
    have w1 : w32 ((j : Int) + 1) = ((j + 1 : Nat) : Int) := w32_s c1
    have w2 : w32 ((a : Int) + (j : Int)) = ((a + j : Nat) : Int) := w32_aa c2
    have f2 := F2
    unfold FC at f2
    have f1 := trivial
    have ht : isT 62 := Or.inl rfl
    refine b_Machine_putValue_94 ?_
    simp (decide := true) (disch := first | decide | omega) only [ccK, ccRo, ccl, ccA G2, KC G2, f2, y1, y2, y3, w1, w2, Int.toNat_natCast, true_and, and_true]
    exact ⟨b1, fun w => absurd jn (Int.not_lt.mpr w), fun _ => ⟨b2, b3, go⟩⟩
end
