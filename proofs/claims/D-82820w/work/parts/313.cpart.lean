/-! C: a part of a text -/
set_option maxRecDepth 20000
def subL (l : List Int) (i j : Nat) : List Int := (l.drop i).take (j - i)
section
variable {ρ : Nat → Nat} {d : Nat} {Q : QT} {Γ Γ' : GH} {h h' h1 h2 H : ah} {C ho k i j N M a z s r f o c t n mn us am ab m0 rr l4 tm mb sb : Nat} {g : HG} {v w hd ty κ x y : Int} {S S' S1 : SS} {X X' X1 X2 : X3} {Y Y' Y1 Y2 : Y3} {l : List Int} {tx : Nat}
theorem subL_l (hij : i ≤ j) (hj : j ≤ l.length) : (subL l i j).length = j - i := by
  unfold subL; rw [List.length_take, List.length_drop]; omega
theorem subL_g (hij : i ≤ j) (hj : j ≤ l.length) (hk : k < j - i) : (subL l i j).getD k 0 = l.getD (i + k) 0 := by
  unfold subL
  rw [List.getD_eq_getElem?_getD, List.getElem?_take, if_pos hk, List.getElem?_drop, ← List.getD_eq_getElem?_getD]
theorem r_part (I : IX h C X Y o n c) (hm0 : m0 ≤ 2000) (CB : CTX h C X (tx : Int) l) (rg : ∀ i, i < l.length → -128 ≤ l.getD i 0 ∧ l.getD i 0 ≤ 127) (hij : i ≤ j) (hj : j ≤ l.length) (ll : l.length ≤ 200000) (M : TMX X mn us am ab) (T : TGL h C mn us) (pl : PRL h C 0) (hm : am < 12000 → mn < 16000) (hn : ∀ z, ab + z ≤ 200000 → us + z ≤ 265600) (q1 : am < 12000 ∧ ab + (j - i) ≤ 200000 → ∀ h' X', JND h C X mn us am ab (subL l i j) h' X' → Q (Sum.inl none) (cc h' C (ansX X' o m0 c 3 (mn : Int)) Y)) (q2 : ¬ (am < 12000 ∧ ab + (j - i) ≤ 200000) → ∀ h' X', PUT h C (u3 X 32 f_Machine_printed 0 0) 0 (subL l i j) h' X' → hK (cc h' C (erX X' 0) Y) (C + 33) ≠ 0 ∧ Q (Sum.inr (C + 33)) (cc h' C (erX X' 0) Y)) : wpB PGm ρ (d + 20) m_Machine_part 0 [(0, vR (C + 32)), (1, vI (m0 : Int)), (2, vI (tx : Int)), (3, vI (i : Int)), (4, vI (j : Int))] [] (cc h C X Y) Q := by
  have G := I.1
  have F := I.2.1
  have ht := I.2.2.1
  have e1 : Y 32 f_Machine_t 0 = C + o := I.2.2.2.1.1
  have ec : X o f_Task_calls 0 = (c : Int) := I.2.2.2.1.2.2
  obtain ⟨x, b, c1, c2, c3, c4, c5, c6, c7, c8, c9⟩ := CB
  have ex : tx = x := by omega
  subst ex
  have sl := subL_l (l := l) hij hj
  have gp : ∀ k, k < (subL l i j).length → (subL l i j).getD k 0 = l.getD (i + k) 0 := fun k hk => subL_g hij hj (by omega)
  have e0 : sI (cc h C X Y) f_Machine_printed (C + 32) 0 = cc h C (u3 X 32 f_Machine_printed 0 0) Y := cc_sI (by decide)
  have fin : ∀ h' X', PUT h C (u3 X 32 f_Machine_printed 0 0) 0 (subL l i j) h' X' → wpB PGm ρ (d + 20) m_Machine_part 8 [(0, vR (C + 32)), (1, vI (m0 : Int)), (2, vI (tx : Int)), (4, vI (j : Int)), (5, vI ((i + (subL l i j).length : Nat) : Int))] [] (cc h' C X' Y) Q := fun h' X' A => by
    obtain ⟨G2, F2, pl2, e2⟩ := A.ok
    have xo : ∀ o f i, [f_Machine_print, f_Machine_printed].elem f = false → X' o f i = X o f i := fun o f i hf => by
      rw [A.2.2.2.2.2.2.2.2 o f i hf, u3_f (by rintro rfl; exact absurd hf (by decide))]
    have B : PRT X' (subL l i j) := by
      refine ⟨by rw [e2, Nat.zero_add], fun k hk => ?_, fun k hk => by rw [gp k hk]; exact rg _ (by omega)⟩
      have := A.2.2.2.2.2.2.2.1 k hk
      rw [Nat.zero_add] at this
      exact this
    have M2 : TMX X' mn us am ab := M.eq (fun f hf => xo 46 f 0 (by
      have : f = f_Texts_many ∨ f = f_Texts_used ∨ f = f_Texts_made ∨ f = f_Texts_bytesMade := by simpa using hf
      rcases this with rfl | rfl | rfl | rfl <;> decide))
    rw [Nat.zero_add] at pl2
    have gm : wpB PGm ρ (d + 19) m_Machine_makeText 0 [(0, vR (C + 32))] [] (cc h' C X' Y) (cI (fun x12 h7 => hK h7 (C + 32) = k_Machine ∧ wpB PGm ρ (d + 19) m_Machine_answer 0 [(0, vR (C + 32)), (1, vI (m0 : Int)), (2, vI 3), (3, vL x12)] [] h7 (cV (fun h15 => Q (Sum.inl none) h15) (fun e18 h17 => hK h17 e18 ≠ 0 ∧ Q (Sum.inr e18) h17))) (fun e10 h9 => hK h9 e10 ≠ 0 ∧ Q (Sum.inr e10) h9)) := by
      refine r_makeText (d := d + 16) G2 F2 (by omega) M2 (PUT.tgl T G A) B pl2 hm (fun z => hn _ z) (fun rm h3 X3 TG TL => ?_) (fun w => ?_)
      · have J : JND h C X mn us am ab (subL l i j) h3 (taX X3 mn us (subL l i j)) := ⟨h', X', X3, A, TG, TL, rfl⟩
        have ⟨G3, F3⟩ := J.ok
        have x3 : taX X3 mn us (subL l i j) o f_Task_calls 0 = X o f_Task_calls 0 := J.oo (by decide) (by decide)
        refine ⟨F3.1.1, r_answer (d := d + 18) (n := m0) G3 F3 ht e1 (by rw [x3]; exact ec) hm0 ⟨I.2.2.2.2.2.1, I.2.2.2.2.2.2⟩ (by decide) ?_⟩
        exact q1 (by rw [← sl]; exact rm) h3 _ J
      · exact q2 (by rw [← sl]; exact w) h' X' A
    refine b_Machine_part_8 (d := d + 19) ⟨fun _ => ⟨F2.1.1, gm⟩, fun w => ?_⟩
    omega
  refine b_Machine_part_0 ⟨F.1.1, ?_⟩
  rw [e0]
  have pi := puts_ind (F1 := fun k H => wpB PGm ρ (d + 20) m_Machine_part 8 [(0, vR (C + 32)), (1, vI (m0 : Int)), (2, vI (tx : Int)), (4, vI (j : Int)), (5, vI ((i + k : Nat) : Int))] [] H Q) (h := h) (C := C) (X := u3 X 32 f_Machine_printed 0 0) (p := 0) (Y := Y) (subL l i j) fin (by omega) (fun k h' X' hk A nx => ?_) G F pl u3_s
  · exact pi
  · obtain ⟨G2, F2, pl2, e2⟩ := A.ok
    have xo : ∀ o f i, [f_Machine_print, f_Machine_printed].elem f = false → X' o f i = X o f i := fun o f i hf => by
      rw [A.2.2.2.2.2.2.2.2 o f i hf, u3_f (by rintro rfl; exact absurd hf (by decide))]
    have l1 : ((subL l i j).take k).length = k := by rw [List.length_take]; omega
    rw [l1] at pl2 e2
    obtain ⟨z9, s9, fr⟩ := A.2.2.1
    have n1 := ac_len G fr (f := f_Texts_from) (o := 46) (by decide) (by unfold DJ; decide)
    have n3 := ac_len G fr (f := f_Texts_bytes) (o := 46) (by decide) (by unfold DJ; decide)
    have r5 : hR (cc h' C X' Y) f_Machine_texts (C + 32) = C + 46 := by rw [ccRo (by decide)]; exact F2.2.1.2.2.2.1
    have r6 : hA (cc h' C X' Y) (hR (cc h' C X' Y) f_Texts_from (C + 46)) tx = (b : Int) := by rw [ccRo (by decide), ccA G2 (by decide), xo _ _ _ (by decide)]; exact c5
    have r7 : hA (cc h' C X' Y) (hR (cc h' C X' Y) f_Texts_bytes (C + 46)) (b + (i + k)) = l.getD (i + k) 0 := by rw [ccRo (by decide), ccA G2 (by decide), xo _ _ _ (by decide)]; exact c9 _ (by omega)
    have rgk := rg (i + k) (by omega)
    have b1 : 0 ≤ (tx : Int) ∧ (tx : Int) < (hl h' (hR h' f_Texts_from (C + 46)) : Int) := by omega
    have b2 : 0 ≤ ((b + (i + k) : Nat) : Int) ∧ ((b + (i + k) : Nat) : Int) < (hl h' (hR h' f_Texts_bytes (C + 46)) : Int) := by omega
    have b3 : b + (i + k) ≤ 2000000000 := by omega
    have b4 : i + k ≤ 2000000000 := by omega
    have ne : ¬ (j : Int) ≤ ((i + k : Nat) : Int) := by omega
    have p2 : 0 + k < 200100 := by omega
    have w1 : w32 ((b : Int) + ((i + k : Nat) : Int)) = ((b + (i + k) : Nat) : Int) := w32_aa b3
    have w2 : w32 (((i + k : Nat) : Int) + 1) = ((i + (k + 1) : Nat) : Int) := w32_p1 b4
    show wpB PGm ρ (d + 20) m_Machine_part 8 [(0, vR (C + 32)), (1, vI (m0 : Int)), (2, vI (tx : Int)), (4, vI (j : Int)), (5, vI ((i + k : Nat) : Int))] [] (cc h' C X' Y) Q
    refine b_Machine_part_8 (d := d + 19) ⟨fun w => absurd w ne, fun _ => ⟨F2.1.1, ?_⟩⟩
    rw [r5, Int.toNat_natCast, r6, w1, Int.toNat_natCast, r7, w2]
    refine ⟨F2.1.2.2.2.2.1, ⟨?_, b1.1, ?_⟩, ⟨?_, b2.1, ?_⟩, ?_⟩
    · simp (decide := true) only [ccRo, ccK, KC G2]
    · rw [ccRo (by decide), ccl]; exact b1.2
    · simp (decide := true) only [ccRo, ccK, KC G2]
    · rw [ccRo (by decide), ccl]; exact b2.2
    · refine r_put (d := d + 18) G2 F2 e2 pl2 p2 (by omega) (fun h2 X2 B => ?_)
      rw [w8_of rgk.1 (by omega), ← gp k hk] at B
      exact nx h2 X2 B
end
