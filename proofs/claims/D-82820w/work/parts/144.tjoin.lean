/-! T: texts are made -/
set_option maxRecDepth 20000
/-- what a value that is no text and no host's prints -/
def cvL (ty v : Int) : List Int := if ty = 0 then [110, 117, 108, 108] else if ty = 1 then (if v = 0 then [102, 97, 108, 115, 101] else [116, 114, 117, 101]) else if ty = 2 then nuL v else if ty = 4 then [123, 125] else if ty = 5 then [102, 117, 110] else [91, 93]
def tx1 (S : SS) (p : Nat) (bs : List Int) : SS := fun f i => if f = f_Md_textSigns ∧ p ≤ i ∧ i < p + bs.length then bs.getD (i - p) 0 else S f i
/-- a text of n bytes more -/
def ntS (S : SS) (tm mb am ab n : Nat) : SS := u2 (u2 (u2 (u2 (u2 (u2 S f_Md_textFrom (4000 + tm) ((69632 + mb : Nat) : Int)) f_Md_textLength (4000 + tm) (n : Int)) f_Md_madeTexts 0 ((tm + 1 : Nat) : Int)) f_Md_madeBytes 0 ((mb + n : Nat) : Int)) f_Md_allTexts 0 ((am + 1 : Nat) : Int)) f_Md_allBytes 0 ((ab + n : Nat) : Int)
def TMS (S : SS) (tm mb am ab : Nat) : Prop := (S f_Md_madeTexts 0 = (tm : Int) ∧ S f_Md_madeBytes 0 = (mb : Int) ∧ S f_Md_allTexts 0 = (am : Int) ∧ S f_Md_allBytes 0 = (ab : Int)) ∧ (mb ≤ ab ∧ ab ≤ 200000 ∧ tm ≤ am ∧ am ≤ 12000)
/-- an operand prints these bytes -/
def TOP (S : SS) (tm mb : Nat) (ty v : Int) (bs : List Int) : Prop := (∀ i, i < bs.length → -128 ≤ bs.getD i 0 ∧ bs.getD i 0 ≤ 127) ∧ ((ty = 3 ∧ ∃ x a : Nat, v = (x : Int) ∧ x < 4000 + tm ∧ S f_Md_textFrom x = (a : Int) ∧ S f_Md_textLength x = (bs.length : Int) ∧ a + bs.length ≤ 69632 + mb ∧ ∀ i, i < bs.length → S f_Md_textSigns (a + i) = bs.getD i 0) ∨ (ty ≠ 3 ∧ (ty = 0 ∨ ty = 1 ∨ ty = 2 ∨ ty = 4 ∨ ty = 5 ∨ ty = 6) ∧ bs = cvL ty v ∧ bs.length ≤ 20 ∧ (ty = 2 → -9223372036854775808 ≤ v ∧ v < 9223372036854775808)))
section
variable {ρ : Nat → Nat} {d : Nat} {h h' h0 : ah} {Q : QT} {T k f g n c t i j x p r tm mb am ab : Nat} {op a b v w ty : Int} {S X S1 : SS} {bs cs : List Int}
theorem tx1_o (hf : f ≠ f_Md_textSigns) : tx1 S p bs f i = S f i := if_neg fun c => hf c.1
theorem tx1_n (hi : i < p) : tx1 S p bs f i = S f i := if_neg fun c => by have := c.2.1; omega
theorem tx1_g (hi : i < bs.length) : tx1 S p bs f_Md_textSigns (p + i) = bs.getD i 0 := by
  unfold tx1
  rw [if_pos ⟨rfl, by omega, by omega⟩]
  congr 1; omega
theorem tx1_nil : tx1 S p [] = S := by
  funext f i
  exact if_neg fun c => by have := c.2; simp at this; omega
theorem tx1_u (hj : j < bs.length) : u2 (tx1 S p (bs.take j)) f_Md_textSigns (p + j) (bs.getD j 0) = tx1 S p (bs.take (j + 1)) := by
  funext f i
  rw [u2_e]
  unfold tx1
  have l1 : (bs.take j).length = j := by rw [List.length_take]; omega
  have l2 : (bs.take (j + 1)).length = j + 1 := by rw [List.length_take]; omega
  rw [l1, l2]
  by_cases q : f = f_Md_textSigns
  · by_cases q2 : i = p + j
    · rw [if_pos ⟨q, q2⟩, if_pos ⟨q, by omega, by omega⟩, List.getD_eq_getElem?_getD, List.getD_eq_getElem?_getD, List.getElem?_take, if_pos (by omega)]
      congr 2; omega
    · rw [if_neg (fun c => q2 c.2)]
      by_cases q3 : p ≤ i ∧ i < p + j
      · rw [if_pos ⟨q, q3⟩, if_pos ⟨q, by omega, by omega⟩, List.getD_eq_getElem?_getD, List.getD_eq_getElem?_getD, List.getElem?_take, List.getElem?_take, if_pos (by omega), if_pos (by omega)]
      · rw [if_neg (fun c => q3 c.2), if_neg (fun c => q3 ⟨c.2.1, by omega⟩)]
  · rw [if_neg (fun c => q c.1), if_neg (fun c => q c.1), if_neg (fun c => q c.1)]
theorem tx1_app : tx1 (tx1 S p bs) (p + bs.length) cs = tx1 S p (bs ++ cs) := by
  funext f i
  unfold tx1
  rw [List.length_append]
  by_cases q : f = f_Md_textSigns
  · by_cases q1 : p + bs.length ≤ i ∧ i < p + bs.length + cs.length
    · rw [if_pos ⟨q, q1⟩, if_pos ⟨q, by omega, by omega⟩, List.getD_eq_getElem?_getD, List.getD_eq_getElem?_getD, List.getElem?_append, if_neg (by omega)]
      congr 2; omega
    · rw [if_neg (fun c => q1 c.2)]
      by_cases q2 : p ≤ i ∧ i < p + bs.length
      · rw [if_pos ⟨q, q2⟩, if_pos ⟨q, by omega, by omega⟩, List.getD_eq_getElem?_getD, List.getD_eq_getElem?_getD, List.getElem?_append, if_pos (by omega)]
      · rw [if_neg (fun c => q2 c.2), if_neg (fun c => by have := c.2; omega)]
  · rw [if_neg (fun c => q c.1), if_neg (fun c => q c.1), if_neg (fun c => q c.1)]
theorem s_newText (O : TOK h0 T) (M : TMS S tm mb am ab) (hn : n ≤ 1000000) (q1 : am < 12000 → ab + n ≤ 200000 → Q (Sum.inl (some (vI ((4000 + tm : Nat) : Int)))) (cn h0 T (ntS S tm mb am ab n))) (q0 : ¬ (am < 12000 ∧ ab + n ≤ 200000) → Q (Sum.inr (hR h0 f_Md_halt T)) (cn h0 T (erS S 99))) : wpB PGm ρ (d + 2) m_Md_newText 0 [(0, vR T), (1, vI (n : Int))] [] (cn h0 T S) Q := by
  have O' := O
  obtain ⟨kT, G, kH⟩ := O
  obtain ⟨⟨m1, m2, m3, m4⟩, m5, m6, m7, m8⟩ := M
  have hb : 0 ≤ (n : Int) := by omega
  refine b_Md_newText_0 ?_
  refine ⟨kT, b_Md_hasRoomForText_0 ?_⟩
  simp (decide := true) (disch := first | decide | omega) only [cnI, cnK, kT, m3, m4, w32_aa, w32_ss, w32_p1, w32_m1, Int.toNat_natCast, true_and, and_true, false_and, and_false, or_false, false_or, ne_eq, not_false_eq_true, forall_const, implies_true, not_true_eq_false, false_implies]
  refine ⟨fun z => ?_, fun z => ⟨fun z2 => ?_, fun z2 => ?_⟩⟩
  · simp (decide := true) (disch := first | decide | omega) only [cI, kT, cnK, w32_aa, w32_ss, w32_p1, w32_m1, Int.toNat_natCast, true_and, and_true, false_and, and_false, or_false, false_or, ne_eq, not_false_eq_true, forall_const, implies_true, not_true_eq_false, false_implies]
    exact s_room O' (fun w => absurd rfl w) (fun _ => ⟨by show hK h0 _ ≠ 0; rw [kH]; decide, q0 (by omega)⟩)
  · simp (decide := true) (disch := first | decide | omega) only [cI, kT, cnK, w32_aa, w32_ss, w32_p1, w32_m1, Int.toNat_natCast, true_and, and_true, false_and, and_false, or_false, false_or, ne_eq, not_false_eq_true, forall_const, implies_true, not_true_eq_false, false_implies]
    exact s_room O' (fun w => absurd rfl w) (fun _ => ⟨by show hK h0 _ ≠ 0; rw [kH]; decide, q0 (by omega)⟩)
  · simp (decide := true) (disch := first | decide | omega) only [cI, kT, cnK, w32_aa, w32_ss, w32_p1, w32_m1, Int.toNat_natCast, true_and, and_true, false_and, and_false, or_false, false_or, ne_eq, not_false_eq_true, forall_const, implies_true, not_true_eq_false, false_implies]
    refine s_room O' (fun _ => ?_) (fun w => absurd w (by decide))
    have q := q1 (by omega) (by omega)
    have b1 : 0 ≤ ((4000 + tm : Nat) : Int) ∧ ((4000 + tm : Nat) : Int) < ((16000 : Nat) : Int) := by omega
    have c1 : 4000 + tm ≤ 2000000000 := by omega
    have c2 : 69632 + mb ≤ 2000000000 := by omega
    have c3 : tm ≤ 2000000000 := by omega
    have c4 : mb + n ≤ 2000000000 := by omega
    have c6 : ab + n ≤ 2000000000 := by omega
    have c5 : am ≤ 2000000000 := by omega
    have v1 : w32 (4000 + (tm : Int)) = ((4000 + tm : Nat) : Int) := w32_aa (a := 4000) c1
    have w2 : w32 (69632 + (mb : Int)) = ((69632 + mb : Nat) : Int) := w32_aa (a := 69632) c2
    have v3 : w32 ((tm : Int) + 1) = ((tm + 1 : Nat) : Int) := w32_s c3
    have v4 : w32 ((mb : Int) + (n : Int)) = ((mb + n : Nat) : Int) := w32_aa c4
    have v5 : w32 ((am : Int) + 1) = ((am + 1 : Nat) : Int) := w32_s c5
    have v6 : w32 ((ab : Int) + (n : Int)) = ((ab + n : Nat) : Int) := w32_aa c6
    clear q1 q0 z z2 m5 m6 m7 m8 hn hb c1 c2 c3 c4 c5 c6
    simp (decide := true) only [cV, cnI, cnR, cnK, cnl, cnA' G, cn_sI, cn_sA' G, kT, KN G, LN G, u2_f, u2_s, m1, m2, m3, m4, v1, w2, v3, v4, v5, v6, Int.toNat_natCast, true_and, and_true, ne_eq, not_false_eq_true]
    exact ⟨b1, b1, q⟩
theorem s_print (K : TKS ρ h0 T) (ht : ty = 0 ∨ ty = 1 ∨ ty = 2 ∨ ty = 4 ∨ ty = 5 ∨ ty = 6) (hv : ty = 2 → -9223372036854775808 ≤ v ∧ v < 9223372036854775808) (e : S f_Md_spelling 0 = (p : Int)) (hp : p + 20 ≤ 256) (hd : 11 ≤ d) (q : Q (Sum.inl none) (cn h0 T (spS S p (cvL ty v)))) : wpB PGm ρ (d + 1) m_Md_print 0 [(0, vR T), (1, vI ty), (2, vL v)] [] (cn h0 T S) Q := by
  have kT := K.1.1
  have sp : ∀ {Q : QT} (x : Nat) (bs : List Int), txM.elem (x, bs) = true → (bs.length ≤ 20 ∧ (List.range bs.length).all (fun i => decide (-128 ≤ bs.getD i 0 ∧ bs.getD i 0 ≤ 127)) = true) → Q (Sum.inl none) (cn h0 T (spS S p bs)) → wpB PGm ρ d m_Md_spell 0 [(0, vR T), (1, vR (ρ x))] [] (cn h0 T S) Q := fun {Q} x bs hm hb q => s_spell K (K.2.1.g hm) (fun i hi => by
      have := List.all_eq_true.mp hb.2 i (by simpa using hi)
      simpa using this) e (by omega) (by omega) q
  unfold cvL at q
  refine b_Md_print_0 ⟨fun z => ⟨kT, sp 13 [110, 117, 108, 108] (by decide) (by decide) ?_⟩, fun z0 => ⟨fun z => ⟨fun w => ?_, fun w => ?_⟩, fun z1 => ⟨fun z => ⟨kT, ?_⟩, fun z2 => ⟨fun z => by omega, fun z3 => ⟨fun z => ⟨kT, sp 24 [123, 125] (by decide) (by decide) ?_⟩, fun z4 => ⟨fun z => ⟨kT, sp 16 [102, 117, 110] (by decide) (by decide) ?_⟩, fun z5 => ⟨fun z => ⟨kT, sp 25 [91, 93] (by decide) (by decide) ?_⟩, fun z6 => by omega⟩⟩⟩⟩⟩⟩⟩
  · subst z; exact q
  · have nv : v ≠ 0 := by rintro rfl; exact w rfl
    subst z
    refine b_Md_print_74 ⟨kT, sp 23 [116, 114, 117, 101] (by decide) (by decide) ?_⟩
    rw [if_neg z0, if_pos rfl, if_neg nv] at q
    exact q
  · have nv : v = 0 := Classical.byContradiction fun c => by
      rw [if_neg c] at w
      revert w; split <;> decide
    subst z
    refine b_Md_print_74 ⟨kT, sp 22 [102, 97, 108, 115, 101] (by decide) (by decide) ?_⟩
    rw [if_neg z0, if_pos rfl, if_pos nv] at q
    exact q
  · rw [if_neg z0, if_neg z1, if_pos z] at q
    obtain ⟨d', rfl⟩ : ∃ d', d = d' + 1 := ⟨d - 1, by omega⟩
    exact s_spellNumber K (hv z) e hp (by omega) q
  · rw [if_neg z0, if_neg z1, if_neg z2, if_pos z] at q; exact q
  · rw [if_neg z0, if_neg z1, if_neg z2, if_neg z4, if_pos z] at q; exact q
  · rw [if_neg z0, if_neg z1, if_neg z2, if_neg z4, if_neg z5] at q; exact q
end
