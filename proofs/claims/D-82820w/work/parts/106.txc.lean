/-! texts of both -/
set_option maxRecDepth 20000
def TXV (Γ : GH) (X : X3) (S : SS) (mn us sb mb x : Nat) : Prop := ∃ a n b : Nat, S f_Md_textFrom x = (a : Int) ∧ S f_Md_textLength x = (n : Int) ∧ X 46 f_Texts_from (gtn Γ x) = (b : Int) ∧ X 46 f_Texts_size (gtn Γ x) = (n : Int) ∧ gtn Γ x < mn ∧ b + n ≤ us ∧ (∀ i, i < n → X 46 f_Texts_bytes (b + i) = S f_Md_textSigns (a + i) ∧ -128 ≤ S f_Md_textSigns (a + i) ∧ S f_Md_textSigns (a + i) ≤ 127) ∧ ((x < 4000 ∧ a + n ≤ sb) ∨ (4000 ≤ x ∧ 69632 ≤ a ∧ a + n ≤ 69632 + mb))
def TXC (Γ : GH) (h : ah) (C : Nat) (X : X3) (S : SS) : Prop := ∃ mn us sb mb tm am ab : Nat, (X 46 f_Texts_many 0 = (mn : Int) ∧ X 46 f_Texts_used 0 = (us : Int) ∧ X 46 f_Texts_made 0 = (am : Int) ∧ X 46 f_Texts_bytesMade 0 = (ab : Int)) ∧ (S f_Md_sourceBytes 0 = (sb : Int) ∧ S f_Md_madeBytes 0 = (mb : Int) ∧ S f_Md_madeTexts 0 = (tm : Int) ∧ S f_Md_allTexts 0 = (am : Int) ∧ S f_Md_allBytes 0 = (ab : Int)) ∧ (sb ≤ 69632 ∧ mb ≤ ab ∧ ab ≤ 200000 ∧ tm ≤ am ∧ am ≤ 12000) ∧
  (0 ≤ S f_Md_sourceTexts 0 ∧ S f_Md_sourceTexts 0 ≤ 4000) ∧ (mn ≤ hl h (hR h f_Texts_from (C + 46)) ∧ hl h (hR h f_Texts_size (C + 46)) = hl h (hR h f_Texts_from (C + 46)) ∧ us ≤ hl h (hR h f_Texts_bytes (C + 46)) ∧ (hl h (hR h f_Texts_from (C + 46)) = 256 ∨ hl h (hR h f_Texts_from (C + 46)) = 4096 ∨ hl h (hR h f_Texts_from (C + 46)) = 16000) ∧ (hl h (hR h f_Texts_bytes (C + 46)) = 1024 ∨ hl h (hR h f_Texts_bytes (C + 46)) = 4096 ∨ hl h (hR h f_Texts_bytes (C + 46)) = 265600)) ∧ (mn ≤ 4000 + tm ∧ us ≤ 65536 + mb) ∧ ∀ x, txO S x → TXV Γ X S mn us sb mb x
/-- two texts compared from a place on -/
def cmpB (p q : Nat → Int) (n m : Nat) : Nat → Nat → Int
  | 0, _ => w32 ((n : Int) - (m : Int))
  | j + 1, k => if w32 (p k - q k) = 0 then cmpB p q n m j (k + 1) else w32 (p k - q k)
theorem cmpB_c {p q p' q' : Nat → Int} {n m : Nat} : ∀ {j k : Nat}, j + k ≤ n → j + k ≤ m → (∀ i, i < n → p' i = p i) → (∀ i, i < m → q' i = q i) → cmpB p' q' n m j k = cmpB p q n m j k
  | 0, _, _, _, _, _ => rfl
  | j + 1, k, h1, h2, h3, h4 => by
    unfold cmpB
    rw [h3 k (by omega), h4 k (by omega), cmpB_c (by omega) (by omega) h3 h4]
section
variable {ρ : Nat → Nat} {d : Nat} {h h0 : ah} {Q : QT} {T C x y a b n m : Nat} {S : SS} {X : X3} {Y : Y3}
theorem s_compareTexts (O : TOK h0 T) (hx : x < 16000) (hy : y < 16000) (e1 : S f_Md_textFrom x = (a : Int)) (e2 : S f_Md_textLength x = (n : Int)) (e3 : S f_Md_textFrom y = (b : Int)) (e4 : S f_Md_textLength y = (m : Int)) (h1 : a + n ≤ 269632) (h2 : b + m ≤ 269632) (q : Q (Sum.inl (some (vI (cmpB (fun i => S f_Md_textSigns (a + i)) (fun i => S f_Md_textSigns (b + i)) n m (min n m) 0)))) (cn h0 T S)) : wpB PGm ρ d m_Md_compareTexts 0 [(0, vR T), (1, vI (x : Int)), (2, vI (y : Int))] [] (cn h0 T S) Q := by
  obtain ⟨kT, G, kH⟩ := O
  have lp : ∀ j k, j + k = min n m → Q (Sum.inl (some (vI (cmpB (fun i => S f_Md_textSigns (a + i)) (fun i => S f_Md_textSigns (b + i)) n m j k)))) (cn h0 T S) → wpB PGm ρ d m_Md_compareTexts 18 [(0, vR T), (1, vI (x : Int)), (2, vI (y : Int)), (3, vI (n : Int)), (4, vI (m : Int)), (5, vI (k : Int))] [] (cn h0 T S) Q := by
    intro j
    induction j with
    | zero =>
      intro k hk q
      refine b_Md_compareTexts_18 ⟨fun _ => q, fun _ => ⟨fun _ => q, fun z => by omega⟩⟩
    | succ j ih =>
      intro k hk q
      refine b_Md_compareTexts_18 ⟨fun z => by omega, fun z => ⟨fun z => by omega, fun z2 => ?_⟩⟩
      simp (decide := true) (disch := first | decide | omega) only [cnI, cnIe, cnR, cnK, cnl, cnA' G, cn_sI, cn_sIe, cn_sA' G, kT, kH, KN G, LN G, u2_f, u2_s, w32_aa, w32_ss, w32_p1, w32_m1, Int.toNat_natCast, true_and, and_true, false_and, and_false, or_false, false_or, ne_eq, not_false_eq_true, forall_const, implies_true, not_true_eq_false, false_implies, e1, e3]
      refine ⟨by omega, by omega, by omega, by omega, fun e => ?_, fun e => ?_⟩
      · refine ih (k + 1) (by omega) ?_
        rw [cmpB, if_pos e] at q; exact q
      · rw [cmpB, if_neg e] at q; exact q
  refine b_Md_compareTexts_0 ?_
  simp (decide := true) (disch := first | decide | omega) only [cnI, cnIe, cnR, cnK, cnl, cnA' G, cn_sI, cn_sIe, cn_sA' G, kT, kH, KN G, LN G, u2_f, u2_s, w32_aa, w32_ss, w32_p1, w32_m1, Int.toNat_natCast, true_and, and_true, false_and, and_false, or_false, false_or, ne_eq, not_false_eq_true, forall_const, implies_true, not_true_eq_false, false_implies, e2, e4]
  exact ⟨by omega, by omega, lp (min n m) 0 (by omega) q⟩
theorem r_compare (G : AC h C) (F : FC h C) (hd : 10 ≤ d) (l1 : x < hl h (hR h f_Texts_from (C + 46))) (l2 : y < hl h (hR h f_Texts_from (C + 46))) (l3 : hl h (hR h f_Texts_size (C + 46)) = hl h (hR h f_Texts_from (C + 46))) (e1 : X 46 f_Texts_from x = (a : Int)) (e2 : X 46 f_Texts_size x = (n : Int)) (e3 : X 46 f_Texts_from y = (b : Int)) (e4 : X 46 f_Texts_size y = (m : Int)) (h1 : a + n ≤ hl h (hR h f_Texts_bytes (C + 46))) (h2 : b + m ≤ hl h (hR h f_Texts_bytes (C + 46))) (h3 : hl h (hR h f_Texts_bytes (C + 46)) ≤ 1000000) (q : Q (Sum.inl (some (vI (cmpB (fun i => X 46 f_Texts_bytes (a + i)) (fun i => X 46 f_Texts_bytes (b + i)) n m (min n m) 0)))) (cc h C X Y)) : wpB PGm ρ d m_Texts_compare 0 [(0, vR (C + 46)), (1, vI (x : Int)), (2, vI (y : Int))] [] (cc h C X Y) Q := by
  have f2 := F
  unfold FC at f2
  have f1 := trivial
  have ht : isT 62 := Or.inl rfl
  have lp : ∀ j k, j + k = min n m → Q (Sum.inl (some (vI (cmpB (fun i => X 46 f_Texts_bytes (a + i)) (fun i => X 46 f_Texts_bytes (b + i)) n m j k)))) (cc h C X Y) → wpB PGm ρ d m_Texts_compare 19 [(0, vR (C + 46)), (1, vI (x : Int)), (2, vI (y : Int)), (3, vI ((min n m : Nat) : Int)), (4, vI (k : Int))] [] (cc h C X Y) Q := by
    intro j
    induction j with
    | zero =>
      intro k hk q
      refine b_Texts_compare_19 ⟨fun _ => ?_, fun z => by omega⟩
      simp (decide := true) (disch := first | decide | omega) only [ccI, ccR, ccIt ht, ccRo, ccK, ccl, ccA G, ccAt G ht, ccB G, ccBt G ht, cc_sI, cc_sR, cc_sIt ht, cc_sA G, cc_sAt G ht, cc_sB G, cc_sBt G ht, f1, f2, u3_f, u3_s, KCt G ht, KC G, w32_aa, w32_ss, w32_p1, w32_m1, Int.toNat_natCast, true_and, and_true, false_and, and_false, or_false, false_or, ne_eq, not_false_eq_true, forall_const, implies_true, not_true_eq_false, false_implies, e2, e4, l3]
      exact ⟨by omega, by omega, q⟩
    | succ j ih =>
      intro k hk q
      refine b_Texts_compare_19 ⟨fun z => by omega, fun z => ?_⟩
      simp (decide := true) (disch := first | decide | omega) only [ccI, ccR, ccIt ht, ccRo, ccK, ccl, ccA G, ccAt G ht, ccB G, ccBt G ht, cc_sI, cc_sR, cc_sIt ht, cc_sA G, cc_sAt G ht, cc_sB G, cc_sBt G ht, f1, f2, u3_f, u3_s, KCt G ht, KC G, w32_aa, w32_ss, w32_p1, w32_m1, Int.toNat_natCast, true_and, and_true, false_and, and_false, or_false, false_or, ne_eq, not_false_eq_true, forall_const, implies_true, not_true_eq_false, false_implies, e1, e3]
      refine ⟨by omega, by omega, by omega, by omega, fun e => ?_, fun e => ?_⟩
      · refine ih (k + 1) (by omega) ?_
        rw [cmpB, if_pos e] at q; exact q
      · rw [cmpB, if_neg e] at q; exact q
  have em : (if (m : Int) < (n : Int) then (m : Int) else (n : Int)) = ((min n m : Nat) : Int) := by split <;> omega
  refine b_Texts_compare_0 hd ?_
  simp (decide := true) (disch := first | decide | omega) only [ccI, ccR, ccIt ht, ccRo, ccK, ccl, ccA G, ccAt G ht, ccB G, ccBt G ht, cc_sI, cc_sR, cc_sIt ht, cc_sA G, cc_sAt G ht, cc_sB G, cc_sBt G ht, f1, f2, u3_f, u3_s, KCt G ht, KC G, w32_aa, w32_ss, w32_p1, w32_m1, Int.toNat_natCast, true_and, and_true, false_and, and_false, or_false, false_or, ne_eq, not_false_eq_true, forall_const, implies_true, not_true_eq_false, false_implies, e2, e4, em, l3]
  exact ⟨by omega, by omega, lp (min n m) 0 (by omega) q⟩
end
