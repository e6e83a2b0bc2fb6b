/-! T: two values are joined to a text -/
set_option maxRecDepth 20000
/-- an operand whose bytes are to be copied -/
def OPB (S : SS) (A : Nat) (ty v : Int) (bs : List Int) : Prop := (∀ i, i < bs.length → -128 ≤ bs.getD i 0 ∧ bs.getD i 0 ≤ 127) ∧ ((ty = 3 ∧ ∃ x a : Nat, v = (x : Int) ∧ x < 16000 ∧ S f_Md_textFrom x = (a : Int) ∧ a + bs.length ≤ A ∧ ∀ i, i < bs.length → S f_Md_textSigns (a + i) = bs.getD i 0) ∨ (ty ≠ 3 ∧ bs.length ≤ 256 ∧ ∀ i, i < bs.length → S f_Md_spelt i = bs.getD i 0))
section
variable {ρ : Nat → Nat} {d : Nat} {h h' h0 : ah} {Q : QT} {T k f g n c t i j x p r tm mb am ab A : Nat} {op a b v w ty ty2 v2 : Int} {S X S1 : SS} {bs cs : List Int}
theorem OPB.tx (H : OPB S A ty v bs) (hp : A ≤ p) : OPB (tx1 S p cs) A ty v bs := by
  obtain ⟨h1, h2⟩ := H
  refine ⟨h1, ?_⟩
  rcases h2 with ⟨e, x, a, e1, e2, e3, e4, e5⟩ | ⟨e, e1, e2⟩
  · exact Or.inl ⟨e, x, a, e1, e2, by rw [tx1_o (by decide)]; exact e3, e4, fun i hi => by rw [tx1_n (by omega)]; exact e5 i hi⟩
  · exact Or.inr ⟨e, e1, fun i hi => by rw [tx1_o (by decide)]; exact e2 i hi⟩
/-- the bytes of the first -/
theorem s_j88 (O : TOK h0 T) (hk : k < 16000) (ek : S f_Md_textFrom k = (A : Int)) (B : OPB S A ty v bs) (hA : A + bs.length ≤ 269632) {l5 : Int} {l4 l8 : Int} (q : wpB PGm ρ d m_Md_joined 149 [(0, vR T), (4, vI l4), (5, vL l5), (7, vI (bs.length : Int)), (8, vI l8), (9, vI (k : Int)), (10, vI 0)] [] (cn h0 T (tx1 S A bs)) Q) : wpB PGm ρ d m_Md_joined 88 [(0, vR T), (1, vI ty), (2, vL v), (4, vI l4), (5, vL l5), (7, vI (bs.length : Int)), (8, vI l8), (9, vI (k : Int)), (10, vI 0)] [] (cn h0 T S) Q := by
  have key : ∀ m j, j + m = bs.length → wpB PGm ρ d m_Md_joined 88 [(0, vR T), (1, vI ty), (2, vL v), (4, vI l4), (5, vL l5), (7, vI (bs.length : Int)), (8, vI l8), (9, vI (k : Int)), (10, vI (j : Int))] [] (cn h0 T (tx1 S A (bs.take j))) Q := by
    intro m
    induction m with
    | zero =>
      intro j hj
      have : j = bs.length := by omega
      subst this
      rw [List.take_length]
      exact b_Md_joined_88 ⟨fun _ => q, fun w => by omega⟩
    | succ m ih =>
      intro j hj
      have hj' : j < bs.length := by omega
      have nx := ih (j + 1) (by omega)
      have B' := B.tx (p := A) (cs := bs.take j) (Nat.le_refl _)
      have u := tx1_u (S := S) (p := A) hj'
      have eA : tx1 S A (bs.take j) f_Md_textFrom k = (A : Int) := by rw [tx1_o (by decide)]; exact ek
      have rg := B'.1 j hj'
      have b1 : 0 ≤ (k : Int) ∧ (k : Int) < ((16000 : Nat) : Int) := by omega
      have b2 : 0 ≤ ((A + j : Nat) : Int) ∧ ((A + j : Nat) : Int) < ((269632 : Nat) : Int) := by omega
      have c1 : A + j ≤ 2000000000 := by omega
      have c2 : j ≤ 2000000000 := by omega
      have put : wpB PGm ρ d m_Md_joined 139 [(0, vR T), (1, vI ty), (2, vL v), (4, vI l4), (5, vL l5), (7, vI (bs.length : Int)), (8, vI l8), (9, vI (k : Int)), (10, vI (j : Int))] [vI (bs.getD j 0), vI ((A + j : Nat) : Int), vR (hR h0 f_Md_textSigns T)] (cn h0 T (tx1 S A (bs.take j))) Q := by
        obtain ⟨kT, G, kH⟩ := O
        have w1 : w32 ((j : Int) + 1) = ((j + 1 : Nat) : Int) := w32_s c2
        refine b_Md_joined_139 ?_
        rw [w1, Int.toNat_natCast]
        clear w1 B' B ih
        generalize bs.getD j 0 = cv at *
        generalize bs.take (j + 1) = bt at *
        simp (decide := true) only [cnK, cnl, cnR, cn_sA' G, KN G, LN G, u]
        exact And.intro (And.intro (Or.inl (And.intro trivial rg)) b2) nx
      have jn : (j : Int) < (bs.length : Int) := by omega
      have b4 := B'.2
      clear B B' ih nx u
      obtain ⟨kT, G, kH⟩ := O
      rcases b4 with ⟨t3, x, a, e1, e2, e3, e4, e5⟩ | ⟨t3, e1, e2⟩
      · have x1 := e5 j hj'
        have b5 : 0 ≤ (x : Int) ∧ (x : Int) < ((16000 : Nat) : Int) := by omega
        have b6 : 0 ≤ ((a + j : Nat) : Int) ∧ ((a + j : Nat) : Int) < ((269632 : Nat) : Int) := by omega
        have c3 : a + j ≤ 2000000000 := by omega
        have c4 : x < 2147483648 := by omega
        have w3 : w32 (x : Int) = (x : Int) := w32_of (by omega) (by omega)
        have w1 : w32 ((A : Int) + (j : Int)) = ((A + j : Nat) : Int) := w32_aa c1
        have w2 : w32 ((a : Int) + (j : Int)) = ((a + j : Nat) : Int) := w32_aa c3
        refine b_Md_joined_88 ⟨fun w => absurd jn (Int.not_lt.mpr w), fun _ => ?_⟩
        rw [e1] at put ⊢
        simp (decide := true) only [kT, cnK, cnl, cnR, cnA' G, KN G, LN G, eA, w3, e3, w1, w2, x1, Int.toNat_natCast, true_and, ne_eq]
        exact ⟨b1, fun w => absurd t3 w, fun _ => ⟨b5, b6, put⟩⟩
      · have x1 := e2 j hj'
        have b5 : 0 ≤ (j : Int) ∧ (j : Int) < ((256 : Nat) : Int) := by omega
        have w1 : w32 ((A : Int) + (j : Int)) = ((A + j : Nat) : Int) := w32_aa c1
        refine b_Md_joined_88 ⟨fun w => absurd jn (Int.not_lt.mpr w), fun _ => ?_⟩
        simp (decide := true) only [kT, cnK, cnl, cnR, cnA' G, KN G, LN G, eA, w1, x1, Int.toNat_natCast, true_and, ne_eq]
        exact ⟨b1, fun _ => ⟨b5, put⟩, fun w => absurd w t3⟩
  have := key bs.length 0 (by omega)
  rw [List.take_zero, tx1_nil] at this
  exact this
/-- the bytes of the second -/
theorem s_j149 (O : TOK h0 T) (hk : k < 16000) (ek : S f_Md_textFrom k = (A : Int)) (B : OPB S (A + n) ty v bs) (hA : A + n + bs.length ≤ 269632) (q : Q (Sum.inl (some (vI (k : Int)))) (cn h0 T (tx1 S (A + n) bs))) : wpB PGm ρ d m_Md_joined 149 [(0, vR T), (4, vI ty), (5, vL v), (7, vI (n : Int)), (8, vI (bs.length : Int)), (9, vI (k : Int)), (10, vI 0)] [] (cn h0 T S) Q := by
  have key : ∀ m j, j + m = bs.length → wpB PGm ρ d m_Md_joined 149 [(0, vR T), (4, vI ty), (5, vL v), (7, vI (n : Int)), (8, vI (bs.length : Int)), (9, vI (k : Int)), (10, vI (j : Int))] [] (cn h0 T (tx1 S (A + n) (bs.take j))) Q := by
    intro m
    induction m with
    | zero =>
      intro j hj
      have : j = bs.length := by omega
      subst this
      rw [List.take_length]
      exact b_Md_joined_149 ⟨fun _ => q, fun w => by omega⟩
    | succ m ih =>
      intro j hj
      have hj' : j < bs.length := by omega
      have nx := ih (j + 1) (by omega)
      have B' := B.tx (p := A + n) (cs := bs.take j) (Nat.le_refl _)
      have u := tx1_u (S := S) (p := A + n) hj'
      have eA : tx1 S (A + n) (bs.take j) f_Md_textFrom k = (A : Int) := by rw [tx1_o (by decide)]; exact ek
      have rg := B'.1 j hj'
      have b1 : 0 ≤ (k : Int) ∧ (k : Int) < ((16000 : Nat) : Int) := by omega
      have b2 : 0 ≤ ((A + n + j : Nat) : Int) ∧ ((A + n + j : Nat) : Int) < ((269632 : Nat) : Int) := by omega
      have c0 : A + n ≤ 2000000000 := by omega
      have c1 : A + n + j ≤ 2000000000 := by omega
      have c2 : j ≤ 2000000000 := by omega
      have put : wpB PGm ρ d m_Md_joined 205 [(0, vR T), (4, vI ty), (5, vL v), (7, vI (n : Int)), (8, vI (bs.length : Int)), (9, vI (k : Int)), (10, vI (j : Int))] [vI (bs.getD j 0), vI ((A + n + j : Nat) : Int), vR (hR h0 f_Md_textSigns T)] (cn h0 T (tx1 S (A + n) (bs.take j))) Q := by
        obtain ⟨kT, G, kH⟩ := O
        have w1 : w32 ((j : Int) + 1) = ((j + 1 : Nat) : Int) := w32_s c2
        refine b_Md_joined_205 ?_
        rw [w1, Int.toNat_natCast]
        clear w1 B' B ih
        generalize bs.getD j 0 = cv at *
        generalize bs.take (j + 1) = bt at *
        simp (decide := true) only [cnK, cnl, cnR, cn_sA' G, KN G, LN G, u]
        exact And.intro (And.intro (Or.inl (And.intro trivial rg)) b2) nx
      have jn : (j : Int) < (bs.length : Int) := by omega
      have b4 := B'.2
      clear B B' ih nx u
      obtain ⟨kT, G, kH⟩ := O
      rcases b4 with ⟨t3, x, a, e1, e2, e3, e4, e5⟩ | ⟨t3, e1, e2⟩
      · have x1 := e5 j hj'
        have b5 : 0 ≤ (x : Int) ∧ (x : Int) < ((16000 : Nat) : Int) := by omega
        have b6 : 0 ≤ ((a + j : Nat) : Int) ∧ ((a + j : Nat) : Int) < ((269632 : Nat) : Int) := by omega
        have c3 : a + j ≤ 2000000000 := by omega
        have w3 : w32 (x : Int) = (x : Int) := w32_of (by omega) (by omega)
        have w0 : w32 ((A : Int) + (n : Int)) = ((A + n : Nat) : Int) := w32_aa c0
        have w1 : w32 (((A + n : Nat) : Int) + (j : Int)) = ((A + n + j : Nat) : Int) := w32_aa c1
        have w2 : w32 ((a : Int) + (j : Int)) = ((a + j : Nat) : Int) := w32_aa c3
        refine b_Md_joined_149 ⟨fun w => absurd jn (Int.not_lt.mpr w), fun _ => ?_⟩
        rw [e1] at put ⊢
        simp (decide := true) only [kT, cnK, cnl, cnR, cnA' G, KN G, LN G, eA, w3, e3, w0, w1, w2, x1, Int.toNat_natCast, true_and, ne_eq]
        exact ⟨b1, fun w => absurd t3 w, fun _ => ⟨b5, b6, put⟩⟩
      · have x1 := e2 j hj'
        have b5 : 0 ≤ (j : Int) ∧ (j : Int) < ((256 : Nat) : Int) := by omega
        have w0 : w32 ((A : Int) + (n : Int)) = ((A + n : Nat) : Int) := w32_aa c0
        have w1 : w32 (((A + n : Nat) : Int) + (j : Int)) = ((A + n + j : Nat) : Int) := w32_aa c1
        refine b_Md_joined_149 ⟨fun w => absurd jn (Int.not_lt.mpr w), fun _ => ?_⟩
        simp (decide := true) only [kT, cnK, cnl, cnR, cnA' G, KN G, LN G, eA, w0, w1, x1, Int.toNat_natCast, true_and, ne_eq]
        exact ⟨b1, fun _ => ⟨b5, put⟩, fun w => absurd w t3⟩
  have := key bs.length 0 (by omega)
  rw [List.take_zero, tx1_nil] at this
  exact this
end
