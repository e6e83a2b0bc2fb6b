/-! C: a text is added -/
set_option maxRecDepth 20000
def LTG : List Nat := [f_Texts_from, f_Texts_size, f_Texts_bytes]
/-- the rows of texts grow -/
def TGX (h : ah) (C : Nat) (X : X3) (h' : ah) (X' : X3) (mn us : Nat) : Prop := AC h' C ∧ FC h' C ∧ (∃ z s, Fr (LCC ++ LTG) [] z s h h') ∧ GRB h C h' ∧ (∀ o f i, ¬ (o = 46 ∧ LTG.elem f = true) → X' o f i = X o f i) ∧ (∀ i, i < mn → X' 46 f_Texts_from i = X 46 f_Texts_from i ∧ X' 46 f_Texts_size i = X 46 f_Texts_size i) ∧ (∀ i, i < us → X' 46 f_Texts_bytes i = X 46 f_Texts_bytes i)
/-- how long they are -/
def TGL (h : ah) (C mn us : Nat) : Prop := mn ≤ hl h (hR h f_Texts_from (C + 46)) ∧ hl h (hR h f_Texts_size (C + 46)) = hl h (hR h f_Texts_from (C + 46)) ∧ us ≤ hl h (hR h f_Texts_bytes (C + 46)) ∧ (hl h (hR h f_Texts_from (C + 46)) = 256 ∨ hl h (hR h f_Texts_from (C + 46)) = 4096 ∨ hl h (hR h f_Texts_from (C + 46)) = 16000) ∧ (hl h (hR h f_Texts_bytes (C + 46)) = 1024 ∨ hl h (hR h f_Texts_bytes (C + 46)) = 4096 ∨ hl h (hR h f_Texts_bytes (C + 46)) = 265600)
def txA (X : X3) (p : Nat) (bs : List Int) : X3 := fun o f i => if o = 46 ∧ f = f_Texts_bytes ∧ p ≤ i ∧ i < p + bs.length then bs.getD (i - p) 0 else X o f i
/-- the text is there -/
def taX (X : X3) (mn us : Nat) (bs : List Int) : X3 := u3 (u3 (u3 (u3 (txA X us bs) 46 f_Texts_from mn (us : Int)) 46 f_Texts_size mn (bs.length : Int)) 46 f_Texts_used 0 ((us + bs.length : Nat) : Int)) 46 f_Texts_many 0 ((mn + 1 : Nat) : Int)
section
variable {ρ : Nat → Nat} {d : Nat} {Q : QT} {h h1 h' h2 : ah} {C k n m o c x y z s f i j p r a mn us : Nat} {X X' X1 X2 : X3} {Y : Y3} {L : List Nat} {P : List (Nat × Nat)} {v w : Int} {bs cs : List Int}
theorem txA_o (hf : f ≠ f_Texts_bytes) : txA X p bs o f i = X o f i := if_neg fun c => hf c.2.1
theorem txA_nil : txA X p [] = X := by
  funext o f i
  exact if_neg fun c => by have := c.2.2; simp at this; omega
theorem txA_u (hj : j < bs.length) : u3 (txA X p (bs.take j)) 46 f_Texts_bytes (p + j) (bs.getD j 0) = txA X p (bs.take (j + 1)) := by
  funext o f i
  rw [u3_e]
  unfold txA
  have l1 : (bs.take j).length = j := by rw [List.length_take]; omega
  have l2 : (bs.take (j + 1)).length = j + 1 := by rw [List.length_take]; omega
  rw [l1, l2]
  by_cases q : o = 46 ∧ f = f_Texts_bytes
  · by_cases q2 : i = p + j
    · rw [if_pos ⟨q.1, q.2, q2⟩, if_pos ⟨q.1, q.2, by omega, by omega⟩, List.getD_eq_getElem?_getD, List.getD_eq_getElem?_getD, List.getElem?_take, if_pos (by omega)]
      congr 2; omega
    · rw [if_neg (fun c => q2 c.2.2)]
      by_cases q3 : p ≤ i ∧ i < p + j
      · rw [if_pos ⟨q.1, q.2, q3⟩, if_pos ⟨q.1, q.2, by omega, by omega⟩, List.getD_eq_getElem?_getD, List.getD_eq_getElem?_getD, List.getElem?_take, List.getElem?_take, if_pos (by omega), if_pos (by omega)]
      · rw [if_neg (fun c => q3 c.2.2), if_neg (fun c => q3 ⟨c.2.2.1, by omega⟩)]
  · rw [if_neg (fun c => q ⟨c.1, c.2.1⟩), if_neg (fun c => q ⟨c.1, c.2.1⟩), if_neg (fun c => q ⟨c.1, c.2.1⟩)]
/-- the bytes are copied -/
theorem r_tcopy (G : AC h C) (F : FC h C) (e1 : X 46 f_Texts_many 0 = (mn : Int)) (e2 : X 46 f_Texts_used 0 = (us : Int)) (hm : mn < hl h (hR h f_Texts_from (C + 46))) (hm2 : hl h (hR h f_Texts_size (C + 46)) = hl h (hR h f_Texts_from (C + 46))) (hb : us + bs.length ≤ hl h (hR h f_Texts_bytes (C + 46))) (hmm : mn ≤ 1000000 ∧ us + bs.length ≤ 1000000 ∧ a + bs.length ≤ 1000000) (kr : hK h r ∈ [3, 4, 13]) (lr : a + bs.length ≤ hl h r) (rg : ∀ i, i < bs.length → -128 ≤ bs.getD i 0 ∧ bs.getD i 0 ≤ 127) (src : ∀ X', (∀ o f i, f ≠ f_Texts_bytes → X' o f i = X o f i) → ∀ i, i < bs.length → hA (cc h C X' Y) r (a + i) = bs.getD i 0) (q : Q (Sum.inl (some (vI (mn : Int)))) (cc h C (taX X mn us bs) Y)) : wpB PGm ρ d m_Texts_add 95 [(0, vR (C + 46)), (1, vR r), (2, vI (a : Int)), (3, vI (bs.length : Int)), (4, vI 0)] [] (cc h C X Y) Q := by
  have key : ∀ m j, j + m = bs.length → wpB PGm ρ d m_Texts_add 95 [(0, vR (C + 46)), (1, vR r), (2, vI (a : Int)), (3, vI (bs.length : Int)), (4, vI (j : Int))] [] (cc h C (txA X us (bs.take j)) Y) Q := by
    intro m
    induction m with
    | zero =>
      intro j hj
      have : j = bs.length := by omega
      subst this
      rw [List.take_length]
      have t1 : txA X us bs 46 f_Texts_many 0 = (mn : Int) := by rw [txA_o (by decide)]; exact e1
      have t2 : txA X us bs 46 f_Texts_used 0 = (us : Int) := by rw [txA_o (by decide)]; exact e2
      have b1 : 0 ≤ (mn : Int) ∧ (mn : Int) < (hl h (hR h f_Texts_from (C + 46)) : Int) := by omega
      have b2 : 0 ≤ (mn : Int) ∧ (mn : Int) < (hl h (hR h f_Texts_size (C + 46)) : Int) := by omega
      have c1 : us + bs.length ≤ 2000000000 := by omega
      have c2 : mn ≤ 2000000000 := by omega
      have c3 : 1 ≤ mn + 1 ∧ mn + 1 ≤ 2000000000 := by omega
      have le : (bs.length : Int) ≤ (bs.length : Int) := Int.le_refl _
      have nl : ¬ (bs.length : Int) < (bs.length : Int) := Int.lt_irrefl _
      have w1 : w32 ((us : Int) + (bs.length : Int)) = ((us + bs.length : Nat) : Int) := w32_aa c1
      have w2 : w32 ((mn : Int) + 1) = ((mn + 1 : Nat) : Int) := w32_s c2
      have w3 : w32 (((mn + 1 : Nat) : Int) - 1) = (mn : Int) := w32_m1 c3
      unfold taX at q
      clear src rg hb hmm kr lr c1 c2
      have f2 := F
      unfold FC at f2
      refine b_Texts_add_95 ⟨fun _ => ?_, fun w => absurd w nl⟩
      simp (decide := true) only [ccI, ccR, ccRo, ccK, ccl, cc_sI, cc_sA G, KC G, f2, u3_f, u3_s, t1, t2, w1, w2, w3, Int.toNat_natCast, true_and, and_true]
      exact ⟨b1, b2, q⟩
    | succ m ih =>
      intro j hj
      have hj' : j < bs.length := by omega
      have nx := ih (j + 1) (by omega)
      have u := txA_u (X := X) (p := us) hj'
      have sr := src (txA X us (bs.take j)) (fun o f i hf => txA_o hf) j hj'
      have rg' := rg j hj'
      have t2 : txA X us (bs.take j) 46 f_Texts_used 0 = (us : Int) := by rw [txA_o (by decide)]; exact e2
      have b1 : 0 ≤ ((a + j : Nat) : Int) ∧ ((a + j : Nat) : Int) < (hl h r : Int) := by omega
      have b2 : 0 ≤ ((us + j : Nat) : Int) ∧ ((us + j : Nat) : Int) < (hl h (hR h f_Texts_bytes (C + 46)) : Int) := by omega
      have c1 : a + j ≤ 2000000000 := by omega
      have c2 : us + j ≤ 2000000000 := by omega
      have c3 : j ≤ 2000000000 := by omega
      have jn : (j : Int) < (bs.length : Int) := by omega
      have w1 : w32 ((a : Int) + (j : Int)) = ((a + j : Nat) : Int) := w32_aa c1
      have w2 : w32 ((us : Int) + (j : Int)) = ((us + j : Nat) : Int) := w32_aa c2
      have w3 : w32 ((j : Int) + 1) = ((j + 1 : Nat) : Int) := w32_s c3
      clear src rg hb hmm ih c1 c2 c3 q hm hm2 lr
      generalize bs.getD j 0 = cv at *
      generalize bs.take (j + 1) = bt at *
      have f2 := F
      unfold FC at f2
      refine b_Texts_add_95 ⟨fun w => absurd jn (Int.not_lt.mpr w), fun _ => ?_⟩
      simp (decide := true) only [ccI, ccR, ccRo, ccK, ccl, cc_sA G, KC G, f2, t2, w1, w2, w3, sr, u, Int.toNat_natCast, true_and, and_true]
      exact And.intro (And.intro kr b1) (And.intro (And.intro (Or.inl rg') b2) nx)
  have := key bs.length 0 (by omega)
  rw [List.take_zero, txA_nil] at this
  exact this
end
