/-! C: two values are joined: the whole -/
set_option maxRecDepth 20000
/-- what the join leaves: bytes printed, and the text made -/
def JND (h : ah) (C : Nat) (X : X3) (mn us am ab : Nat) (bs : List Int) (h' : ah) (X' : X3) : Prop := ∃ h1 X1 X2, PUT h C (u3 X 32 f_Machine_printed 0 0) 0 bs h1 X1 ∧ TGX h1 C (mkX X1 am ab bs.length) h' X2 mn us ∧ TGL h' C (mn + 1) (us + bs.length) ∧ X' = taX X2 mn us bs
section
variable {ρ : Nat → Nat} {d : Nat} {Q : QT} {h h1 h' h2 : ah} {C k n m o c x y z s f i j p r a mn us l am ab u1 u2 : Nat} {X X' X1 X2 : X3} {Y : Y3} {L : List Nat} {P : List (Nat × Nat)} {v w ty : Int} {bs cs : List Int}
theorem CVB.sz (H : CVB h C X ty v bs) : bs.length ≤ jsz ty bs + 20 ∧ jsz ty bs ≤ bs.length := by
  unfold jsz
  rcases H.2 with ⟨a, -⟩ | ⟨a, -, -, b, -⟩
  · rw [if_pos a]; omega
  · rw [if_neg a]; omega
theorem PUT.tgl (T : TGL h C mn us) (G : AC h C) (A : PUT h C X p bs h' X') : TGL h' C mn us := by
  obtain ⟨z, s, fr⟩ := A.2.2.1
  have l1 := ac_len G fr (f := f_Texts_size) (o := 46) (by decide) (by unfold DJ; decide)
  have l2 := ac_len G fr (f := f_Texts_from) (o := 46) (by decide) (by unfold DJ; decide)
  have l3 := ac_len G fr (f := f_Texts_bytes) (o := 46) (by decide) (by unfold DJ; decide)
  unfold TGL
  rw [l1, l2, l3]
  exact T
theorem TMX.eq (M : TMX X mn us am ab) (e : ∀ f, [f_Texts_many, f_Texts_used, f_Texts_made, f_Texts_bytesMade].elem f = true → X' 46 f 0 = X 46 f 0) : TMX X' mn us am ab := by
  obtain ⟨m1, m2, m3, m4, m5⟩ := M
  exact ⟨by rw [e _ (by decide)]; exact m1, by rw [e _ (by decide)]; exact m2, by rw [e _ (by decide)]; exact m3, by rw [e _ (by decide)]; exact m4, m5⟩
theorem taX_o (hf : LXX.elem f = false) : taX X mn us bs o f i = X o f i := by
  have n : ∀ g, LXX.elem g = true → f ≠ g := by rintro g hg rfl; rw [hg] at hf; cases hf
  unfold taX
  rw [u3_f (n _ (by decide)), u3_f (n _ (by decide)), u3_f (n _ (by decide)), u3_f (n _ (by decide)), txA_o (n _ (by decide))]
theorem JND.oo (J : JND h C X mn us am ab bs h' X') (hf : LXX.elem f = false) (hf2 : [f_Machine_print, f_Machine_printed].elem f = false) : X' o f i = X o f i := by
  obtain ⟨h1, X1, X2, A, B, -, rfl⟩ := J
  rw [taX_o hf, B.2.2.2.2.1 _ _ _ (fun c => ?_)]
  · have n : ∀ g, LXX.elem g = true → f ≠ g := by rintro g hg rfl; rw [hg] at hf; cases hf
    unfold mkX
    rw [u3_f (n _ (by decide)), u3_f (n _ (by decide)), A.2.2.2.2.2.2.2.2 _ _ _ hf2, u3_f]
    rintro rfl; revert hf2; decide
  · have : f = f_Texts_from ∨ f = f_Texts_size ∨ f = f_Texts_bytes := by have := c.2; unfold LTG at this; simpa using this
    rcases this with rfl | rfl | rfl <;> exact absurd hf (by decide)
theorem JND.ok (J : JND h C X mn us am ab bs h' X') : AC h' C ∧ FC h' C := by
  obtain ⟨h1, X1, X2, A, B, -, -⟩ := J
  exact ⟨B.1, B.2.1⟩
theorem r_join141 (I : IX h C X Y o n c) (K : STM ρ h) (hx : x ≤ 2000) (hy : y ≤ 2000) (A : CVB h C X (X o f_Task_tags x) (X o f_Task_words x) bs) (B : CVB h C X (X o f_Task_tags y) (X o f_Task_words y) cs) (J : X o f_Task_tags x = 3 ∨ X o f_Task_tags y = 3) (M : TMX X mn us am ab) (T : TGL h C mn us) (pl : PRL h C 0) (hm : am < 12000 → mn < 16000) (hn : ∀ z, ab + z ≤ 200000 → us + z ≤ 265600)
  (q1 : am < 12000 ∧ ab + (bs.length + cs.length) ≤ 200000 → ∀ h' X', JND h C X mn us am ab (bs ++ cs) h' X' → Q (Sum.inl none) (cc h' C (ansX X' o x c 3 (mn : Int)) Y))
  (q2 : ¬ (am < 12000 ∧ ab + (bs.length + cs.length) ≤ 200000) → ∀ h' X', (h' = h ∧ X' = X) ∨ PUT h C (u3 X 32 f_Machine_printed 0 0) 0 (bs ++ cs) h' X' → Q (Sum.inr (C + 33)) (cc h' C (erX X' 0) Y)) : wpB PGm ρ (d + 20) m_Machine_join 141 [(0, vR (C + 32)), (1, vI (x : Int)), (2, vI (y : Int))] [vI (jsz (X o f_Task_tags y) cs : Int), vI (jsz (X o f_Task_tags x) bs : Int)] (cc h C X Y) Q := by
  have I' := I
  obtain ⟨G, F, ht, e0, hn', hc1, hc2⟩ := I'
  have f1 := F.t ht
  unfold FCt at f1
  have f2 := F
  unfold FC at f2
  obtain ⟨e1, e2, e3⟩ := e0
  have b1 : 0 ≤ (x : Int) ∧ (x : Int) < ((2001 : Nat) : Int) := by omega
  have b2 : 0 ≤ (y : Int) ∧ (y : Int) < ((2001 : Nat) : Int) := by omega
  have sA := A.sz
  have sB := B.sz
  have lA : jsz (X o f_Task_tags x) bs ≤ 1000000 := by
    unfold jsz
    rcases A.2 with ⟨a, x', a', -, -, -, -, -, -, -, b, -⟩ | ⟨a, -⟩
    · rw [if_pos a]; omega
    · rw [if_neg a]; omega
  have lB : jsz (X o f_Task_tags y) cs ≤ 1000000 := by
    unfold jsz
    rcases B.2 with ⟨a, x', a', -, -, -, -, -, -, -, b, -⟩ | ⟨a, -⟩
    · rw [if_pos a]; omega
    · rw [if_neg a]; omega
  have sC : bs.length + cs.length ≤ jsz (X o f_Task_tags x) bs + jsz (X o f_Task_tags y) cs + 20 := by
    rcases J with j | j
    · have : jsz (X o f_Task_tags x) bs = bs.length := by unfold jsz; rw [if_pos j]
      omega
    · have : jsz (X o f_Task_tags y) cs = cs.length := by unfold jsz; rw [if_pos j]
      omega
  have M0 := M
  obtain ⟨m1, m2, m3, m4, m5, m6⟩ := M
  generalize jsz (X o f_Task_tags x) bs = u1 at *
  generalize jsz (X o f_Task_tags y) cs = u2 at *
  have cu : u1 + u2 ≤ 2000000000 := by omega
  have cu' : u1 + u2 ≤ 2000000 := by omega
  have lap : (bs ++ cs).length = bs.length + cs.length := List.length_append
  -- there is room
  have go : am < 12000 ∧ ab + (u1 + u2) ≤ 200000 → wpB PGm ρ (d + 19) m_Machine_putValue 0 [(0, vR (C + 32)), (1, vI (X o f_Task_tags x)), (2, vL (X o f_Task_words x))] [] (cc h C (u3 X 32 f_Machine_printed 0 0) Y) (cV (fun h22 => hK h22 (C + 32) = k_Machine ∧ hK h22 (hR h22 f_Machine_t (C + 32)) = k_Task ∧ (hK h22 (hR h22 f_Task_tags (hR h22 f_Machine_t (C + 32))) ∈ [3, 4, 13] ∧ 0 ≤ (y : Int) ∧ (y : Int) < (hl h22 (hR h22 f_Task_tags (hR h22 f_Machine_t (C + 32))) : Int)) ∧ (hK h22 (hR h22 f_Task_words (hR h22 f_Machine_t (C + 32))) ∈ [2] ∧ 0 ≤ (y : Int) ∧ (y : Int) < (hl h22 (hR h22 f_Task_words (hR h22 f_Machine_t (C + 32))) : Int)) ∧ wpB PGm ρ (d + 19) m_Machine_putValue 0 [(0, vR (C + 32)), (1, vI (hA h22 (hR h22 f_Task_tags (hR h22 f_Machine_t (C + 32))) (y : Int).toNat)), (2, vL (hA h22 (hR h22 f_Task_words (hR h22 f_Machine_t (C + 32))) (y : Int).toNat))] [] h22 (cV (fun h33 => hK h33 (C + 32) = k_Machine ∧ wpB PGm ρ (d + 19) m_Machine_makeText 0 [(0, vR (C + 32))] [] h33 (cI (fun x45 h40 => hK h40 (C + 32) = k_Machine ∧ wpB PGm ρ (d + 19) m_Machine_answer 0 [(0, vR (C + 32)), (1, vI (x : Int)), (2, vI 3), (3, vL x45)] [] h40 (cV (fun h48 => Q (Sum.inl none) h48) (fun e51 h50 => hK h50 e51 ≠ 0 ∧ Q (Sum.inr e51) h50))) (fun e43 h42 => hK h42 e43 ≠ 0 ∧ Q (Sum.inr e43) h42))) (fun e36 h35 => hK h35 e36 ≠ 0 ∧ Q (Sum.inr e36) h35))) (fun e25 h24 => hK h24 e25 ≠ 0 ∧ Q (Sum.inr e25) h24)) := by
    intro rm
    refine r_putValue (d := d + 18) (p := 0) G F K u3_s pl (A.u rfl) (by omega) (by omega) (fun h1 X1 A1 => ?_)
    obtain ⟨G1, F1, pl1, p1⟩ := A1.ok
    obtain ⟨z1, s1, fr1⟩ := A1.2.2.1
    have x1 := A1.2.2.2.2.2.2.2.2
    have B1 := (B.u (f := f_Machine_printed) (o := 32) (i := 0) (v := 0) rfl).put G A1
    have y1 : X1 o f_Task_tags y = X o f_Task_tags y := by rw [x1 _ _ _ (by decide), u3_f (by decide)]
    have y2 : X1 o f_Task_words y = X o f_Task_words y := by rw [x1 _ _ _ (by decide), u3_f (by decide)]
    have g2 : wpB PGm ρ (d + 19) m_Machine_putValue 0 [(0, vR (C + 32)), (1, vI (X o f_Task_tags y)), (2, vL (X o f_Task_words y))] [] (cc h1 C X1 Y) (cV (fun h33 => hK h33 (C + 32) = k_Machine ∧ wpB PGm ρ (d + 19) m_Machine_makeText 0 [(0, vR (C + 32))] [] h33 (cI (fun x45 h40 => hK h40 (C + 32) = k_Machine ∧ wpB PGm ρ (d + 19) m_Machine_answer 0 [(0, vR (C + 32)), (1, vI (x : Int)), (2, vI 3), (3, vL x45)] [] h40 (cV (fun h48 => Q (Sum.inl none) h48) (fun e51 h50 => hK h50 e51 ≠ 0 ∧ Q (Sum.inr e51) h50))) (fun e43 h42 => hK h42 e43 ≠ 0 ∧ Q (Sum.inr e43) h42))) (fun e36 h35 => hK h35 e36 ≠ 0 ∧ Q (Sum.inr e36) h35)) := by
      refine r_putValue (d := d + 18) (p := 0 + bs.length) G1 F1 (K.fr fr1 (by simp)) p1 pl1 B1 (by omega) (by omega) (fun h2 X2 A2 => ⟨?_, ?_⟩)
      · exact A2.2.1.1.1
      · have AA := A1.app A2
        obtain ⟨G2, F2, pl2, p2⟩ := AA.ok
        have x2 := AA.2.2.2.2.2.2.2.2
        rw [Nat.zero_add] at pl2 p2
        have pr : PRT X2 (bs ++ cs) := by
          refine ⟨p2, fun i hi => ?_, fun i hi => ?_⟩
          · have := AA.2.2.2.2.2.2.2.1 i hi
            rw [Nat.zero_add] at this; exact this
          · rw [List.getD_eq_getElem?_getD, List.getElem?_append]
            by_cases w : i < bs.length
            · rw [if_pos w, ← List.getD_eq_getElem?_getD]; exact A.1 i w
            · rw [if_neg w, ← List.getD_eq_getElem?_getD]; exact B.1 _ (by omega)
        have M2 : TMX X2 mn us am ab := M0.eq (fun f hf => by
          have : f = f_Texts_many ∨ f = f_Texts_used ∨ f = f_Texts_made ∨ f = f_Texts_bytesMade := by simpa using hf
          rw [x2 _ _ _ (by rcases this with rfl | rfl | rfl | rfl <;> decide), u3_f (by rcases this with rfl | rfl | rfl | rfl <;> decide)])
        refine r_makeText (d := d + 16) (bs := bs ++ cs) G2 F2 (by omega) M2 (AA.tgl T G) pr pl2 hm (hn _) (fun rm2 h3 X3 T3 L3 => ⟨?_, ?_⟩) (fun rm2 => ⟨?_, ?_⟩)
        · exact T3.2.1.1.1
        · have JJ : JND h C X mn us am ab (bs ++ cs) h3 (taX X3 mn us (bs ++ cs)) := ⟨h2, X2, X3, AA, T3, L3, rfl⟩
          refine r_answer (d := d + 18) (n := x) (c := c) T3.1 T3.2.1 ht e1 ?_ hx ⟨hc1, hc2⟩ (by decide) ?_
          · rw [JJ.oo (by decide) (by decide)]; exact e3
          · exact q1 (by rw [← lap]; exact rm2) _ _ JJ
        · rw [ccK, F2.1.2.1]; decide
        · exact q2 (by rw [← lap]; exact rm2) _ _ (Or.inr AA)
    have b2' := b2
    clear q1 q2 A B A1 B1 M0 T K hn hm sA sB sC lA lB rm I
    have g1 := F1.t ht
    unfold FCt at g1
    have g3 := F1
    unfold FC at g3
    show _ ∧ _
    simp (decide := true) only [ccI, ccR, ccRo, ccK, ccl, ccA G1, ccAt G1 ht, KC G1, KCt G1 ht, g1, g3, e1, y1, y2, Int.toNat_natCast, true_and, and_true]
    exact ⟨b2, b2, g2⟩
  have fl : ¬ (am < 12000 ∧ ab + (u1 + u2) ≤ 200000) → wpB PGm ρ (d + 18 + 1) m_Heap_full 0 [(0, vR (C + 50))] [] (cc h C X Y) (cR (fun x62 h57 => hK h57 x62 ≠ 0 ∧ Q (Sum.inr x62) h57) (fun e60 h59 => hK h59 e60 ≠ 0 ∧ Q (Sum.inr e60) h59)) := fun rm => r_full G F ⟨by rw [ccK, F.1.2.1]; decide, q2 (fun c => rm ⟨c.1, by have := c.2; have := sA.2; have := sB.2; omega⟩) h X (Or.inl ⟨rfl, rfl⟩)⟩
  have w1 : w32 ((u1 : Int) + (u2 : Int)) = ((u1 + u2 : Nat) : Int) := w32_aa cu
  clear q1 q2 A B T K hn hm sA sB sC I lap m1 m2 m3 m4 m5 m6 pl J
  refine b_Machine_join_141 ?_
  simp (decide := true) only [ccI, ccR, ccRo, ccK, ccl, KC G, f2, w1, true_and]
  refine r_hasRoom (p := u1 + u2) G F M0 ?_ (fun z => ?_) (fun z => ?_)
  · exact cu'
  · have g := go z
    clear fl go M0 z
    simp (decide := true) only [cI, ccI, ccR, ccRo, ccK, ccl, cc_sI, ccA G, ccAt G ht, KC G, KCt G ht, f1, f2, e1, u3_f, Int.toNat_natCast, true_and, and_true, false_implies, forall_const]
    exact ⟨b1, b1, g⟩
  · have g := fl z
    clear fl go M0 z
    simp (decide := true) only [cI, ccI, ccR, ccRo, ccK, ccl, KC G, f2, true_and, and_true, false_implies, forall_const, not_true_eq_false]
    exact g
end
