/-! C: a text is made of what was printed -/
set_option maxRecDepth 20000
def mkX (X : X3) (am ab p : Nat) : X3 := u3 (u3 X 46 f_Texts_made 0 ((am + 1 : Nat) : Int)) 46 f_Texts_bytesMade 0 ((ab + p : Nat) : Int)
def PRT (X : X3) (bs : List Int) : Prop := X 32 f_Machine_printed 0 = (bs.length : Int) ∧ (∀ i, i < bs.length → X 32 f_Machine_print i = bs.getD i 0) ∧ (∀ i, i < bs.length → -128 ≤ bs.getD i 0 ∧ bs.getD i 0 ≤ 127)
def TMX (X : X3) (mn us am ab : Nat) : Prop := X 46 f_Texts_many 0 = (mn : Int) ∧ X 46 f_Texts_used 0 = (us : Int) ∧ X 46 f_Texts_made 0 = (am : Int) ∧ X 46 f_Texts_bytesMade 0 = (ab : Int) ∧ am ≤ 12000 ∧ ab ≤ 200000
section
variable {ρ : Nat → Nat} {d : Nat} {Q : QT} {h h1 h' h2 : ah} {C k n m o c x y z s f i j p r a mn us l am ab : Nat} {X X' X1 X2 : X3} {Y : Y3} {L : List Nat} {P : List (Nat × Nat)} {v w : Int} {bs cs : List Int}
theorem r_hasRoom (G : AC h C) (F : FC h C) (M : TMX X mn us am ab) (hp : p ≤ 2000000) (q1 : am < 12000 ∧ ab + p ≤ 200000 → Q (Sum.inl (some (vI 1))) (cc h C X Y)) (q2 : ¬ (am < 12000 ∧ ab + p ≤ 200000) → Q (Sum.inl (some (vI 0))) (cc h C X Y)) : wpB PGm ρ d m_Texts_hasRoom 0 [(0, vR (C + 46)), (1, vI (p : Int))] [] (cc h C X Y) Q := by
  obtain ⟨m1, m2, m3, m4, m5, m6⟩ := M
  have c1 : ab + p ≤ 2000000000 := by omega
  have e1 : (12000 ≤ (am : Int)) = (12000 ≤ am) := propext (by omega)
  have e2 : ((am : Int) < 12000) = (am < 12000) := propext (by omega)
  have e3 : (200000 < ((ab + p : Nat) : Int)) = (200000 < ab + p) := propext (by omega)
  have e4 : (((ab + p : Nat) : Int) ≤ 200000) = (ab + p ≤ 200000) := propext (by omega)
  have w1 : w32 ((ab : Int) + (p : Int)) = ((ab + p : Nat) : Int) := w32_aa c1
  clear c1 hp m5 m6
  have f2 := F
  unfold FC at f2
  refine b_Texts_hasRoom_0 ?_
  simp (decide := true) only [ccI, ccK, f2, m3, m4, w1, e1, e2, e3, e4, true_and]
  clear w1 f2
  exact ⟨fun z => q2 (fun c => absurd c.1 (Nat.not_lt.mpr z)), fun z => ⟨fun y => q2 (fun c => absurd c.2 (Nat.not_le.mpr y)), fun y => q1 ⟨z, y⟩⟩⟩
theorem r_tmake (G : AC h C) (F : FC h C) (hd : 10 ≤ d) (M : TMX X mn us am ab) (T : TGL h C mn us) (B : PRT X bs) (pl : PRL h C bs.length) (hm : mn < 16000) (hn : us + bs.length ≤ 265600) (q : ∀ h' X', TGX h C (mkX X am ab bs.length) h' X' mn us → TGL h' C (mn + 1) (us + bs.length) → Q (Sum.inl (some (vI (mn : Int)))) (cc h' C (taX X' mn us bs) Y)) : wpB PGm ρ (d + 2) m_Texts_make 0 [(0, vR (C + 46)), (1, vR (hR h f_Machine_print (C + 32))), (2, vI 0), (3, vI (bs.length : Int))] [] (cc h C X Y) Q := by
  obtain ⟨m1, m2, m3, m4, m5, m6⟩ := M
  obtain ⟨p1, p2, p3⟩ := B
  have c1 : ab + bs.length ≤ 2000000000 := by omega
  have c2 : am ≤ 2000000000 := by omega
  have mm := G.2.2.2.1 (f_Machine_print, 32, 3) (by decide)
  have w1 : w32 ((ab : Int) + (bs.length : Int)) = ((ab + bs.length : Nat) : Int) := w32_aa c1
  have w2 : w32 ((am : Int) + 1) = ((am + 1 : Nat) : Int) := w32_s c2
  have g' : wpB PGm ρ (d + 1) m_Texts_add 0 [(0, vR (C + 46)), (1, vR (hR h f_Machine_print (C + 32))), (2, vI 0), (3, vI (bs.length : Int))] [] (cc h C (mkX X am ab bs.length) Y) (cI (fun x12 h7 => Q (Sum.inl (some (vI x12))) h7) (fun e10 h9 => hK h9 e10 ≠ 0 ∧ Q (Sum.inr e10) h9)) := by
    refine r_tadd (ρ := ρ) (d := d) (Y := Y) (X := mkX X am ab bs.length) (a := 0) (bs := bs) (r := hR h f_Machine_print (C + 32)) G F hd (by unfold mkX; rw [u3_f (by decide), u3_f (by decide)]; exact m1) (by unfold mkX; rw [u3_f (by decide), u3_f (by decide)]; exact m2) T hm hn (by omega) (G.2.1.1 _ _ (by have := G.1; omega) (by unfold own; decide)) (by rw [mm.2]; decide) (by have := pl.2; omega) p3 (fun h' X' A X'' ex i hi => by
      obtain ⟨z, s, fr⟩ := A.2.2.1
      have eR : hR h' f_Machine_print (C + 32) = hR h f_Machine_print (C + 32) := fr.R (by have := G.1; omega) (by decide) (fun c => c.elim (by decide) (fun w => by cases w))
      rw [← eR, ccA A.1 (by decide), ex _ _ _ (by decide), A.2.2.2.2.1 _ _ _ (fun c => absurd c.1 (by decide))]
      unfold mkX
      rw [u3_f (by decide), u3_f (by decide), Nat.zero_add]
      exact p2 i hi) q
  clear c1 c2 q p2 p3 pl T hn hm m5 m6
  unfold mkX at g'
  have f2 := F
  unfold FC at f2
  refine b_Texts_make_0 ?_
  simp (decide := true) only [ccI, ccK, cc_sI, f2, m3, m4, w1, w2, u3_f, true_and]
  exact g'
/-- a text is made, or there is no room -/
theorem r_makeText (G : AC h C) (F : FC h C) (hd : 10 ≤ d) (M : TMX X mn us am ab) (T : TGL h C mn us) (B : PRT X bs) (pl : PRL h C bs.length) (hm : am < 12000 → mn < 16000) (hn : ab + bs.length ≤ 200000 → us + bs.length ≤ 265600) (q1 : am < 12000 ∧ ab + bs.length ≤ 200000 → ∀ h' X', TGX h C (mkX X am ab bs.length) h' X' mn us → TGL h' C (mn + 1) (us + bs.length) → Q (Sum.inl (some (vI (mn : Int)))) (cc h' C (taX X' mn us bs) Y)) (q2 : ¬ (am < 12000 ∧ ab + bs.length ≤ 200000) → Q (Sum.inr (C + 33)) (cc h C (erX X 0) Y)) : wpB PGm ρ (d + 3) m_Machine_makeText 0 [(0, vR (C + 32))] [] (cc h C X Y) Q := by
  have pb : bs.length ≤ 2000000 := by obtain ⟨w | w | w, z⟩ := pl <;> omega
  have hr : wpB PGm ρ (d + 2) m_Texts_hasRoom 0 [(0, vR (C + 46)), (1, vI (bs.length : Int))] [] (cc h C X Y) (cI (fun x10 h5 => ((¬ x10 = 0 → hK h5 (C + 32) = k_Machine ∧ hK h5 (hR h5 f_Machine_texts (C + 32)) = k_Texts ∧ wpB PGm ρ (d + 2) m_Texts_make 0 [(0, vR (hR h5 f_Machine_texts (C + 32))), (1, vR (hR h5 f_Machine_print (C + 32))), (2, vI 0), (3, vI (hI h5 f_Machine_printed (C + 32)))] [] h5 (cI (fun x24 h19 => Q (Sum.inl (some (vI x24))) h19) (fun e22 h21 => hK h21 e22 ≠ 0 ∧ Q (Sum.inr e22) h21))) ∧ (x10 = 0 → hK h5 (C + 32) = k_Machine ∧ hK h5 (hR h5 f_Machine_heap (C + 32)) = k_Heap ∧ wpB PGm ρ (d + 2) m_Heap_full 0 [(0, vR (hR h5 f_Machine_heap (C + 32)))] [] h5 (cR (fun x34 h29 => hK h29 x34 ≠ 0 ∧ Q (Sum.inr x34) h29) (fun e32 h31 => hK h31 e32 ≠ 0 ∧ Q (Sum.inr e32) h31))))) (fun e8 h7 => hK h7 e8 ≠ 0 ∧ Q (Sum.inr e8) h7)) := by
    refine r_hasRoom G F M pb (fun z => ?_) (fun z => ?_)
    · have g : wpB PGm ρ (d + 2) m_Texts_make 0 [(0, vR (C + 46)), (1, vR (hR h f_Machine_print (C + 32))), (2, vI 0), (3, vI (bs.length : Int))] [] (cc h C X Y) (cI (fun x24 h19 => Q (Sum.inl (some (vI x24))) h19) (fun e22 h21 => hK h21 e22 ≠ 0 ∧ Q (Sum.inr e22) h21)) := r_tmake G F hd M T B pl (hm z.1) (hn z.2) (fun h' X' A A2 => q1 z h' X' A A2)
      have e1 := B.1
      clear q1 q2 hm hn pl B M T
      have f2 := F
      unfold FC at f2
      simp (decide := true) only [cI, ccI, ccR, ccRo, ccK, f2, e1, true_and, and_true, false_implies, forall_const]
      exact g
    · have g : wpB PGm ρ (d + 1 + 1) m_Heap_full 0 [(0, vR (C + 50))] [] (cc h C X Y) (cR (fun x34 h29 => hK h29 x34 ≠ 0 ∧ Q (Sum.inr x34) h29) (fun e32 h31 => hK h31 e32 ≠ 0 ∧ Q (Sum.inr e32) h31)) := r_full G F ⟨by rw [ccK, F.1.2.1]; decide, q2 z⟩
      clear q1 q2 hm hn pl B M T
      have f2 := F
      unfold FC at f2
      simp (decide := true) only [cI, ccI, ccR, ccRo, ccK, f2, true_and, and_true, false_implies, forall_const]
      exact g
  have e1 := B.1
  clear q1 q2 hm hn pl B M T
  have f2 := F
  unfold FC at f2
  refine b_Machine_makeText_0 ?_
  simp (decide := true) only [ccI, ccR, ccRo, ccK, f2, e1, true_and]
  exact hr
end
