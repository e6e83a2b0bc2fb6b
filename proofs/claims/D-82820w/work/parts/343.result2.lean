/-! C: what a method answers by its type, whole -/
set_option maxRecDepth 20000
section
variable {ρ : Nat → Nat} {d : Nat} {Q : QT} {Γ Γ' : GH} {h h' h1 h2 H H1 : ah} {C ho k i j N M a z s r f o c t n m mn m0 rr l1 l2 p E us am ab mx : Nat} {g : HG} {v hd ty κ x y sv it sum : Int} {S S' S1 S2 S3 ST : SS} {X X' X1 X2 : X3} {Y Y' Y1 Y2 : Y3} {hw : List (List Int)} {e : Option Int} {L : List Nat} {w : Nat}
theorem o64_and1 (x : Int) : o64 (· &&& ·) x 1 = 0 ∨ o64 (· &&& ·) x 1 = 1 := by
  have h : o64 (· &&& ·) x 1 = ((BitVec.ofInt 64 x) &&& 1#64).toInt := rfl
  rw [h, and1]
  split
  · exact Or.inr rfl
  · exact Or.inl rfl
theorem smW_rng (hm : m < 1000) : ∀ j, -9223372036854775808 ≤ smW S rr (m : Int) j ∧ smW S rr (m : Int) j < 9223372036854775808
  | 0 => by unfold smW; omega
  | j + 1 => by unfold smW; exact w64_rng _
theorem w32_r64 (x : Int) : -9223372036854775808 ≤ w32 x ∧ w32 x < 9223372036854775808 := by
  unfold w32
  simp only [Int.bmod]
  omega
theorem r_rtext (P : PFX Γ h C ho X Y S N t o n c r s a κ mn m0 rr) (HX : HCX ρ h ho g N M hw) (YH : YHO Y ho) (hm : m < M) (k6 : ¬ g.1 6 m = 2) (nw : NMW (g.2 3 m)) (K : TMX X mx us am ab) (TL : TGL h C mx us) (pl : PRL h C 0) (hm2 : am < 12000 → mx < 16000) (hn2 : ∀ z, ab + z ≤ 200000 → us + z ≤ 265600) (q1 : am < 12000 ∧ ab + (g.2 3 m).length ≤ 200000 → ∀ h' X', JND h C X mx us am ab (g.2 3 m) h' X' → Q (Sum.inl none) (cc h' C (ansX X' o m0 c 3 (mx : Int)) Y))
  (q2 : ¬ (am < 12000 ∧ ab + (g.2 3 m).length ≤ 200000) → ∀ h' X', PUT h C (u3 X 32 f_Machine_printed 0 0) 0 (g.2 3 m) h' X' → hK (cc h' C (erX X' 0) Y) (C + 33) ≠ 0 → Q (Sum.inr (C + 33)) (cc h' C (erX X' 0) Y)) : wpB PGm ρ (d + 14) m_Machine_putWord 0 [(0, vR (C + 32)), (1, vI (hI h f_Member_name (hB h (ho + 3) m)))] [] (cc h C (u3 X 32 f_Machine_printed 0 0) Y) (cV (fun h51 => hK h51 (C + 32) = k_Machine ∧ wpB PGm ρ (d + 14) m_Machine_makeText 0 [(0, vR (C + 32))] [] h51 (cI (fun x63 h58 => hK h58 (C + 32) = k_Machine ∧ wpB PGm ρ (d + 14) m_Machine_answer 0 [(0, vR (C + 32)), (1, vI (m0 : Int)), (2, vI 3), (3, vL x63)] [] h58 (cV (fun h66 => Q (Sum.inl none) h66) (fun e69 h68 => hK h68 e69 ≠ 0 ∧ Q (Sum.inr e69) h68))) (fun e61 h60 => hK h60 e61 ≠ 0 ∧ Q (Sum.inr e61) h60))) (fun e54 h53 => hK h53 e54 ≠ 0 ∧ Q (Sum.inr e54) h53)) := by
  obtain ⟨G, F, ht, ⟨e1, e2, e3⟩, hn', hc1, hc2⟩ := P.2.1.ix
  have hmn : m0 < n := P.2.2.1.2.2.2.2.1
  obtain ⟨wn, n1, n2, n3⟩ : NMO hw (g.2 3 m) (hI h f_Member_name (hB h (ho + 3) m)) := by
    rcases (HX.me hm).2.2.2.2.2.2.2.2.2.1 with z | z
    · exact absurd z.1 k6
    · exact z.2
  obtain ⟨g', -, HM⟩ := HX
  have rg : ∀ i, i < (g.2 3 m).length → -128 ≤ (g.2 3 m).getD i 0 ∧ (g.2 3 m).getD i 0 ≤ 127 := fun i hi => by have := nw.2 i hi; omega
  have l60 := nw.1
  rw [n3]
  refine r_putWord (p := 0) (d := d + 13) G F HM YH n1 n2 nw u3_s pl (by omega) (by omega) (fun h2 X2 AA => ⟨AA.2.1.1.1, ?_⟩)
  obtain ⟨G2, F2, pl2, p2⟩ := AA.ok
  have x2 := AA.2.2.2.2.2.2.2.2
  rw [Nat.zero_add] at pl2 p2
  have pr : PRT X2 (g.2 3 m) := ⟨p2, fun i hi => by
    have := AA.2.2.2.2.2.2.2.1 i hi
    rw [Nat.zero_add] at this; exact this, rg⟩
  have M2 : TMX X2 mx us am ab := K.eq (fun f hf => by
    have : f = f_Texts_many ∨ f = f_Texts_used ∨ f = f_Texts_made ∨ f = f_Texts_bytesMade := by simpa using hf
    rw [x2 _ _ _ (by rcases this with rfl | rfl | rfl | rfl <;> decide), u3_f (by rcases this with rfl | rfl | rfl | rfl <;> decide)])
  refine r_makeText (d := d + 11) (bs := g.2 3 m) G2 F2 (by omega) M2 (AA.tgl TL G) pr pl2 hm2 (hn2 _) (fun rm2 h3 X3 T3 L3 => ⟨T3.2.1.1.1, ?_⟩) (fun rm2 => ⟨by rw [ccK, F2.1.2.1]; decide, q2 rm2 _ _ AA (by rw [ccK, F2.1.2.1]; decide)⟩)
  have JJ : JND h C X mx us am ab (g.2 3 m) h3 (taX X3 mx us (g.2 3 m)) := ⟨h2, X2, X3, AA, T3, L3, rfl⟩
  refine r_answer (d := d + 13) (n := m0) (c := c) T3.1 T3.2.1 ht e1 ?_ (by omega) ⟨hc1, hc2⟩ (by decide) (q1 rm2 _ _ JJ)
  rw [JJ.oo (by decide) (by decide)]; exact e3
theorem r_result (P : PFX Γ h C ho X Y S N t o n c r s a κ mn m0 rr) (U : HUS ρ Γ h ho S g N M hw) (YH : YHO Y ho) (hm : m < M) (pv : PVS S N rr E) (eE : E = esK κ mn) (gs : GOS g S N m rr) (qa : ¬ g.1 8 m = 7 → ∀ x y, VR Γ S N x y (abV g S rr E (g.1 8 m) (smW S rr (m : Int) E)).1 (abV g S rr E (g.1 8 m) (smW S rr (m : Int) E)).2 → Q (Sum.inl none) (cc h C (ansX X o m0 c x y) Y)) (qt : g.1 8 m = 7 → wpB PGm ρ (d + 14) m_Machine_putWord 0 [(0, vR (C + 32)), (1, vI (hI h f_Member_name (hB h (ho + 3) m)))] [] (cc h C (u3 X 32 f_Machine_printed 0 0) Y) (cV (fun h51 => hK h51 (C + 32) = k_Machine ∧ wpB PGm ρ (d + 14) m_Machine_makeText 0 [(0, vR (C + 32))] [] h51 (cI (fun x63 h58 => hK h58 (C + 32) = k_Machine ∧ wpB PGm ρ (d + 14) m_Machine_answer 0 [(0, vR (C + 32)), (1, vI (m0 : Int)), (2, vI 3), (3, vL x63)] [] h58 (cV (fun h66 => Q (Sum.inl none) h66) (fun e69 h68 => hK h68 e69 ≠ 0 ∧ Q (Sum.inr e69) h68))) (fun e61 h60 => hK h60 e61 ≠ 0 ∧ Q (Sum.inr e61) h60))) (fun e54 h53 => hK h53 e54 ≠ 0 ∧ Q (Sum.inr e54) h53))) : wpB PGm ρ (d + 15) m_Machine_result 0 [(0, vR (C + 32)), (1, vR (hB h (ho + 3) m)), (2, vI (m0 : Int)), (3, vI (E : Int))] [] (cc h C X Y) Q := by
  have HC := P.1
  have G := HC.1.1
  have F0 := HC.1.2
  have I := P.2.1.ix
  have ht := I.2.2.1
  have e1 : Y 32 f_Machine_t 0 = C + o := I.2.2.2.1.1
  have hmn := P.2.2.2.2.1
  have hn0 := I.2.2.2.2.1
  obtain ⟨⟨mk, mz, -⟩, mnn, -, -, mt, mt2, -, ms, ms7, -⟩ := U.1.me hm
  have M400 := U.1.hh.2.2.2.2.2.2.2.2.2.2
  have r2 : hR (cc h C X Y) f_Machine_t (C + 32) = C + o := by rw [ccR (by decide)]; exact e1
  have t1 : ∀ i, hA (cc h C X Y) (hR (cc h C X Y) f_Task_tags (C + o)) i = X o f_Task_tags i := fun i => by rw [ccRo (by decide), ccAt G ht (by decide)]
  have t2 : ∀ i, hA (cc h C X Y) (hR (cc h C X Y) f_Task_words (C + o)) i = X o f_Task_words i := fun i => by rw [ccRo (by decide), ccAt G ht (by decide)]
  have ft := F0.t ht
  unfold FCt at ft
  have xt : hI (cc h C X Y) f_Member_type (hB h (ho + 3) m) = g.1 8 m := by rw [ccIo (by decide)]; exact mt
  have xs : hI (cc h C X Y) f_Member_isStatic (hB h (ho + 3) m) = g.1 7 m := by rw [ccIo (by decide)]; exact ms
  have xn : hI (cc h C X Y) f_Member_number (hB h (ho + 3) m) = (m : Int) := by rw [ccIo (by decide)]; exact mnn
  have xm : hI (cc h C (u3 X 32 f_Machine_printed 0 0) Y) f_Member_name (hB h (ho + 3) m) = hI h f_Member_name (hB h (ho + 3) m) := ccIo (by decide)
  have rng := smW_rng (S := S) (rr := rr) (m := m) (by omega) E
  have ans : ¬ g.1 8 m = 7 → ∀ {x y ty v}, VR Γ S N x y ty v → abV g S rr E (g.1 8 m) (smW S rr (m : Int) E) = (ty, v) → wpB PGm ρ (d + 14) m_Machine_answer 0 [(0, vR (C + 32)), (1, vI (m0 : Int)), (2, vI x), (3, vL y)] [] (cc h C X Y) (cV (fun h48 => Q (Sum.inl none) h48) (fun e51 h50 => hK h50 e51 ≠ 0 ∧ Q (Sum.inr e51) h50)) := fun n7 {x y ty v} V ea => by
    rw [ea] at qa
    exact r_answer (d := d + 13) (Q := cV (fun h48 => Q (Sum.inl none) h48) (fun e51 h50 => hK h50 e51 ≠ 0 ∧ Q (Sum.inr e51) h50)) G F0 ht e1 I.2.2.2.1.2.2 (n := m0) (by omega) ⟨I.2.2.2.2.2.1, I.2.2.2.2.2.2⟩ V.tg (qa n7 x y V)
  generalize eT : g.1 8 m = T at *
  generalize eS : smW S rr (m : Int) E = W at *
  have rw32 := w32_r64 W
  -- by type
  have g118 : T = 1 ∨ T = 4 → wpB PGm ρ (d + 15) m_Machine_result 118 [(0, vR (C + 32)), (2, vI (m0 : Int)), (4, vL W)] [] (cc h C X Y) Q := fun c => b_Machine_result_118 (d := d + 14) ⟨F0.1.1, ans (by omega) (ty := 2) (v := w32 W) ⟨rfl, by unfold cw; rw [if_neg (by decide)], Or.inr (Or.inr (Or.inl ⟨rfl, rw32⟩))⟩ (by unfold abV; rw [if_neg (by omega), if_pos c])⟩
  have g131 : T = 2 ∨ T = 5 → wpB PGm ρ (d + 15) m_Machine_result 131 [(0, vR (C + 32)), (2, vI (m0 : Int)), (4, vL W)] [] (cc h C X Y) Q := fun c => b_Machine_result_131 (d := d + 14) ⟨F0.1.1, ans (by omega) (ty := 2) (v := W) ⟨rfl, by unfold cw; rw [if_neg (by decide)], Or.inr (Or.inr (Or.inl ⟨rfl, rng⟩))⟩ (by unfold abV; rw [if_neg (by omega), if_neg (by omega), if_pos c])⟩
  have g142 : T = 3 ∨ T = 6 → wpB PGm ρ (d + 15) m_Machine_result 142 [(0, vR (C + 32)), (2, vI (m0 : Int)), (4, vL W)] [] (cc h C X Y) Q := fun c => b_Machine_result_142 (d := d + 14) ⟨F0.1.1, ans (by omega) (ty := 1) (v := o64 (· &&& ·) W 1) ⟨rfl, by unfold cw; rw [if_neg (by decide)], Or.inr (Or.inl ⟨rfl, o64_and1 W⟩)⟩ (by unfold abV; rw [if_neg (by omega), if_neg (by omega), if_neg (by omega), if_pos c])⟩
  have g201 : 8 ≤ T → ∀ f, f = (if g.1 7 m = 0 then 0 else 1) → wpB PGm ρ (d + 15) m_Machine_result 201 [(2, vI (m0 : Int)), (3, vI (E : Int))] [vI ((m0 + f : Nat) : Int), vI T, vR (C + 32)] (cc h C X Y) Q := fun c f ef => b_Machine_result_201 (d := d + 14) ⟨F0.1.1, r_some (d := d + 2) (sum := W) P U YH ⟨c, mt2.2⟩ pv eE gs ef (fun x y V => qa (by omega) x y V)⟩
  -- the sum
  have lp : ∀ mm j, j + mm = E → wpB PGm ρ (d + 15) m_Machine_result 10 [(0, vR (C + 32)), (1, vR (hB h (ho + 3) m)), (2, vI (m0 : Int)), (3, vI (E : Int)), (4, vL (smW S rr (m : Int) j)), (6, vI ((j + 1 : Nat) : Int))] [] (cc h C X Y) Q := fun mm => by
    induction mm with
    | zero =>
      intro j hj
      have ej : j = E := by omega
      subst ej
      rw [eS]
      have le1 : (j : Int) < ((j + 1 : Nat) : Int) ∧ ¬ ((j + 1 : Nat) : Int) ≤ (j : Int) ∧ m0 ≤ 2000000000 := by omega
      refine b_Machine_result_10 (d := d + 14) ⟨fun _ => ⟨mk, ?_⟩, fun c => absurd c le1.2.1⟩
      rw [xt, xs]
      refine ⟨fun c => ⟨F0.1.1, ans (by omega) (ty := 0) (v := 0) ⟨rfl, rfl, Or.inl ⟨rfl, rfl⟩⟩ (by unfold abV; rw [if_pos c])⟩, fun c0 => ⟨fun c => g118 (Or.inl c), fun c1 => ⟨fun c => g131 (Or.inl c), fun c2 => ⟨fun c => g142 (Or.inl c), fun c3 => ⟨fun c => g118 (Or.inr c), fun c4 => ⟨fun c => g131 (Or.inr c), fun c5 => ⟨fun c => g142 (Or.inr c), fun c6 => ⟨fun c => ⟨F0.1.1, ?_⟩, fun c7 => ⟨fun c => ?_, fun c => ?_⟩⟩⟩⟩⟩⟩⟩⟩⟩
      · rw [cc_sI (by decide)]
        dsimp only
        rw [xm]
        exact qt c
      · have := g201 (by omega) 0 (by rw [if_pos c])
        exact this
      · have := g201 (by omega) 1 (by rw [if_neg c])
        rw [w32_p1 le1.2.2]
        exact this
    | succ mm ih =>
      intro j hj
      have g1 := ih (j + 1) (by omega)
      have V := P.pl (i := j + 1) (by omega)
      have b1 : 0 ≤ ((m0 + (j + 1) : Nat) : Int) ∧ ((m0 + (j + 1) : Nat) : Int) < ((2001 : Nat) : Int) ∧ m0 + (j + 1) ≤ 2000000000 ∧ j + 1 ≤ 2000000000 ∧ ¬ (E : Int) < ((j + 1 : Nat) : Int) := by omega
      have er : rr + (j + 1) = rr + 1 + j := by omega
      rw [er] at V
      have g50 : ∀ v0 : Int, v0 = (if S f_Md_pileType (rr + 1 + j) = 2 then S f_Md_pileValue (rr + 1 + j) else 0) → wpB PGm ρ (d + 15) m_Machine_result 50 [(0, vR (C + 32)), (1, vR (hB h (ho + 3) m)), (2, vI (m0 : Int)), (3, vI (E : Int)), (6, vI ((j + 1 : Nat) : Int))] [vL v0, vL (smW S rr (m : Int) j)] (cc h C X Y) Q := fun v0 ev => by
        refine b_Machine_result_50 ?_
        rw [w32_p1 b1.2.2.2.1, ev]
        exact g1
      refine b_Machine_result_10 (d := d + 14) ⟨fun c => absurd c b1.2.2.2.2, fun _ => ⟨F0.1.1, ?_⟩⟩
      rw [r2, w32_aa b1.2.2.1, Int.toNat_natCast, t1, t2, V.1]
      refine ⟨ft.1, ⟨?_, b1.1, ?_⟩, fun c => g50 0 (by rw [if_neg c]), fun c => ⟨⟨?_, b1.1, ?_⟩, g50 _ ?_⟩⟩
      · simp (decide := true) only [ccRo, ccK, KCt G ht]
      · rw [ccRo (by decide), ccl, ft.2.2.1]; exact b1.2.1
      · simp (decide := true) only [ccRo, ccK, KCt G ht]
      · rw [ccRo (by decide), ccl, ft.2.1]; exact b1.2.1
      · rw [if_pos c, V.2.1]; unfold cw; rw [if_neg (by rw [c]; decide)]
  refine b_Machine_result_0 ⟨mk, ?_⟩
  rw [xn]
  exact lp E 0 (by omega)
end
