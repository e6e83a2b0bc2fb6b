/-! T: a member does what it does -/
set_option maxRecDepth 20000
def TDM (ρ : Nat → Nat) (g : HG) (N M m : Nat) (S : SS) (e : Option (Option AV)) (S' : SS) : Prop := TC ρ (PTO ρ g N M) 60 m_Md_doesMember 0 [(1, vI (m : Int))] [] S e S'
/-- a method -/
def MTQ (g : HG) (N M m c : Nat) : Prop := m < M ∧ ¬ g.1 6 m = 2 ∧ (g.2 3 m).length ≤ 60 ∧ g.1 5 m = (c : Int) ∧ c < N ∧ (∀ i, i < (g.2 3 m).length → 0 ≤ (g.2 3 m).getD i 0 ∧ (g.2 3 m).getD i 0 ≤ 126) ∧ (0 ≤ g.1 8 m ∧ g.1 8 m < 9 + (N : Int))
section
variable {ρ : Nat → Nat} {P : ah → Nat → Prop} {d : Nat} {Q : QT} {h h0 : ah} {T k n m f i j N M r a s rr mn sn tn row c t E pp x sz tm mb am ab sk rk y0 w l mk : Nat} {S S' S1 S2 SX X : SS} {g : HG} {v p y nm ty κ : Int} {L bs : List Int} {e : Option (Option AV)}
theorem TDM.full (e1 : S f_Md_traced 0 = (w : Int)) (h1 : w ≤ 100000) (h2 : ¬ w + 2 ≤ 100000) : TDM ρ g N M m S none (erS S 99) := fun d h0 T Q K q => by
  have O := K.1.1
  have y1 : w32 ((w : Int) + 2) = ((w + 2 : Nat) : Int) := w32_aa (b := 2) (by omega)
  refine b_Md_doesMember_0 ⟨O.1, ?_⟩
  rw [cnI (by decide), e1, y1]
  exact ⟨fun _ => b_Md_doesMember_17 (d := d + 59) ⟨O.1, s_room (d := d + 58) O (fun c => absurd rfl c) (fun _ => ⟨O.kh, q⟩)⟩, fun c => by omega⟩
/-- what comes behind the room -/
theorem s_dm17 (K : PTO ρ g N M h0 T) (hm : m < M) (e1 : S f_Md_traced 0 = (w : Int)) (h2 : w + 2 ≤ 100000) (qm : g.1 6 m = 2 → wpB PGm ρ (d + 59) m_Md_makes 0 [(0, vR T), (1, vI (m : Int))] [] (cn h0 T S) (cV (fun h41 => Q (Sum.inl none) h41) (fun e44 h43 => hK h43 e44 ≠ 0 ∧ Q (Sum.inr e44) h43))) (qf : ¬ g.1 6 m = 2 → wpB PGm ρ (d + 59) m_Md_fieldFor 0 [(0, vR T), (1, vI (m : Int))] [] (cn h0 T S) (cI (fun x23 h18 => ((0 ≤ x23 → wpB PGm ρ (d + 60) m_Md_doesMember 141 [(0, vR T), (1, vI (m : Int)), (2, vI x23)] [] h18 Q) ∧ (x23 < 0 → hK h18 T = k_Md ∧ hK h18 (hR h18 f_Md_host T) = k_MdHost ∧ (hK h18 (hR h18 f_MdHost_type (hR h18 f_Md_host T)) ∈ [1, 11] ∧ 0 ≤ (m : Int) ∧ (m : Int) < (hl h18 (hR h18 f_MdHost_type (hR h18 f_Md_host T)) : Int)) ∧ ((¬ (hA h18 (hR h18 f_MdHost_type (hR h18 f_Md_host T)) m) = 7 → wpB PGm ρ (d + 60) m_Md_doesMember 141 [(0, vR T), (1, vI (m : Int)), (2, vI x23)] [] h18 Q) ∧ ((hA h18 (hR h18 f_MdHost_type (hR h18 f_Md_host T)) m) = 7 → let h36 := sI h18 f_Md_spelling T 0
hK h36 (hR h36 f_Md_host T) = k_MdHost ∧ (hK h36 (hR h36 f_MdHost_memberFrom (hR h36 f_Md_host T)) ∈ [1, 11] ∧ 0 ≤ (m : Int) ∧ (m : Int) < (hl h36 (hR h36 f_MdHost_memberFrom (hR h36 f_Md_host T)) : Int)) ∧ wpB PGm ρ (d + 60) m_Md_doesMember 78 [(0, vR T), (1, vI (m : Int)), (3, vI (hA h36 (hR h36 f_MdHost_memberFrom (hR h36 f_Md_host T)) m))] [] h36 Q))))) (fun e21 h20 => hK h20 e21 ≠ 0 ∧ Q (Sum.inr e21) h20))) : wpB PGm ρ (d + 60) m_Md_doesMember 0 [(0, vR T), (1, vI (m : Int))] [] (cn h0 T S) Q := by
  have O := K.1.1
  have kT := O.1
  obtain ⟨⟨a1, a2, -⟩, ⟨-, r6, -⟩, m4⟩ := K.mem hm
  have tA := tAH (S := S) O a2
  have tK := tKH a2.1
  have tL := tLH a2.1
  have kk := a2.2
  have le : ¬ 100000 < ((w + 2 : Nat) : Int) := by omega
  have y1 : w32 ((w : Int) + 2) = ((w + 2 : Nat) : Int) := w32_aa (b := 2) (by omega)
  refine b_Md_doesMember_0 ⟨kT, ?_⟩
  rw [cnI (by decide), e1, y1]
  refine ⟨fun c => absurd c le, fun _ => b_Md_doesMember_17 (d := d + 59) ⟨kT, s_room (d := d + 58) O (fun _ => ⟨kT, kk, ?_⟩) (fun c => absurd c (by decide))⟩⟩
  have k6 : hA (cn h0 T S) (hR (cn h0 T S) f_MdHost_sort (hR (cn h0 T S) f_Md_host T)) m = g.1 6 m := by simp (decide := true) (disch := first | decide | omega) only [cnR, tA, r6]
  have l6 : hl (cn h0 T S) (hR (cn h0 T S) f_MdHost_sort (hR (cn h0 T S) f_Md_host T)) = 400 := by simp (decide := true) (disch := first | decide | omega) only [cnR, cnl, tL]
  have kk6 : hK (cn h0 T S) (hR (cn h0 T S) f_MdHost_sort (hR (cn h0 T S) f_Md_host T)) ∈ [1, 11] := by simp (decide := true) (disch := first | decide | omega) only [cnR, cnK, tK]
  simp only [Int.toNat_natCast]
  rw [k6, l6]
  exact ⟨⟨kk6, m4⟩, qf, qm⟩
theorem TDM.make (he : e = none ∨ e = some none) (hm : m < M) (hk : g.1 6 m = 2) (e1 : S f_Md_traced 0 = (w : Int)) (h2 : w + 2 ≤ 100000) (H : TC ρ (PTO ρ g N M) 4 m_Md_makes 0 [(1, vI (m : Int))] [] S e S') : TDM ρ g N M m S e S' := fun d h0 T Q K q =>
  s_dm17 (d := d) K hm e1 h2 (fun _ => H (d + 55) h0 T _ K (cV_oT he K.1.1.kh q)) (fun c => absurd hk c)
/-- a method whose name is what it gives -/
theorem TDM.text (W : HWF g N M) (Z : MTQ g N M m c) (e1 : S f_Md_traced 0 = (w : Int)) (h2 : w + 2 ≤ 100000) (ee : S f_Md_es 0 = y) (nf : ffG g m < 0) (t7 : g.1 8 m = 7) (MM : TMS S tm mb am ab) : ∃ S1, OFF LWN S S1 ∧ (¬ (am < 12000 ∧ ab + (g.2 3 m).length ≤ 200000) → TDM ρ g N M m S none (erS (spS S1 0 (g.2 3 m)) 99)) ∧ (am < 12000 ∧ ab + (g.2 3 m).length ≤ 200000 → TDM ρ g N M m S (some none) (trS (isS (mtS (spS S1 0 (g.2 3 m)) tm mb am ab (g.2 3 m)) 3 ((4000 + tm : Nat) : Int)) w (m : Int) y)) := by
  obtain ⟨z1, z2, z3, z4, z5, z6, z7⟩ := Z
  obtain ⟨S1, f1, t1⟩ := s_fieldFor (ρ := ρ) (S := S) W z1 z3 z4 z5 (fun i hi => (z6 i hi).1)
  have oS : ∀ l : List Int, OFF [f_Md_spelt, f_Md_spelling] S1 (spS S1 0 l) := fun l f i hf => by
    have ne : ∀ x, [f_Md_spelt, f_Md_spelling].elem x = true → f ≠ x := fun x hx e => by subst e; rw [hx] at hf; cases hf
    unfold spS sp1
    rw [u2_f (ne _ (by decide)), if_neg (fun c => ne _ (by decide) c.1)]
  have main : ∀ (d : Nat) (h0 : ah) (T : Nat) (Q : QT), PTO ρ g N M h0 T → (am < 12000 ∧ ab + (g.2 3 m).length ≤ 200000 → Q (Sum.inl none) (cn h0 T (trS (isS (mtS (spS S1 0 (g.2 3 m)) tm mb am ab (g.2 3 m)) 3 ((4000 + tm : Nat) : Int)) w (m : Int) y))) → (¬ (am < 12000 ∧ ab + (g.2 3 m).length ≤ 200000) → Q (Sum.inr (hR h0 f_Md_halt T)) (cn h0 T (erS (spS S1 0 (g.2 3 m)) 99))) → wpB PGm ρ (d + 60) m_Md_doesMember 0 [(0, vR T), (1, vI (m : Int))] [] (cn h0 T S) Q := fun d h0 T Q K q1 q0 => by
    have O := K.1.1
    have kT := O.1
    have G := O.2.1
    obtain ⟨⟨a1, a2, -⟩, ⟨-, -, -, r8, -, -, -, -, a, r1, r2, hsg⟩, m4⟩ := K.mem z1
    have tK := tKH a2.1
    have tL := tLH a2.1
    have kk := a2.2
    have tA1 := tAH (S := S1) O a2
    obtain ⟨hb, hcc⟩ := hsg
    generalize g.2 3 m = L at *
    have sp : ∀ j, j ≤ L.length → ∀ i, i < j → spS S1 0 (L.take j) f_Md_spelt i = L.getD i 0 := fun j hj i hi => by
      have lt : (L.take j).length = j := by rw [List.length_take]; omega
      unfold spS sp1
      rw [u2_f (by decide), if_pos ⟨rfl, by omega, by omega⟩, Nat.sub_zero, List.getD_eq_getElem?_getD, List.getElem?_take, if_pos hi, ← List.getD_eq_getElem?_getD]
    have u : ∀ j, j < L.length → u2 (u2 (spS S1 0 (L.take j)) f_Md_spelt j (L.getD j 0)) f_Md_spelling 0 ((j + 1 : Nat) : Int) = spS S1 0 (L.take (j + 1)) := fun j hj => by
      have l1 : (L.take j).length = j := by rw [List.length_take]; omega
      have l2 : (L.take (j + 1)).length = j + 1 := by rw [List.length_take]; omega
      funext f i
      simp only [u2_e]
      unfold spS sp1
      simp only [u2_e, l1, l2, Nat.zero_add, Nat.zero_le, true_and, Nat.sub_zero]
      by_cases w1 : f = f_Md_spelling ∧ i = 0
      · rw [if_pos w1, if_pos w1]
      · rw [if_neg w1, if_neg w1, if_neg w1]
        by_cases w2 : f = f_Md_spelt
        · subst w2
          simp only [true_and]
          by_cases w3 : i = j
          · subst w3
            rw [if_pos rfl, if_pos (by omega)]
            simp [List.getD_eq_getElem?_getD, List.getElem?_take]
          · rw [if_neg w3]
            by_cases w4 : i < j
            · rw [if_pos w4, if_pos (by omega)]
              simp [List.getD_eq_getElem?_getD, List.getElem?_take, w4, show i < j + 1 by omega]
            · rw [if_neg w4, if_neg (by omega)]
        · rw [if_neg (fun c => w2 c.1), if_neg (fun c => w2 c.1), if_neg (fun c => w2 c.1)]
    have ps : ∀ j, j ≤ L.length → spS S1 0 (L.take j) f_Md_spelling 0 = (j : Int) := fun j hj => by
      have l1 : (L.take j).length = j := by rw [List.length_take]; omega
      unfold spS; rw [u2_s, l1]; omega
    have MS : TMS (spS S1 0 L) tm mb am ab := by
      obtain ⟨⟨c1, c2, c3, c4⟩, c5⟩ := MM
      exact ⟨⟨by rw [oS _ _ _ (by decide), f1 _ _ (by decide)]; exact c1, by rw [oS _ _ _ (by decide), f1 _ _ (by decide)]; exact c2, by rw [oS _ _ _ (by decide), f1 _ _ (by decide)]; exact c3, by rw [oS _ _ _ (by decide), f1 _ _ (by decide)]; exact c4⟩, c5⟩
    have lp : ∀ mm j, j + mm = L.length → wpB PGm ρ (d + 60) m_Md_doesMember 78 [(0, vR T), (1, vI (m : Int)), (3, vI ((a + j : Nat) : Int))] [] (cn h0 T (spS S1 0 (L.take j))) Q := fun mm => by
      induction mm with
      | zero =>
        intro j hj
        have ej : j = L.length := by omega
        subst ej
        rw [List.take_length]
        have tA := tAH (S := spS S1 0 L) O a2
        have p1 := ps L.length (Nat.le_refl _)
        have p2 := sp L.length (Nat.le_refl _)
        rw [List.take_length] at p1 p2
        have n2 : ¬ ((a + L.length : Nat) : Int) < ((a + L.length : Nat) : Int) := by omega
        have mo : OFF [f_Md_type, f_Md_value, f_Md_textFrom, f_Md_textLength, f_Md_madeTexts, f_Md_madeBytes, f_Md_allTexts, f_Md_allBytes, f_Md_textSigns] (spS S1 0 L) (isS (mtS (spS S1 0 L) tm mb am ab L) 3 ((4000 + tm : Nat) : Int)) := ((mtS_off.le (by decide)).u (by decide)).u (by decide)
        have gm : wpB PGm ρ (d + 59) m_Md_madeText 0 [(0, vR T)] [] (cn h0 T (spS S1 0 L)) (cI (fun x16 h11 => hK h11 T = k_Md ∧ wpB PGm ρ (d + 59) m_Md_is 0 [(0, vR T), (1, vI 3), (2, vL x16)] [] h11 (cV (fun h19 => hK h19 T = k_Md ∧ wpB PGm ρ (d + 59) m_Md_traces 0 [(0, vR T), (1, vI (m : Int))] [] h19 (cV (fun h26 => Q (Sum.inl none) h26) (fun e29 h28 => hK h28 e29 ≠ 0 ∧ Q (Sum.inr e29) h28))) (fun e22 h21 => hK h21 e22 ≠ 0 ∧ Q (Sum.inr e22) h21))) (fun e14 h13 => hK h13 e14 ≠ 0 ∧ Q (Sum.inr e14) h13)) :=
          s_madeText (d := d + 56) O MS p1 p2 (fun i hi => by have := z6 i hi; omega) (by omega) (fun c1 c2 => ⟨kT, s_is O ⟨kT, s_traces (w := w) (y := y) O (by rw [mo _ _ (by decide), oS _ _ _ (by decide), f1 _ _ (by decide)]; exact e1) h2 (by rw [mo _ _ (by decide), oS _ _ _ (by decide), f1 _ _ (by decide)]; exact ee) (q1 ⟨c1, c2⟩)⟩⟩) (fun c => ⟨O.kh, q0 c⟩)
        refine b_Md_doesMember_78 ?_
        clear q1 q0 sp u ps hcc z6 MS mo p2
        generalize spS S1 0 L = S4 at *
        simp (decide := true) (disch := first | decide | omega) only [cnI, cnR, cnK, cnl, kT, kk, tA, tK, tL, r2, n2, Int.le_refl, Int.toNat_natCast, true_and, and_true, false_implies, forall_const]
        exact ⟨m4, gm⟩
      | succ mm ih =>
        intro j hj
        have jl : j < L.length := by omega
        have g1 := ih (j + 1) (by omega)
        have uj := u j jl
        have tA := tAH (S := spS S1 0 (L.take j)) O a2
        have pj := ps j (by omega)
        obtain ⟨la, lb⟩ := hcc j jl
        have n1 : ¬ ((a + L.length : Nat) : Int) ≤ ((a + j : Nat) : Int) := by omega
        have n2 : ((a + j : Nat) : Int) < ((a + L.length : Nat) : Int) := by omega
        have b1 : 0 ≤ ((a + j : Nat) : Int) ∧ ((a + j : Nat) : Int) < ((65536 : Nat) : Int) := by omega
        have b2 : 0 ≤ (j : Int) ∧ (j : Int) < ((256 : Nat) : Int) := by omega
        have vr : -128 ≤ L.getD j 0 ∧ L.getD j 0 ≤ 127 := by omega
        have m1 : a + j ≤ 2000000000 := by omega
        have m2 : j ≤ 2000000000 := by omega
        have aj : a + j + 1 = a + (j + 1) := by omega
        generalize L.getD j 0 = lv at *
        have y1 : w32 (((a + j : Nat) : Int) + 1) = ((a + (j + 1) : Nat) : Int) := by rw [w32_p1 m1, aj]
        have y2 : w32 ((j : Int) + 1) = ((j + 1 : Nat) : Int) := w32_p1 m2
        refine b_Md_doesMember_78 ?_
        clear q1 q0 sp u ps hcc z6 MS ih
        generalize spS S1 0 (L.take j) = S4 at *
        simp (decide := true) (disch := first | decide | omega) only [cnI, cnR, cnK, cnl, cnA' G, cn_sA' G, cn_sI, kT, kk, KN G, LN G, tA, tK, tL, r2, la, n1, n2, pj, y1, y2, u2_f, uj, Int.toNat_natCast, true_and, and_true, false_implies, forall_const, or_false, false_and]
        exact ⟨m4, b1, ⟨vr, b2⟩, g1⟩
    have g0 := lp L.length 0 (by omega)
    have e0 : spS S1 0 (L.take 0) = u2 S1 f_Md_spelling 0 0 := by
      rw [List.take_zero]
      funext f i
      unfold spS sp1
      simp only [u2_e, List.length_nil, Nat.add_zero]
      by_cases w1 : f = f_Md_spelling ∧ i = 0
      · rw [if_pos w1, if_pos w1]; rfl
      · rw [if_neg w1, if_neg w1, if_neg (fun c => by omega)]
    rw [e0] at g0
    refine s_dm17 (d := d) K z1 e1 h2 (fun c => absurd c z2) (fun _ => t1 (d + 35) h0 T _ K ⟨fun c => by omega, fun _ => ⟨kT, kk, ?_⟩⟩)
    have e9 : sI (cn h0 T S1) f_Md_spelling T 0 = cn h0 T (u2 S1 f_Md_spelling 0 0) := cn_sI (by decide)
    have tA2 := tAH (S := u2 S1 f_Md_spelling 0 0) O a2
    rw [t7] at r8
    clear q1 q0 sp u ps hcc z6 MS lp e0 t1
    simp only [e9]
    simp (decide := true) (disch := first | decide | omega) only [cnI, cnR, cnK, cnl, kT, kk, tA1, tA2, tK, tL, r1, r8, Int.toNat_natCast, true_and, and_true, not_true_eq_false, false_implies, forall_const]
    exact ⟨m4, m4, g0⟩
  exact ⟨S1, f1, fun z d h0 T Q K q => main d h0 T Q K (fun c => absurd c z) (fun _ => q), fun z d h0 T Q K q => main d h0 T Q K (fun _ => q) (fun c => absurd z c)⟩
/-- a method that is for no field -/
theorem s_dm141 (W : HWF g N M) (Z : MTQ g N M m c) (e1 : S f_Md_traced 0 = (w : Int)) (h2 : w + 2 ≤ 100000) (ee : S f_Md_es 0 = y) (nt : ffG g m < 0 → ¬ g.1 8 m = 7) : ∃ S1, OFF LWN S S1 ∧ ∀ (d : Nat) (h0 : ah) (T : Nat) (Q : QT), PTO ρ g N M h0 T → (ffG g m < 0 → wpB PGm ρ (d + 59) m_Md_answersByType 0 [(0, vR T), (1, vI (m : Int))] [] (cn h0 T (trS S1 w (m : Int) y)) (cV (fun h14 => Q (Sum.inl none) h14) (fun e17 h16 => hK h16 e17 ≠ 0 ∧ Q (Sum.inr e17) h16))) → (0 ≤ ffG g m → ¬ g.1 8 m = 0 → wpB PGm ρ (d + 59) m_Md_readsFieldOf 0 [(0, vR T), (1, vI (ffG g m))] [] (cn h0 T (trS S1 w (m : Int) y)) (cV (fun h29 => Q (Sum.inl none) h29) (fun e32 h31 => hK h31 e32 ≠ 0 ∧ Q (Sum.inr e32) h31))) → (0 ≤ ffG g m → g.1 8 m = 0 → (∃ rr : Nat, S f_Md_r 0 = (rr : Int) ∧ rr + 1 < 4200 ∧ wpB PGm ρ (d + 59) m_Md_writesFieldOf 0 [(0, vR T), (1, vI (ffG g m)), (2, vI (S f_Md_pileType (rr + 1))), (3, vL (S f_Md_pileValue (rr + 1)))] [] (cn h0 T (trS S1 w (m : Int) y)) (cV (fun h36 => hK h36 T = k_Md ∧ wpB PGm ρ (d + 59) m_Md_is 0 [(0, vR T), (1, vI 0), (2, vL 0)] [] h36 (cV (fun h43 => Q (Sum.inl none) h43) (fun e46 h45 => hK h45 e46 ≠ 0 ∧ Q (Sum.inr e46) h45))) (fun e39 h38 => hK h38 e39 ≠ 0 ∧ Q (Sum.inr e39) h38)))) → wpB PGm ρ (d + 60) m_Md_doesMember 0 [(0, vR T), (1, vI (m : Int))] [] (cn h0 T S) Q := by
  obtain ⟨z1, z2, z3, z4, z5, z6, z7⟩ := Z
  obtain ⟨S1, f1, t1⟩ := s_fieldFor (ρ := ρ) (S := S) W z1 z3 z4 z5 (fun i hi => (z6 i hi).1)
  refine ⟨S1, f1, fun d h0 T Q K qa qr qw => ?_⟩
  have O := K.1.1
  have kT := O.1
  have G := O.2.1
  obtain ⟨⟨a1, a2, -⟩, ⟨-, -, -, r8, -⟩, m4⟩ := K.mem z1
  have tK := tKH a2.1
  have tL := tLH a2.1
  have kk := a2.2
  have tA1 := tAH (S := S1) O a2
  have tA2 := tAH (S := trS S1 w (m : Int) y) O a2
  have oT : OFF [f_Md_trace, f_Md_traced] S1 (trS S1 w (m : Int) y) := by unfold trS; exact ((OFF.rf.u (by decide)).u (by decide)).u (by decide)
  have g141 : wpB PGm ρ (d + 60) m_Md_doesMember 141 [(0, vR T), (1, vI (m : Int)), (2, vI (ffG g m))] [] (cn h0 T S1) Q := by
    refine b_Md_doesMember_141 ⟨kT, s_traces (w := w) (y := y) O (by rw [f1 _ _ (by decide)]; exact e1) h2 (by rw [f1 _ _ (by decide)]; exact ee) ⟨fun c => ⟨kT, qa c⟩, fun c => ⟨kT, kk, ?_⟩⟩⟩
    have k6 : hA (cn h0 T (trS S1 w (m : Int) y)) (hR (cn h0 T (trS S1 w (m : Int) y)) f_MdHost_type (hR (cn h0 T (trS S1 w (m : Int) y)) f_Md_host T)) m = g.1 8 m := by simp (decide := true) (disch := first | decide | omega) only [cnR, tA2, r8]
    have l6 : hl (cn h0 T (trS S1 w (m : Int) y)) (hR (cn h0 T (trS S1 w (m : Int) y)) f_MdHost_type (hR (cn h0 T (trS S1 w (m : Int) y)) f_Md_host T)) = 400 := by simp (decide := true) (disch := first | decide | omega) only [cnR, cnl, tL]
    have kk6 : hK (cn h0 T (trS S1 w (m : Int) y)) (hR (cn h0 T (trS S1 w (m : Int) y)) f_MdHost_type (hR (cn h0 T (trS S1 w (m : Int) y)) f_Md_host T)) ∈ [1, 11] := by simp (decide := true) (disch := first | decide | omega) only [cnR, cnK, tK]
    simp only [Int.toNat_natCast]
    rw [k6, l6]
    refine ⟨⟨kk6, m4⟩, fun z => qr c z, fun z => ?_⟩
    obtain ⟨rr, er, hr, gw⟩ := qw c z
    have b1 : 0 ≤ ((rr + 1 : Nat) : Int) ∧ ((rr + 1 : Nat) : Int) < ((4200 : Nat) : Int) := by omega
    have x1 : trS S1 w (m : Int) y f_Md_r 0 = (rr : Int) := by rw [oT _ _ (by decide), f1 _ _ (by decide)]; exact er
    have x2 : trS S1 w (m : Int) y f_Md_pileType (rr + 1) = S f_Md_pileType (rr + 1) := by rw [oT _ _ (by decide), f1 _ _ (by decide)]
    have x3 : trS S1 w (m : Int) y f_Md_pileValue (rr + 1) = S f_Md_pileValue (rr + 1) := by rw [oT _ _ (by decide), f1 _ _ (by decide)]
    have m1 : rr ≤ 2000000000 := by omega
    have y1 : w32 ((rr : Int) + 1) = ((rr + 1 : Nat) : Int) := w32_p1 m1
    clear qa qr qw t1 k6 l6 kk6
    generalize trS S1 w (m : Int) y = S4 at *
    simp (decide := true) (disch := first | decide | omega) only [cnI, cnR, cnK, cnl, cnA' G, kT, KN G, LN G, x1, x2, x3, y1, Int.toNat_natCast, true_and, and_true]
    exact ⟨b1, b1, gw⟩
  refine s_dm17 (d := d) K z1 e1 h2 (fun c => absurd c z2) (fun _ => t1 (d + 35) h0 T _ K ⟨fun _ => g141, fun c => ⟨kT, kk, ?_⟩⟩)
  have n7 := nt c
  have k6 : hA (cn h0 T S1) (hR (cn h0 T S1) f_MdHost_type (hR (cn h0 T S1) f_Md_host T)) m = g.1 8 m := by simp (decide := true) (disch := first | decide | omega) only [cnR, tA1, r8]
  have l6 : hl (cn h0 T S1) (hR (cn h0 T S1) f_MdHost_type (hR (cn h0 T S1) f_Md_host T)) = 400 := by simp (decide := true) (disch := first | decide | omega) only [cnR, cnl, tL]
  have kk6 : hK (cn h0 T S1) (hR (cn h0 T S1) f_MdHost_type (hR (cn h0 T S1) f_Md_host T)) ∈ [1, 11] := by simp (decide := true) (disch := first | decide | omega) only [cnR, cnK, tK]
  rw [k6, l6]
  exact ⟨⟨kk6, m4⟩, fun _ => g141, fun c => absurd c n7⟩
end
