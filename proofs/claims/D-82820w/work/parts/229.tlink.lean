/-! T: a site is linked -/
set_option maxRecDepth 20000
/-- the entry that is made of what was found -/
def nwE (S : SS) (w : Int) : ENT := fun f => if f = f_Md_linker then S f_Md_foundLinker 0 else if f = f_Md_guard then S f_Md_foundGuard 0 else if f = f_Md_guardName then S f_Md_elementName 0 else if f = f_Md_holder then S f_Md_foundHolder 0 else if f = f_Md_which then S f_Md_foundWhich 0 else if f = f_Md_toShape then S f_Md_foundShape 0 else if f = f_Md_linkedAt then S f_Md_changes 0 else if f = f_Md_guardMany then S f_Md_foundMany 0 else if f = f_Md_guardTypes then w else 0
def LLK : List Nat := LRW ++ [f_Md_entries, f_Md_links, f_Md_isMega]
section
variable {ρ : Nat → Nat} {P : ah → Nat → Prop} {d : Nat} {Q : QT} {h h0 : ah} {C ho T k n m f i j N M b r a s rr mn sn tn row : Nat} {S S' S1 S2 SX : SS} {X : X3} {Y : Y3} {g : HG} {l L bs : List Int} {v p x y nm ty cnt κ hd w La bv el : Int} {ls l2 : List ENT}
theorem u2_2 : u2 (u2 S f i v) f i p = u2 S f i p := by
  funext f' i'
  simp only [u2_e]
  by_cases w : f' = f ∧ i' = i
  · rw [if_pos w, if_pos w]
  · rw [if_neg w, if_neg w, if_neg w]
theorem SLO.rw (a : SLO s S S1) (hi : i / 5 = s) (hf : LSI.elem f = false) : SLO s S (u2 S1 f i v) := ⟨fun f' i' h1 h2 => by
  rw [u2_e, if_neg (fun c => h2 (by rw [c.2]; exact hi))]; exact a.1 f' i' h1 h2, fun f' i' h1 h2 => by
  rw [u2_f (by rintro rfl; rw [hf] at h1; cases h1)]; exact a.2 f' i' h1 h2⟩
theorem gd_pr {l : List Nat} : ∀ {j}, j < l.length → l.take (j + 1) = l.take j ++ [l.getD j 0] := fun {j} h => by
  rw [List.take_succ, List.getElem?_eq_getElem h]; simp [List.getD_eq_getElem?_getD, h]
/-- entries move up -/
theorem s_lk43 (hs : s < 4000) : ∀ j : Nat, j ≤ 4 → ∀ S1 : SS, ∃ S', OFF LRW S1 S' ∧ SLO s S1 S' ∧ (∀ i, i < 5 → rowE S' (5 * s + i) = if 1 ≤ i ∧ i ≤ j then rowE S1 (5 * s + (i - 1)) else rowE S1 (5 * s + i)) ∧ ∀ (d : Nat) (h0 : ah) (T : Nat) (Q : QT), TOK h0 T → wpB PGm ρ (d + 1) m_Md_links 43 [(0, vR T), (1, vI (s : Int)), (2, vI 0)] [] (cn h0 T S') Q → wpB PGm ρ (d + 1) m_Md_links 43 [(0, vR T), (1, vI (s : Int)), (2, vI (j : Int))] [] (cn h0 T S1) Q := fun j => by
  induction j with
  | zero => exact fun _ S1 => ⟨S1, OFF.rf, SLO.rf, fun i hi => by rw [if_neg (by omega)], fun d h0 T Q O q => q⟩
  | succ j ih =>
    intro hj S1
    obtain ⟨S', f1, s1, r1, t1⟩ := ih (by omega) (cpyS S1 (5 * s + j) (5 * s + (j + 1)))
    refine ⟨S', cpyS_off.tr f1, (SLO.rf.cp (by omega)).tr s1, fun i hi => ?_, fun d h0 T Q O q => ?_⟩
    · rw [r1 i hi]
      by_cases w1 : 1 ≤ i ∧ i ≤ j
      · rw [if_pos w1, if_pos (by omega), cpyS_r, if_neg (by omega)]
      · rw [if_neg w1, cpyS_r]
        by_cases w2 : i = j + 1
        · rw [if_pos (by omega), if_pos (by omega), w2]; rfl
        · rw [if_neg (by omega), if_neg (by omega)]
    · have kT := O.1
      have G := O.2.1
      have g1 := t1 d h0 T Q O q
      have m1 : (5 * (s : Int)) = ((5 * s : Nat) : Int) := by omega
      have m3 : -2147483648 ≤ ((5 * s : Nat) : Int) ∧ ((5 * s : Nat) : Int) < 2147483648 := by omega
      have m2 : 5 * s + (j + 1) ≤ 2000000000 := by omega
      have m4 : 1 ≤ 5 * s + (j + 1) ∧ 5 * s + (j + 1) ≤ 2000000000 := by omega
      have m6 : -2147483648 ≤ ((j + 1 : Nat) : Int) + (-1) ∧ ((j + 1 : Nat) : Int) + (-1) < 2147483648 := by omega
      have m7 : ((j + 1 : Nat) : Int) + (-1) = (j : Int) := by omega
      have cp := s_copies (ρ := ρ) (d := d) (S := S1) (Q := cV (fun h15 => wpB PGm ρ (d + 1) m_Md_links 43 [(0, vR T), (1, vI (s : Int)), (2, vI (j : Int))] [] h15 Q) (fun e18 h17 => hK h17 e18 ≠ 0 ∧ Q (Sum.inr e18) h17)) O (a := 5 * s + j) (b := 5 * s + (j + 1)) (by omega) (by omega) (by omega) g1
      have c0 : ((j + 1 : Nat) : Int) ≤ 0 → False := fun z => by omega
      have y0 : w32 (5 * (s : Int)) = ((5 * s : Nat) : Int) := by rw [m1]; exact w32_of m3.1 m3.2
      have y1 : w32 (((5 * s : Nat) : Int) + ((j + 1 : Nat) : Int)) = ((5 * s + (j + 1) : Nat) : Int) := w32_aa m2
      have y2 : w32 (((5 * s + (j + 1) : Nat) : Int) - 1) = ((5 * s + j : Nat) : Int) := w32_m1 m4
      have y3 : w32 (((j + 1 : Nat) : Int) + (-1)) = (j : Int) := by rw [w32_of m6.1 m6.2]; exact m7
      refine b_Md_links_43 ⟨fun z => (c0 z).elim, fun _ => ⟨kT, ?_⟩⟩
      rw [y0, y1, y2, y3]
      exact cp
theorem s_links (hs : s < 4000) (hn : n ≤ 4) (en : S f_Md_entries s = (n : Int)) (fm : S f_Md_foundMany 0 = (m : Int)) (hm : m ≤ 8) (pv : PVS S N rr m) (hN : N ≤ 60) : ∃ S', OFF LLK S S' ∧ SLO s S S' ∧ S' f_Md_links s = w32 (S f_Md_links s + 1) ∧ S' f_Md_hits s = S f_Md_hits s ∧ S' f_Md_pruned s = S f_Md_pruned s ∧ ((w32 (S f_Md_links s + 1) = 9 ∧ S' f_Md_isMega s = 1 ∧ S' f_Md_entries s = 0) ∨ (¬ w32 (S f_Md_links s + 1) = 9 ∧ S' f_Md_isMega s = S f_Md_isMega s ∧ S' f_Md_entries s = ((min (n + 1) 4 : Nat) : Int) ∧ enL S' s (min (n + 1) 4) = (nwE S (gtW ((tsT S rr m).map Int.toNat) : Int) :: enL S s n).take 4)) ∧ TC ρ TOK 1 m_Md_links 0 [(1, vI (s : Int))] [] S (some none) S' := by
  have b1 : 0 ≤ (s : Int) ∧ (s : Int) < ((4000 : Nat) : Int) := by omega
  have tl : (tsT S rr m).length = m := by unfold tsT; simp
  by_cases w9 : w32 (S f_Md_links s + 1) = 9
  · refine ⟨u2 (u2 (u2 S f_Md_links s (w32 (S f_Md_links s + 1))) f_Md_isMega s 1) f_Md_entries s 0, ((OFF.rf.u (by decide)).u (by decide)).u (by decide), ((SLO.rf.u (by decide)).u (by decide)).u (by decide), by rw [u2_f (by decide), u2_f (by decide), u2_s], by rw [u2_f (by decide), u2_f (by decide), u2_f (by decide)], by rw [u2_f (by decide), u2_f (by decide), u2_f (by decide)], Or.inl ⟨w9, by rw [u2_f (by decide), u2_s], u2_s⟩, fun d h0 T Q O q => ?_⟩
    have kT := O.1
    have G := O.2.1
    rw [w9] at q
    refine b_Md_links_0 ?_
    simp (decide := true) (disch := first | decide | omega) only [cnI, cnR, cnK, cnl, cnA' G, cn_sA' G, kT, KN G, LN G, w9, u2_s, Int.toNat_natCast, true_and, and_true, forall_const, not_true_eq_false, false_implies]
    exact ⟨b1, b1, b1, b1, b1, q⟩
  · obtain ⟨S1, f1, s1, r1, t1⟩ := s_lk43 (ρ := ρ) hs n hn (u2 S f_Md_links s (w32 (S f_Md_links s + 1)))
    have e0 : ∀ f i, LRW.elem f = false → S1 f i = u2 S f_Md_links s (w32 (S f_Md_links s + 1)) f i := f1
    have fo : ∀ f i, (LRW ++ [f_Md_links]).elem f = false → S1 f i = S f i := fun f i hf => by
      have h1 : LRW.elem f = false := by
        cases c : LRW.elem f with
        | false => rfl
        | true => rw [show (LRW ++ [f_Md_links]).elem f = true by simp at c ⊢; exact Or.inl c] at hf; cases hf
      rw [e0 f i h1, u2_f (by rintro rfl; exact absurd hf (by decide))]
    -- the new entry
    generalize eS2 : u2 (u2 (u2 (u2 (u2 (u2 (u2 (u2 S1 f_Md_linker (5 * s) (S f_Md_foundLinker 0)) f_Md_guard (5 * s) (S f_Md_foundGuard 0)) f_Md_guardName (5 * s) (S f_Md_elementName 0)) f_Md_holder (5 * s) (S f_Md_foundHolder 0)) f_Md_which (5 * s) (S f_Md_foundWhich 0)) f_Md_toShape (5 * s) (S f_Md_foundShape 0)) f_Md_linkedAt (5 * s) (S f_Md_changes 0)) f_Md_guardMany (5 * s) (m : Int) = S2
    have f2 : OFF LRW S1 S2 := by
      rw [← eS2]
      exact (((((((OFF.rf.u (by decide)).u (by decide)).u (by decide)).u (by decide)).u (by decide)).u (by decide)).u (by decide)).u (by decide)
    have s2 : SLO s S1 S2 := by
      rw [← eS2]
      exact (((((((SLO.rf.rw (by omega) (by decide)).rw (by omega) (by decide)).rw (by omega) (by decide)).rw (by omega) (by decide)).rw (by omega) (by decide)).rw (by omega) (by decide)).rw (by omega) (by decide)).rw (by omega) (by decide)
    have fo2 : ∀ f i, (LRW ++ [f_Md_links]).elem f = false → S2 f i = S f i := fun f i hf => by
      have h1 : LRW.elem f = false := by
        cases c : LRW.elem f with
        | false => rfl
        | true => rw [show (LRW ++ [f_Md_links]).elem f = true by simp at c ⊢; exact Or.inl c] at hf; cases hf
      rw [f2 f i h1, fo f i hf]
    have gd : ∀ j, j < m → ((tsT S rr m).map Int.toNat).getD j 0 = (tyT S (S f_Md_pileType (rr + 1 + j)) (S f_Md_pileValue (rr + 1 + j))).toNat := fun j hj => by
      unfold tsT; rw [List.getD_eq_getElem?_getD]; simp [hj]
    have tb : ∀ j, j < m → 0 ≤ tyT S (S f_Md_pileType (rr + 1 + j)) (S f_Md_pileValue (rr + 1 + j)) ∧ tyT S (S f_Md_pileType (rr + 1 + j)) (S f_Md_pileValue (rr + 1 + j)) < 128 := fun j hj => by
      obtain ⟨V, hc⟩ := pv.2.2.2 j hj
      have := tyT_b V hc
      omega
    have ml : ((tsT S rr m).map Int.toNat).length = m := by rw [List.length_map]; exact tl
    have all : ∀ t, t ∈ (tsT S rr m).map Int.toNat → t < 128 := fun t ht => by
      obtain ⟨j, hj, e⟩ := List.getElem_of_mem ht
      have := tb j (by omega)
      have g := gd j (by omega)
      rw [List.getD_eq_getElem?_getD, List.getElem?_eq_getElem hj, e] at g
      have g2 : t = (tyT S (S f_Md_pileType (rr + 1 + j)) (S f_Md_pileValue (rr + 1 + j))).toNat := g
      omega
    have pv2 : PVS S2 N rr m := pv.ex (fun f hf i => fo2 f i (by
      have : LPV.all (fun f => !(LRW ++ [f_Md_links]).elem f) = true := by decide
      simpa using List.all_eq_true.mp this f (by simpa using hf)))
    generalize et : (tsT S rr m).map Int.toNat = ts at *
    -- types
    have lp : ∀ mm j, j + mm = m → ∀ (d : Nat) (h0 : ah) (T : Nat) (Q : QT), TOK h0 T → Q (Sum.inl none) (cn h0 T (u2 (u2 S2 f_Md_guardTypes (5 * s) (gtW ts : Int)) f_Md_entries s ((min (n + 1) 4 : Nat) : Int))) → wpB PGm ρ (d + 1) m_Md_links 162 [(0, vR T), (1, vI (s : Int)), (2, vI ((5 * s : Nat) : Int)), (3, vI (j : Int))] [] (cn h0 T (u2 S2 f_Md_guardTypes (5 * s) (gtW (ts.take j) : Int))) Q := fun mm => by
      have c1 : ∀ x : Int, u2 S2 f_Md_guardTypes (5 * s) x f_Md_entries s = (n : Int) := fun x => by rw [u2_f (by decide), fo2 _ _ (by decide)]; exact en
      have c2 : ∀ x : Int, u2 S2 f_Md_guardTypes (5 * s) x f_Md_foundMany 0 = (m : Int) := fun x => by rw [u2_f (by decide), fo2 _ _ (by decide)]; exact fm
      induction mm with
      | zero =>
        intro j hj d h0 T Q O q
        have kT := O.1
        have G := O.2.1
        rw [List.take_of_length_le (by omega)]
        have e1 := c1 (gtW ts : Int)
        have e2 := c2 (gtW ts : Int)
        generalize u2 S2 f_Md_guardTypes (5 * s) (gtW ts : Int) = S3 at *
        have n1 : (m : Int) ≤ (j : Int) := by omega
        have n2 : ¬ (j : Int) < (m : Int) := by omega
        have q4 : 4 ≤ (n : Int) → wpB PGm ρ (d + 1) m_Md_links 249 [] [] (cn h0 T (u2 S3 f_Md_entries s 4)) Q := fun z => b_Md_links_249 (by
          rw [show ((min (n + 1) 4 : Nat) : Int) = 4 by omega] at q; exact q)
        have q5 : (n : Int) < 4 → wpB PGm ρ (d + 1) m_Md_links 249 [] [] (cn h0 T (u2 S3 f_Md_entries s ((n + 1 : Nat) : Int))) Q := fun z => b_Md_links_249 (by
          rw [show ((min (n + 1) 4 : Nat) : Int) = ((n + 1 : Nat) : Int) by omega] at q; exact q)
        have m1 : n ≤ 2000000000 := by omega
        have y1 : w32 ((n : Int) + 1) = ((n + 1 : Nat) : Int) := w32_p1 m1
        refine b_Md_links_162 ?_
        clear q gd tb all pv pv2 f2 s2 fo2 fo r1 t1 f1 e0 c1 c2
        simp (decide := true) (disch := first | decide | omega) only [cnI, cnR, cnK, cnl, cnA' G, cn_sA' G, kT, KN G, LN G, e1, e2, n1, n2, y1, u2_s, Int.toNat_natCast, true_and, and_true, forall_const, not_true_eq_false, false_implies]
        exact ⟨b1, fun z => ⟨b1, q4 z⟩, fun z => ⟨b1, b1, q5 z⟩⟩
      | succ mm ih =>
        intro j hj d h0 T Q O q
        have kT := O.1
        have G := O.2.1
        have g1 := ih (j + 1) (by omega) d h0 T Q O q
        have tk := gd_pr (l := ts) (j := j) (by omega)
        have ga := gtW_app (ts.take j) (ts.getD j 0)
        have lt := gtW_lt (ts.take j) (fun t ht => all t (List.mem_of_mem_take ht))
        have ll : (ts.take j).length = j := by rw [List.length_take]; omega
        rw [ll] at ga lt
        obtain ⟨t0, t1⟩ := tb j (by omega)
        have gj := gd j (by omega)
        have go := gt_or (gtW (ts.take j)) j (ts.getD j 0) (by omega) (by omega) lt
        have ti : ((ts.getD j 0 : Nat) : Int) = tyT S (S f_Md_pileType (rr + 1 + j)) (S f_Md_pileValue (rr + 1 + j)) := by omega
        rw [ti] at go
        rw [tk, ga] at g1
        have e2 := c2 (gtW (ts.take j) : Int)
        have gs : u2 S2 f_Md_guardTypes (5 * s) (gtW (ts.take j) : Int) f_Md_guardTypes (5 * s) = (gtW (ts.take j) : Int) := u2_s
        have ug : ∀ x : Int, u2 (u2 S2 f_Md_guardTypes (5 * s) (gtW (ts.take j) : Int)) f_Md_guardTypes (5 * s) x = u2 S2 f_Md_guardTypes (5 * s) x := fun x => u2_2
        have pv3 : PVS (u2 S2 f_Md_guardTypes (5 * s) (gtW (ts.take j) : Int)) N rr m := pv2.ex ((OFF.rf.u (L := [f_Md_guardTypes]) (by decide)).ex (by decide))
        have p1 : u2 S2 f_Md_guardTypes (5 * s) (gtW (ts.take j) : Int) f_Md_pileType (rr + 1 + j) = S f_Md_pileType (rr + 1 + j) := by rw [u2_f (by decide), fo2 _ _ (by decide)]
        have p2 : u2 S2 f_Md_guardTypes (5 * s) (gtW (ts.take j) : Int) f_Md_pileValue (rr + 1 + j) = S f_Md_pileValue (rr + 1 + j) := by rw [u2_f (by decide), fo2 _ _ (by decide)]
        have p3 : ∀ i, u2 S2 f_Md_guardTypes (5 * s) (gtW (ts.take j) : Int) f_Md_thingClass i = S f_Md_thingClass i := fun i => by rw [u2_f (by decide), fo2 _ _ (by decide)]
        have pt : tyT (u2 S2 f_Md_guardTypes (5 * s) (gtW (ts.take j) : Int)) (S f_Md_pileType (rr + 1 + j)) (S f_Md_pileValue (rr + 1 + j)) = tyT S (S f_Md_pileType (rr + 1 + j)) (S f_Md_pileValue (rr + 1 + j)) := by unfold tyT; rw [p3]
        generalize u2 S2 f_Md_guardTypes (5 * s) (gtW (ts.take j) : Int) = S3 at *
        obtain ⟨h1, h2, h3, h4⟩ := pv3
        obtain ⟨V, hc⟩ := h4 j (by omega)
        rw [p1, p2] at V
        rw [p1, p2] at hc
        have b2 : 0 ≤ ((5 * s : Nat) : Int) ∧ ((5 * s : Nat) : Int) < ((20000 : Nat) : Int) := by omega
        have b3 : 0 ≤ ((rr + 1 + j : Nat) : Int) ∧ ((rr + 1 + j : Nat) : Int) < ((4200 : Nat) : Int) := by omega
        have n1 : ¬ (m : Int) ≤ (j : Int) := by omega
        have n2 : (j : Int) < (m : Int) := by omega
        have m1 : rr ≤ 2000000000 := by omega
        have m2 : rr + 1 + j ≤ 2000000000 := by omega
        have m3 : j ≤ 2000000000 := by omega
        generalize ew : gtW (ts.take j) + ts.getD j 0 * 2 ^ (7 * j) = w2 at *
        generalize gtW (ts.take j) = w1 at *
        clear lt ti gj
        generalize tyT S (S f_Md_pileType (rr + 1 + j)) (S f_Md_pileValue (rr + 1 + j)) = tv at *
        have y3 : w32 ((j : Int) + 1) = ((j + 1 : Nat) : Int) := w32_p1 m3
        have ty : wpB PGm ρ d m_Md_typeOf 0 [(0, vR T), (1, vI (S f_Md_pileType (rr + 1 + j))), (2, vL (S f_Md_pileValue (rr + 1 + j)))] [] (cn h0 T S3) (cI (fun x20 h15 => (hK h15 (hR h0 f_Md_guardTypes T) = 2 ∧ 0 ≤ ((5 * s : Nat) : Int) ∧ ((5 * s : Nat) : Int) < (hl h15 (hR h0 f_Md_guardTypes T) : Int)) ∧ wpB PGm ρ (d + 1) m_Md_links 162 [(0, vR T), (1, vI (s : Int)), (2, vI ((5 * s : Nat) : Int)), (3, vI ((j + 1 : Nat) : Int))] [] (sA h15 (hR h0 f_Md_guardTypes T) (5 * s) (o64 (· ||| ·) (w1 : Int) ((Int64.ofInt x20 <<< ((Int32.ofInt (w32 (7 * (j : Int)))).toInt64 &&& 63)).toInt))) Q) (fun e18 h17 => hK h17 e18 ≠ 0 ∧ Q (Sum.inr e18) h17)) := by
          refine s_typeOf O V h3 hc hN ?_
          rw [pt]
          have e9 : sA (cn h0 T S3) (hR h0 f_Md_guardTypes T) (5 * s) ((w2 : Nat) : Int) = cn h0 T (u2 S3 f_Md_guardTypes (5 * s) ((w2 : Nat) : Int)) := cn_sA' G (by decide)
          have kg : hK h0 (hR h0 f_Md_guardTypes T) = 2 := by simp (decide := true) (disch := first | decide | omega) only [KN G]
          have lg : hl h0 (hR h0 f_Md_guardTypes T) = 20000 := by simp (decide := true) (disch := first | decide | omega) only [LN G]
          refine ⟨⟨kg, b2.1, ?_⟩, ?_⟩
          · show ((5 * s : Nat) : Int) < (hl h0 (hR h0 f_Md_guardTypes T) : Int)
            rw [lg]; exact b2.2
          · rw [go, e9, ug]; exact g1
        have y1 : w32 ((rr : Int) + 1) = ((rr + 1 : Nat) : Int) := w32_p1 m1
        have y2 : w32 (((rr + 1 : Nat) : Int) + (j : Int)) = ((rr + 1 + j : Nat) : Int) := w32_aa m2
        refine b_Md_links_162 ?_
        clear q gd tb all pv pv2 f2 s2 fo2 fo r1 f1 e0 c1 c2 go g1 ih h4 p3 pt V hc
        simp (decide := true) (disch := first | decide | omega) only [cnI, cnR, cnK, cnl, cnA' G, kT, KN G, LN G, e2, h1, gs, p1, p2, n1, n2, y1, y2, y3, Int.toNat_natCast, true_and, and_true, forall_const, not_true_eq_false, false_implies]
        exact ⟨b2, b3, b3, ty⟩
    have r2 : rowE (u2 (u2 S2 f_Md_guardTypes (5 * s) (gtW ts : Int)) f_Md_entries s ((min (n + 1) 4 : Nat) : Int)) (5 * s) = nwE S (gtW ts : Int) := by
      funext f
      by_cases hf : LRW.elem f = true
      · rw [rowE_g hf, u2_f (by rintro rfl; exact absurd hf (by decide)), ← eS2]
        have : f = f_Md_linker ∨ f = f_Md_guard ∨ f = f_Md_guardName ∨ f = f_Md_holder ∨ f = f_Md_which ∨ f = f_Md_toShape ∨ f = f_Md_linkedAt ∨ f = f_Md_guardMany ∨ f = f_Md_guardTypes := by simpa [LRW] using hf
        rcases this with rfl | rfl | rfl | rfl | rfl | rfl | rfl | rfl | rfl <;> simp (decide := true) [nwE, u2_e, fm]
      · have z : rowE (u2 (u2 S2 f_Md_guardTypes (5 * s) (gtW ts : Int)) f_Md_entries s ((min (n + 1) 4 : Nat) : Int)) (5 * s) f = 0 := if_neg hf
        rw [z]
        have ne : ∀ x, LRW.elem x = true → ¬ f = x := fun x hx e => hf (by rw [e]; exact hx)
        unfold nwE
        rw [if_neg (ne _ (by decide)), if_neg (ne _ (by decide)), if_neg (ne _ (by decide)), if_neg (ne _ (by decide)), if_neg (ne _ (by decide)), if_neg (ne _ (by decide)), if_neg (ne _ (by decide)), if_neg (ne _ (by decide)), if_neg (ne _ (by decide))]
    have r3 : ∀ i, i < 4 → rowE (u2 (u2 S2 f_Md_guardTypes (5 * s) (gtW ts : Int)) f_Md_entries s ((min (n + 1) 4 : Nat) : Int)) (5 * s + (i + 1)) = rowE S1 (5 * s + (i + 1)) := fun i hi => rowE_e (fun f hf => by
      rw [u2_f (by rintro rfl; exact absurd hf (by decide)), u2_e, if_neg (by omega), ← eS2]
      simp only [u2_e]
      rw [if_neg (by omega), if_neg (by omega), if_neg (by omega), if_neg (by omega), if_neg (by omega), if_neg (by omega), if_neg (by omega), if_neg (by omega)])
    refine ⟨u2 (u2 S2 f_Md_guardTypes (5 * s) (gtW ts : Int)) f_Md_entries s ((min (n + 1) 4 : Nat) : Int), (((((OFF.rf.u (by decide)).tr (f1.le (by decide))).tr (f2.le (by decide))).u (by decide)).u (by decide)), ((((SLO.rf.u (by decide)).tr s1).tr s2).rw (by omega) (by decide)).u (by decide), ?_, ?_, ?_, Or.inr ⟨w9, ?_, u2_s, ?_⟩, fun d h0 T Q O q => ?_⟩
    · rw [u2_f (by decide), u2_f (by decide), f2 _ _ (by decide), e0 _ _ (by decide), u2_s]
    · rw [u2_f (by decide), u2_f (by decide), fo2 _ _ (by decide)]
    · rw [u2_f (by decide), u2_f (by decide), fo2 _ _ (by decide)]
    · rw [u2_f (by decide), u2_f (by decide), fo2 _ _ (by decide)]
    · refine List.ext_getElem? (fun i => ?_)
      unfold enL at *
      rw [List.getElem?_map, List.getElem?_take]
      by_cases hi : i < min (n + 1) 4
      · rw [List.getElem?_range hi, if_pos (by omega)]
        cases i with
        | zero => simp only [Option.map_some, List.getElem?_cons_zero]; exact congrArg some r2
        | succ i =>
          rw [List.getElem?_cons_succ, List.getElem?_map, List.getElem?_range (by omega)]
          simp only [Option.map_some]
          rw [r3 i (by omega), r1 (i + 1) (by omega), if_pos (by omega)]
          exact congrArg some (rowE_e (fun f hf => by rw [u2_f (by rintro rfl; exact absurd hf (by decide))]; rfl))
      · rw [List.getElem?_eq_none (by simp; omega)]
        by_cases h4 : i < 4
        · rw [if_pos h4]
          cases i with
          | zero => omega
          | succ i => rw [List.getElem?_cons_succ, List.getElem?_map, List.getElem?_eq_none (by simp; omega)]; rfl
        · rw [if_neg h4]; rfl
    · have kT := O.1
      have G := O.2.1
      have g0 := lp m 0 (by omega) d h0 T Q O q
      have z0 : gtW (ts.take 0) = 0 := by rw [List.take_zero]; rfl
      rw [z0] at g0
      have b2 : 0 ≤ ((5 * s : Nat) : Int) ∧ ((5 * s : Nat) : Int) < ((20000 : Nat) : Int) := by omega
      have m1 : (5 * (s : Int)) = ((5 * s : Nat) : Int) := by omega
      have m3 : -2147483648 ≤ ((5 * s : Nat) : Int) ∧ ((5 * s : Nat) : Int) < 2147483648 := by omega
      have k1 : ∀ f, (LRW ++ [f_Md_links]).elem f = false → S1 f 0 = S f 0 := fun f hf => fo f 0 hf
      have x1 := k1 f_Md_foundLinker (by decide)
      have x2 := k1 f_Md_foundGuard (by decide)
      have x3 := k1 f_Md_elementName (by decide)
      have x4 := k1 f_Md_foundHolder (by decide)
      have x5 := k1 f_Md_foundWhich (by decide)
      have x6 := k1 f_Md_foundShape (by decide)
      have x7 := k1 f_Md_changes (by decide)
      have x8 := k1 f_Md_foundMany (by decide)
      have y0 : w32 (5 * (s : Int)) = ((5 * s : Nat) : Int) := by rw [m1]; exact w32_of m3.1 m3.2
      have g43 : wpB PGm ρ (d + 1) m_Md_links 43 [(0, vR T), (1, vI (s : Int)), (2, vI 0)] [] (cn h0 T S1) Q := by
        refine b_Md_links_43 ⟨fun _ => ?_, fun c => absurd c (by decide)⟩
        have g123 : wpB PGm ρ (d + 1) m_Md_links 123 [(0, vR T), (1, vI (s : Int)), (2, vI ((5 * s : Nat) : Int))] [] (cn h0 T (u2 (u2 (u2 (u2 (u2 S1 f_Md_linker (5 * s) (S f_Md_foundLinker 0)) f_Md_guard (5 * s) (S f_Md_foundGuard 0)) f_Md_guardName (5 * s) (S f_Md_elementName 0)) f_Md_holder (5 * s) (S f_Md_foundHolder 0)) f_Md_which (5 * s) (S f_Md_foundWhich 0))) Q := by
          refine b_Md_links_123 ?_
          rw [← eS2] at g0
          clear lp r1 r2 r3 f1 f2 s1 s2 e0 fo fo2 t1 gd tb all pv pv2 k1 q
          simp (decide := true) (disch := first | decide | omega) only [cnI, cnR, cnK, cnl, cnA' G, cn_sA' G, kT, KN G, LN G, u2_f, x6, x7, x8, fm, Int.toNat_natCast, true_and, and_true]
          exact ⟨b2, b2, b2, b2, g0⟩
        clear lp r1 r2 r3 f1 f2 s1 s2 e0 fo fo2 t1 gd tb all pv pv2 k1 q
        simp (decide := true) (disch := first | decide | omega) only [cnI, cnR, cnK, cnl, cnA' G, cn_sA' G, kT, KN G, LN G, u2_f, x1, x2, x3, x4, x5, y0, Int.toNat_natCast, true_and, and_true]
        exact ⟨b2, b2, b2, b2, b2, g123⟩
      have gg := t1 d h0 T Q O g43
      refine b_Md_links_0 ?_
      clear lp r1 r2 r3 f1 f2 s1 s2 e0 fo fo2 t1 gd tb all pv pv2 k1 q g43
      simp (decide := true) (disch := first | decide | omega) only [cnI, cnR, cnK, cnl, cnA' G, cn_sA' G, kT, KN G, LN G, w9, en, u2_s, u2_f, Int.toNat_natCast, true_and, and_true, forall_const, not_false_eq_true, false_implies]
      exact ⟨b1, b1, b1, b1, gg⟩
end
