/-! T: parts of texts, elements of lists -/
set_option maxRecDepth 20000
section
variable {ρ : Nat → Nat} {P : ah → Nat → Prop} {d : Nat} {Q : QT} {Γ : GH} {h h0 : ah} {C ho T k n m f i j N M b r a s rr mn sn tn row c t E pp x sz tm mb am ab sk rk y0 : Nat} {S S' S1 S2 SX : SS} {X : X3} {Y : Y3} {g : HG} {l L bs ts : List Int} {v p y nm ty cnt κ hd w La bv el st LL bb iv : Int} {ls l2 : List ENT} {e : Option (Option AV)}
theorem mtS_off : OFF [f_Md_textFrom, f_Md_textLength, f_Md_madeTexts, f_Md_madeBytes, f_Md_allTexts, f_Md_allBytes, f_Md_textSigns] S (mtS S tm mb am ab bs) := fun f i hf => by
  have ne : ∀ x, [f_Md_textFrom, f_Md_textLength, f_Md_madeTexts, f_Md_madeBytes, f_Md_allTexts, f_Md_allBytes, f_Md_textSigns].elem x = true → f ≠ x := fun x hx e => by subst e; rw [hx] at hf; cases hf
  unfold mtS
  rw [tx1_o (ne _ (by decide))]
  unfold ntS
  rw [u2_f (ne _ (by decide)), u2_f (ne _ (by decide)), u2_f (ne _ (by decide)), u2_f (ne _ (by decide)), u2_f (ne _ (by decide)), u2_f (ne _ (by decide))]
theorem TSB.full (M0 : TMS S tm mb am ab) (hij : i ≤ j) (hj : j ≤ 269632) (nr : ¬ (am < 12000 ∧ ab + (j - i) ≤ 200000)) : TSB ρ g N M x i j S none (erS S 99) := fun d h0 T Q K q => by
  have O := K.1.1
  have y1 : w32 (w64 ((j : Int) - (i : Int))) = ((j - i : Nat) : Int) := by
    have : w64 ((j : Int) - (i : Int)) = ((j - i : Nat) : Int) := by rw [w64_of (by omega) (by omega)]; omega
    rw [this]; exact w32_of (by omega) (by omega)
  refine b_Md_sub_0 ⟨O.1, ?_⟩
  rw [y1]
  exact s_newText (d := d + 187) O M0 (by omega) (fun a b => absurd ⟨a, b⟩ nr) (fun _ => ⟨O.kh, q⟩)
theorem TSB.ok (M0 : TMS S tm mb am ab) (hij : i ≤ j) (hx : x < 4000 + tm) (e1 : S f_Md_textFrom x = (a : Int)) (e2 : S f_Md_textLength x = (l.length : Int)) (hj : j ≤ l.length) (ha : a + l.length ≤ 69632 + mb) (e3 : ∀ i, i < l.length → S f_Md_textSigns (a + i) = l.getD i 0) (rg : ∀ i, i < l.length → -128 ≤ l.getD i 0 ∧ l.getD i 0 ≤ 127) (nr : am < 12000 ∧ ab + (j - i) ≤ 200000) (H : GFR S t n c rr m pp) : TSB ρ g N M x i j S (some none) (gvS (mtS S tm mb am ab ((l.drop i).take (j - i))) t m c pp 3 ((4000 + tm : Nat) : Int)) := fun d h0 T Q K q => by
  have O := K.1.1
  have kT := O.1
  have G := O.2.1
  have Mb := M0.2
  generalize eb : (l.drop i).take (j - i) = bs at *
  have lb : bs.length = j - i := by rw [← eb, List.length_take, List.length_drop]; omega
  have gb : ∀ k, k < bs.length → bs.getD k 0 = l.getD (i + k) 0 := fun k hk => by
    rw [← eb, List.getD_eq_getElem?_getD, List.getD_eq_getElem?_getD, List.getElem?_take, if_pos (by omega), List.getElem?_drop]
  have H1 := H.ex (S1 := mtS S tm mb am ab bs) (mtS_off.ex (by decide))
  have gg := s_gives (ρ := ρ) (d := d + 187) (Q := cV (fun h9 => Q (Sum.inl none) h9) (fun e12 h11 => hK h11 e12 ≠ 0 ∧ Q (Sum.inr e12) h11)) O H1 q
  have b1 : 0 ≤ ((4000 + tm : Nat) : Int) ∧ ((4000 + tm : Nat) : Int) < ((16000 : Nat) : Int) := by omega
  have b4 : 0 ≤ (x : Int) ∧ (x : Int) < ((16000 : Nat) : Int) := by omega
  have lp : ∀ mm k, k + mm = bs.length → wpB PGm ρ (d + 190) m_Md_sub 14 [(0, vR T), (1, vI (x : Int)), (2, vL (i : Int)), (6, vI ((4000 + tm : Nat) : Int)), (7, vI (k : Int))] [] (cn h0 T (tx1 (ntS S tm mb am ab bs.length) (69632 + mb) (bs.take k))) Q := fun mm => by
    induction mm with
    | zero =>
      intro k hk
      have ek : k = bs.length := by omega
      subst ek
      rw [List.take_length]
      have t1 : tx1 (ntS S tm mb am ab bs.length) (69632 + mb) bs f_Md_textLength (4000 + tm) = (bs.length : Int) := by rw [tx1_o (by decide)]; unfold ntS; rw [u2_f (by decide), u2_f (by decide), u2_f (by decide), u2_f (by decide), u2_s]
      have n2 : ¬ (bs.length : Int) < (bs.length : Int) := by omega
      unfold mtS at gg
      generalize tx1 (ntS S tm mb am ab bs.length) (69632 + mb) bs = S3 at *
      refine b_Md_sub_14 ?_
      clear H1 H q e3 rg gb M0
      simp (decide := true) (disch := first | decide | omega) only [cnI, cnR, cnK, cnl, cnA' G, kT, KN G, LN G, t1, n2, Int.le_refl, Int.toNat_natCast, true_and, and_true, false_implies, forall_const]
      exact ⟨b1, gg⟩
    | succ mm ih =>
      intro k hk
      have hk' : k < bs.length := by omega
      have nx := ih (k + 1) (by omega)
      have u := tx1_u (S := ntS S tm mb am ab bs.length) (p := 69632 + mb) hk'
      have t1 : tx1 (ntS S tm mb am ab bs.length) (69632 + mb) (bs.take k) f_Md_textLength (4000 + tm) = (bs.length : Int) := by rw [tx1_o (by decide)]; unfold ntS; rw [u2_f (by decide), u2_f (by decide), u2_f (by decide), u2_f (by decide), u2_s]
      have t3 : tx1 (ntS S tm mb am ab bs.length) (69632 + mb) (bs.take k) f_Md_textFrom (4000 + tm) = ((69632 + mb : Nat) : Int) := by rw [tx1_o (by decide)]; unfold ntS; rw [u2_f (by decide), u2_f (by decide), u2_f (by decide), u2_f (by decide), u2_f (by decide), u2_s]
      have t4 : tx1 (ntS S tm mb am ab bs.length) (69632 + mb) (bs.take k) f_Md_textFrom x = (a : Int) := by rw [tx1_o (by decide)]; unfold ntS; rw [u2_f (by decide), u2_f (by decide), u2_f (by decide), u2_f (by decide), u2_f (by decide), u2_e, if_neg (fun c => by omega)]; exact e1
      have t5 : tx1 (ntS S tm mb am ab bs.length) (69632 + mb) (bs.take k) f_Md_textSigns (a + i + k) = bs.getD k 0 := by
        rw [tx1_n (by omega)]; unfold ntS; rw [u2_f (by decide), u2_f (by decide), u2_f (by decide), u2_f (by decide), u2_f (by decide), u2_f (by decide), gb k hk', Nat.add_assoc]; exact e3 (i + k) (by omega)
      have rg' : -128 ≤ bs.getD k 0 ∧ bs.getD k 0 ≤ 127 := by rw [gb k hk']; exact rg (i + k) (by omega)
      have b2 : 0 ≤ ((a + i + k : Nat) : Int) ∧ ((a + i + k : Nat) : Int) < ((269632 : Nat) : Int) := by omega
      have b3 : 0 ≤ ((69632 + mb + k : Nat) : Int) ∧ ((69632 + mb + k : Nat) : Int) < ((269632 : Nat) : Int) := by omega
      have c1 : 69632 + mb + k ≤ 2000000000 := by omega
      have c2 : k ≤ 2000000000 := by omega
      have c3 : a + i ≤ 2000000000 := by omega
      have c4 : a + i + k ≤ 2000000000 := by omega
      have c5 : -2147483648 ≤ (i : Int) ∧ (i : Int) < 2147483648 := by omega
      have jn : (k : Int) < (bs.length : Int) := by omega
      have nj : ¬ (bs.length : Int) ≤ (k : Int) := by omega
      have w1 : w32 (((69632 + mb : Nat) : Int) + (k : Int)) = ((69632 + mb + k : Nat) : Int) := w32_aa c1
      have w2 : w32 ((k : Int) + 1) = ((k + 1 : Nat) : Int) := w32_s c2
      have w3 : w32 (i : Int) = (i : Int) := w32_of c5.1 c5.2
      have w4 : w32 ((a : Int) + (i : Int)) = ((a + i : Nat) : Int) := w32_aa c3
      have w5 : w32 (((a + i : Nat) : Int) + (k : Int)) = ((a + i + k : Nat) : Int) := w32_aa c4
      clear ih rg e3 gb H H1 q gg Mb M0
      generalize bs.getD k 0 = cv at *
      generalize bs.take (k + 1) = bt at *
      generalize bs.take k = bq at *
      refine b_Md_sub_14 ⟨kT, ?_⟩
      simp (decide := true) (disch := first | decide | omega) only [cnI, cnR, cnK, cnl, cnA' G, cn_sA' G, KN G, LN G, t1, t3, t4, t5, w1, w2, w3, w4, w5, nj, jn, u, Int.toNat_natCast, true_and, and_true, forall_const, false_implies, false_and, or_false]
      exact ⟨b1, b1, b4, b2, ⟨rg', b3⟩, nx⟩
  have y1 : w32 (w64 ((j : Int) - (i : Int))) = ((j - i : Nat) : Int) := by
    have : w64 ((j : Int) - (i : Int)) = ((j - i : Nat) : Int) := by rw [w64_of (by omega) (by omega)]; omega
    rw [this]; exact w32_of (by omega) (by omega)
  refine b_Md_sub_0 ⟨kT, ?_⟩
  rw [y1, ← lb]
  refine s_newText (d := d + 187) O M0 (by omega) (fun _ _ => ?_) (fun z => absurd ⟨nr.1, by rw [lb]; exact nr.2⟩ z)
  have g0 := lp bs.length 0 (by omega)
  rw [List.take_zero, tx1_nil] at g0
  exact g0
/-- elements are set -/
theorem s_se131 (O : TOK h0 T) (H : GFR S t n c rr m pp) (hr : rr + 2 < 4200) (q : Q (Sum.inl none) (cn h0 T (gvS S t m c pp (S f_Md_pileType (rr + 2)) (S f_Md_pileValue (rr + 2))))) : wpB PGm ρ (d + 3) m_Md_setsElement 131 [(0, vR T)] [] (cn h0 T S) Q := by
  have kT := O.1
  have G := O.2.1
  have er := H.2.2.1
  have b1 : 0 ≤ ((rr + 2 : Nat) : Int) ∧ ((rr + 2 : Nat) : Int) < ((4200 : Nat) : Int) := by omega
  have g1 := s_gives (ρ := ρ) (d := d) (Q := cV (fun h5 => Q (Sum.inl none) h5) (fun e8 h7 => hK h7 e8 ≠ 0 ∧ Q (Sum.inr e8) h7)) O H q
  have y1 : w32 ((rr : Int) + 2) = ((rr + 2 : Nat) : Int) := by rw [w32_of (by omega) (by omega)]; omega
  refine b_Md_setsElement_131 ?_
  clear q H
  simp (decide := true) (disch := first | decide | omega) only [cnI, cnR, cnK, cnl, cnA' G, kT, KN G, LN G, er, y1, Int.toNat_natCast, true_and, and_true]
  exact ⟨b1, b1, g1⟩
theorem TAC.put' (he : e = none ∨ e = some none) (Z : RWQ S s x mn sz E rr κ ty) (hκ : κ = 3) (hE : E = 2) (H : TC ρ (PTO ρ g N M) 196 m_Md_setsElement 0 [(1, vI (x : Int)), (2, vI (if S f_Md_pileType (rr + 1) = 2 then 1 else 0)), (3, vL (S f_Md_pileValue (rr + 1)))] [] S e S') : TAC ρ g N M s S e S' := TAC.row' Z.1 Z.2.1 Z.2.2.2.1 he (fun d h0 T Q K q => by
  have O := K.1.1
  have e1 : 0 < E := by omega
  refine s_row95 O Z ?_
  have e2 : (if 0 < E ∧ S f_Md_pileType (rr + 1) = 2 then (1 : Int) else 0) = (if S f_Md_pileType (rr + 1) = 2 then 1 else 0) := by
    by_cases w : S f_Md_pileType (rr + 1) = 2
    · rw [if_pos ⟨e1, w⟩, if_pos w]
    · rw [if_neg (fun z => w z.2), if_neg w]
  rw [e2, if_pos e1, hκ]
  exact b_Md_actsOnRow_95 (d := d + 196) ⟨fun _ => ⟨fun _ => ⟨fun c => absurd rfl c, fun _ => ⟨O.1, H d h0 T _ K (cV_oT he O.kh q)⟩⟩, fun c => absurd c (by decide)⟩, fun c => absurd c (by decide)⟩)
theorem TAC.put6 (Z : RWQ S s x mn sz E rr κ ty) (hκ : κ = 3) (hE : E = 2) (hty : ty = 6) (ne : ¬ (S f_Md_pileType (rr + 1) = 2 ∧ 0 ≤ S f_Md_pileValue (rr + 1) ∧ S f_Md_pileValue (rr + 1) ≤ (sz : Int))) : TAC ρ g N M s S none (erS S 6) := TAC.put' (Or.inl rfl) Z hκ hE (fun d h0 T Q K q => by
  have O := K.1.1
  have kT := O.1
  have G := O.2.1
  obtain ⟨-, hx, ec⟩ := Z.2.2.2.2.2.2.1.resolve_right (fun c => by rw [hty] at c; exact absurd c.1 (by decide))
  have b1 : 0 ≤ (x : Int) ∧ (x : Int) < ((8000 : Nat) : Int) := by omega
  have g19 : ∀ l : Int, wpB PGm ρ (d + 196) m_Md_setsElement 19 [(0, vR T), (1, vI (x : Int)), (3, vL l)] [] (cn h0 T S) Q := fun _ => b_Md_setsElement_19 ⟨kT, s_error (d := d + 194) O ⟨O.kh, q⟩⟩
  refine b_Md_setsElement_0 ⟨fun _ => g19 _, fun c => ?_⟩
  have t1 : S f_Md_pileType (rr + 1) = 2 := by
    by_cases w : S f_Md_pileType (rr + 1) = 2
    · exact w
    · rw [if_neg w] at c; exact absurd rfl c
  have gi : wpB PGm ρ (d + 195) m_Md_in 0 [(0, vL (S f_Md_pileValue (rr + 1))), (2, vL 0), (4, vL (sz : Int))] [] (cn h0 T S) (cI (fun x12 h7 => ((¬ x12 = 0 → wpB PGm ρ (d + 196) m_Md_setsElement 25 [(0, vR T), (1, vI (x : Int)), (3, vL (S f_Md_pileValue (rr + 1)))] [] h7 Q) ∧ (x12 = 0 → wpB PGm ρ (d + 196) m_Md_setsElement 19 [(0, vR T), (1, vI (x : Int)), (3, vL (S f_Md_pileValue (rr + 1)))] [] h7 Q))) (fun e10 h9 => hK h9 e10 ≠ 0 ∧ Q (Sum.inr e10) h9)) := s_in (fun z => absurd ⟨t1, z⟩ ne) (fun z => ⟨fun c => absurd rfl c, fun _ => g19 _⟩)
  clear q ne g19 Z
  simp (decide := true) (disch := first | decide | omega) only [cnI, cnR, cnK, cnl, cnA' G, kT, KN G, LN G, ec, Int.toNat_natCast, true_and, and_true]
  exact ⟨b1, gi⟩)
theorem s_se25 (O : TOK h0 T) (hx : x < 8000) (ec : S f_Md_thingCount x = (sz : Int)) (hi : i ≤ sz) (q : wpB PGm ρ (d + 1) m_Md_setsElement 25 [(0, vR T), (1, vI (x : Int)), (3, vL (i : Int))] [] (cn h0 T S) Q) : wpB PGm ρ (d + 1) m_Md_setsElement 0 [(0, vR T), (1, vI (x : Int)), (2, vI 1), (3, vL (i : Int))] [] (cn h0 T S) Q := by
  have kT := O.1
  have G := O.2.1
  have b1 : 0 ≤ (x : Int) ∧ (x : Int) < ((8000 : Nat) : Int) := by omega
  have i1 : 0 ≤ (i : Int) ∧ (i : Int) ≤ (sz : Int) := by omega
  have gi : wpB PGm ρ d m_Md_in 0 [(0, vL (i : Int)), (2, vL 0), (4, vL (sz : Int))] [] (cn h0 T S) (cI (fun x12 h7 => ((¬ x12 = 0 → wpB PGm ρ (d + 1) m_Md_setsElement 25 [(0, vR T), (1, vI (x : Int)), (3, vL (i : Int))] [] h7 Q) ∧ (x12 = 0 → wpB PGm ρ (d + 1) m_Md_setsElement 19 [(0, vR T), (1, vI (x : Int)), (3, vL (i : Int))] [] h7 Q))) (fun e10 h9 => hK h9 e10 ≠ 0 ∧ Q (Sum.inr e10) h9)) := s_in (fun z => ⟨fun _ => q, fun c => absurd c (by decide)⟩) (fun z => absurd i1 z)
  refine b_Md_setsElement_0 ⟨fun c => absurd c (by decide), fun _ => ?_⟩
  simp (decide := true) (disch := first | decide | omega) only [cnI, cnR, cnK, cnl, cnA' G, kT, KN G, LN G, ec, Int.toNat_natCast, true_and, and_true]
  exact ⟨b1, gi⟩
theorem TAC.putS (Z : RWQ S s x mn sz E rr κ ty) (hκ : κ = 3) (hE : E = 2) (hty : ty = 6) (p1 : S f_Md_pileType (rr + 1) = 2) (p2 : S f_Md_pileValue (rr + 1) = (i : Int)) (hi : i < sz) (L : SLG S x sz) (H : GFR S t n c rr m pp) : TAC ρ g N M s S (some none) (gvS (u2 (u2 S f_Md_slotType (slS S x i) (S f_Md_pileType (rr + 2))) f_Md_slotValue (slS S x i) (S f_Md_pileValue (rr + 2))) t m c pp (S f_Md_pileType (rr + 2)) (S f_Md_pileValue (rr + 2))) := TAC.put' (Or.inr rfl) Z hκ hE (fun d h0 T Q K q => by
  have O := K.1.1
  have kT := O.1
  have G := O.2.1
  obtain ⟨-, hx, ec⟩ := Z.2.2.2.2.2.2.1.resolve_right (fun c => by rw [hty] at c; exact absurd c.1 (by decide))
  have hr := Z.2.2.2.2.2.2.2.2.2.2
  have er := H.2.2.1
  have b1 : 0 ≤ (x : Int) ∧ (x : Int) < ((8000 : Nat) : Int) := by omega
  have b2 : 0 ≤ ((rr + 2 : Nat) : Int) ∧ ((rr + 2 : Nat) : Int) < ((4200 : Nat) : Int) := by omega
  have sl := L.2.2.2.2.1 i hi
  have b3 : 0 ≤ (slS S x i : Int) ∧ (slS S x i : Int) < ((60000 : Nat) : Int) := by omega
  have l6 := L.2.1
  have o1 : OFF [f_Md_slotType, f_Md_slotValue] S (u2 (u2 S f_Md_slotType (slS S x i) (S f_Md_pileType (rr + 2))) f_Md_slotValue (slS S x i) (S f_Md_pileValue (rr + 2))) := (OFF.rf.u (by decide)).u (by decide)
  have H1 := H.ex (o1.ex (by decide))
  have g131 := s_se131 (ρ := ρ) (d := d + 193) (Q := Q) O H1 (by omega) (by rw [o1 _ _ (by decide), o1 _ _ (by decide)]; exact q)
  have lt : (i : Int) < (sz : Int) := by omega
  have m0 : -2147483648 ≤ (i : Int) ∧ (i : Int) < 2147483648 := by omega
  have m2 : -2147483648 ≤ (rr : Int) + 2 ∧ (rr : Int) + 2 < 2147483648 ∧ (rr : Int) + 2 = ((rr + 2 : Nat) : Int) := by omega
  have y0 : w32 (i : Int) = (i : Int) := w32_of m0.1 m0.2
  have y1 : w32 ((rr : Int) + 2) = ((rr + 2 : Nat) : Int) := by rw [w32_of m2.1 m2.2.1]; exact m2.2.2
  rw [if_pos p1, p2]
  refine s_se25 (d := d + 195) O hx ec (Nat.le_of_lt hi) ?_
  have sa : wpB PGm ρ (d + 195) m_Md_slotAt 0 [(0, vR T), (1, vI (x : Int)), (2, vI (i : Int))] [] (cn h0 T S) (cI (fun x14 h9 => hK h9 T = k_Md ∧ (hK h9 (hR h9 f_Md_pileType T) ∈ [1, 11] ∧ 0 ≤ (w32 ((hI h9 f_Md_r T) + 2)) ∧ (w32 ((hI h9 f_Md_r T) + 2)) < (hl h9 (hR h9 f_Md_pileType T) : Int)) ∧ (hK h9 (hR h9 f_Md_slotType T) = 1 ∧ 0 ≤ x14 ∧ x14 < (hl h9 (hR h9 f_Md_slotType T) : Int)) ∧ let h17 := sA h9 (hR h9 f_Md_slotType T) (x14).toNat (hA h9 (hR h9 f_Md_pileType T) (w32 ((hI h9 f_Md_r T) + 2)).toNat)
(hK h17 (hR h17 f_Md_pileValue T) ∈ [2] ∧ 0 ≤ (w32 ((hI h17 f_Md_r T) + 2)) ∧ (w32 ((hI h17 f_Md_r T) + 2)) < (hl h17 (hR h17 f_Md_pileValue T) : Int)) ∧ (hK h17 (hR h17 f_Md_slotValue T) = 2 ∧ 0 ≤ x14 ∧ x14 < (hl h17 (hR h17 f_Md_slotValue T) : Int)) ∧ let h18 := sA h17 (hR h17 f_Md_slotValue T) (x14).toNat (hA h17 (hR h17 f_Md_pileValue T) (w32 ((hI h17 f_Md_r T) + 2)).toNat)
wpB PGm ρ (d + 196) m_Md_setsElement 131 [(0, vR T)] [] h18 Q) (fun e12 h11 => hK h11 e12 ≠ 0 ∧ Q (Sum.inr e12) h11)) := by
    refine s_slotAt O L hi ⟨kT, ?_⟩
    clear q H H1 o1 Z L
    simp (decide := true) (disch := first | decide | omega) only [cnI, cnR, cnK, cnl, cnA' G, cn_sA' G, kT, KN G, LN G, u2_f, er, y1, Int.toNat_natCast, true_and, and_true]
    exact ⟨b2, b3, b2, b3, g131⟩
  refine b_Md_setsElement_25 ?_
  have c1 : (if (i : Int) < (sz : Int) then (-1 : Int) else if (i : Int) = (sz : Int) then 0 else 1) = -1 := if_pos lt
  have c2 : ¬ (-1 : Int) = 0 := by decide
  clear q H H1 o1 Z L g131
  simp (decide := true) (disch := first | decide | omega) only [cnI, cnR, cnK, cnl, cnA' G, kT, KN G, LN G, ec, c1, c2, y0, Int.toNat_natCast, true_and, and_true, not_true_eq_false, not_false_eq_true, false_implies, forall_const]
  exact ⟨b1, sa⟩)
theorem s_seA (hx : x < 8000) (ec : S f_Md_thingCount x = (sz : Int)) (p1 : S f_Md_pileType (rr + 1) = 2) (p2 : S f_Md_pileValue (rr + 1) = (sz : Int)) (e1 : S f_Md_allSlots 0 = (rk : Int)) (hr : rk ≤ 60000) : ∀ (d : Nat) (h0 : ah) (T : Nat) (Q : QT), TOK h0 T → (¬ rk < 60000 → wpB PGm ρ (d + 1) m_Md_setsElement 52 [(0, vR T), (1, vI (x : Int))] [vI 0, vR T] (cn h0 T S) Q) → (rk < 60000 → wpB PGm ρ (d + 1) m_Md_setsElement 52 [(0, vR T), (1, vI (x : Int))] [vI 1, vR T] (cn h0 T S) Q) → wpB PGm ρ (d + 1) m_Md_setsElement 0 [(0, vR T), (1, vI (x : Int)), (2, vI (if S f_Md_pileType (rr + 1) = 2 then 1 else 0)), (3, vL (S f_Md_pileValue (rr + 1)))] [] (cn h0 T S) Q := fun d h0 T Q O q0 q1 => by
  have kT := O.1
  have G := O.2.1
  have b1 : 0 ≤ (x : Int) ∧ (x : Int) < ((8000 : Nat) : Int) := by omega
  have z1 : (60000 : Int) ≤ (rk : Int) → ¬ rk < 60000 := fun z => by omega
  have z2 : (rk : Int) < 60000 → rk < 60000 := fun z => by omega
  have c1 : (if (sz : Int) < (sz : Int) then (-1 : Int) else if (sz : Int) = (sz : Int) then 0 else 1) = 0 := by rw [if_neg (by omega), if_pos rfl]
  rw [if_pos p1, p2]
  refine s_se25 (d := d) O hx ec (Nat.le_refl _) (b_Md_setsElement_25 ?_)
  simp (decide := true) (disch := first | decide | omega) only [cnI, cnR, cnK, cnl, cnA' G, kT, KN G, LN G, ec, Int.lt_irrefl, if_false, if_true, e1, Int.toNat_natCast, true_and, and_true, not_true_eq_false, false_implies, forall_const]
  exact ⟨b1, fun z => q0 (z1 z), fun z => q1 (z2 z)⟩
theorem TAC.putF (Z : RWQ S s x mn sz E rr κ ty) (hκ : κ = 3) (hE : E = 2) (hty : ty = 6) (p1 : S f_Md_pileType (rr + 1) = 2) (p2 : S f_Md_pileValue (rr + 1) = (sz : Int)) (e1 : S f_Md_allSlots 0 = (rk : Int)) (hr : rk = 60000) : TAC ρ g N M s S none (erS S 99) := TAC.put' (Or.inl rfl) Z hκ hE (fun d h0 T Q K q => by
  obtain ⟨-, hx, ec⟩ := Z.2.2.2.2.2.2.1.resolve_right (fun c => by rw [hty] at c; exact absurd c.1 (by decide))
  exact s_seA hx ec p1 p2 e1 (by omega) (d + 195) h0 T Q K.1.1 (fun _ => b_Md_setsElement_52 ⟨K.1.1.1, s_room (d := d + 194) K.1.1 (fun c => absurd rfl c) (fun _ => ⟨K.1.1.kh, q⟩)⟩) (fun c => by omega))
theorem TAC.putA (Z : RWQ S s x mn sz E rr κ ty) (hκ : κ = 3) (hE : E = 2) (hty : ty = 6) (p1 : S f_Md_pileType (rr + 1) = 2) (p2 : S f_Md_pileValue (rr + 1) = (sz : Int)) (e1 : S f_Md_allSlots 0 = (rk : Int)) (hr : rk < 60000) (e0 : S f_Md_slots 0 = (sk : Int)) (hs : sk < 60000) (hz : sz ≤ 60000) (e3 : sz ≠ 0 → S f_Md_thingLast x = (y0 : Int) ∧ y0 < 60000) (H : GFR S t n c rr m pp) : TAC ρ g N M s S (some none) (gvS (adsS S x sk rk sz (-1) (S f_Md_pileType (rr + 2)) (S f_Md_pileValue (rr + 2))) t m c pp (S f_Md_pileType (rr + 2)) (S f_Md_pileValue (rr + 2))) := TAC.put' (Or.inr rfl) Z hκ hE (fun d h0 T Q K q => by
  have O := K.1.1
  have kT := O.1
  have G := O.2.1
  obtain ⟨-, hx, ec⟩ := Z.2.2.2.2.2.2.1.resolve_right (fun c => by rw [hty] at c; exact absurd c.1 (by decide))
  have hr2 := Z.2.2.2.2.2.2.2.2.2.2
  have er := H.2.2.1
  have b2 : 0 ≤ ((rr + 2 : Nat) : Int) ∧ ((rr + 2 : Nat) : Int) < ((4200 : Nat) : Int) := by omega
  generalize ep : S f_Md_pileType (rr + 2) = pt at *
  generalize ev : S f_Md_pileValue (rr + 2) = pv at *
  have oa : OFF LAS S (adsS S x sk rk sz (-1) pt pv) := adsS_off'
  have g131 := s_se131 (ρ := ρ) (d := d + 193) (Q := Q) O (H.ex (oa.ex (by decide))) (by omega) (by rw [oa _ _ (by decide), oa _ _ (by decide), ep, ev]; exact q)
  have gas := s_addSlot (ρ := ρ) (d := d + 195) (nm := -1) (ty := pt) (v := pv) (Q := cV (fun h12 => wpB PGm ρ (d + 196) m_Md_setsElement 131 [(0, vR T)] [] h12 Q) (fun e15 h14 => hK h14 e15 ≠ 0 ∧ Q (Sum.inr e15) h14)) O e0 hs e1 (by omega) hx ec hz e3 g131
  have m2 : -2147483648 ≤ (rr : Int) + 2 ∧ (rr : Int) + 2 < 2147483648 ∧ (rr : Int) + 2 = ((rr + 2 : Nat) : Int) := by omega
  refine s_seA hx ec p1 p2 e1 (by omega) (d + 195) h0 T Q O (fun c => by omega) (fun _ => b_Md_setsElement_52 ⟨kT, s_room (d := d + 194) O (fun _ => ⟨kT, ?_⟩) (fun c => absurd c (by decide))⟩)
  have y1 : w32 ((rr : Int) + 2) = ((rr + 2 : Nat) : Int) := by rw [w32_of m2.1 m2.2.1]; exact m2.2.2
  clear q H oa Z e3 g131
  simp (decide := true) (disch := first | decide | omega) only [cnI, cnR, cnK, cnl, cnA' G, kT, KN G, LN G, er, y1, ep, ev, Int.toNat_natCast, true_and, and_true]
  exact ⟨b2, b2, gas⟩)
end
