/-! T: lists and texts -/
set_option maxRecDepth 20000
/-- what is known when something is done at a list or a text -/
def RWQ (S : SS) (s x mn sz E rr : Nat) (κ ty : Int) : Prop := s < 4000 ∧ S f_Md_siteKind s = κ ∧ S f_Md_siteMany s = (mn : Int) ∧ S f_Md_foundLinker 0 = 3 ∧ S f_Md_goesType 0 = ty ∧ S f_Md_goesValue 0 = (x : Int) ∧ ((ty = 6 ∧ x < 8000 ∧ S f_Md_thingCount x = (sz : Int)) ∨ (ty = 3 ∧ x < 16000 ∧ S f_Md_textLength x = (sz : Int))) ∧ sz ≤ 269632 ∧ S f_Md_es 0 = (E : Int) ∧ S f_Md_r 0 = (rr : Int) ∧ rr + 1 + E ≤ 4200
section
variable {ρ : Nat → Nat} {P : ah → Nat → Prop} {d : Nat} {Q : QT} {Γ : GH} {h h0 : ah} {C ho T k n m f i j N M b r a s rr mn sn tn row c t E pp x sz tm mb am ab sk rk : Nat} {S S' S1 S2 SX : SS} {X : X3} {Y : Y3} {g : HG} {l L bs ts : List Int} {v p y nm ty cnt κ hd w La bv el st LL bb iv : Int} {ls l2 : List ENT} {e : Option (Option AV)}
theorem TAC.row' (hs : s < 4000) (ek : S f_Md_siteKind s = κ) (e3 : S f_Md_foundLinker 0 = 3) (he : e = none ∨ e = some none) (H : TC ρ (PTO ρ g N M) 197 m_Md_actsOnRow 0 [(1, vI (s : Int)), (2, vI κ)] [] S e S') : TAC ρ g N M s S e S' := fun d h0 T Q K q => by
  have kT := K.1.1.1
  have G := K.1.1.2.1
  have b1 : 0 ≤ (s : Int) ∧ (s : Int) < ((4000 : Nat) : Int) := by omega
  have g1 := H d h0 T _ K (cV_oT he K.1.1.kh q)
  clear H
  have n0 : ¬ (3 : Int) = 0 := by decide
  refine b_Md_acts_0 ?_
  simp (decide := true) (disch := first | decide | omega) only [cnI, cnR, cnK, cnl, cnA' G, kT, KN G, LN G, ek, e3, n0, Int.toNat_natCast, true_and, and_true, not_true_eq_false, not_false_eq_true, false_implies, forall_const]
  exact ⟨b1, g1⟩
theorem s_row95 (O : TOK h0 T) (Z : RWQ S s x mn sz E rr κ ty) (q : wpB PGm ρ d m_Md_actsOnRow 95 [(0, vR T), (1, vI (s : Int)), (2, vI κ), (3, vI (x : Int)), (4, vI (if ty = 6 then 1 else 0)), (5, vI (sz : Int)), (6, vL (if 0 < E then S f_Md_pileValue (rr + 1) else 0))] [vI (if 0 < E ∧ S f_Md_pileType (rr + 1) = 2 then 1 else 0)] (cn h0 T S) Q) : wpB PGm ρ d m_Md_actsOnRow 0 [(0, vR T), (1, vI (s : Int)), (2, vI κ)] [] (cn h0 T S) Q := by
  have kT := O.1
  have G := O.2.1
  obtain ⟨z1, z2, z3, z4, z5, z6, z7, z8, z9, z10, z11⟩ := Z
  have x16 : x < 16000 := by rcases z7 with ⟨-, a, -⟩ | ⟨-, a, -⟩ <;> omega
  have m0 : -2147483648 ≤ (x : Int) ∧ (x : Int) < 2147483648 := by omega
  have m1 : rr ≤ 2000000000 := by omega
  have b2 : 0 < E → 0 ≤ ((rr + 1 : Nat) : Int) ∧ ((rr + 1 : Nat) : Int) < ((4200 : Nat) : Int) := fun z => by omega
  have w1 : (E : Int) ≤ 0 → ¬ 0 < E := fun z => by omega
  have w2 : 0 < (E : Int) → 0 < E := fun z => by omega
  have y0 : w32 (x : Int) = (x : Int) := w32_of m0.1 m0.2
  have y1 : w32 ((rr : Int) + 1) = ((rr + 1 : Nat) : Int) := w32_p1 m1
  generalize el4 : (if ty = 6 then (1 : Int) else 0) = l4 at *
  have g66 : wpB PGm ρ d m_Md_actsOnRow 66 [(0, vR T), (1, vI (s : Int)), (2, vI κ), (3, vI (x : Int)), (4, vI l4), (5, vI (sz : Int))] [vL (if 0 < E then S f_Md_pileValue (rr + 1) else 0)] (cn h0 T S) Q := by
    refine b_Md_actsOnRow_66 ?_
    have q0 : ¬ (0 < E ∧ S f_Md_pileType (rr + 1) = 2) → wpB PGm ρ d m_Md_actsOnRow 95 [(0, vR T), (1, vI (s : Int)), (2, vI κ), (3, vI (x : Int)), (4, vI l4), (5, vI (sz : Int)), (6, vL (if 0 < E then S f_Md_pileValue (rr + 1) else 0))] [vI 0] (cn h0 T S) Q := fun z => by rw [if_neg z] at q; exact q
    have q1 : (0 < E ∧ S f_Md_pileType (rr + 1) = 2) → wpB PGm ρ d m_Md_actsOnRow 95 [(0, vR T), (1, vI (s : Int)), (2, vI κ), (3, vI (x : Int)), (4, vI l4), (5, vI (sz : Int)), (6, vL (if 0 < E then S f_Md_pileValue (rr + 1) else 0))] [vI 1] (cn h0 T S) Q := fun z => by rw [if_pos z] at q; exact q
    clear q z7
    generalize (if 0 < E then S f_Md_pileValue (rr + 1) else 0) = l6 at *
    simp (decide := true) (disch := first | decide | omega) only [cnI, cnR, cnK, cnl, cnA' G, kT, KN G, LN G, z9, z10, y1, Int.toNat_natCast, true_and, and_true]
    exact ⟨fun z => q0 (fun c => w1 z c.1), fun z => ⟨b2 (w2 z), fun c => q0 (fun c2 => c c2.2), fun c => q1 ⟨w2 z, c⟩⟩⟩
  have g42 : wpB PGm ρ d m_Md_actsOnRow 42 [(0, vR T), (1, vI (s : Int)), (2, vI κ), (3, vI (x : Int)), (4, vI l4)] [vI (sz : Int)] (cn h0 T S) Q := by
    have q0 : ¬ 0 < E → wpB PGm ρ d m_Md_actsOnRow 66 [(0, vR T), (1, vI (s : Int)), (2, vI κ), (3, vI (x : Int)), (4, vI l4), (5, vI (sz : Int))] [vL 0] (cn h0 T S) Q := fun z => by rw [if_neg z] at g66; exact g66
    have q1 : 0 < E → wpB PGm ρ d m_Md_actsOnRow 66 [(0, vR T), (1, vI (s : Int)), (2, vI κ), (3, vI (x : Int)), (4, vI l4), (5, vI (sz : Int))] [vL (S f_Md_pileValue (rr + 1))] (cn h0 T S) Q := fun z => by rw [if_pos z] at g66; exact g66
    refine b_Md_actsOnRow_42 ?_
    clear q z7 g66
    simp (decide := true) (disch := first | decide | omega) only [cnI, cnR, cnK, cnl, cnA' G, kT, KN G, LN G, z9, z10, y1, Int.toNat_natCast, true_and, and_true]
    exact ⟨fun z => q0 (w1 z), fun z => ⟨b2 (w2 z), q1 (w2 z)⟩⟩
  refine b_Md_actsOnRow_0 ⟨kT, ?_⟩
  rw [cnI (by decide), cnI (by decide), z5, z6, y0]
  rcases z7 with ⟨rfl, xb, ec⟩ | ⟨rfl, xb, ec⟩
  · have c1 : 0 ≤ (x : Int) ∧ (x : Int) < ((8000 : Nat) : Int) := ⟨Int.natCast_nonneg _, Int.ofNat_lt.mpr xb⟩
    rw [if_pos rfl] at el4
    subst el4
    refine ⟨fun c => absurd rfl c, fun _ => b_Md_actsOnRow_20 ⟨fun c => absurd c (by decide), fun _ => ?_⟩⟩
    clear q g66
    simp (decide := true) (disch := first | decide | omega) only [cnI, cnR, cnK, cnl, cnA' G, kT, KN G, LN G, ec, Int.toNat_natCast, true_and, and_true]
    exact ⟨c1, g42⟩
  · have c1 : 0 ≤ (x : Int) ∧ (x : Int) < ((16000 : Nat) : Int) := ⟨Int.natCast_nonneg _, Int.ofNat_lt.mpr xb⟩
    rw [if_neg (by decide)] at el4
    subst el4
    refine ⟨fun _ => b_Md_actsOnRow_20 ⟨fun _ => ?_, fun c => absurd rfl c⟩, fun c => absurd c (by decide)⟩
    clear q g66
    simp (decide := true) (disch := first | decide | omega) only [cnI, cnR, cnK, cnl, cnA' G, kT, KN G, LN G, ec, Int.toNat_natCast, true_and, and_true]
    exact ⟨c1, g42⟩
theorem TAC.size (Z : RWQ S s x mn sz E rr κ ty) (hκ : κ = 0) (H : GFR S t n c rr m pp) : TAC ρ g N M s S (some none) (gvS S t m c pp 2 (sz : Int)) := TAC.row' Z.1 Z.2.1 Z.2.2.2.1 (Or.inr rfl) (fun d h0 T Q K q => s_row95 K.1.1 Z (b_Md_actsOnRow_95 (d := d + 196) ⟨fun c => absurd hκ c, fun _ => ⟨K.1.1.1, s_gives (d := d + 194) K.1.1 H q⟩⟩))
/-- the index of an element -/
theorem TAC.at6 (Z : RWQ S s x mn sz E rr κ ty) (hκ : κ = 2) (hE : E = 1) (ne : ¬ (S f_Md_pileType (rr + 1) = 2 ∧ 0 ≤ S f_Md_pileValue (rr + 1) ∧ S f_Md_pileValue (rr + 1) < (sz : Int))) : TAC ρ g N M s S none (erS S 6) := TAC.row' Z.1 Z.2.1 Z.2.2.2.1 (Or.inl rfl) (fun d h0 T Q K q => by
  have O := K.1.1
  have z8 := Z.2.2.2.2.2.2.2.1
  have g136 : ∀ l3 l4 l6 : Int, wpB PGm ρ (d + 197) m_Md_actsOnRow 136 [(0, vR T), (3, vI l3), (4, vI l4), (6, vL l6)] [] (cn h0 T S) Q := fun _ _ _ => b_Md_actsOnRow_136 ⟨O.1, s_error (d := d + 195) O ⟨O.kh, q⟩⟩
  have y1 : w32 ((sz : Int) - 1) = (sz : Int) - 1 := w32_of (by omega) (by omega)
  refine s_row95 O Z (b_Md_actsOnRow_95 (d := d + 196) ⟨fun _ => ⟨fun c => absurd hκ c, fun _ => ⟨fun _ => g136 _ _ _, fun c => s_in (fun z => ⟨fun _ => ?_, fun c2 => absurd c2 (by decide)⟩) (fun z => ⟨fun c2 => absurd rfl c2, fun _ => g136 _ _ _⟩)⟩⟩, fun c => by rw [hκ] at c; exact absurd c (by decide)⟩)
  exfalso
  rw [y1] at z
  rw [if_pos (by omega)] at z
  refine ne ⟨?_, z.1, Int.lt_of_le_sub_one z.2⟩
  by_cases w : S f_Md_pileType (rr + 1) = 2
  · exact w
  · rw [if_neg (fun z => w z.2)] at c; exact absurd rfl c)
theorem s_row142 (O : TOK h0 T) (Z : RWQ S s x mn sz E rr κ ty) (hκ : κ = 2) (hE : E = 1) (p1 : S f_Md_pileType (rr + 1) = 2) (p2 : S f_Md_pileValue (rr + 1) = (i : Int)) (hi : i < sz) (q : wpB PGm ρ (d + 1) m_Md_actsOnRow 142 [(0, vR T), (3, vI (x : Int)), (4, vI (if ty = 6 then 1 else 0)), (6, vL (i : Int))] [] (cn h0 T S) Q) : wpB PGm ρ (d + 1) m_Md_actsOnRow 0 [(0, vR T), (1, vI (s : Int)), (2, vI κ)] [] (cn h0 T S) Q := by
  have z8 := Z.2.2.2.2.2.2.2.1
  have e1 : 0 < E := by omega
  have i1 : 0 ≤ (i : Int) ∧ (i : Int) ≤ (sz : Int) - 1 := by omega
  have y1 : w32 ((sz : Int) - 1) = (sz : Int) - 1 := w32_of (by omega) (by omega)
  refine s_row95 O Z ?_
  rw [if_pos e1, if_pos (show 0 < E ∧ S f_Md_pileType (rr + 1) = 2 from ⟨e1, p1⟩), p2]
  exact b_Md_actsOnRow_95 (d := d) ⟨fun _ => ⟨fun c => absurd hκ c, fun _ => ⟨fun c => absurd c (by decide), fun _ => s_in (fun z => ⟨fun _ => q, fun c2 => absurd c2 (by decide)⟩) (fun z => absurd (by rw [y1]; exact i1) z)⟩⟩, fun c => by rw [hκ] at c; exact absurd c (by decide)⟩
theorem TAC.atL (Z : RWQ S s x mn sz E rr κ ty) (hκ : κ = 2) (hE : E = 1) (hty : ty = 6) (p1 : S f_Md_pileType (rr + 1) = 2) (p2 : S f_Md_pileValue (rr + 1) = (i : Int)) (hi : i < sz) (L : SLG S x sz) (H : GFR S t n c rr m pp) : TAC ρ g N M s S (some none) (gvS S t m c pp (S f_Md_slotType (slS S x i)) (S f_Md_slotValue (slS S x i))) := TAC.row' Z.1 Z.2.1 Z.2.2.2.1 (Or.inr rfl) (fun d h0 T Q K q => by
  have O := K.1.1
  have kT := O.1
  have G := O.2.1
  have sl := L.2.2.2.2.1 i hi
  have b1 : 0 ≤ (slS S x i : Int) ∧ (slS S x i : Int) < ((60000 : Nat) : Int) := by omega
  have y0 : w32 (i : Int) = (i : Int) := w32_of (by omega) (by have := L.2.1; omega)
  refine s_row142 (d := d + 196) O Z hκ hE p1 p2 hi (b_Md_actsOnRow_142 ⟨fun c => by rw [if_pos hty] at c; exact absurd c (by decide), fun _ => ⟨kT, ?_⟩⟩)
  rw [y0]
  refine s_slotAt O L hi ⟨kT, ?_⟩
  have g1 := s_gives (ρ := ρ) (d := d + 194) (Q := cV (fun h24 => Q (Sum.inl none) h24) (fun e27 h26 => hK h26 e27 ≠ 0 ∧ Q (Sum.inr e27) h26)) O H q
  clear q
  simp (decide := true) (disch := first | decide | omega) only [cnI, cnR, cnK, cnl, cnA' G, kT, KN G, LN G, Int.toNat_natCast, true_and, and_true]
  exact ⟨b1, b1, g1⟩)
/-- a part of a text -/
def TSB (ρ : Nat → Nat) (g : HG) (N M x i j : Nat) (S : SS) (e : Option (Option AV)) (S' : SS) : Prop := TC ρ (PTO ρ g N M) 190 m_Md_sub 0 [(1, vI (x : Int)), (2, vL (i : Int)), (4, vL (j : Int))] [] S e S'
theorem TAC.atT (he : e = none ∨ e = some none) (Z : RWQ S s x mn sz E rr κ ty) (hκ : κ = 2) (hE : E = 1) (hty : ty = 3) (p1 : S f_Md_pileType (rr + 1) = 2) (p2 : S f_Md_pileValue (rr + 1) = (i : Int)) (hi : i < sz) (SB : TSB ρ g N M x i (i + 1) S e S') : TAC ρ g N M s S e S' := TAC.row' Z.1 Z.2.1 Z.2.2.2.1 he (fun d h0 T Q K q => by
  have O := K.1.1
  have kT := O.1
  have z8 := Z.2.2.2.2.2.2.2.1
  have y0 : w64 ((i : Int) + 1) = ((i + 1 : Nat) : Int) := by
    have : w64 ((i : Int) + 1) = (i : Int) + 1 := w64_of (by omega) (by omega)
    rw [this]; omega
  refine s_row142 (d := d + 196) O Z hκ hE p1 p2 hi (b_Md_actsOnRow_142 ⟨fun _ => ⟨kT, ?_⟩, fun c => absurd (by rw [hty]; decide) c⟩)
  rw [y0]
  exact SB (d + 6) h0 T _ K (cV_oT he O.kh q))
theorem TAC.part6 (Z : RWQ S s x mn sz E rr κ ty) (hκ : κ = 5) (hE : E = 2) (hty : ty = 3) (ne : ¬ (S f_Md_pileType (rr + 1) = 2 ∧ S f_Md_pileType (rr + 2) = 2 ∧ 0 ≤ S f_Md_pileValue (rr + 1) ∧ S f_Md_pileValue (rr + 1) ≤ (sz : Int) ∧ S f_Md_pileValue (rr + 1) ≤ S f_Md_pileValue (rr + 2) ∧ S f_Md_pileValue (rr + 2) ≤ (sz : Int))) : TAC ρ g N M s S none (erS S 6) := TAC.row' Z.1 Z.2.1 Z.2.2.2.1 (Or.inl rfl) (fun d h0 T Q K q => by
  have O := K.1.1
  have kT := O.1
  have G := O.2.1
  have hr := Z.2.2.2.2.2.2.2.2.2.2
  have er := Z.2.2.2.2.2.2.2.2.2.1
  have e1 : 0 < E := by omega
  have b1 : 0 ≤ ((rr + 2 : Nat) : Int) ∧ ((rr + 2 : Nat) : Int) < ((4200 : Nat) : Int) := by omega
  have y1 : w32 ((rr : Int) + 2) = ((rr + 2 : Nat) : Int) := by rw [w32_of (by omega) (by omega)]; omega
  have g282 : ∀ l3 l6 : Int, wpB PGm ρ (d + 197) m_Md_actsOnRow 282 [(0, vR T), (3, vI l3), (6, vL l6)] [vI 0] (cn h0 T S) Q := fun _ _ => b_Md_actsOnRow_282 ⟨fun c => absurd rfl c, fun _ => ⟨kT, s_error (d := d + 195) O ⟨O.kh, q⟩⟩⟩
  refine s_row95 O Z ?_
  rw [if_pos e1, hκ, hty]
  refine b_Md_actsOnRow_95 (d := d + 196) ⟨fun _ => ⟨fun _ => ⟨fun _ => ⟨fun _ => ⟨fun _ => g282 _ _, fun c => ?_⟩, fun c => absurd (by decide) c⟩, fun c => absurd c (by decide)⟩, fun c => absurd c (by decide)⟩, fun c => absurd c (by decide)⟩
  have t1 : S f_Md_pileType (rr + 1) = 2 := by
    by_cases w : S f_Md_pileType (rr + 1) = 2
    · exact w
    · rw [if_neg (fun z => w z.2)] at c; exact absurd rfl c
  have g243 : S f_Md_pileType (rr + 2) = 2 → wpB PGm ρ (d + 197) m_Md_actsOnRow 243 [(0, vR T), (3, vI (x : Int)), (5, vI (sz : Int)), (6, vL (S f_Md_pileValue (rr + 1)))] [] (cn h0 T S) Q := fun t2 => by
    refine b_Md_actsOnRow_243 (s_in (fun z => ⟨fun c2 => absurd c2 (by decide), fun _ => ⟨kT, ?_⟩⟩) (fun z => ⟨fun _ => g282 _ _, fun c2 => absurd rfl c2⟩))
    have gi : wpB PGm ρ (d + 196) m_Md_in 0 [(0, vL (S f_Md_pileValue (rr + 2))), (2, vL (S f_Md_pileValue (rr + 1))), (4, vL (sz : Int))] [] (cn h0 T S) (cI (fun x18 h13 => ((x18 = 0 → wpB PGm ρ (d + 197) m_Md_actsOnRow 282 [(0, vR T), (3, vI (x : Int)), (6, vL (S f_Md_pileValue (rr + 1)))] [vI 0] h13 Q) ∧ (¬ x18 = 0 → wpB PGm ρ (d + 197) m_Md_actsOnRow 282 [(0, vR T), (3, vI (x : Int)), (6, vL (S f_Md_pileValue (rr + 1)))] [vI 1] h13 Q))) (fun e16 h15 => hK h15 e16 ≠ 0 ∧ Q (Sum.inr e16) h15)) := s_in (fun z2 => absurd ⟨t1, t2, z.1, z.2, z2.1, z2.2⟩ ne) (fun z2 => ⟨fun _ => g282 _ _, fun c2 => absurd rfl c2⟩)
    clear ne q g282 z Z
    simp (decide := true) (disch := first | decide | omega) only [cnI, cnR, cnK, cnl, cnA' G, kT, KN G, LN G, er, y1, Int.toNat_natCast, true_and, and_true]
    exact ⟨b1, gi⟩
  have g28 := g282 (x : Int) (S f_Md_pileValue (rr + 1))
  clear ne q g282 Z c
  simp (decide := true) (disch := first | decide | omega) only [cnI, cnR, cnK, cnl, cnA' G, kT, KN G, LN G, er, y1, Int.toNat_natCast, true_and, and_true]
  exact ⟨b1, fun _ => g28, fun z => g243 z⟩)
theorem TAC.part (he : e = none ∨ e = some none) (Z : RWQ S s x mn sz E rr κ ty) (hκ : κ = 5) (hE : E = 2) (hty : ty = 3) (p1 : S f_Md_pileType (rr + 1) = 2) (p2 : S f_Md_pileType (rr + 2) = 2) (p3 : S f_Md_pileValue (rr + 1) = (i : Int)) (p4 : S f_Md_pileValue (rr + 2) = (j : Int)) (hi : i ≤ j) (hj : j ≤ sz) (SB : TSB ρ g N M x i j S e S') : TAC ρ g N M s S e S' := TAC.row' Z.1 Z.2.1 Z.2.2.2.1 he (fun d h0 T Q K q => by
  have O := K.1.1
  have kT := O.1
  have G := O.2.1
  have hr := Z.2.2.2.2.2.2.2.2.2.2
  have er := Z.2.2.2.2.2.2.2.2.2.1
  have e1 : 0 < E := by omega
  have b1 : 0 ≤ ((rr + 2 : Nat) : Int) ∧ ((rr + 2 : Nat) : Int) < ((4200 : Nat) : Int) := by omega
  have i1 : 0 ≤ (i : Int) ∧ (i : Int) ≤ (sz : Int) := by omega
  have i2 : (i : Int) ≤ (j : Int) ∧ (j : Int) ≤ (sz : Int) := by omega
  have y1 : w32 ((rr : Int) + 2) = ((rr + 2 : Nat) : Int) := by rw [w32_of (by omega) (by omega)]; omega
  have gs := SB (d + 6) h0 T (cV (fun h5 => Q (Sum.inl none) h5) (fun e8 h7 => hK h7 e8 ≠ 0 ∧ Q (Sum.inr e8) h7)) K (cV_oT he O.kh q)
  have g295 : wpB PGm ρ (d + 197) m_Md_actsOnRow 295 [(0, vR T), (3, vI (x : Int)), (6, vL (i : Int))] [] (cn h0 T S) Q := by
    refine b_Md_actsOnRow_295 ?_
    clear q SB Z
    simp (decide := true) (disch := first | decide | omega) only [cnI, cnR, cnK, cnl, cnA' G, kT, KN G, LN G, er, y1, p4, Int.toNat_natCast, true_and, and_true]
    exact ⟨b1, gs⟩
  have g282 : wpB PGm ρ (d + 197) m_Md_actsOnRow 282 [(0, vR T), (3, vI (x : Int)), (6, vL (i : Int))] [vI 1] (cn h0 T S) Q := b_Md_actsOnRow_282 ⟨fun _ => g295, fun c => absurd c (by decide)⟩
  have g243 : wpB PGm ρ (d + 197) m_Md_actsOnRow 243 [(0, vR T), (3, vI (x : Int)), (5, vI (sz : Int)), (6, vL (i : Int))] [] (cn h0 T S) Q := by
    refine b_Md_actsOnRow_243 (s_in (fun z => ⟨fun c2 => absurd c2 (by decide), fun _ => ⟨kT, ?_⟩⟩) (fun z => absurd i1 z))
    have gi : wpB PGm ρ (d + 196) m_Md_in 0 [(0, vL (j : Int)), (2, vL (i : Int)), (4, vL (sz : Int))] [] (cn h0 T S) (cI (fun x18 h13 => ((x18 = 0 → wpB PGm ρ (d + 197) m_Md_actsOnRow 282 [(0, vR T), (3, vI (x : Int)), (6, vL (i : Int))] [vI 0] h13 Q) ∧ (¬ x18 = 0 → wpB PGm ρ (d + 197) m_Md_actsOnRow 282 [(0, vR T), (3, vI (x : Int)), (6, vL (i : Int))] [vI 1] h13 Q))) (fun e16 h15 => hK h15 e16 ≠ 0 ∧ Q (Sum.inr e16) h15)) := s_in (fun z2 => ⟨fun c => absurd c (by decide), fun _ => g282⟩) (fun z2 => absurd i2 z2)
    clear q SB z Z
    simp (decide := true) (disch := first | decide | omega) only [cnI, cnR, cnK, cnl, cnA' G, kT, KN G, LN G, er, y1, p4, Int.toNat_natCast, true_and, and_true]
    exact ⟨b1, gi⟩
  refine s_row95 O Z ?_
  rw [if_pos e1, if_pos (show 0 < E ∧ S f_Md_pileType (rr + 1) = 2 from ⟨e1, p1⟩), hκ, hty, p3]
  refine b_Md_actsOnRow_95 (d := d + 196) ⟨fun _ => ⟨fun _ => ⟨fun _ => ⟨fun _ => ⟨fun c => absurd c (by decide), fun c => ?_⟩, fun c => absurd (by decide) c⟩, fun c => absurd c (by decide)⟩, fun c => absurd c (by decide)⟩, fun c => absurd c (by decide)⟩
  clear q SB Z c gs g295 g282
  simp (decide := true) (disch := first | decide | omega) only [cnI, cnR, cnK, cnl, cnA' G, kT, KN G, LN G, er, y1, p2, Int.toNat_natCast, true_and, and_true, not_true_eq_false, false_implies, forall_const]
  exact ⟨b1, g243⟩)
end
