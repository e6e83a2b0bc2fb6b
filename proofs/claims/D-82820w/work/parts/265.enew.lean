/-! C: what was found; a new entry stands for T's -/
set_option maxRecDepth 20000
/-- what is not found by another linker -/
def FDZ (Y : Y3) (r : ENT) : Prop := (¬ r f_Md_linker = 0 → Y 53 f_Found_holder 0 = 0 ∧ r f_Md_holder = -1 ∧ Y 53 f_Found_to 0 = 0 ∧ r f_Md_toShape = -1) ∧ (r f_Md_linker = 3 → Y 53 f_Found_member 0 = 0 ∧ r f_Md_which = -1)
/-- what C has found: r says it -/
def FDO (g : HG) (h : ah) (C ho : Nat) (X : X3) (Y : Y3) (S : SS) (M : Nat) (κ : Int) (mn : Nat) (r : ENT) : Prop := X 53 f_Found_action 0 = acE g κ mn r ∧ (0 ≤ r f_Md_linker ∧ r f_Md_linker ≤ 3) ∧ (r f_Md_linker = 0 → X 53 f_Found_place 0 = r f_Md_which ∧ Y 53 f_Found_holder 0 = prA h C (r f_Md_holder) ∧ PVL S (r f_Md_holder) ∧ Y 53 f_Found_to 0 = crA h C (r f_Md_toShape) ∧ r f_Md_toShape < S f_Md_shapes 0) ∧ (r f_Md_linker = 1 ∨ r f_Md_linker = 2 → (0 ≤ r f_Md_which ∧ r f_Md_which < (M : Int)) ∧ Y 53 f_Found_member 0 = hB h (ho + 3) (r f_Md_which).toNat) ∧ FDZ Y r
/-- what an entry goes by that is made of it -/
def FDL (X : X3) (S : SS) (κ : Int) (mn : Nat) (ty v el : Int) (r : ENT) : Prop := r f_Md_linker = (if ty = 4 ∨ ty = 5 then 0 else gdL ty) ∧ (X 53 f_Found_isText 0 = 0 ∨ X 53 f_Found_isText 0 = 1) ∧ r f_Md_guardName = el ∧ (ty = 4 ∨ ty = 5 → r f_Md_guardMany = 0 ∧ X 53 f_Found_byClasses 0 = 0 ∧ (κ = 4 ∨ κ = 6 → ty = 5 ∧ r f_Md_guard = S f_Md_thingFunction v.toNat) ∧ (¬ (κ = 4 ∨ κ = 6) → r f_Md_guard = S f_Md_thingShape v.toNat)) ∧ (ty = 3 ∨ ty = 6 → r f_Md_guard = (if ty = 6 then 0 else 1) ∧ r f_Md_guardMany = 0 ∧ X 53 f_Found_byClasses 0 = 0) ∧ (ty = 7 ∨ ty = 8 → r f_Md_guard = gdG S ty v ∧ ((X 53 f_Found_byClasses 0 = 0 ∧ r f_Md_guardMany = 0) ∨ (¬ X 53 f_Found_byClasses 0 = 0 ∧ r f_Md_guardMany = (opC κ mn : Int))))
section
variable {ρ : Nat → Nat} {d : Nat} {Q : QT} {Γ : GH} {h h' h0 h1 h2 H : ah} {C ho T k n m f i j N M b a rr mn sn tn row e t z s s0 be ca u : Nat} {S S' S1 S2 SX : SS} {X X' : X3} {Y Y' Y1 Y2 : Y3} {g : HG} {v p x y nm ty κ hd w La bv el now : Int} {r : ENT}
theorem opC_8 (hm : mn ≤ 8) : opC κ mn ≤ 8 := by unfold opC; split <;> (try split) <;> omega
theorem ENO.new (SQ : STQ h2 e X Y be now) (ec : ECL h2 e) (cl : ¬ X 53 f_Found_byClasses 0 = 0 → hR h2 f_Entry_classes e ≠ 0 ∧ ∀ i, i < opC κ mn → hA h2 (hR h2 f_Entry_classes e) i = X 53 f_Found_classes i) (A : FDA h C ho X Y S κ ty v el nm rr mn) (O : FDO g h C ho X Y S M κ mn r) (L : FDL X S κ mn ty v el r) (K : EKP h C ho S N M h2 S2) (ek : hK h2 e = k_Entry ∧ e < hz h2 ∧ e ≠ 0) (hty : 3 ≤ ty ∧ ty ≤ 8) (hκ : 0 ≤ κ ∧ κ ≤ 6) (hel : ¬ (κ = 2 ∨ κ = 3) → el = -1) (hv : ty = 4 ∨ ty = 5 → 0 ≤ S f_Md_thingShape v.toNat ∧ S f_Md_thingShape v.toNat < S f_Md_shapes 0) (hf : ty = 5 → 0 ≤ S f_Md_thingFunction v.toNat ∧ S f_Md_thingFunction v.toNat < S f_Md_functions 0) (hc : ty = 7 ∨ ty = 8 → 0 ≤ gdG S ty v ∧ gdG S ty v < (N : Int)) (hm : mn ≤ 8) (gt : 0 ≤ r f_Md_guardTypes ∧ r f_Md_guardTypes < 2 ^ 56) (gs : ¬ r f_Md_guardMany = 0 → ∀ i, i < opC κ mn → gtA (r f_Md_guardTypes) i = tyT S (S f_Md_pileType (rr + 1 + i)) (S f_Md_pileValue (rr + 1 + i))) (la : r f_Md_linkedAt = now) : ENO g h2 C ho S2 N M κ nm mn e r := by
  obtain ⟨s1, s2, s3, s4, s5, s6, s7, s8, s9, s10, s11, s12, s13, s14⟩ := SQ
  obtain ⟨a1, a2, a3, a4⟩ := A
  obtain ⟨o1, o2, o3, o4, oz⟩ := O
  obtain ⟨l1, l2, l3, l4, l5, l6⟩ := L
  have L0 : r f_Md_linker = 0 → ty = 4 ∨ ty = 5 := fun z => by
    by_cases w : ty = 4 ∨ ty = 5
    · exact w
    · rw [l1, if_neg w] at z
      unfold gdL at z
      split at z
      · exact absurd z (by decide)
      · split at z
        · exact absurd z (by decide)
        · split at z
          · exact absurd z (by decide)
          · split at z
            · exact absurd z (by decide)
            · exact absurd z (by decide)
  have L3 : r f_Md_linker = 3 → ty = 3 ∨ ty = 6 := fun z => by
    by_cases w : ty = 4 ∨ ty = 5
    · rw [l1, if_pos w] at z; exact absurd z (by decide)
    · rw [l1, if_neg w] at z
      by_cases w7 : ty = 7
      · rw [w7] at z; exact absurd z (by decide)
      · by_cases w8 : ty = 8
        · rw [w8] at z; exact absurd z (by decide)
        · omega
  have L12 : r f_Md_linker = 1 ∨ r f_Md_linker = 2 → ty = 7 ∨ ty = 8 := fun z => by
    by_cases w : ty = 4 ∨ ty = 5
    · rw [l1, if_pos w] at z; exact absurd z (by decide)
    · by_cases w3 : ty = 3
      · rw [l1, w3] at z; exact absurd z (by decide)
      · by_cases w6 : ty = 6
        · rw [l1, w6] at z; exact absurd z (by decide)
        · omega
  refine ⟨ek, by rw [s1, a1, l1], ⟨o2, gt, fun z => (l4 (L0 z)).1⟩, by rw [s3]; exact o1, fun z => ?_, fun z => ?_, fun z => ?_, fun z => ⟨by rw [s10]; exact (oz.1 z).1, (oz.1 z).2.1, by rw [s6]; exact (oz.1 z).2.2.1, (oz.1 z).2.2.2⟩, fun z => ⟨by rw [s11]; exact (oz.2 z).1, (oz.2 z).2⟩⟩
  · have t45 := L0 z
    obtain ⟨p1, p2, p3, p4, p5⟩ := o3 z
    obtain ⟨m1, m2, m3, m4⟩ := l4 t45
    obtain ⟨b1, b2, b3⟩ := a2 t45
    have acs : ¬ (κ = 4 ∨ κ = 6) → ¬ (acE g κ mn r = 4 ∨ acE g κ mn r = 5) := fun nk => by
      unfold acE
      rw [if_pos z, if_neg (by omega), if_neg (by omega)]
      split
      · split <;> decide
      · split <;> decide
    have acp : κ = 4 ∨ κ = 6 → (acE g κ mn r = 4 ∨ acE g κ mn r = 5) := fun hk => by
      unfold acE
      rw [if_pos z]
      rcases hk with hk | hk
      · rw [if_pos hk]; exact Or.inl rfl
      · rw [if_neg (by omega), if_pos hk]; exact Or.inr rfl
    refine ⟨by rw [s4]; exact p1, by rw [s2, b2, l3], fun nk => by rw [l3]; exact hel nk, by rw [s10, p2, K.pra p3], K.pvl p3, ?_, by have := K.2.2.2.2.2.2.1; omega, by rw [s14, la], fun hk => ?_, fun nk => ?_⟩
    · rw [s6, p4]
      unfold crA
      by_cases w : r f_Md_toShape < 0
      · rw [if_pos w, if_pos w]
      · rw [if_neg w, if_neg w, K.2.1 _ (by omega)]
    · obtain ⟨t5, gf⟩ := m3 hk
      have := hf t5
      refine ⟨by rw [gf]; exact this.1, by rw [gf]; have := K.2.2.2.2.2.2.2.1; omega, ?_⟩
      rw [s8, o1, if_pos (acp hk), b3, if_pos t5, gf, K.2.2.1 _ (by omega)]
    · have gf := m4 nk
      have := hv t45
      refine ⟨by rw [s8, o1, if_neg (acs nk)], by rw [gf]; exact this.1, by rw [gf]; have := K.2.2.2.2.2.2.1; omega, ?_⟩
      rw [s5, o1, if_neg (acs nk), b1, gf, K.2.1 _ (by omega)]
  · have t36 := L3 z
    obtain ⟨m1, m2, m3⟩ := l5 t36
    refine ⟨?_, ?_, m2⟩
    · rw [s9, a3 t36, m1]
      rcases t36 with c | c
      · rw [if_pos c, if_neg (by omega)]
      · rw [if_neg (by omega), if_pos c]
    · rw [m1]
      split
      · exact Or.inl rfl
      · exact Or.inr rfl
  · have t78 := L12 z
    obtain ⟨m1, m2⟩ := l6 t78
    obtain ⟨b1, b2, b3⟩ := a4 t78
    obtain ⟨p1, p2⟩ := o4 z
    have := hc t78
    refine ⟨by rw [m1]; exact this, by rw [s7, b1, m1, K.2.2.2.1 _ (by omega)], p1, by rw [s11, p2, K.2.2.2.2.1 _ (by omega)], ?_⟩
    rcases m2 with ⟨c1, c2⟩ | ⟨c1, c2⟩
    · exact Or.inl ⟨by rw [s12, if_pos c1], c2⟩
    · obtain ⟨d1, d2⟩ := cl c1
      refine Or.inr ⟨by rw [s12, if_neg c1, b2], c2, opC_8 hm, ⟨d1, ?_⟩, fun i hi => ?_⟩
      · rcases ec with c | c
        · exact absurd c d1
        · exact c.2
      · rw [d2 i hi, b3 i hi, gs (by rw [c2]; omega) i hi]
/-- what an entry tells -/
def tlX (h : ah) (X : X3) (e : Nat) : X3 := u3 (u3 X 53 f_Found_action 0 (hI h f_Entry_action e)) 53 f_Found_place 0 (hI h f_Entry_place e)
def tlY (h : ah) (Y : Y3) (e : Nat) : Y3 := u3 (u3 (u3 Y 53 f_Found_holder 0 (hR h f_Entry_holder e)) 53 f_Found_to 0 (hR h f_Entry_to e)) 53 f_Found_member 0 (hR h f_Entry_member e)
theorem ENO.fdo (E : ENO g h C ho S N M κ nm mn e r) : FDO g h C ho (tlX h X e) (tlY h Y e) S M κ mn r := by
  obtain ⟨⟨k1, k2, k3⟩, e1, l03, e2, e3, e4, e5, ez⟩ := E
  have x1 : tlX h X e 53 f_Found_action 0 = hI h f_Entry_action e := by unfold tlX; simp (decide := true) [u3_e]
  have x2 : tlX h X e 53 f_Found_place 0 = hI h f_Entry_place e := by unfold tlX; simp (decide := true) [u3_e]
  have y1 : tlY h Y e 53 f_Found_holder 0 = hR h f_Entry_holder e := by unfold tlY; simp (decide := true) [u3_e]
  have y2 : tlY h Y e 53 f_Found_to 0 = hR h f_Entry_to e := by unfold tlY; simp (decide := true) [u3_e]
  have y3 : tlY h Y e 53 f_Found_member 0 = hR h f_Entry_member e := by unfold tlY; simp (decide := true) [u3_e]
  refine ⟨by rw [x1]; exact e2, l03.1, fun l0 => ?_, fun l12 => ?_, fun z => ⟨by rw [y1]; exact (ez.1 z).1, (ez.1 z).2.1, by rw [y2]; exact (ez.1 z).2.2.1, (ez.1 z).2.2.2⟩, fun z => ⟨by rw [y3]; exact (ez.2 z).1, (ez.2 z).2⟩⟩
  · obtain ⟨b1, b2, b2', b3, b4, b5, b6, b7, b8, b9⟩ := e3 l0
    exact ⟨by rw [x2]; exact b1, by rw [y1]; exact b3, b4, by rw [y2]; exact b5, b6⟩
  · obtain ⟨g1, g2, g3, g4, g5⟩ := e5 l12
    exact ⟨g3, by rw [y3]; exact g4⟩
theorem r_tell (ko : hK h (C + 53) = k_Found) (ke : hK h e = k_Entry) (q : Q (Sum.inl none) (cc h C (tlX h X e) (tlY h Y e))) : wpB PGm ρ d m_Entry_tellTo 0 [(0, vR e), (1, vR (C + 53))] [] (cc h C X Y) Q := by
  refine b_Entry_tellTo_0 ⟨ke, ko, ?_⟩
  unfold tlX tlY at q
  simp (decide := true) (disch := first | decide | omega) only [ccIo, ccRo, cc_sI, cc_sR]
  exact q
end
