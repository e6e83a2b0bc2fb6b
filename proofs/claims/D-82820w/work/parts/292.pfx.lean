/-! what is found is done: properties are read -/
set_option maxRecDepth 20000
def eT (e : Option Int) : Option (Option AV) := match e with
  | none => some none
  | some _ => none
/-- what is known as it is done -/
def PFX (Γ : GH) (h : ah) (C ho : Nat) (X : X3) (Y : Y3) (S : SS) (N t o n c r s a : Nat) (κ : Int) (mn m0 rr : Nat) : Prop := CORE Γ h C ho X Y S N ∧ OPH Γ h C X Y S N t o n c r ∧ GFR S t n c rr m0 (psS S t (c - 1)) ∧ NXT Γ S (fsS S t (c - 1)) (psS S t (c - 1)) 0 (esK κ mn) 0 0 ∧ m0 + 1 + esK κ mn = n ∧ (s < 4000 ∧ S f_Md_siteKind s = κ ∧ S f_Md_siteMany s = (mn : Int) ∧ S f_Md_es 0 = (esK κ mn : Int) ∧ (0 ≤ κ ∧ κ ≤ 6) ∧ mn ≤ 8) ∧ (S f_Md_goesType 0 = S f_Md_pileType rr ∧ S f_Md_goesValue 0 = S f_Md_pileValue rr) ∧ (hK h a = k_Site ∧ a < hz h ∧ hI h f_Site_kind a = κ ∧ hI h f_Site_operands a = (mn : Int))
def PFR (ρ : Nat → Nat) (g : HG) (N M : Nat) (Γ : GH) (h : ah) (C ho : Nat) (X : X3) (Y : Y3) (S : SS) (s : Nat) (Q : QT) : Prop := ∀ e S' h' X' Y', TAC ρ g N M s S (eT e) S' → RLC Γ h C ho X Y S N e S' h' X' Y' → Q (oE e (C + 33)) (cc h' C X' Y')
abbrev pK (Q : QT) : QT := cV (fun h3 => Q (Sum.inl none) h3) (fun e6 h5 => hK h5 e6 ≠ 0 ∧ Q (Sum.inr e6) h5)
section
variable {ρ : Nat → Nat} {d : Nat} {Q : QT} {Γ : GH} {h h' h1 h2 : ah} {C ho k i j N M a b z s x y r f o c t n mn m0 rr : Nat} {g : HG} {v w hd ty κ : Int} {S S' S1 : SS} {X X' X1 X2 : X3} {Y Y' Y1 Y2 : Y3} {E : ENT}
theorem PFX.pl (P : PFX Γ h C ho X Y S N t o n c r s a κ mn m0 rr) (hi : i ≤ esK κ mn) : VR Γ S N (X o f_Task_tags (m0 + i)) (X o f_Task_words (m0 + i)) (S f_Md_pileType (rr + i)) (S f_Md_pileValue (rr + i)) := by
  have := P.2.1.pl (i := m0 + i) (by have := P.2.2.2.2.1; omega)
  have e : rr = 2100 * t + m0 := P.2.2.1.2.2.2.1
  rw [show 2100 * t + (m0 + i) = rr + i by omega] at this
  exact this
theorem PFX.err (P : PFX Γ h C ho X Y S N t o n c r s a κ mn m0 rr) {v : Int} (hv : ern v) : RLC Γ h C ho X Y S N (some v) (erS S v) h (erX X v) Y := RLC.mem (v := v) (x := v) P.2.1 P.1 P.2.1.2.2.1 GRO.rf (BND.rf.le (by decide) (by decide)) (fun _ _ _ => rfl) (fun _ _ _ _ => rfl) (Fr.r0 (L := LHc) (P := [])) (Or.inr ⟨hv, rfl⟩)
theorem PFX.full (P : PFX Γ h C ho X Y S N t o n c r s a κ mn m0 rr) : RLC Γ h C ho X Y S N (some 0) (erS S 99) h (erX X 0) Y := RLC.mem (v := 0) (x := 99) P.2.1 P.1 P.2.1.2.2.1 GRO.rf (BND.rf.le (by decide) (by decide)) (fun _ _ _ => rfl) (fun _ _ _ _ => rfl) (Fr.r0 (L := LHc) (P := [])) (Or.inl ⟨rfl, rfl⟩)
theorem PFX.ans (P : PFX Γ h C ho X Y S N t o n c r s a κ mn m0 rr) {x y : Int} (V : VR Γ S N x y ty v) : RLC Γ h C ho X Y S N none (gvS S t m0 c (psS S t (c - 1)) ty v) h (ansX X o m0 c x y) Y := by
  have hm := P.2.2.2.2.1
  exact RLC.ans P.2.1 P.2.2.2.1 P.1 P.2.1.2.2.1 GRO.rf EXS.rf (fun _ _ _ => rfl) (fun _ _ _ _ => rfl) (Fr.r0 (L := LHc) (P := [])) (BND.rf.le (by decide) (by decide)) V (by omega) (by omega)
theorem kSg (F : FC h C) : hK (cc h C X Y) (C + 33) ≠ 0 := by rw [ccK, F.1.2.1]; decide
/-- the value of a property -/
theorem r_prop (P : PFX Γ h C ho X Y S N t o n c r s a κ mn m0 rr) (epl : X 53 f_Found_place 0 = w) (ehd : Y 53 f_Found_holder 0 = prA h C hd) (pv : PVL S hd) (gt : S f_Md_pileType rr = 4 ∨ S f_Md_pileType rr = 5) (gv : S f_Md_pileValue rr = (k : Int)) (R : RDV S k w hd ty v) (wh : w < 0 → hd < 0) (q : ∀ x y, VR Γ S N x y ty v → wpB PGm ρ (d + 12) m_Machine_property 94 [(0, vR (C + 32)), (1, vR a), (2, vI (m0 : Int)), (3, vR (C + 53)), (5, vI x)] [vL y] (cc h C X Y) Q) : wpB PGm ρ (d + 12) m_Machine_property 0 [(0, vR (C + 32)), (1, vR a), (2, vI (m0 : Int))] [] (cc h C X Y) Q := by
  have HC := P.1
  have G := HC.1.1
  have F := HC.1.2
  have I := P.2.1.ix
  have ht := I.2.2.1
  have hn := I.2.2.2.2.1
  have e1 : Y 32 f_Machine_t 0 = C + o := I.2.2.2.1.1
  have mn' := P.2.2.2.2.1
  have ko : hK h (C + 53) = k_Found := F.1.2.2.2.2.2.2.1
  obtain ⟨tn, sn, sm, d1, d2, d5, d6', d3, d4, d6, d7, d8, U, m1, m2, m3, m4⟩ := HC.shp
  have V0 := P.pl (i := 0) (by omega)
  rw [Nat.add_zero, Nat.add_zero] at V0
  obtain ⟨A1, AE⟩ := V0.obj HC.2.2.2.2.2.2.2.2.2.1 (h := h) (C := C)
  obtain ⟨w1, w2, w3, w4, w5, w6⟩ := A1 (by rw [AE]; exact gt)
  have wk : X o f_Task_words m0 = (k : Int) := by rw [w1]; exact gv
  have hkk : (k : Int) < S f_Md_things 0 := by omega
  have nn : ∀ x, wpB PGm ρ (d + 12) m_Machine_property 52 [(0, vR (C + 32)), (1, vR a), (2, vI (m0 : Int)), (3, vR (C + 53))] [vR x] (cc h C X Y) Q → wpB PGm ρ (d + 12) m_Machine_property 52 [(0, vR (C + 32)), (1, vR a), (2, vI (m0 : Int)), (3, vR (C + 53))] [vR x] (cc h C X Y) Q := fun x z => z
  -- from a thing on
  have g52 : ∀ q0 n0 i : Nat, w = (i : Int) → SLG S q0 n0 → i < n0 → (q0 : Int) < S f_Md_things 0 → ty = S f_Md_slotType (slS S q0 i) → v = S f_Md_slotValue (slS S q0 i) → wpB PGm ρ (d + 12) m_Machine_property 52 [(0, vR (C + 32)), (1, vR a), (2, vI (m0 : Int)), (3, vR (C + 53))] [vR (hB h (C + 51) q0)] (cc h C X Y) Q := fun q0 n0 i ew L hi hq et ev => by
    have TH := (d7 q0 (by omega)).p
    obtain ⟨ta1, ⟨ta2, ta3, ta4⟩, -⟩ := TH.1
    obtain ⟨tb1, tb2, ⟨tb3, tb4, tb5, tb6, tb7, tb8, tb9⟩, tb10, -⟩ := TH.2.1
    have cn := L.2.2.1
    have VV := (tb10 i (by omega)).2
    rw [← et, ← ev] at VV
    have kk : hK h (hB h (C + 51) q0) ∈ [244, 245, 246, 249] := by
      rw [ta2]
      unfold kdK
      split
      · decide
      · split
        · decide
        · split <;> decide
    have r1 : hR (cc h C X Y) f_Thing_tags (hB h (C + 51) q0) = hR h f_Thing_tags (hB h (C + 51) q0) := ccRo (by decide)
    have r2 : hR (cc h C X Y) f_Thing_words (hB h (C + 51) q0) = hR h f_Thing_words (hB h (C + 51) q0) := ccRo (by decide)
    have x1 : hI (cc h C X Y) f_Found_place (C + 53) = (i : Int) := by rw [ccI (by decide), epl]; exact ew
    have a1 : hA (cc h C X Y) (hR h f_Thing_tags (hB h (C + 51) q0)) i = hA h (hR h f_Thing_tags (hB h (C + 51) q0)) i := ccAo G (by decide) ta3
    have a2 : hA (cc h C X Y) (hR h f_Thing_words (hB h (C + 51) q0)) i = hA h (hR h f_Thing_words (hB h (C + 51) q0)) i := ccAo G (by decide) ta3
    have z1 : 0 ≤ (i : Int) ∧ (i : Int) < (hl h (hR h f_Thing_words (hB h (C + 51) q0)) : Int) := by omega
    refine b_Machine_property_52 ⟨fun _ => ⟨kk, ko, ?_⟩, fun c => absurd c ta4⟩
    rw [r1, x1, Int.toNat_natCast, a1]
    refine ⟨⟨by rw [ccK, tb6]; decide, z1.1, by rw [ccl, tb7]; exact z1.2⟩, b_Machine_property_73 ⟨fun _ => ⟨kk, ko, ?_⟩, fun c => absurd c ta4⟩⟩
    rw [r2, x1, Int.toNat_natCast, a2]
    exact ⟨⟨by rw [ccK, tb4]; decide, z1.1, by rw [ccl]; exact z1.2⟩, q _ _ VV⟩
  have nil : w < 0 → wpB PGm ρ (d + 12) m_Machine_property 52 [(0, vR (C + 32)), (1, vR a), (2, vI (m0 : Int)), (3, vR (C + 53))] [vR 0] (cc h C X Y) Q := fun w0 => by
    rcases R with ⟨-, et, ev⟩ | ⟨q0, n0, i, ew, -⟩
    · refine b_Machine_property_52 ⟨fun c => absurd rfl c, fun _ => b_Machine_property_73 ⟨fun c => absurd rfl c, fun _ => q 0 0 ?_⟩⟩
      exact ⟨et.symm, by rw [et, ev]; rfl, Or.inl ⟨et, ev⟩⟩
    · omega
  have hz0 : Y 53 f_Found_holder 0 = 0 ↔ hd < 0 := by
    rw [ehd]
    unfold prA
    constructor
    · intro z
      by_cases c : hd < 0
      · exact c
      · rw [if_neg c] at z
        rcases pv with c2 | ⟨c2, c3, c4⟩
        · omega
        · obtain ⟨_, _, _, -, -, -, -, -, -, -, -, -, -, -, -, nz⟩ := HC.sth (k := hd.toNat) (by omega) c4
          exact absurd z nz
    · intro z; rw [if_pos z]
  have gob : 0 ≤ w → hd < 0 → wpB PGm ρ (d + 11) m_Machine_objectOf 0 [(0, vR (C + 32)), (1, vI (X o f_Task_tags m0)), (2, vL (X o f_Task_words m0))] [] (cc h C X Y) (cR (fun x22 h17 => wpB PGm ρ (d + 12) m_Machine_property 52 [(0, vR (C + 32)), (1, vR a), (2, vI (m0 : Int)), (3, vR (C + 53))] [vR x22] h17 Q) (fun e20 h19 => hK h19 e20 ≠ 0 ∧ Q (Sum.inr e20) h19)) := fun w0 h0 => by
    refine r_objectOf G F (by omega) d3 d6 (fun _ => ⟨by omega, by omega, w5⟩) ?_
    have eo : obA h C (X o f_Task_tags m0) (X o f_Task_words m0) = hB h (C + 51) k := by
      unfold obA
      rw [if_pos (by rw [AE]; exact gt), wk, Int.toNat_natCast]
    rw [eo]
    rcases R with ⟨c, -⟩ | ⟨q0, n0, i, ew, eq, L, hi, et, ev⟩
    · omega
    · have : q0 = k := by
        rcases eq with ⟨-, c⟩ | c
        · exact c
        · omega
      rw [← this]
      exact g52 q0 n0 i ew L hi (by omega) et ev
  have gho : 0 ≤ hd → wpB PGm ρ (d + 12) m_Machine_property 52 [(0, vR (C + 32)), (1, vR a), (2, vI (m0 : Int)), (3, vR (C + 53))] [vR (Y 53 f_Found_holder 0)] (cc h C X Y) Q := fun h0 => by
    rcases R with ⟨c, -⟩ | ⟨q0, n0, i, ew, eq, L, hi, et, ev⟩
    · exact absurd (wh c) (by omega)
    · have : hd = (q0 : Int) := by
        rcases eq with ⟨c, -⟩ | c
        · omega
        · exact c
      rw [ehd]
      have e : prA h C hd = hB h (C + 51) q0 := by unfold prA; rw [if_neg (by omega), this, Int.toNat_natCast]
      rw [e]
      rcases pv with c | ⟨c1, c2, c3⟩
      · omega
      · exact g52 q0 n0 i ew L hi (by omega) et ev
  have fin : ((Y 53 f_Found_holder 0 = 0 → ((w < 0 → wpB PGm ρ (d + 12) m_Machine_property 52 [(0, vR (C + 32)), (1, vR a), (2, vI (m0 : Int)), (3, vR (C + 53))] [vR 0] (cc h C X Y) Q) ∧ (0 ≤ w → wpB PGm ρ (d + 11) m_Machine_objectOf 0 [(0, vR (C + 32)), (1, vI (X o f_Task_tags m0)), (2, vL (X o f_Task_words m0))] [] (cc h C X Y) (cR (fun x22 h17 => wpB PGm ρ (d + 12) m_Machine_property 52 [(0, vR (C + 32)), (1, vR a), (2, vI (m0 : Int)), (3, vR (C + 53))] [vR x22] h17 Q) (fun e20 h19 => hK h19 e20 ≠ 0 ∧ Q (Sum.inr e20) h19))))) ∧ (¬ Y 53 f_Found_holder 0 = 0 → wpB PGm ρ (d + 12) m_Machine_property 52 [(0, vR (C + 32)), (1, vR a), (2, vI (m0 : Int)), (3, vR (C + 53))] [vR (Y 53 f_Found_holder 0)] (cc h C X Y) Q)) := ⟨fun z => ⟨nil, fun w0 => gob w0 (hz0.mp z)⟩, fun z => gho (by
    by_cases c : hd < 0
    · exact absurd (hz0.mpr c) z
    · omega)⟩
  clear nil gob gho g52 hz0 R q d7 d8 A1 nn V0
  have b1 : 0 ≤ (m0 : Int) ∧ (m0 : Int) < ((2001 : Nat) : Int) := by omega
  refine b_Machine_property_0 (d := d + 11) ?_
  have f1 := F.t ht
  unfold FCt at f1
  have f2 := F
  unfold FC at f2
  simp (decide := true) only [ccI, ccR, ccRo, ccK, ccl, ccA G, ccAt G ht, KC G, KCt G ht, f1, f2, e1, epl, Int.toNat_natCast, true_and, and_true]
  exact ⟨fun z => ⟨(fin.1 z).1, fun w0 => ⟨b1, b1, (fin.1 z).2 w0⟩⟩, fin.2⟩
theorem oE_pK {e : Option Int} (kh : ∀ v, e = some v → hK h (C + 33) ≠ 0) (q : Q (oE e (C + 33)) h) : pK Q (oE e (C + 33)) h := by
  cases e with
  | none => exact q
  | some v => exact ⟨kh v rfl, q⟩
/-- a property is read -/
theorem pf_read (P : PFX Γ h C ho X Y S N t o n c r s a κ mn m0 rr) (hκ : κ = 0 ∨ κ = 2) (eac : X 53 f_Found_action 0 = 0) (fl : S f_Md_foundLinker 0 = 0) (ew : S f_Md_foundWhich 0 = w) (eh : S f_Md_foundHolder 0 = hd) (epl : X 53 f_Found_place 0 = w) (ehd : Y 53 f_Found_holder 0 = prA h C hd) (pv : PVL S hd) (gt : S f_Md_pileType rr = 4 ∨ S f_Md_pileType rr = 5) (gv : S f_Md_pileValue rr = (k : Int)) (k8 : k < 8000) (R : RDV S k w hd ty v) (wh : w < 0 → hd < 0) (q : PFR ρ g N M Γ h C ho X Y S s Q) : wpB PGm ρ (d + 12) m_Machine_property 0 [(0, vR (C + 32)), (1, vR a), (2, vI (m0 : Int))] [] (cc h C X Y) (pK Q) := by
  have G := P.1.1.1
  have F := P.1.1.2
  have I := P.2.1.ix
  refine r_prop (d := d) P epl ehd pv gt gv R wh (fun x y V => ?_)
  have T := TAC.read (ρ := ρ) (g := g) (N := N) (M := M) (S := S) (s := s) (k := k) ⟨P.2.2.2.2.2.1.1, P.2.2.2.2.2.1.2.1, fl, by rw [P.2.2.2.2.2.2.1.2]; exact gv, k8⟩ hκ ew eh R P.2.2.1
  have g1 := q none _ h _ Y T (P.ans V)
  have x1 : hI (cc h C X Y) f_Found_action (C + 53) = 0 := by rw [ccI (by decide)]; exact eac
  refine b_Machine_property_94 (d := d + 11) (by omega) ⟨F.1.2.2.2.2.2.2.1, fun c => absurd x1 c, fun _ => ⟨F.1.1, ?_⟩⟩
  have hm := P.2.2.2.2.1
  refine r_answer (d := d + 10) G F I.2.2.1 I.2.2.2.1.1 I.2.2.2.1.2.2 (by have := I.2.2.2.2.1; omega) ⟨I.2.2.2.2.2.1, I.2.2.2.2.2.2⟩ ?_ g1
  rw [V.1]
  rcases V.2.2 with z | z | z | z | z | z <;> omega
end
