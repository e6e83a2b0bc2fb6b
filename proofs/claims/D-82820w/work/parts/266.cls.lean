/-! C: the class of a value -/
set_option maxRecDepth 20000
/-- hosts that are alike but for static values -/
def GEQ (g g' : HG) : Prop := (∀ f i, f ≠ 11 → f ≠ 12 → g'.1 f i = g.1 f i) ∧ g'.2 = g.2
/-- C's host, whatever its static values are -/
def HCX (ρ : Nat → Nat) (h : ah) (ho : Nat) (g : HG) (N M : Nat) (hw : List (List Int)) : Prop := ∃ g', GEQ g g' ∧ HCM ρ h ho g' N M hw
section
variable {ρ : Nat → Nat} {d : Nat} {Q : QT} {Γ : GH} {h h' h0 h1 h2 H : ah} {C ho T k n m f i j N M b a rr mn sn tn row e t z s s0 c o : Nat} {S S' S1 S2 SX : SS} {X X' : X3} {Y Y' Y1 Y2 : Y3} {g : HG} {v p x y nm ty κ hd w La bv el now : Int} {hw : List (List Int)} {L : List Nat} {Pp : List (Nat × Nat)}
theorem HCX.fr (H : HCX ρ h ho g N M hw) (fr : Fr L Pp z s h h') (dj : DJ fhcm L Pp) (p0 : ∀ y, (0, y) ∉ Pp) : HCX ρ h' ho g N M hw := by
  obtain ⟨g', e, A⟩ := H
  exact ⟨g', e, A.fr fr dj p0⟩
/-- a class of C's host -/
theorem HCX.tp (H : HCX ρ h ho g N M hw) (hi : i < N) : (hK h (hB h (ho + 2) i) = k_HostType ∧ hB h (ho + 2) i < hz h ∧ hB h (ho + 2) i ≠ 0) ∧ hI h f_HostType_number (hB h (ho + 2) i) = (i : Int) ∧ hI h f_HostType_isInterface (hB h (ho + 2) i) = g.1 1 i ∧ hI h f_HostType_firstMember (hB h (ho + 2) i) = g.1 3 i ∧ 0 ≤ g.1 3 i ∧ ((g.1 2 i = -1 ∧ hR h f_HostType_above (hB h (ho + 2) i) = 0) ∨ (0 ≤ g.1 2 i ∧ g.1 2 i < (i : Int) ∧ hR h f_HostType_above (hB h (ho + 2) i) = hB h (ho + 2) (g.1 2 i).toNat)) ∧ (LSt h (hR h f_HostType_supers (hB h (ho + 2) i)) ∧ hl h (hR h f_HostType_supers (hB h (ho + 2) i)) = (g.2 1 i).length ∧ ∀ k, k < (g.2 1 i).length → 0 ≤ (g.2 1 i).getD k 0 ∧ (g.2 1 i).getD k 0 < (i : Int) ∧ hB h (hR h f_HostType_supers (hB h (ho + 2) i)) k = hB h (ho + 2) ((g.2 1 i).getD k 0).toNat) ∧ (LSt h (hR h f_HostType_members (hB h (ho + 2) i)) ∧ (hl h (hR h f_HostType_members (hB h (ho + 2) i)) : Int) = g.1 4 i ∧ ∀ k, k < hl h (hR h f_HostType_members (hB h (ho + 2) i)) → hB h (hR h f_HostType_members (hB h (ho + 2) i)) k = hB h (ho + 3) ((g.1 3 i).toNat + k)) ∧ (hR h f_HostType_over (hB h (ho + 2) i) ≠ 0 ∧ hK h (hR h f_HostType_over (hB h (ho + 2) i)) = 4 ∧ hl h (hR h f_HostType_over (hB h (ho + 2) i)) = 60 ∧ ∀ j, j < 60 → hA h (hR h f_HostType_over (hB h (ho + 2) i)) j = g.1 (100 + i) j ∧ (g.1 (100 + i) j = 0 ∨ g.1 (100 + i) j = 1)) ∧ (g.1 1 i = 0 ∨ g.1 1 i = 1) := by
  obtain ⟨g', ⟨e1, e2⟩, b1, b2, b3, b4, -, -, -, -, -, A, -⟩ := H
  obtain ⟨a1, a2, -, a4, a4', a5, a6, a7, a8, a9, a10, -⟩ := A i hi
  rw [e1 1 i (by decide) (by decide)] at a4 a4'
  rw [e1 3 i (by decide) (by decide)] at a5 a6 a9
  rw [e1 2 i (by decide) (by decide)] at a7
  rw [e1 4 i (by decide) (by decide)] at a9
  rw [e2] at a8
  refine ⟨a1, a2, a4, a5, a6, a7, a8, a9, ⟨a10.1, a10.2.1, a10.2.2.1, fun j hj => ?_⟩, a4'⟩
  have := a10.2.2.2 j hj
  rw [e1 (100 + i) j (by omega) (by omega)] at this
  exact this
/-- a member of C's host -/
theorem HCX.me (H : HCX ρ h ho g N M hw) (hj : j < M) : (hK h (hB h (ho + 3) j) = k_Member ∧ hB h (ho + 3) j < hz h ∧ hB h (ho + 3) j ≠ 0) ∧ hI h f_Member_number (hB h (ho + 3) j) = (j : Int) ∧ hI h f_Member_kind (hB h (ho + 3) j) = g.1 6 j ∧ (g.1 6 j = 0 ∨ g.1 6 j = 1 ∨ g.1 6 j = 2) ∧ hI h f_Member_type (hB h (ho + 3) j) = g.1 8 j ∧ (0 ≤ g.1 8 j ∧ g.1 8 j < 9 + (N : Int)) ∧ (0 ≤ g.1 5 j ∧ g.1 5 j < (N : Int) ∧ hR h f_Member_owner (hB h (ho + 3) j) = hB h (ho + 2) (g.1 5 j).toNat) ∧ hI h f_Member_isStatic (hB h (ho + 3) j) = g.1 7 j ∧ (g.1 7 j = 0 ∨ g.1 7 j = 1) ∧ ((g.1 6 j = 2 ∧ g.2 3 j = [] ∧ hI h f_Member_name (hB h (ho + 3) j) = -1) ∨ (¬ g.1 6 j = 2 ∧ NMO hw (g.2 3 j) (hI h f_Member_name (hB h (ho + 3) j)))) ∧ hI h f_Member_variable (hB h (ho + 3) j) = g.1 9 j ∧ (g.1 9 j = 0 ∨ g.1 9 j = 1) ∧ (hR h f_Member_parameters (hB h (ho + 3) j) ≠ 0 ∧ hR h f_Member_parameters (hB h (ho + 3) j) < hz h ∧ UNO h (hR h f_Member_parameters (hB h (ho + 3) j)) ∧ hK h (hR h f_Member_parameters (hB h (ho + 3) j)) = 1 ∧ hl h (hR h f_Member_parameters (hB h (ho + 3) j)) = (g.2 2 j).length ∧ (g.2 2 j).length ≤ 8 ∧ ∀ k, k < (g.2 2 j).length → hA h (hR h f_Member_parameters (hB h (ho + 3) j)) k = (g.2 2 j).getD k 0) := by
  obtain ⟨g', ⟨e1, e2⟩, b1, b2, b3, b4, -, -, -, -, -, -, A, -⟩ := H
  have B := A j hj
  unfold MEO at B
  rw [e1 6 j (by decide) (by decide), e1 8 j (by decide) (by decide), e1 5 j (by decide) (by decide), e1 7 j (by decide) (by decide), e1 9 j (by decide) (by decide), e2] at B
  exact B
/-- what never changes of C's host -/
theorem HCX.hh (H : HCX ρ h ho g N M hw) : hK h ho = k_Host ∧ ho < hz h ∧ hR h f_Host_types ho = ho + 2 ∧ hR h f_Host_members ho = ho + 3 ∧ hR h f_Host_words ho = ho + 4 ∧ LSt h (ho + 2) ∧ LSt h (ho + 3) ∧ hl h (ho + 2) = N ∧ hl h (ho + 3) = M ∧ N ≤ 60 ∧ M ≤ 400 := by
  obtain ⟨g', -, b1, b2, b3, b4, ⟨a1, a2, a3, a4, a5, a6, a7, a8, -⟩, c1, c2, c3, c4, -⟩ := H
  exact ⟨a1, a2, a4, a5, a6, a7, a8, c1, c2, c3, c4⟩
theorem HCX.tad (H : HCX ρ h ho g N M hw) : ∀ a b, a < N → b < N → hB h (ho + 2) a = hB h (ho + 2) b → a = b := fun a b ha hb e => by
  have n1 := (H.tp ha).2.1
  have n2 := (H.tp hb).2.1
  rw [e] at n1
  omega
theorem HCX.mad (H : HCX ρ h ho g N M hw) : ∀ a b, a < M → b < M → hB h (ho + 3) a = hB h (ho + 3) b → a = b := fun a b ha hb e => by
  have n1 := (H.me ha).2.1
  have n2 := (H.me hb).2.1
  rw [e] at n1
  omega
/-- C's number of a value's class -/
theorem r_classOf (HC : CORE Γ h C ho X Y S N) (HX : HCX ρ h ho g N M hw) (hd : 10 ≤ d + 1) (V : VR Γ S N x y ty v) (q : Q (Sum.inl (some (vI (clA (tyT S ty v))))) (cc h C X Y)) : wpB PGm ρ (d + 1) m_Machine_classOf 0 [(0, vR (C + 32)), (1, vI x), (2, vL y)] [] (cc h C X Y) Q := by
  obtain ⟨e1, e2, V⟩ := V
  subst e1
  have F := HC.1.2
  have G := HC.1.1
  have eB : ∀ i, hB (cc h C X Y) (C + 51) i = hB h (C + 51) i := fun i => by
    have gz := G.1
    have := ccBo (X := X) (Y := Y) (i := i) (f := f_Heap_things) (b := C + 50) G (by decide) (by omega)
    rw [F.2.2.1.2.1] at this; exact this
  have f2 := F
  unfold FC at f2
  have y2 : ¬ x = 3 → y = v := fun c => by rw [e2]; unfold cw; rw [if_neg c]
  have t7 : x = 7 → 0 ≤ v ∧ v < S f_Md_things 0 ∧ S f_Md_thingKind v.toNat = 7 := fun c => by
    rcases V with z | z | z | z | z | z
    all_goals try (exfalso; omega)
    obtain ⟨-, -, z1, z2, z3⟩ := z
    exact ⟨z1, z2, by omega⟩
  have rg : 0 ≤ x ∧ x ≤ 8 := by
    rcases V with z | z | z | z | z | z <;> omega
  unfold tyT clA at q
  refine b_Machine_classOf_0 hd ⟨fun c => ?_, fun c0 => ⟨fun c => ?_, fun c1 => ⟨fun c => ?_, fun c2 => ⟨fun c => ?_, fun c3 => ⟨fun c => ?_, fun c4 => ⟨fun c => ?_, fun c5 => ⟨fun c => ?_, fun c6 => ⟨fun c => ?_, fun c7 => ?_⟩⟩⟩⟩⟩⟩⟩⟩
  · rw [if_pos c, if_pos rfl] at q; exact q
  · rw [if_neg c0, if_pos c, if_neg (by decide)] at q; exact q
  · rw [if_neg c0, if_neg c1, if_pos c] at q
    have ey := y2 (by omega)
    rw [ey]
    refine b_Machine_isInt_0 ⟨fun z => ⟨fun _ => ?_, fun w => absurd rfl w⟩, fun z => ⟨fun w => absurd w (by decide), fun _ => ?_⟩⟩
    · have : ¬ v = w32 v := fun e => z (by rw [if_neg (by omega), if_pos e])
      rw [if_neg this, if_neg (by decide)] at q; exact q
    · have : v = w32 v := by
        by_cases w1 : v < w32 v
        · rw [if_pos w1] at z; exact absurd z (by decide)
        · rw [if_neg w1] at z
          by_cases w2 : v = w32 v
          · exact w2
          · rw [if_neg w2] at z; exact absurd z (by decide)
      rw [if_pos this, if_neg (by decide)] at q; exact q
  · rw [if_neg c0, if_neg c1, if_neg c2, if_pos c, if_neg (by decide)] at q; exact q
  · rw [if_neg c0, if_neg c1, if_neg c2, if_neg c3, if_neg (show ¬ x = 7 by omega), if_neg (by decide)] at q; exact q
  · rw [if_neg c0, if_neg c1, if_neg c2, if_neg c3, if_neg (show ¬ x = 7 by omega), if_neg (by decide)] at q; exact q
  · rw [if_neg c0, if_neg c1, if_neg c2, if_neg c3, if_neg (show ¬ x = 7 by omega), if_neg (by decide)] at q; exact q
  · rw [if_neg c0, if_neg c1, if_neg c2, if_neg c3, if_pos c] at q
    obtain ⟨v1, v2, v3⟩ := t7 c
    have ey := y2 (by omega)
    obtain ⟨tn, sn, sm, d1, d2, d5, d6', d3, d4, d6, d7, d8, U, m1, m2, m3, m4⟩ := HC.shp
    have TA := (d7 v.toNat (by omega)).p.1
    obtain ⟨-, ⟨t1, t2, t3⟩, -, -, tc⟩ := TA
    rcases tc with tc | ⟨-, tc1, tc2, tc3⟩
    · exact absurd v3 tc.1
    have T := HX.tp (i := (S f_Md_thingClass v.toNat).toNat) (by omega)
    have hN := HX.hh.2.2.2.2.2.2.2.2.2.1
    rw [if_neg (by omega)] at q
    have w1 : w32 v = v := w32_of (by omega) (by omega)
    have w2 : w32 (9 + (((S f_Md_thingClass v.toNat).toNat : Nat) : Int)) = 9 + S f_Md_thingClass v.toNat := by rw [w32_of (by omega) (by omega)]; omega
    have kI : hK h (hB h (C + 51) v.toNat) = k_Instance := by rw [t1, v3]; decide
    have b1 : 0 ≤ v ∧ v < (hl h (C + 51) : Int) := by omega
    have r1 : hR (cc h C X Y) f_Instance_type (hB h (C + 51) v.toNat) = hB h (ho + 2) (S f_Md_thingClass v.toNat).toNat := by rw [ccRo (by decide)]; exact tc3
    have i1 : hI (cc h C X Y) f_HostType_number (hB h (ho + 2) (S f_Md_thingClass v.toNat).toNat) = (((S f_Md_thingClass v.toNat).toNat : Nat) : Int) := by rw [ccIo (by decide)]; exact T.2.1
    have k51 : hK h (C + 51) = k_ArrayList := F.2.2.2.1.1.1
    have l51 : lok h (C + 51) := F.2.2.2.1.1
    rw [ey]
    simp (decide := true) only [ccRo, ccK, ccl, cclok, f2, w1, eB, k51, l51, r1, i1, w2, true_and]
    exact ⟨b1, Or.inr (by rw [kI]; decide), kI, T.1.1, q⟩
  · have c8 : x = 8 := by omega
    rw [if_neg c0, if_neg c1, if_neg c2, if_neg c3, if_neg c7, if_neg (by decide)] at q; exact q
end
