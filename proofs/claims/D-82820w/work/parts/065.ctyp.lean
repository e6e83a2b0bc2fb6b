/-! C: a class is begun; a class; all -/
set_option maxRecDepth 20000
section
variable {ρ : Nat → Nat} {d : Nat} {h h' h0 : ah} {F : Int → ah → Prop} {FR : Nat → ah → Prop} {G : ah → Prop} {E : Nat → ah → Prop} {Q : QT} {C ho a : Nat} {tp : List Int} {t t' : TKN} {g : HG} {n m c : Nat} {ws : List (List Int)} {so st ty va iF : Int} {ps nm : List Int}
theorem c_tinit {by_ fr sz nx_ : Nat} {v : Int} (H : HC ρ h ho g n m ws by_ fr sz nx_) (hN : NMO ws nm v) (hn60 : n < 60) (hif : iF = 0 ∨ iF = 1) (hd : 10 ≤ d) (q : ∀ h', Fr [] [] 4 77 h h' → TYO h' ho (gCls g n m nm iF) ws n (hz h) → G h') :
    wpB PGm ρ d m_HostType_init 0 [(0, vR (hz h)), (1, vI (n : Int)), (2, vI v), (3, vI iF), (4, vI (m : Int))] [] (hn h k_HostType 11 0) (cV G E) := by
  obtain ⟨b0, b1, b2, b3, b4, b5, b6, b7⟩ := H
  have hi := b0.2.2.1
  have hz0 := hi.2.2
  have F0 : Fr [] [] 1 11 h (hn h k_HostType 11 0) := ((Fr.r0 (h := h)).new (k := k_HostType) (n := 11) (m := 0)).le (by omega) (by omega)
  have z0 : hz (hn h k_HostType 11 0) = hz h + 1 := rfl
  have K0 : hK (hn h k_HostType 11 0) (hz h) = k_HostType := if_pos rfl
  generalize eH : hn h k_HostType 11 0 = H0 at *
  have r0w : hR H0 f_HostType_words (hz h) = 0 ∧ hR H0 f_HostType_tags (hz h) = 0 ∧ hR H0 f_HostType_above (hz h) = 0 := by rw [← eH]; exact ⟨if_pos rfl, if_pos rfl, if_pos rfl⟩
  have i0 := F0.inj hi
  refine b_HostType_init_0 hd ⟨by rw [K0]; decide, ?_⟩
  intro h1
  have z1 : hz h1 = hz h + 2 := by show hz H0 + 1 = _; omega
  have k1 : hK h1 (hz H0) = 190 := if_pos rfl
  refine ⟨⟨k1, if_pos rfl⟩, ?_⟩
  intro h2
  have F2 : Fr [] [] 2 14 h h2 := (Fr.nI (by omega) (F0.new (k := k_ArrayList) (n := 3) (m := 0))).le (by omega) (by omega)
  have a2 : hK h2 (hz h) = k_HostType := Eq.trans (if_neg (by omega)) K0
  refine ⟨a2, ?_⟩
  intro h3
  have F3 : Fr [] [] 2 14 h h3 := F2.wO (Or.inr (Nat.le_refl _)) (by omega) (by show hz H0 < hz h1; omega) (fun g y hy hg e => INJ.new (k := k_ArrayList) (n := 3) (m := 0) i0 g y hy hg e)
  have z3 : hz h3 = hz h + 2 := z1
  have i3 := F3.inj hi
  intro h6
  have z6 : hz h6 = hz h + 3 := by show hz h3 + 1 = _; omega
  refine ⟨⟨if_pos rfl, if_pos rfl⟩, ?_⟩
  intro h7
  have F7 : Fr [] [] 3 17 h h7 := (Fr.nI (by omega) (F3.new (k := k_ArrayList) (n := 3) (m := 0))).le (by omega) (by omega)
  have a7 : hK h7 (hz h) = k_HostType := Eq.trans (if_neg (by omega)) a2
  refine ⟨a7, ?_⟩
  intro h8
  have F8 : Fr [] [] 3 17 h h8 := F7.wO (Or.inr (Nat.le_refl _)) (by omega) (by show hz h3 < hz h6; omega) (fun g y hy hg e => INJ.new (k := k_ArrayList) (n := 3) (m := 0) i3 g y hy hg e)
  have z8 : hz h8 = hz h + 3 := z6
  have i8 := F8.inj hi
  intro h11
  have z11 : hz h11 = hz h + 4 := by show hz h8 + 1 = _; omega
  have a11 : hK h11 (hz h) = k_HostType := Eq.trans (if_neg (by omega)) a7
  refine ⟨a11, ?_⟩
  intro h12
  have F12 : Fr [] [] 4 77 h h12 := ((F8.new (k := 4) (n := 60) (m := 60)).wO (Or.inr (Nat.le_refl _)) (by omega) (by show hz h8 < hz h11; omega) (fun g y hy hg e => INJ.new (k := 4) (n := 60) (m := 60) i8 g y hy hg e)).le (by omega) (by omega)
  intro h15 h16
  refine ⟨hif, ?_⟩
  intro h17 h18
  -- what is read
  have rO : hR h12 f_HostType_over (hz h) = hz h + 3 := by rw [← z8]; exact R_R _ _ _ _
  have rM : hR h12 f_HostType_members (hz h) = hz h + 2 := by
    show hR (sR h11 f_HostType_over (hz h) (hz h8)) f_HostType_members (hz h) = _
    rw [R_Rne (by decide), show hR h11 f_HostType_members (hz h) = hR h8 f_HostType_members (hz h) from if_neg (by omega), ← z3]
    exact R_R _ _ _ _
  have rS : hR h12 f_HostType_supers (hz h) = hz h + 1 := by
    show hR (sR h11 f_HostType_over (hz h) (hz h8)) f_HostType_supers (hz h) = _
    rw [R_Rne (by decide), show hR h11 f_HostType_supers (hz h) = hR h8 f_HostType_supers (hz h) from if_neg (by omega), show hR h8 f_HostType_supers (hz h) = hR h6 f_HostType_supers (hz h) from R_Rne (by decide), show hR h6 f_HostType_supers (hz h) = hR h3 f_HostType_supers (hz h) from if_neg (by omega), ← z0]
    exact R_R _ _ _ _
  have rX : ∀ f, f ≠ f_HostType_over → f ≠ f_HostType_members → f ≠ f_HostType_supers → hR h12 f (hz h) = hR H0 f (hz h) := fun f e1 e2 e3 => by
    show hR (sR h11 f_HostType_over (hz h) (hz h8)) f (hz h) = _
    rw [R_Rne e1, show hR h11 f (hz h) = hR h8 f (hz h) from if_neg (by omega), show hR h8 f (hz h) = hR h6 f (hz h) from R_Rne e2, show hR h6 f (hz h) = hR h3 f (hz h) from if_neg (by omega), show hR h3 f (hz h) = hR h1 f (hz h) from R_Rne e3]
    exact if_neg (by omega)
  have kO : hK h12 (hz h + 3) = 4 := by rw [← z8]; exact if_pos rfl
  have lO : hl h12 (hz h + 3) = 60 := by rw [← z8]; exact if_pos rfl
  have aO : ∀ j, hA h12 (hz h + 3) j = 0 := fun j => by rw [← z8]; exact if_pos rfl
  have kS : hK h12 (hz h + 1) = 190 ∧ hI h12 4 (hz h + 1) = 1 ∧ hl h12 (hz h + 1) = 0 := by
    refine ⟨?_, ?_, ?_⟩
    · show hK h11 (hz h + 1) = _
      rw [show hK h11 (hz h + 1) = hK h8 (hz h + 1) from if_neg (by omega), show hK h8 (hz h + 1) = hK h3 (hz h + 1) from if_neg (by omega), ← z0]; exact if_pos rfl
    · show hI h11 4 (hz h + 1) = _
      rw [show hI h11 4 (hz h + 1) = hI h7 4 (hz h + 1) from if_neg (by omega), show hI h7 4 (hz h + 1) = hI h6 4 (hz h + 1) from I_Ine' (by omega), show hI h6 4 (hz h + 1) = hI h3 4 (hz h + 1) from if_neg (by omega), ← z0]
      exact I_I _ _ _ _
    · show hl h11 (hz h + 1) = _
      rw [show hl h11 (hz h + 1) = hl h8 (hz h + 1) from if_neg (by omega), show hl h8 (hz h + 1) = hl h3 (hz h + 1) from if_neg (by omega), ← z0]; exact if_pos rfl
  have kM : hK h12 (hz h + 2) = 190 ∧ hI h12 4 (hz h + 2) = 1 ∧ hl h12 (hz h + 2) = 0 := by
    refine ⟨?_, ?_, ?_⟩
    · show hK h11 (hz h + 2) = _
      rw [show hK h11 (hz h + 2) = hK h8 (hz h + 2) from if_neg (by omega), ← z3]; exact if_pos rfl
    · show hI h11 4 (hz h + 2) = _
      rw [show hI h11 4 (hz h + 2) = hI h7 4 (hz h + 2) from if_neg (by omega), ← z3]
      exact I_I _ _ _ _
    · show hl h11 (hz h + 2) = _
      rw [show hl h11 (hz h + 2) = hl h8 (hz h + 2) from if_neg (by omega), ← z3]; exact if_pos rfl
  have rO18 : hR h18 f_HostType_over (hz h) = hz h + 3 := rO
  rw [rO18, Int.toNat_natCast]
  refine ⟨⟨Or.inr ⟨kO, Or.inr rfl⟩, by omega, by rw [show hl h18 (hz h + 3) = 60 from lO]; omega⟩, ?_⟩
  intro h20
  have F20 : Fr [] [] 4 77 h h20 := Fr.wA (Or.inl (by omega)) (Fr.nI (Nat.le_refl _) (Fr.nI (Nat.le_refl _) (Fr.nI (Nat.le_refl _) (Fr.nI (Nat.le_refl _) F12))))
  have i4 : ∀ y, y ≠ hz h → hI h20 4 y = hI h12 4 y := fun y hy => by
    show hI (sI (sI (sI (sI h12 f_HostType_number (hz h) (n : Int)) f_HostType_name (hz h) v) f_HostType_isInterface (hz h) iF) f_HostType_firstMember (hz h) (m : Int)) 4 y = _
    rw [I_Ine' hy, I_Ine' hy, I_Ine' hy, I_Ine' hy]
  obtain ⟨g1, g2, g3, g4, g10, l0, l1, go⟩ := gCls_n (g := g) (n := n) (m := m) (nm := nm) (iF := iF)
  refine q h20 F20 ⟨⟨Eq.trans (if_neg (by omega)) a7, by show hz h < hz h11; omega, by omega⟩, ?_, ?_, ?_, by rw [g1]; exact hif, ?_, by rw [g3]; omega, Or.inl ⟨g2, ?_⟩, ?_, ?_, ?_, Or.inl ⟨g10, ?_, ?_⟩⟩
  · show hI (sI (sI (sI (sI h12 f_HostType_number (hz h) (n : Int)) f_HostType_name (hz h) v) f_HostType_isInterface (hz h) iF) f_HostType_firstMember (hz h) (m : Int)) f_HostType_number (hz h) = _
    rw [I_Ine (by decide), I_Ine (by decide), I_Ine (by decide)]; exact I_I _ _ _ _
  · show NMO ws _ (hI (sI (sI (sI (sI h12 f_HostType_number (hz h) (n : Int)) f_HostType_name (hz h) v) f_HostType_isInterface (hz h) iF) f_HostType_firstMember (hz h) (m : Int)) f_HostType_name (hz h))
    rw [I_Ine (by decide), I_Ine (by decide), I_I, l0]; exact hN
  · show hI (sI (sI (sI (sI h12 f_HostType_number (hz h) (n : Int)) f_HostType_name (hz h) v) f_HostType_isInterface (hz h) iF) f_HostType_firstMember (hz h) (m : Int)) f_HostType_isInterface (hz h) = _
    rw [I_Ine (by decide), I_I, g1]
  · show hI (sI (sI (sI (sI h12 f_HostType_number (hz h) (n : Int)) f_HostType_name (hz h) v) f_HostType_isInterface (hz h) iF) f_HostType_firstMember (hz h) (m : Int)) f_HostType_firstMember (hz h) = _
    rw [I_I, g3]
  · rw [show hR h20 f_HostType_above (hz h) = hR H0 f_HostType_above (hz h) from rX f_HostType_above (by decide) (by decide) (by decide)]; exact r0w.2.2
  · rw [show hR h20 f_HostType_supers (hz h) = hz h + 1 from rS, l1]
    exact ⟨⟨⟨kS.1, (i4 _ (Nat.ne_of_gt (Nat.lt_succ_self _))).trans kS.2.1⟩, by omega, by show _ < hz h11; omega⟩, kS.2.2, fun k hk => by simp at hk⟩
  · rw [show hR h20 f_HostType_members (hz h) = hz h + 2 from rM, g4]
    have e0 : hl h20 (hz h + 2) = 0 := kM.2.2
    refine ⟨⟨⟨kM.1, (i4 _ (by omega)).trans kM.2.1⟩, by omega, by show _ < hz h11; omega⟩, by rw [e0]; rfl, fun k hk => by rw [e0] at hk; omega⟩
  · rw [show hR h20 f_HostType_over (hz h) = hz h + 3 from rO]
    refine ⟨by omega, kO, lO, fun j hj => ?_⟩
    rw [go, show hA h20 (hz h + 3) j = if hz h + 3 = hz h + 3 ∧ j = n then 1 else hA h12 (hz h + 3) j from rfl]
    by_cases e : j = n
    · rw [if_pos ⟨rfl, e⟩, if_pos e]; exact ⟨rfl, Or.inr rfl⟩
    · rw [if_neg (fun x => e x.2), if_neg e]; exact ⟨aO j, Or.inl rfl⟩
  · rw [show hR h20 f_HostType_words (hz h) = hR H0 f_HostType_words (hz h) from rX f_HostType_words (by decide) (by decide) (by decide)]; exact r0w.1
  · rw [show hR h20 f_HostType_tags (hz h) = hR H0 f_HostType_tags (hz h) from rX f_HostType_tags (by decide) (by decide) (by decide)]; exact r0w.2.1
end
