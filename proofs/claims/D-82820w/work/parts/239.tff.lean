/-! T: the field that a method is for -/
set_option maxRecDepth 20000
/-- a name is a word, a capital, and perhaps more -/
def pfxB (pf L : List Int) : Bool := decide (pf.length < L.length) && (decide (∀ i, i < pf.length → L.getD i 0 = pf.getD i 0) && decide (65 ≤ L.getD pf.length 0 ∧ L.getD pf.length 0 ≤ 90))
def setB (g : HG) (m : Nat) : Bool := pfxB xSET (g.2 3 m) && (decide (g.1 8 m = 0) && (decide ((g.2 2 m).length = 1) && decide (g.1 9 m = 0)))
def getB (g : HG) (m : Nat) : Bool := decide ((g.2 2 m).length = 0) && (pfxB xGET (g.2 3 m) || (pfxB xIS (g.2 3 m) && decide (g.1 8 m = 3)))
def skG (L : List Int) : Nat := if pfxB xIS L = true ∧ ¬ pfxB xSET L = true ∧ ¬ pfxB xGET L = true then 2 else 3
/-- what is behind a word, with a small letter -/
def smL (k : Nat) (L : List Int) : List Int := (List.range (L.length - k)).map (fun i => if i = 0 then L.getD k 0 + 32 else L.getD (k + i) 0)
def ffG (g : HG) (m : Nat) : Int := if setB g m = true ∨ getB g m = true then (match fldG g (-1) (smL (skG (g.2 3 m)) (g.2 3 m)) 61 (g.1 5 m) with | none => -1 | some f => if g.1 7 f = g.1 7 m ∧ g.1 8 f = (if setB g m = true then (g.2 2 m).getD 0 0 else g.1 8 m) then (f : Int) else -1) else -1
section
variable {ρ : Nat → Nat} {P : ah → Nat → Prop} {d : Nat} {Q : QT} {Γ : GH} {h h0 : ah} {C ho T k n m f i j N M b r a s rr mn sn tn row c t E pp x sz tm mb am ab sk rk y0 : Nat} {S S' S1 S2 SX : SS} {X : X3} {Y : Y3} {g : HG} {l L bs ts pf : List Int} {v p y nm ty cnt κ hd w La bv el st LL bb iv : Int} {ls l2 : List ENT} {e : Option (Option AV)}
theorem s_prefixed (K : PTO ρ g N M h0 T) (sk : SOK h0 r pf) (hm : m < M) (q1 : pfxB pf (g.2 3 m) = true → Q (Sum.inl (some (vI 1))) (cn h0 T S)) (q0 : ¬ pfxB pf (g.2 3 m) = true → Q (Sum.inl (some (vI 0))) (cn h0 T S)) : wpB PGm ρ (d + 11) m_Md_isPrefixed 0 [(0, vR T), (1, vI (m : Int)), (2, vR r)] [] (cn h0 T S) Q := by
  have O := K.1.1
  have kT := O.1
  have G := O.2.1
  obtain ⟨⟨a1, a2, -⟩, ⟨-, -, -, -, -, -, -, -, a, r1, r2, hsg⟩, m4⟩ := K.mem hm
  have tA := tAH (S := S) O a2
  have tK := tKH a2.1
  have tL := tLH a2.1
  have kk := a2.2
  obtain ⟨s1, s2, s3⟩ := cnS (S := S) sk K.1.2.2 tabO
  generalize g.2 3 m = L at *
  obtain ⟨hb, hc⟩ := hsg
  have lp : pf.length < L.length → ∀ mm j, j + mm = pf.length → (∀ i, i < j → L.getD i 0 = pf.getD i 0) → wpB PGm ρ (d + 11) m_Md_isPrefixed 33 [(0, vR T), (1, vI (m : Int)), (2, vR r), (4, vI (j : Int))] [] (cn h0 T S) Q := fun lt mm => by
    induction mm with
    | zero =>
      intro j hj hp
      have ej : j = pf.length := by omega
      have b1 : 0 ≤ ((a + pf.length : Nat) : Int) ∧ ((a + pf.length : Nat) : Int) < ((65536 : Nat) : Int) := by omega
      have ha := (hc pf.length lt).1
      have m1 : a + pf.length ≤ 2000000000 := by omega
      have le1 : (pf.length : Int) ≤ (j : Int) := by omega
      have le2 : ¬ (j : Int) < (pf.length : Int) := by omega
      have z1 : 65 ≤ L.getD pf.length 0 ∧ L.getD pf.length 0 ≤ 90 → (1 : Int) = 0 ∨ (1 : Int) = 1 := fun _ => Or.inr rfl
      have gi : wpB PGm ρ (d + 10) m_Md_in 0 [(0, vL (L.getD pf.length 0)), (2, vL 65), (4, vL 90)] [] (cn h0 T S) (cI (fun x18 h13 => (x18 = 0 ∨ x18 = 1) ∧ Q (Sum.inl (some (vI x18))) h13) (fun e16 h15 => hK h15 e16 ≠ 0 ∧ Q (Sum.inr e16) h15)) := s_in (fun z => ⟨Or.inr rfl, q1 (by unfold pfxB; rw [decide_eq_true lt, decide_eq_true z, decide_eq_true (fun i hi => hp i (by omega))]; rfl)⟩) (fun z => ⟨Or.inl rfl, q0 (by unfold pfxB; rw [decide_eq_false z]; simp)⟩)
      have kr : hK h0 r = 191 := s1
      have lr : hl h0 r = pf.length := s2
      have y1 : w32 ((a : Int) + (pf.length : Int)) = ((a + pf.length : Nat) : Int) := w32_aa m1
      refine b_Md_isPrefixed_33 (d := d + 10) (by omega) ?_
      clear q1 q0 hc hp s3 s1 s2 z1
      simp (decide := true) (disch := first | decide | omega) only [cnI, cnR, cnK, cnl, kT, kk, kr, lr, tA, tK, tL, r1, ha, y1, le1, le2, Int.toNat_natCast, true_and, and_true, false_implies, forall_const]
      exact ⟨m4, b1, gi⟩
    | succ mm ih =>
      intro j hj hp
      have jl : j < pf.length := by omega
      have g1 := ih (j + 1) (by omega)
      have b1 : 0 ≤ ((a + j : Nat) : Int) ∧ ((a + j : Nat) : Int) < ((65536 : Nat) : Int) := by omega
      have b2 : 0 ≤ (j : Int) ∧ (j : Int) < (pf.length : Int) := by omega
      have ha := (hc j (by omega)).1
      have e2 := s3 j jl
      have m1 : a + j ≤ 2000000000 := by omega
      have m2 : j ≤ 2000000000 := by omega
      have le1 : ¬ (pf.length : Int) ≤ (j : Int) := by omega
      have z1 : L.getD j 0 = pf.getD j 0 → wpB PGm ρ (d + 11) m_Md_isPrefixed 33 [(0, vR T), (1, vI (m : Int)), (2, vR r), (4, vI ((j + 1 : Nat) : Int))] [] (cn h0 T S) Q := fun z => g1 (fun i hi => by
        by_cases w : i = j
        · rw [w]; exact z
        · exact hp i (by omega))
      have z0 : ¬ L.getD j 0 = pf.getD j 0 → Q (Sum.inl (some (vI 0))) (cn h0 T S) := fun z => q0 (by
        unfold pfxB
        rw [decide_eq_false (show ¬ (∀ i, i < pf.length → L.getD i 0 = pf.getD i 0) from fun c => z (c j jl))]; simp)
      have y1 : w32 ((a : Int) + (j : Int)) = ((a + j : Nat) : Int) := w32_aa m1
      have y2 : w32 ((j : Int) + 1) = ((j + 1 : Nat) : Int) := w32_p1 m2
      refine b_Md_isPrefixed_33 (d := d + 10) (by omega) ⟨s1, s1, fun z => absurd (by rw [s2] at z; exact z) le1, fun _ => ?_⟩
      simp only [Int.toNat_natCast]
      rw [e2]
      have kr : hK h0 r = 191 := s1
      have lr : hl h0 r = pf.length := s2
      generalize L.getD j 0 = lv at *
      generalize pf.getD j 0 = pv at *
      clear q1 q0 hc hp s3 ih g1 s1 s2 e2
      simp (decide := true) (disch := first | decide | omega) only [cnI, cnR, cnK, cnl, kT, kk, kr, lr, tA, tK, tL, r1, ha, y1, y2, Int.toNat_natCast, true_and, and_true, false_implies, forall_const]
      exact ⟨m4, b1, b2, z1, z0⟩
  have x1 : (pf.length : Int) < (L.length : Int) → wpB PGm ρ (d + 11) m_Md_isPrefixed 33 [(0, vR T), (1, vI (m : Int)), (2, vR r), (4, vI 0)] [] (cn h0 T S) Q := fun z => lp (by omega) pf.length 0 (by omega) (fun i hi => absurd hi (by omega))
  have x0 : (L.length : Int) ≤ (pf.length : Int) → Q (Sum.inl (some (vI 0))) (cn h0 T S) := fun z => q0 (by
    unfold pfxB
    rw [decide_eq_false (by omega)]; simp)
  have m1 : a ≤ a + L.length ∧ a + L.length ≤ 2000000000 := by omega
  have m2 : a + L.length - a = L.length := by omega
  have kr : hK h0 r = 191 := s1
  have lr : hl h0 r = pf.length := s2
  have y1 : w32 (((a + L.length : Nat) : Int) - (a : Int)) = (L.length : Int) := by rw [w32_ss m1, m2]
  refine b_Md_isPrefixed_0 (by omega) ?_
  clear q1 q0 hc s3 s1 s2 lp
  simp (decide := true) (disch := first | decide | omega) only [cnI, cnR, cnK, cnl, kT, kk, kr, lr, tA, tK, tL, r1, r2, y1, Int.toNat_natCast, true_and, and_true, false_implies, forall_const]
  exact ⟨m4, m4, x1, x0⟩
theorem smL_len : (smL k L).length = L.length - k := by unfold smL; simp
theorem smL_get (hi : k + i < L.length) : (smL k L).getD i 0 = if i = 0 then L.getD k 0 + 32 else L.getD (k + i) 0 := by
  unfold smL
  rw [List.getD_eq_getElem?_getD, List.getElem?_map, List.getElem?_range (by omega)]; rfl
theorem pfx_len (h : pfxB pf L = true) : pf.length < L.length ∧ 65 ≤ L.getD pf.length 0 ∧ L.getD pf.length 0 ≤ 90 := by
  unfold pfxB at h
  rw [Bool.and_eq_true, Bool.and_eq_true] at h
  exact ⟨of_decide_eq_true h.1, of_decide_eq_true h.2.2⟩
/-- the letters are put down, then the field is looked for -/
theorem s_ff188 (K : PTO ρ g N M h0 T) (W : HWF g N M) (hm : m < M) (hk : k = 2 ∨ k = 3) (hL : k < (g.2 3 m).length) (hL6 : (g.2 3 m).length ≤ 60) (cp : 65 ≤ (g.2 3 m).getD k 0 ∧ (g.2 3 m).getD k 0 ≤ 90) (ec : g.1 5 m = (c : Int)) (hc : c < N) (hs : y = 0 ∨ y = 1) (q : wpB PGm ρ (d + 12) m_Md_field 0 [(0, vR T), (1, vI (c : Int)), (2, vI (-1))] [] (cn h0 T (wnS S (smL k (g.2 3 m)))) (cI (fun x16 h11 => ((x16 < 0 → wpB PGm ρ (d + 13) m_Md_fieldFor 348 [(6, vI x16)] [vI 0] h11 Q) ∧ (0 ≤ x16 → hK h11 T = k_Md ∧ hK h11 (hR h11 f_Md_host T) = k_MdHost ∧ (hK h11 (hR h11 f_MdHost_isStatic (hR h11 f_Md_host T)) ∈ [3, 4, 13] ∧ 0 ≤ x16 ∧ x16 < (hl h11 (hR h11 f_MdHost_isStatic (hR h11 f_Md_host T)) : Int)) ∧ (hK h11 (hR h11 f_MdHost_isStatic (hR h11 f_Md_host T)) ∈ [3, 4, 13] ∧ 0 ≤ (m : Int) ∧ (m : Int) < (hl h11 (hR h11 f_MdHost_isStatic (hR h11 f_Md_host T)) : Int)) ∧ ((¬ (hA h11 (hR h11 f_MdHost_isStatic (hR h11 f_Md_host T)) (x16).toNat) = (hA h11 (hR h11 f_MdHost_isStatic (hR h11 f_Md_host T)) m) → wpB PGm ρ (d + 13) m_Md_fieldFor 348 [(6, vI x16)] [vI 0] h11 Q) ∧ ((hA h11 (hR h11 f_MdHost_isStatic (hR h11 f_Md_host T)) (x16).toNat) = (hA h11 (hR h11 f_MdHost_isStatic (hR h11 f_Md_host T)) m) → (hK h11 (hR h11 f_MdHost_type (hR h11 f_Md_host T)) ∈ [1, 11] ∧ 0 ≤ x16 ∧ x16 < (hl h11 (hR h11 f_MdHost_type (hR h11 f_Md_host T)) : Int)) ∧ ((y = 0 → (hK h11 (hR h11 f_MdHost_type (hR h11 f_Md_host T)) ∈ [1, 11] ∧ 0 ≤ (m : Int) ∧ (m : Int) < (hl h11 (hR h11 f_MdHost_type (hR h11 f_Md_host T)) : Int)) ∧ wpB PGm ρ (d + 13) m_Md_fieldFor 340 [(6, vI x16)] [vI (hA h11 (hR h11 f_MdHost_type (hR h11 f_Md_host T)) m), vI (hA h11 (hR h11 f_MdHost_type (hR h11 f_Md_host T)) (x16).toNat)] h11 Q) ∧ (¬ y = 0 → (hK h11 (hR h11 f_MdHost_parameter (hR h11 f_Md_host T)) ∈ [1, 11] ∧ 0 ≤ (w32 (8 * (m : Int))) ∧ (w32 (8 * (m : Int))) < (hl h11 (hR h11 f_MdHost_parameter (hR h11 f_Md_host T)) : Int)) ∧ wpB PGm ρ (d + 13) m_Md_fieldFor 340 [(6, vI x16)] [vI (hA h11 (hR h11 f_MdHost_parameter (hR h11 f_Md_host T)) (w32 (8 * (m : Int))).toNat), vI (hA h11 (hR h11 f_MdHost_type (hR h11 f_Md_host T)) (x16).toNat)] h11 Q))))))) (fun e14 h13 => hK h13 e14 ≠ 0 ∧ Q (Sum.inr e14) h13))) : wpB PGm ρ (d + 13) m_Md_fieldFor 177 [(0, vR T), (1, vI (m : Int)), (2, vI ((g.2 3 m).length : Int)), (3, vI y)] [vI (k : Int)] (cn h0 T S) Q := by
  have O := K.1.1
  have kT := O.1
  have G := O.2.1
  obtain ⟨⟨a1, a2, -⟩, ⟨r5, -, -, -, -, -, -, -, a, r1, r2, hsg⟩, m4⟩ := K.mem hm
  have tK := tKH a2.1
  have tL := tLH a2.1
  have kk := a2.2
  rw [ec] at r5
  generalize g.2 3 m = L at *
  obtain ⟨hb, hcc⟩ := hsg
  have ll : (smL k L).length = L.length - k := smL_len
  have lp : ∀ mm j, j + mm = (smL k L).length → wpB PGm ρ (d + 13) m_Md_fieldFor 188 [(0, vR T), (1, vI (m : Int)), (2, vI (L.length : Int)), (3, vI y), (5, vI (k : Int)), (6, vI ((k + j : Nat) : Int))] [] (cn h0 T (wnS S ((smL k L).take j))) Q := fun mm => by
    induction mm with
    | zero =>
      intro j hj
      rw [List.take_of_length_le (by omega)]
      have tA := tAH (S := wnS S (smL k L)) O a2
      have n1 : (L.length : Int) ≤ ((k + j : Nat) : Int) := by omega
      have n2 : ¬ ((k + j : Nat) : Int) < (L.length : Int) := by omega
      refine b_Md_fieldFor_188 ⟨fun _ => ?_, fun z => absurd z n2⟩
      have rr1 : hA (cn h0 T (wnS S (smL k L))) (hR (cn h0 T (wnS S (smL k L))) f_MdHost_itsClass (hR (cn h0 T (wnS S (smL k L))) f_Md_host T)) (m : Int).toNat = (c : Int) := by
        simp (decide := true) (disch := first | decide | omega) only [cnR, tA, r5, Int.toNat_natCast]
      rw [rr1]
      refine ⟨kT, kk, ⟨?_, m4.1, ?_⟩, ?_⟩
      · simp (decide := true) (disch := first | decide | omega) only [cnR, cnK, tK]
      · have : hl (cn h0 T (wnS S (smL k L))) (hR (cn h0 T (wnS S (smL k L))) f_MdHost_itsClass (hR (cn h0 T (wnS S (smL k L))) f_Md_host T)) = 400 := by simp (decide := true) (disch := first | decide | omega) only [cnR, cnl, tL]
        rw [this]; exact m4.2
      · simp only [Int.toNat_natCast]; exact q
    | succ mm ih =>
      intro j hj
      have jl : j < (smL k L).length := by omega
      have g1 := ih (j + 1) (by omega)
      have u := wnS_u (S := S) (bs := smL k L) jl
      have tA := tAH (S := wnS S ((smL k L).take j)) O a2
      have sg := smL_get (k := k) (i := j) (L := L) (by omega)
      have lj := hcc (k + j) (by omega)
      have ltk : ((smL k L).take j).length = j := by rw [List.length_take]; omega
      have e2 : wnS S ((smL k L).take j) f_Md_wantSize 0 = (j : Int) := by unfold wnS; rw [u2_s, ltk]
      have n1 : ¬ (L.length : Int) ≤ ((k + j : Nat) : Int) := by omega
      have n2 : ((k + j : Nat) : Int) < (L.length : Int) := by omega
      have b1 : 0 ≤ ((a + (k + j) : Nat) : Int) ∧ ((a + (k + j) : Nat) : Int) < ((65536 : Nat) : Int) := by omega
      have b2 : 0 ≤ (j : Int) ∧ (j : Int) < ((72 : Nat) : Int) := by omega
      have m1 : a + (k + j) ≤ 2000000000 := by omega
      have m2 : k + j ≤ 2000000000 := by omega
      have m3 : j ≤ 2000000000 := by omega
      have j0 : ((k + j : Nat) : Int) = (k : Int) → j = 0 := fun z => by omega
      have j1 : ¬ ((k + j : Nat) : Int) = (k : Int) → ¬ j = 0 := fun z => by omega
      have v0 : j = 0 → (smL k L).getD j 0 = L.getD (k + j) 0 + 32 := fun z => by rw [sg, if_pos z, z]; rfl
      have v1 : ¬ j = 0 → (smL k L).getD j 0 = L.getD (k + j) 0 := fun z => by rw [sg, if_neg z]
      have cp' : j = 0 → 65 ≤ L.getD (k + j) 0 ∧ L.getD (k + j) 0 ≤ 90 := fun z => by rw [z]; exact cp
      have vr : -128 ≤ (smL k L).getD j 0 ∧ (smL k L).getD j 0 ≤ 127 := by
        by_cases z : j = 0
        · have := cp' z; have := v0 z; omega
        · have := v1 z; have := lj.2; omega
      have w32b : j = 0 → -2147483648 ≤ L.getD (k + j) 0 + 32 ∧ L.getD (k + j) 0 + 32 < 2147483648 := fun z => by have := cp' z; omega
      have kj : k + j + 1 = k + (j + 1) := by omega
      have w8v : w8 ((smL k L).getD j 0) = (smL k L).getD j 0 := w8_of vr.1 (by omega)
      have la := lj.1
      generalize (smL k L).getD j 0 = bv at *
      generalize L.getD (k + j) 0 = lv at *
      have y1 : w32 ((a : Int) + ((k + j : Nat) : Int)) = ((a + (k + j) : Nat) : Int) := w32_aa m1
      have y2 : w32 (((k + j : Nat) : Int) + 1) = ((k + (j + 1) : Nat) : Int) := by rw [w32_p1 m2, kj]
      have y3 : w32 ((j : Int) + 1) = ((j + 1 : Nat) : Int) := w32_p1 m3
      have y4 : j = 0 → w32 (lv + 32) = bv := fun z => by rw [v0 z]; exact w32_of (w32b z).1 (w32b z).2
      have g241 : wpB PGm ρ (d + 13) m_Md_fieldFor 241 [(0, vR T), (1, vI (m : Int)), (2, vI (L.length : Int)), (3, vI y), (5, vI (k : Int)), (6, vI ((k + j : Nat) : Int))] [vI bv, vI (j : Int), vR (hR h0 f_Md_want T)] (cn h0 T (wnS S ((smL k L).take j))) Q := by
        refine b_Md_fieldFor_241 ?_
        clear ih q hcc sg lj v0 v1 cp' w32b y4 j0 j1
        generalize wnS S ((smL k L).take j) = S3 at *
        simp (decide := true) (disch := first | decide | omega) only [cnI, cnR, cnK, cnl, cnA' G, cn_sA' G, cn_sI, kT, KN G, LN G, w8v, y2, y3, e2, u2_f, u, Int.toNat_natCast, true_and, and_true, or_false, false_and]
        exact ⟨⟨vr, b2⟩, g1⟩
      refine b_Md_fieldFor_188 ⟨fun z => absurd z n1, fun _ => ?_⟩
      clear ih q hcc sg lj cp' w32b g1 u v0
      generalize wnS S ((smL k L).take j) = S3 at *
      simp (decide := true) (disch := first | decide | omega) only [cnI, cnR, cnK, cnl, kT, kk, tA, tK, tL, r1, la, y1, e2, Int.toNat_natCast, true_and, and_true]
      refine ⟨m4, b1, fun z => ?_, fun z => ?_⟩
      · have : lv = bv := (v1 (j1 z)).symm
        rw [this]; exact g241
      · rw [y4 (j0 z)]; exact g241
  have g0 := lp (smL k L).length 0 (by omega)
  rw [List.take_zero, ← wnS_0] at g0
  refine b_Md_fieldFor_177 ⟨kT, ?_⟩
  show wpB PGm ρ (d + 13) m_Md_fieldFor 188 [(0, vR T), (1, vI (m : Int)), (2, vI (L.length : Int)), (3, vI y), (5, vI (k : Int)), (6, vI (k : Int))] [] (sI (cn h0 T S) f_Md_wantSize T 0) Q
  rw [cn_sI (by decide)]
  exact g0
end
