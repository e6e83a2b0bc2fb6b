/-! T: what a member answers by its type -/
set_option maxRecDepth 20000
/-- a trace more -/
def trS (S : SS) (w : Nat) (m E : Int) : SS := u2 (u2 (u2 S f_Md_trace w m) f_Md_trace (w + 1) E) f_Md_traced 0 ((w + 2 : Nat) : Int)
/-- the sum of a member's number and the numbers that it is called with -/
def smW (S : SS) (rr : Nat) (m : Int) : Nat → Int
  | 0 => m
  | j + 1 => w64 (smW S rr m j + (if S f_Md_pileType (rr + 1 + j) = 2 then S f_Md_pileValue (rr + 1 + j) else 0))
def suB (g : HG) (S : SS) (it ty v : Int) : Bool := if it = 8 then !decide (ty = 0) else decide (ty = 7) && unB g (9 + S f_Md_thingClass v.toNat) it
def abF (g : HG) (S : SS) (rr E : Nat) (it : Int) : Option Nat := (List.range E).find? (fun k => suB g S it (S f_Md_pileType (rr + 1 + k)) (S f_Md_pileValue (rr + 1 + k)))
def abV (g : HG) (S : SS) (rr E : Nat) (it sum : Int) : Int × Int := if it = 0 then (0, 0) else if it = 1 ∨ it = 4 then (2, w32 sum) else if it = 2 ∨ it = 5 then (2, sum) else if it = 3 ∨ it = 6 then (1, o64 (· &&& ·) sum 1) else if S f_Md_goesType 0 = 7 ∧ suB g S it 7 (S f_Md_goesValue 0) = true then (7, S f_Md_goesValue 0) else match abF g S rr E it with
  | some k => (S f_Md_pileType (rr + 1 + k), S f_Md_pileValue (rr + 1 + k))
  | none => (0, 0)
section
variable {ρ : Nat → Nat} {P : ah → Nat → Prop} {d : Nat} {Q : QT} {Γ : GH} {h h0 : ah} {C ho T k n m f i j N M b r a s rr mn sn tn row c t E pp x sz tm mb am ab sk rk y0 w : Nat} {S S' S1 S2 SX : SS} {X : X3} {Y : Y3} {g : HG} {l L bs ts pf : List Int} {v p y nm ty cnt κ hd La bv el st LL bb iv it sum : Int} {ls l2 : List ENT} {e : Option (Option AV)}
theorem isS_2 {a b c d : Int} : isS (isS S a b) c d = isS S c d := by
  unfold isS
  rw [u2_cm (f := f_Md_value) (g := f_Md_type) (by decide), u2_2, u2_2]
theorem s_traces (O : TOK h0 T) (e1 : S f_Md_traced 0 = (w : Int)) (hw : w + 2 ≤ 100000) (e2 : S f_Md_es 0 = y) (q : Q (Sum.inl none) (cn h0 T (trS S w v y))) : wpB PGm ρ d m_Md_traces 0 [(0, vR T), (1, vI v)] [] (cn h0 T S) Q := by
  have kT := O.1
  have G := O.2.1
  have b1 : 0 ≤ (w : Int) ∧ (w : Int) < ((100000 : Nat) : Int) := by omega
  have b2 : 0 ≤ ((w + 1 : Nat) : Int) ∧ ((w + 1 : Nat) : Int) < ((100000 : Nat) : Int) := by omega
  have m1 : w ≤ 2000000000 := by omega
  have y1 : w32 ((w : Int) + 1) = ((w + 1 : Nat) : Int) := w32_p1 m1
  have y2 : w32 ((w : Int) + 2) = ((w + 2 : Nat) : Int) := w32_aa (b := 2) (by omega)
  unfold trS at q
  refine b_Md_traces_0 ?_
  simp (decide := true) (disch := first | decide | omega) only [cnI, cnR, cnK, cnl, cnA' G, cn_sA' G, cn_sI, kT, KN G, LN G, u2_f, e1, e2, y1, y2, Int.toNat_natCast, true_and, and_true]
  exact ⟨b1, b2, q⟩
theorem s_isSuch (K : PTO ρ g N M h0 T) (hit : it < 9 + (N : Int)) (hv : ty = 7 → 0 ≤ v ∧ v < 8000 ∧ 0 ≤ S f_Md_thingClass v.toNat ∧ S f_Md_thingClass v.toNat < (N : Int)) (hN : N ≤ 60) (q1 : suB g S it ty v = true → Q (Sum.inl (some (vI 1))) (cn h0 T S)) (q0 : ¬ suB g S it ty v = true → Q (Sum.inl (some (vI 0))) (cn h0 T S)) : wpB PGm ρ (d + 1) m_Md_isSuch 0 [(0, vR T), (1, vI ty), (2, vL v), (4, vI it)] [] (cn h0 T S) Q := by
  have O := K.1.1
  have kT := O.1
  have G := O.2.1
  unfold suB at q1 q0
  have kk := K.pth.2.2.1.2
  by_cases i8 : it = 8
  · rw [if_pos i8] at q1 q0
    refine b_Md_isSuch_0 ⟨fun c => absurd i8 c, fun _ => ⟨fun c => q0 (by simp [c]), fun c => q1 (by simp [c])⟩⟩
  · rw [if_neg i8] at q1 q0
    refine b_Md_isSuch_0 ⟨fun _ => ⟨fun c => q0 (by simp [c]), fun c => ?_⟩, fun c => absurd c i8⟩
    obtain ⟨v1, v2, v3, v4⟩ := hv c
    have b1 : 0 ≤ v ∧ v < ((8000 : Nat) : Int) := by omega
    have x1 : 9 + S f_Md_thingClass v.toNat < 9 + (N : Int) := by omega
    have m2 : -2147483648 ≤ 9 + S f_Md_thingClass v.toNat ∧ 9 + S f_Md_thingClass v.toNat < 2147483648 := by omega
    have y0 : w32 v = v := w32_of (by omega) (by omega)
    have y1 : w32 (9 + S f_Md_thingClass v.toNat) = 9 + S f_Md_thingClass v.toNat := w32_of m2.1 m2.2
    have gs : wpB PGm ρ d m_MdHost_isSub 0 [(0, vR (hR h0 f_Md_host T)), (1, vI (9 + S f_Md_thingClass v.toNat)), (2, vI it)] [] (cn h0 T S) (cI (fun x18 h13 => ((x18 = 0 → Q (Sum.inl (some (vI 0))) h13) ∧ (¬ x18 = 0 → Q (Sum.inl (some (vI 1))) h13))) (fun e16 h15 => hK h15 e16 ≠ 0 ∧ Q (Sum.inr e16) h15)) := s_isSub K x1 hit (fun z => ⟨fun c => absurd c (by decide), fun _ => q1 (by simp [c, z])⟩) (fun z => ⟨fun _ => q0 (by simp [z]), fun c => absurd rfl c⟩)
    clear q1 q0 hv
    simp (decide := true) (disch := first | decide | omega) only [cnI, cnR, cnK, cnl, cnA' G, kT, kk, KN G, LN G, y0, y1, Int.toNat_natCast, true_and, and_true]
    exact ⟨b1, gs⟩
theorem s_answers (W : HWF g N M) (hm : m < M) (ht : 0 ≤ g.1 8 m ∧ g.1 8 m < 9 + (N : Int)) (pv : PVS S N rr E) (hE : E ≤ 8) (ee : S f_Md_es 0 = (E : Int)) (gv : S f_Md_goesType 0 = 7 → 0 ≤ S f_Md_goesValue 0 ∧ S f_Md_goesValue 0 < 8000 ∧ 0 ≤ S f_Md_thingClass (S f_Md_goesValue 0).toNat ∧ S f_Md_thingClass (S f_Md_goesValue 0).toNat < (N : Int)) : TC ρ (PTO ρ g N M) 3 m_Md_answersByType 0 [(1, vI (m : Int))] [] S (some none) (isS S (abV g S rr E (g.1 8 m) (smW S rr (m : Int) E)).1 (abV g S rr E (g.1 8 m) (smW S rr (m : Int) E)).2) := fun d h0 T Q K q => by
  have O := K.1.1
  have kT := O.1
  have G := O.2.1
  obtain ⟨⟨a1, a2, -⟩, ⟨-, -, -, r8, -⟩, m4⟩ := K.mem hm
  have tA := tAH (S := S) O a2
  have tK := tKH a2.1
  have tL := tLH a2.1
  have kk := a2.2
  have hN := W.2.2.2.2.1
  obtain ⟨p1, p2, p3, p4⟩ := pv
  generalize ei : g.1 8 m = it at *
  -- values behind
  have pvb : ∀ j, j < E → S f_Md_pileType (rr + 1 + j) = 7 → 0 ≤ S f_Md_pileValue (rr + 1 + j) ∧ S f_Md_pileValue (rr + 1 + j) < 8000 ∧ 0 ≤ S f_Md_thingClass (S f_Md_pileValue (rr + 1 + j)).toNat ∧ S f_Md_thingClass (S f_Md_pileValue (rr + 1 + j)).toNat < (N : Int) := fun j hj z => by
    obtain ⟨V, hc⟩ := p4 j hj
    have := hc z
    rw [z] at V
    rcases V with ⟨c, -⟩ | ⟨c, -⟩ | ⟨c, -⟩ | ⟨c, -⟩ | ⟨-, -, c1, c2, -⟩ | ⟨c, -⟩
    all_goals first | omega | exact absurd c (by decide)
  have m0 : rr ≤ 2000000000 := by omega
  -- the loop over values
  have lp2 : (¬ it = 0 ∧ ¬ (it = 1 ∨ it = 4) ∧ ¬ (it = 2 ∨ it = 5) ∧ ¬ (it = 3 ∨ it = 6)) → ¬ (S f_Md_goesType 0 = 7 ∧ suB g S it 7 (S f_Md_goesValue 0) = true) → ∀ mm j, j + mm = E → (∀ i, i < j → ¬ suB g S it (S f_Md_pileType (rr + 1 + i)) (S f_Md_pileValue (rr + 1 + i)) = true) → wpB PGm ρ (d + 3) m_Md_answersByType 201 [(0, vR T), (2, vI it), (5, vI 0), (6, vI (j : Int))] [] (cn h0 T (isS S 0 0)) Q := fun hi ng mm => by
    have oI : OFF [f_Md_type, f_Md_value] S (isS S 0 0) := (OFF.rf.u (by decide)).u (by decide)
    have x1 : isS S 0 0 f_Md_es 0 = (E : Int) := by rw [oI _ _ (by decide)]; exact ee
    have x2 : isS S 0 0 f_Md_r 0 = (rr : Int) := by rw [oI _ _ (by decide)]; exact p1
    have ab : ∀ o, abF g S rr E it = o → abV g S rr E it (smW S rr (m : Int) E) = match o with | some k => (S f_Md_pileType (rr + 1 + k), S f_Md_pileValue (rr + 1 + k)) | none => (0, 0) := fun o eo => by
      unfold abV
      rw [if_neg hi.1, if_neg hi.2.1, if_neg hi.2.2.1, if_neg hi.2.2.2, if_neg ng, eo]
    induction mm with
    | zero =>
      intro j hj hp
      have e0 : abF g S rr E it = none := by
        unfold abF
        rw [List.find?_eq_none]
        intro k hk
        rw [List.mem_range] at hk
        exact hp k (by omega)
      rw [ab _ e0] at q
      have n1 : (E : Int) ≤ (j : Int) := by omega
      have n2 : ¬ (j : Int) < (E : Int) := by omega
      refine b_Md_answersByType_201 ?_
      clear ab hp p4 pvb gv
      simp (decide := true) (disch := first | decide | omega) only [cnI, x1, n1, n2, true_and, and_true, false_implies, forall_const]
      exact ⟨kT, q⟩
    | succ mm ih =>
      intro j hj hp
      have jE : j < E := by omega
      have x3 : isS S 0 0 f_Md_pileType (rr + 1 + j) = S f_Md_pileType (rr + 1 + j) := oI _ _ (by decide)
      have x4 : isS S 0 0 f_Md_pileValue (rr + 1 + j) = S f_Md_pileValue (rr + 1 + j) := oI _ _ (by decide)
      have x5 : ∀ i, isS S 0 0 f_Md_thingClass i = S f_Md_thingClass i := fun i => oI _ _ (by decide)
      have sE : suB g (isS S 0 0) it (S f_Md_pileType (rr + 1 + j)) (S f_Md_pileValue (rr + 1 + j)) = suB g S it (S f_Md_pileType (rr + 1 + j)) (S f_Md_pileValue (rr + 1 + j)) := by unfold suB; rw [x5]
      have n1 : ¬ (E : Int) ≤ (j : Int) := by omega
      have n2 : (j : Int) < (E : Int) := by omega
      have b1 : 0 ≤ ((rr + 1 + j : Nat) : Int) ∧ ((rr + 1 + j : Nat) : Int) < ((4200 : Nat) : Int) := by omega
      have m1 : rr + 1 + j ≤ 2000000000 := by omega
      have m2 : j ≤ 2000000000 := by omega
      have g1 : ¬ suB g S it (S f_Md_pileType (rr + 1 + j)) (S f_Md_pileValue (rr + 1 + j)) = true → wpB PGm ρ (d + 3) m_Md_answersByType 201 [(0, vR T), (2, vI it), (5, vI 0), (6, vI ((j + 1 : Nat) : Int))] [] (cn h0 T (isS S 0 0)) Q := fun z => ih (j + 1) (by omega) (fun i hi' => by
        by_cases w : i = j
        · rw [w]; exact z
        · exact hp i (by omega))
      have g2 : suB g S it (S f_Md_pileType (rr + 1 + j)) (S f_Md_pileValue (rr + 1 + j)) = true → Q (Sum.inl none) (cn h0 T (isS S (S f_Md_pileType (rr + 1 + j)) (S f_Md_pileValue (rr + 1 + j)))) := fun z => by
        have e0 : abF g S rr E it = some j := by
          unfold abF
          rw [List.find?_range_eq_some]
          exact ⟨z, by rw [List.mem_range]; exact jE, fun i hi' => by simpa using hp i hi'⟩
        rw [ab _ e0] at q; exact q
      have y0 : w32 ((rr : Int) + 1) = ((rr + 1 : Nat) : Int) := w32_p1 m0
      have y1 : w32 (((rr + 1 : Nat) : Int) + (j : Int)) = ((rr + 1 + j : Nat) : Int) := w32_aa m1
      have y2 : w32 ((j : Int) + 1) = ((j + 1 : Nat) : Int) := w32_p1 m2
      have gs : wpB PGm ρ (d + 2) m_Md_isSuch 0 [(0, vR T), (1, vI (S f_Md_pileType (rr + 1 + j))), (2, vL (S f_Md_pileValue (rr + 1 + j))), (4, vI it)] [] (cn h0 T (isS S 0 0)) (cI (fun x18 h13 => ((x18 = 0 → wpB PGm ρ (d + 3) m_Md_answersByType 287 [(0, vR T), (2, vI it), (5, vI x18), (6, vI (j : Int))] [] h13 Q) ∧ (¬ x18 = 0 → hK h13 T = k_Md ∧ (hK h13 (hR h13 f_Md_pileType T) ∈ [1, 11] ∧ 0 ≤ (w32 ((w32 ((hI h13 f_Md_r T) + 1)) + (j : Int))) ∧ (w32 ((w32 ((hI h13 f_Md_r T) + 1)) + (j : Int))) < (hl h13 (hR h13 f_Md_pileType T) : Int)) ∧ (hK h13 (hR h13 f_Md_pileValue T) ∈ [2] ∧ 0 ≤ (w32 ((w32 ((hI h13 f_Md_r T) + 1)) + (j : Int))) ∧ (w32 ((w32 ((hI h13 f_Md_r T) + 1)) + (j : Int))) < (hl h13 (hR h13 f_Md_pileValue T) : Int)) ∧ wpB PGm ρ (d + 2) m_Md_is 0 [(0, vR T), (1, vI (hA h13 (hR h13 f_Md_pileType T) (w32 ((w32 ((hI h13 f_Md_r T) + 1)) + (j : Int))).toNat)), (2, vL (hA h13 (hR h13 f_Md_pileValue T) (w32 ((w32 ((hI h13 f_Md_r T) + 1)) + (j : Int))).toNat))] [] h13 (cV (fun h27 => wpB PGm ρ (d + 3) m_Md_answersByType 287 [(0, vR T), (2, vI it), (5, vI x18), (6, vI (j : Int))] [] h27 Q) (fun e30 h29 => hK h29 e30 ≠ 0 ∧ Q (Sum.inr e30) h29))))) (fun e16 h15 => hK h15 e16 ≠ 0 ∧ Q (Sum.inr e16) h15)) := by
        refine s_isSuch (d := d + 1) K ht.2 (fun z => by rw [x5]; exact pvb j jE z) hN (fun z => ⟨fun c => absurd c (by decide), fun _ => ?_⟩) (fun z => ⟨fun _ => b_Md_answersByType_287 (by rw [y2]; exact g1 (by rw [← sE]; exact z)), fun c => absurd rfl c⟩)
        rw [sE] at z
        have qz := g2 z
        have gi : wpB PGm ρ (d + 2) m_Md_is 0 [(0, vR T), (1, vI (S f_Md_pileType (rr + 1 + j))), (2, vL (S f_Md_pileValue (rr + 1 + j)))] [] (cn h0 T (isS S 0 0)) (cV (fun h27 => wpB PGm ρ (d + 3) m_Md_answersByType 287 [(0, vR T), (2, vI it), (5, vI 1), (6, vI (j : Int))] [] h27 Q) (fun e30 h29 => hK h29 e30 ≠ 0 ∧ Q (Sum.inr e30) h29)) := by
          refine s_is O ?_
          rw [isS_2]
          exact b_Md_answersByType_287 (b_Md_answersByType_201 ⟨kT, fun _ => qz, fun _ => ⟨fun _ => qz, fun c => absurd c (by decide)⟩⟩)
        clear ab hp p4 pvb gv ih g1 g2 q qz
        simp (decide := true) (disch := first | decide | omega) only [cnI, cnR, cnK, cnl, cnA' G, kT, KN G, LN G, x2, x3, x4, y0, y1, Int.toNat_natCast, true_and, and_true]
        exact ⟨b1, b1, gi⟩
      refine b_Md_answersByType_201 ?_
      clear ab hp p4 pvb gv ih g1 g2 q
      simp (decide := true) (disch := first | decide | omega) only [cnI, cnR, cnK, cnl, cnA' G, kT, KN G, LN G, x1, x2, x3, x4, n1, n2, y0, y1, Int.toNat_natCast, true_and, and_true, not_true_eq_false, false_implies, forall_const]
      exact ⟨b1, b1, gs⟩
  -- by its type
  have fin : ∀ sum : Int, sum = smW S rr (m : Int) E → wpB PGm ρ (d + 3) m_Md_answersByType 16 [(0, vR T), (2, vI it), (3, vL sum), (5, vI (E : Int))] [] (cn h0 T S) Q := fun sum es => by
    rw [← es] at q
    have n1 : ¬ (E : Int) < (E : Int) := by omega
    refine b_Md_answersByType_16 ⟨kT, ?_⟩
    rw [cnI (by decide), ee]
    have c93 : (it = 1 ∨ it = 4) → wpB PGm ρ (d + 3) m_Md_answersByType 93 [(0, vR T), (3, vL sum)] [] (cn h0 T S) Q := fun z => b_Md_answersByType_93 ⟨kT, s_is O (by
      unfold abV at q; rw [if_neg (by omega), if_pos z] at q; exact q)⟩
    have c114 : (it = 2 ∨ it = 5) → wpB PGm ρ (d + 3) m_Md_answersByType 114 [(0, vR T), (3, vL sum)] [] (cn h0 T S) Q := fun z => b_Md_answersByType_114 ⟨kT, s_is O (by
      unfold abV at q; rw [if_neg (by omega), if_neg (by omega), if_pos z] at q; exact q)⟩
    have c134 : (it = 3 ∨ it = 6) → wpB PGm ρ (d + 3) m_Md_answersByType 134 [(0, vR T), (3, vL sum)] [] (cn h0 T S) Q := fun z => b_Md_answersByType_134 ⟨kT, s_is O (by
      unfold abV at q; rw [if_neg (by omega), if_neg (by omega), if_neg (by omega), if_pos z] at q; exact q)⟩
    refine ⟨fun _ => ⟨fun i0 => ⟨fun c => c93 (Or.inl c), fun i1 => ⟨fun i4 => ⟨fun c => c114 (Or.inl c), fun i2 => ⟨fun i5 => ⟨fun c => c134 (Or.inl c), fun i3 => ⟨fun i6 => ?_, fun c => c134 (Or.inr c)⟩⟩, fun c => c114 (Or.inr c)⟩⟩, fun c => c93 (Or.inr c)⟩⟩, fun c => s_is O (by unfold abV at q; rw [if_pos c] at q; exact q)⟩, fun c => absurd c n1⟩
    have hi : ¬ it = 0 ∧ ¬ (it = 1 ∨ it = 4) ∧ ¬ (it = 2 ∨ it = 5) ∧ ¬ (it = 3 ∨ it = 6) := ⟨i0, fun c => c.elim i1 i4, fun c => c.elim i2 i5, fun c => c.elim i3 i6⟩
    refine s_is O ⟨kT, ?_⟩
    have oI : OFF [f_Md_type, f_Md_value] S (isS S 0 0) := (OFF.rf.u (by decide)).u (by decide)
    have x1 : isS S 0 0 f_Md_goesType 0 = S f_Md_goesType 0 := oI _ _ (by decide)
    have x2 : isS S 0 0 f_Md_goesValue 0 = S f_Md_goesValue 0 := oI _ _ (by decide)
    have x5 : ∀ i, isS S 0 0 f_Md_thingClass i = S f_Md_thingClass i := fun i => oI _ _ (by decide)
    have sE : suB g (isS S 0 0) it 7 (S f_Md_goesValue 0) = suB g S it 7 (S f_Md_goesValue 0) := by unfold suB; rw [x5]
    rw [cnI (by decide), cnI (by decide), x1, x2]
    have z0 : ¬ (S f_Md_goesType 0 = 7 ∧ suB g S it 7 (S f_Md_goesValue 0) = true) → wpB PGm ρ (d + 3) m_Md_answersByType 179 [(0, vR T), (2, vI it)] [vI 0] (cn h0 T (isS S 0 0)) Q := fun z => b_Md_answersByType_179 ⟨fun _ => lp2 hi z E 0 (by omega) (fun i c => absurd c (by omega)), fun c => absurd rfl c⟩
    refine ⟨fun c => z0 (fun z => c z.1), fun c => ?_⟩
    refine s_isSuch (d := d + 1) K ht.2 (fun _ => by rw [x5]; exact gv c) hN (fun z => ⟨fun c => absurd c (by decide), fun _ => b_Md_answersByType_179 ⟨fun c => absurd c (by decide), fun _ => ⟨kT, ?_⟩⟩⟩) (fun z => ⟨fun _ => z0 (fun c2 => z (by rw [sE]; exact c2.2)), fun c => absurd rfl c⟩)
    rw [sE] at z
    rw [cnI (by decide), cnI (by decide), x1, x2]
    have qz : Q (Sum.inl none) (cn h0 T (isS S (S f_Md_goesType 0) (S f_Md_goesValue 0))) := by
      unfold abV at q
      rw [if_neg hi.1, if_neg hi.2.1, if_neg hi.2.2.1, if_neg hi.2.2.2, if_pos ⟨c, z⟩] at q
      rw [c]; exact q
    refine s_is O ?_
    rw [isS_2]
    exact b_Md_answersByType_201 ⟨kT, fun _ => qz, fun _ => ⟨fun _ => qz, fun c => absurd c (by decide)⟩⟩
  have lp : ∀ mm j, j + mm = E → wpB PGm ρ (d + 3) m_Md_answersByType 16 [(0, vR T), (2, vI it), (3, vL (smW S rr (m : Int) j)), (5, vI (j : Int))] [] (cn h0 T S) Q := fun mm => by
    induction mm with
    | zero =>
      intro j hj
      have ej : j = E := by omega
      rw [ej]; exact fin _ rfl
    | succ mm ih =>
      intro j hj
      have g1 := ih (j + 1) (by omega)
      have n1 : ¬ (E : Int) ≤ (j : Int) := by omega
      have n2 : (j : Int) < (E : Int) := by omega
      have b1 : 0 ≤ ((rr + 1 + j : Nat) : Int) ∧ ((rr + 1 + j : Nat) : Int) < ((4200 : Nat) : Int) := by omega
      have m1 : rr + 1 + j ≤ 2000000000 := by omega
      have m2 : j ≤ 2000000000 := by omega
      have y0 : w32 ((rr : Int) + 1) = ((rr + 1 : Nat) : Int) := w32_p1 m0
      have y1 : w32 (((rr + 1 : Nat) : Int) + (j : Int)) = ((rr + 1 + j : Nat) : Int) := w32_aa m1
      have y2 : w32 ((j : Int) + 1) = ((j + 1 : Nat) : Int) := w32_p1 m2
      have x0 : ¬ S f_Md_pileType (rr + 1 + j) = 2 → wpB PGm ρ (d + 3) m_Md_answersByType 62 [(0, vR T), (2, vI it), (5, vI (j : Int))] [vL 0, vL (smW S rr (m : Int) j)] (cn h0 T S) Q := fun z => b_Md_answersByType_62 (by
        unfold smW at g1; rw [if_neg z] at g1; rw [y2]; exact g1)
      have x1 : S f_Md_pileType (rr + 1 + j) = 2 → wpB PGm ρ (d + 3) m_Md_answersByType 62 [(0, vR T), (2, vI it), (5, vI (j : Int))] [vL (S f_Md_pileValue (rr + 1 + j)), vL (smW S rr (m : Int) j)] (cn h0 T S) Q := fun z => b_Md_answersByType_62 (by
        unfold smW at g1; rw [if_pos z] at g1; rw [y2]; exact g1)
      refine b_Md_answersByType_16 ?_
      clear ih g1 fin lp2 p4 pvb gv q
      simp (decide := true) (disch := first | decide | omega) only [cnI, cnR, cnK, cnl, cnA' G, kT, KN G, LN G, ee, p1, n1, n2, y0, y1, Int.toNat_natCast, true_and, and_true, false_implies, forall_const]
      exact ⟨b1, x0, fun z => ⟨b1, x1 z⟩⟩
  have g0 := lp E 0 (by omega)
  refine b_Md_answersByType_0 ?_
  clear lp fin lp2 p4 pvb gv q
  simp (decide := true) (disch := first | decide | omega) only [cnI, cnR, cnK, cnl, kT, kk, tA, tK, tL, r8, Int.toNat_natCast, true_and, and_true]
  exact ⟨m4, g0⟩
end
