/-! C: what a method answers by its type -/
set_option maxRecDepth 20000
/-- where a member goes: an instance if it is not static, else something else -/
def GOS (g : HG) (S : SS) (N m rr : Nat) : Prop := (g.1 7 m = 0 ∧ S f_Md_pileType rr = 7 ∧ 0 ≤ S f_Md_thingClass (S f_Md_pileValue rr).toNat ∧ S f_Md_thingClass (S f_Md_pileValue rr).toNat < (N : Int)) ∨ (g.1 7 m = 1 ∧ ¬ S f_Md_pileType rr = 7)
section
variable {ρ : Nat → Nat} {d : Nat} {Q : QT} {Γ Γ' : GH} {h h' h1 h2 H H1 : ah} {C ho k i j N M a z s r f o c t n m mn m0 rr l1 l2 p E : Nat} {g : HG} {v hd ty κ x y sv it sum : Int} {S S' S1 S2 S3 ST : SS} {X X' X1 X2 : X3} {Y Y' Y1 Y2 : Y3} {hw : List (List Int)} {e : Option Int} {L : List Nat} {w : Nat}
theorem su_un (h8 : 8 ≤ it) (tc : ty = 7 → 0 ≤ S f_Md_thingClass v.toNat) (ho : VO S N ty v) : (suB g S it ty v = true ↔ (¬ tyT S ty v = 0 ∧ unB g (tyT S ty v) it = true)) := by
  have rg : 0 ≤ ty ∧ ty ≤ 8 := by rcases ho with z | z | z | z | z | z <;> omega
  unfold suB
  by_cases c8 : it = 8
  · rw [if_pos c8, c8]
    simp only [Bool.not_eq_true', decide_eq_false_iff_not]
    unfold unB
    simp only [decide_eq_true_eq]
    by_cases t0 : ty = 0
    · rw [t0]; unfold tyT; simp
    · have : 4 ≤ tyT S ty v := by
        unfold tyT
        rw [if_neg t0]
        split
        · omega
        · split
          · split <;> omega
          · split
            · omega
            · split
              · have := tc (by assumption); omega
              · omega
      refine ⟨fun _ => ⟨by omega, by omega, by omega, Or.inr (Or.inr ⟨this, by omega, Or.inl trivial⟩)⟩, fun _ => t0⟩
  · rw [if_neg c8]
    rw [Bool.and_eq_true, decide_eq_true_eq]
    by_cases t7 : ty = 7
    · have := tc t7
      have e : tyT S ty v = 9 + S f_Md_thingClass v.toNat := by
        unfold tyT
        rw [if_neg (by omega), if_neg (by omega), if_neg (by omega), if_neg (by omega), if_pos t7]
      rw [e]
      exact ⟨fun c => ⟨by omega, c.2⟩, fun c => ⟨t7, c.2⟩⟩
    · have : tyT S ty v ≤ 8 := by
        unfold tyT
        split
        · omega
        · split
          · omega
          · split
            · split <;> omega
            · split
              · omega
              · first | omega | (split <;> omega)
      refine ⟨fun c => absurd c.1 t7, fun c => ?_⟩
      unfold unB at c
      simp only [decide_eq_true_eq] at c
      omega
theorem abV_8 (h8 : 8 ≤ it) : abV g S rr E it sum = if S f_Md_goesType 0 = 7 ∧ suB g S it 7 (S f_Md_goesValue 0) = true then (7, S f_Md_goesValue 0) else (match abF g S rr E it with | some k => (S f_Md_pileType (rr + 1 + k), S f_Md_pileValue (rr + 1 + k)) | none => (0, 0)) := by
  unfold abV
  rw [if_neg (by omega), if_neg (by omega), if_neg (by omega), if_neg (by omega)]
  rfl
theorem r_some (P : PFX Γ h C ho X Y S N t o n c r s a κ mn m0 rr) (U : HUS ρ Γ h ho S g N M hw) (YH : YHO Y ho) (h8 : 8 ≤ it ∧ it < 9 + (N : Int)) (pv : PVS S N rr E) (eE : E = esK κ mn) (gs : GOS g S N m rr) (sf : f = if g.1 7 m = 0 then 0 else 1) (q : ∀ x y, VR Γ S N x y (abV g S rr E it sum).1 (abV g S rr E it sum).2 → Q (Sum.inl none) (cc h C (ansX X o m0 c x y) Y)) : wpB PGm ρ (d + 12) m_Machine_some 0 [(0, vR (C + 32)), (1, vI it), (2, vI ((m0 + f : Nat) : Int)), (3, vI (m0 : Int)), (4, vI (E : Int))] [] (cc h C X Y) Q := by
  have HC := P.1
  have G := HC.1.1
  have F0 := HC.1.2
  have I := P.2.1.ix
  have ht := I.2.2.1
  have e1 : Y 32 f_Machine_t 0 = C + o := I.2.2.2.1.1
  have hmn := P.2.2.2.2.1
  have hn0 := I.2.2.2.2.1
  obtain ⟨gt, gv⟩ := P.2.2.2.2.2.2.1
  have r2 : hR (cc h C X Y) f_Machine_t (C + 32) = C + o := by rw [ccR (by decide)]; exact e1
  have r3 : hR (cc h C X Y) f_Machine_host (C + 32) = ho := by rw [ccR (by decide)]; exact YH.1
  have t1 : ∀ i, hA (cc h C X Y) (hR (cc h C X Y) f_Task_tags (C + o)) i = X o f_Task_tags i := fun i => by rw [ccRo (by decide), ccAt G ht (by decide)]
  have t2 : ∀ i, hA (cc h C X Y) (hR (cc h C X Y) f_Task_words (C + o)) i = X o f_Task_words i := fun i => by rw [ccRo (by decide), ccAt G ht (by decide)]
  have ft := F0.t ht
  unfold FCt at ft
  rw [abV_8 h8.1] at q
  have ans : ∀ {x y ty v}, VR Γ S N x y ty v → (if S f_Md_goesType 0 = 7 ∧ suB g S it 7 (S f_Md_goesValue 0) = true then (7, S f_Md_goesValue 0) else match abF g S rr E it with
    | some k => (S f_Md_pileType (rr + 1 + k), S f_Md_pileValue (rr + 1 + k))
    | none => (0, 0)) = (ty, v) → wpB PGm ρ (d + 11) m_Machine_answer 0 [(0, vR (C + 32)), (1, vI (m0 : Int)), (2, vI x), (3, vL y)] [] (cc h C X Y) (cV (fun h48 => Q (Sum.inl none) h48) (fun e51 h50 => hK h50 e51 ≠ 0 ∧ Q (Sum.inr e51) h50)) := fun {x y ty v} V ea => by
    rw [ea] at q
    exact r_answer (d := d + 10) (Q := cV (fun h48 => Q (Sum.inl none) h48) (fun e51 h50 => hK h50 e51 ≠ 0 ∧ Q (Sum.inr e51) h50)) G F0 ht e1 I.2.2.2.1.2.2 (n := m0) (by omega) ⟨I.2.2.2.2.2.1, I.2.2.2.2.2.2⟩ V.tg (q x y V)
  have cb : ∀ j, j ≤ E → (j = 0 → g.1 7 m = 0) → (S f_Md_pileType (rr + j) = 7 → 0 ≤ S f_Md_thingClass (S f_Md_pileValue (rr + j)).toNat ∧ S f_Md_thingClass (S f_Md_pileValue (rr + j)).toNat < (N : Int)) := fun j hj j0 w => by
    by_cases c0 : j = 0
    · subst c0
      rcases gs with z | z
      · exact z.2.2
      · have := j0 rfl; omega
    · have := (pv.2.2.2 (j - 1) (by omega)).2
      rw [show rr + 1 + (j - 1) = rr + j by omega] at this
      exact this w
  -- one value
  have one : ∀ j, j ≤ E → (j = 0 → g.1 7 m = 0) → (suB g S it (S f_Md_pileType (rr + j)) (S f_Md_pileValue (rr + j)) = true → (if S f_Md_goesType 0 = 7 ∧ suB g S it 7 (S f_Md_goesValue 0) = true then (7, S f_Md_goesValue 0) else match abF g S rr E it with
    | some k => (S f_Md_pileType (rr + 1 + k), S f_Md_pileValue (rr + 1 + k))
    | none => (0, 0)) = (S f_Md_pileType (rr + j), S f_Md_pileValue (rr + j))) → (¬ suB g S it (S f_Md_pileType (rr + j)) (S f_Md_pileValue (rr + j)) = true → wpB PGm ρ (d + 12) m_Machine_some 3 [(0, vR (C + 32)), (1, vI it), (3, vI (m0 : Int)), (4, vI (E : Int)), (5, vI ((m0 + (j + 1) : Nat) : Int))] [] (cc h C X Y) Q) → wpB PGm ρ (d + 12) m_Machine_some 3 [(0, vR (C + 32)), (1, vI it), (3, vI (m0 : Int)), (4, vI (E : Int)), (5, vI ((m0 + j : Nat) : Int))] [] (cc h C X Y) Q := fun j hj j0 q1 q0 => by
    have V := P.pl (i := j) (by omega)
    have cbj := cb j hj j0
    have su := su_un (g := g) h8.1 (fun c => (cbj c).1) V.2.2
    have lt : tyT S (S f_Md_pileType (rr + j)) (S f_Md_pileValue (rr + j)) < 9 + (N : Int) := by
      unfold tyT
      split
      · omega
      · split
        · omega
        · split
          · split <;> omega
          · split
            · omega
            · split
              · have := cbj (by assumption); omega
              · omega
    have b1 : 0 ≤ ((m0 + j : Nat) : Int) ∧ ((m0 + j : Nat) : Int) < ((2001 : Nat) : Int) ∧ m0 + E ≤ 2000000000 ∧ m0 + j ≤ 2000000000 := by omega
    have le1 : ¬ ((m0 + E : Nat) : Int) < ((m0 + j : Nat) : Int) := by omega
    have tb : (hK (cc h C X Y) (hR (cc h C X Y) f_Task_tags (C + o)) ∈ [3, 4, 13] ∧ 0 ≤ ((m0 + j : Nat) : Int) ∧ ((m0 + j : Nat) : Int) < (hl (cc h C X Y) (hR (cc h C X Y) f_Task_tags (C + o)) : Int)) ∧ (hK (cc h C X Y) (hR (cc h C X Y) f_Task_words (C + o)) ∈ [2] ∧ 0 ≤ ((m0 + j : Nat) : Int) ∧ ((m0 + j : Nat) : Int) < (hl (cc h C X Y) (hR (cc h C X Y) f_Task_words (C + o)) : Int)) := by
      refine ⟨⟨?_, b1.1, ?_⟩, ⟨?_, b1.1, ?_⟩⟩
      · simp (decide := true) only [ccRo, ccK, KCt G ht]
      · rw [ccRo (by decide), ccl, ft.2.2.1]; exact b1.2.1
      · simp (decide := true) only [ccRo, ccK, KCt G ht]
      · rw [ccRo (by decide), ccl, ft.2.1]; exact b1.2.1
    have dd : 10 ≤ d + 10 + 1 := by omega
    have go : ¬ suB g S it (S f_Md_pileType (rr + j)) (S f_Md_pileValue (rr + j)) = true → wpB PGm ρ (d + 12) m_Machine_some 3 [(0, vR (C + 32)), (1, vI it), (3, vI (m0 : Int)), (4, vI (E : Int)), (5, vI (w32 (((m0 + j : Nat) : Int) + 1)))] [] (cc h C X Y) Q := fun z => by
      rw [w32_p1 b1.2.2.2]; exact q0 z
    refine b_Machine_some_3 (d := d + 11) ?_
    rw [w32_aa b1.2.2.1, r2, Int.toNat_natCast, t1, t2]
    refine ⟨fun c => absurd c le1, fun _ => ⟨F0.1.1, ft.1, tb.1, tb.2, r_classOf (d := d + 10) HC U.1 dd V ?_⟩⟩
    by_cases t0 : tyT S (S f_Md_pileType (rr + j)) (S f_Md_pileValue (rr + j)) = 0
    · have e0 : clA (tyT S (S f_Md_pileType (rr + j)) (S f_Md_pileValue (rr + j))) = -1 := by unfold clA; rw [if_pos t0]
      rw [e0]
      exact ⟨fun _ => go (fun c => (su.mp c).1 t0), fun c => absurd c (by decide)⟩
    · have e0 : clA (tyT S (S f_Md_pileType (rr + j)) (S f_Md_pileValue (rr + j))) = tyT S (S f_Md_pileType (rr + j)) (S f_Md_pileValue (rr + j)) := by unfold clA; rw [if_neg t0]
      have nn : 0 ≤ tyT S (S f_Md_pileType (rr + j)) (S f_Md_pileValue (rr + j)) := by
        unfold tyT
        split
        · omega
        · split
          · omega
          · split
            · split <;> omega
            · split
              · omega
              · split
                · have := cbj (by assumption); omega
                · omega
      rw [e0]
      refine ⟨fun c => absurd c (by omega), fun _ => ⟨F0.1.1, ?_⟩⟩
      rw [r3]
      refine ⟨U.1.hh.1, c_under (d := d + 10) (U.1.ccx G) (by omega) lt h8.2 (fun z => ⟨fun _ => ⟨F0.1.1, ?_⟩, fun c => absurd c (by decide)⟩) (fun z => ⟨fun c => absurd rfl c, fun _ => go (fun c => z (su.mp c).2)⟩)⟩
      rw [r2, t1, t2]
      exact ⟨ft.1, tb.1, tb.2, ans V (q1 (su.mpr ⟨t0, z⟩))⟩
  -- the operands
  have lp : ¬ (S f_Md_goesType 0 = 7 ∧ suB g S it 7 (S f_Md_goesValue 0) = true) → ∀ mm j, j + mm = E → (∀ i, i < j → ¬ suB g S it (S f_Md_pileType (rr + 1 + i)) (S f_Md_pileValue (rr + 1 + i)) = true) → wpB PGm ρ (d + 12) m_Machine_some 3 [(0, vR (C + 32)), (1, vI it), (3, vI (m0 : Int)), (4, vI (E : Int)), (5, vI ((m0 + (j + 1) : Nat) : Int))] [] (cc h C X Y) Q := fun ng mm => by
    induction mm with
    | zero =>
      intro j hj no
      have ab : abF g S rr E it = none := by
        unfold abF
        rw [List.find?_eq_none]
        intro i hi
        rw [List.mem_range] at hi
        exact no i (by omega)
      have b1 : m0 + E ≤ 2000000000 := by omega
      have le1 : ((m0 + E : Nat) : Int) < ((m0 + (j + 1) : Nat) : Int) ∧ ¬ ((m0 + (j + 1) : Nat) : Int) ≤ ((m0 + E : Nat) : Int) := by omega
      refine b_Machine_some_3 (d := d + 11) ?_
      rw [w32_aa b1]
      refine ⟨fun _ => ⟨F0.1.1, ans (ty := 0) (v := 0) ⟨rfl, rfl, Or.inl ⟨rfl, rfl⟩⟩ ?_⟩, fun c => absurd c le1.2⟩
      rw [if_neg ng, ab]
    | succ mm ih =>
      intro j hj no
      refine one (j + 1) (by omega) (fun c => absurd c (by omega)) (fun z => ?_) (fun z => ih (j + 1) (by omega) (fun i hi => ?_))
      · rw [show rr + (j + 1) = rr + 1 + j by omega] at z ⊢
        have ab : abF g S rr E it = some j := by
          unfold abF
          rw [List.find?_range_eq_some]
          refine ⟨z, by rw [List.mem_range]; omega, fun i hi => ?_⟩
          have := no i hi
          simpa using this
        rw [if_neg ng, ab]
      · by_cases c : i = j
        · rw [c, show rr + 1 + j = rr + (j + 1) by omega]; exact z
        · exact no i (by omega)
  refine b_Machine_some_0 ?_
  rcases gs with ⟨g1, g2, g3⟩ | ⟨g1, g2⟩
  · rw [if_pos g1] at sf
    subst sf
    rw [gt, gv] at lp ans one
    refine one 0 (by omega) (fun _ => g1) (fun z => ?_) (fun z => ?_)
    · rw [Nat.add_zero] at z ⊢
      rw [g2] at z
      rw [if_pos ⟨g2, z⟩]
      show (7, S f_Md_pileValue rr) = (S f_Md_pileType rr, S f_Md_pileValue rr)
      rw [g2]
    · rw [Nat.add_zero, g2] at z
      exact lp (fun c => z c.2) E 0 (by omega) (fun i hi => absurd hi (by omega))
  · rw [if_neg (by omega)] at sf
    subst sf
    rw [gt, gv] at lp
    exact lp (fun c => g2 c.1) E 0 (by omega) (fun i hi => absurd hi (by omega))
end
