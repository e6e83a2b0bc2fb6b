/-! the builtin make: joined -/
set_option maxRecDepth 20000
section
variable {ρ : Nat → Nat} {P : ah → Nat → Prop} {d : Nat} {Q : QT} {Γ Γ' : GH} {h h0 h1 h' : ah} {C ho T : Nat} {X X' X1 X2 : X3} {Y Y' : Y3} {S S' S1 S2 : SS} {N t o n c r f i j k m z s n' pu po p tn w sn mk rm l6 : Nat} {ty v x y op a b p' pT : Int} {L : List Nat}
theorem op_MAKE (hP : ∀ h0 T, P h0 T → TOK h0 T) (HC : CORE Γ h C ho X Y S N) (H : OPH Γ h C X Y S N t o n c r) (O : OPT Γ S (fsS S t (c - 1)) (psS S t (c - 1)) 28 1 b) (D : DF S t n c (fsS S t (c - 1)) (psS S t (c - 1)) k 28 1 b) (hh : n = bsS S t (c - 1) + ghs Γ (fsS S t (c - 1)) (psS S t (c - 1))) : OPF ρ P Γ h C ho X Y S N 28 1 b := by
  obtain ⟨-, -, v1, nx⟩ := O.2.2.2.2.2.2.2.2.2.2.2.2.2.2.2.2.2.1 rfl
  have bw : bwN 1 = 1 := rfl
  rw [bw] at v1 nx
  have d2 := D.2.1
  have n1 : 1 ≤ n := by omega
  have V := H.pl (i := n - 1) (by omega)
  have ⟨VO1, VE⟩ := V.obj HC.2.2.2.2.2.2.2.2.2.1 (h := h) (C := C)
  have T7 := HC.2.2.2.2.2.2.2.2.2.1
  obtain ⟨tn, sn, c1, c2, c3, c4, c5, c6, c6', c7, c8, -⟩ := T7
  have M7 := HC.2.2.2.2.2.2.2.2.1
  obtain ⟨mk, rm, sm, tk, ck, sk, vk, hk, gk, ⟨a1, a2, a3⟩, ⟨b1, b2, b3⟩, -, ⟨d1, -, -, d4⟩, -, -, -⟩ := M7
  have I := H.ix
  have VV : X o f_Task_tags (n - 1) = 4 ∨ X o f_Task_tags (n - 1) = 5 → 0 ≤ X o f_Task_words (n - 1) ∧ X o f_Task_words (n - 1) < (tn : Int) ∧ hK h (hB h (C + 51) (X o f_Task_words (n - 1)).toNat) ∈ [244, 245] := fun w => by
    obtain ⟨a1, a2, a3, a4, a5, a6⟩ := VO1 w
    exact ⟨by omega, by omega, a5⟩
  have kS : ∀ {h' : ah} {X' : X3}, FC h' C → hK (cc h' C X' Y) (C + 33) ≠ 0 := fun {h' X'} F' => by rw [ccK, F'.1.2.1]; decide
  intro d Q q
  by_cases w : X o f_Task_tags (n - 1) = 0 ∨ X o f_Task_tags (n - 1) = 4 ∨ X o f_Task_tags (n - 1) = 5
  · -- a prototype, or null
    have hv : ∃ pT, mkOK (S f_Md_pileType (2100 * t + (n - 1))) (S f_Md_pileValue (2100 * t + (n - 1))) pT ∧ ((obA h C (X o f_Task_tags (n - 1)) (X o f_Task_words (n - 1)) = 0 ∧ pT = -1) ∨ ∃ k : Nat, obA h C (X o f_Task_tags (n - 1)) (X o f_Task_words (n - 1)) = hB h (C + 51) k ∧ pT = (k : Int) ∧ (k : Int) < S f_Md_things 0 ∧ (S f_Md_thingKind k = 4 ∨ S f_Md_thingKind k = 5)) := by
      rcases w with w | w
      · exact ⟨-1, Or.inl ⟨by rw [← VE]; exact w, rfl⟩, Or.inl ⟨if_neg (by omega), rfl⟩⟩
      · obtain ⟨x1, x2, x3, x4, x5, x6⟩ := VO1 w
        refine ⟨S f_Md_pileValue (2100 * t + (n - 1)), Or.inr ⟨by rw [← VE]; exact w, rfl, x2, by omega⟩, Or.inr ⟨(S f_Md_pileValue (2100 * t + (n - 1))).toNat, ?_, by omega, by omega, by rw [x4]; exact w⟩⟩
        have : obA h C (X o f_Task_tags (n - 1)) (X o f_Task_words (n - 1)) = hB h (C + 51) (X o f_Task_words (n - 1)).toNat := if_pos w
        rw [this, x1]
    obtain ⟨pT, hv, hl6⟩ := hv
    have w' : S f_Md_pileType (2100 * t + (n - 1)) = 0 ∨ S f_Md_pileType (2100 * t + (n - 1)) = 4 ∨ S f_Md_pileType (2100 * t + (n - 1)) = 5 := by rw [← VE]; exact w
    refine r_MAKE HC I n1 c3 c6 VV (fun z => (VO1 z).2.2.2.2.2) (fun _ => ?_) (fun z => absurd w z)
    refine r_MAKE1 (d := d + 29) HC I (by omega) hl6 a1 b1 a3 b3 c1 (fun rm1 r S1 h' X' tc eo mo V4 => ?_) (fun rm1 tc => ?_) (fun rm1 => ?_)
    · have e1 : mobS S1 tn mk r f_Md_height t = (n : Int) := by
        rw [show mobS S1 tn mk r f_Md_height t = S f_Md_height t from mo.2.2.2.2.1 _ _ (by decide)]; exact D.1.2.2.2.1
      refine q none (atS (putS (mobS S1 tn mk r) (2100 * t + (n - 1)) 4 (tn : Int)) t c ((psS S t (c - 1) + 1 : Nat) : Int)) _ _ _ (fun d h0 T Q p q => s_MAKE0 (hP _ _ p) D n1 (fun _ => s_MAKE1 (hP _ _ p) D n1 a2 a3 c1 (by omega) hv (fun _ => tc) (fun r' S1' e => by cases e; exact eo) (fun _ r' S1' e => by cases e; exact q) (fun z => by
          rcases z with z | z
          · exact absurd rm1 z
          · cases z)) (fun z => absurd w' z)) ?_
      rw [pshA_e e1 n1]
      obtain ⟨⟨c0, c0'⟩, g, bd, ⟨z, s, fr⟩, o0, x0⟩ := mo
      refine RLC.ans H nx c0 (c0' H.2.2.1) g (exs_of o0 (by decide)) (fun f i hf => o0 f i ?_) (fun o' f i hf => x0 o' f i ?_) fr bd V4 (by omega) (by omega)
      · cases q : (LSH ++ LNT).elem f with
        | false => rfl
        | true =>
          have e : (LSH ++ LNT).all (fun f => LSc.elem f) = true := by decide
          rw [List.all_eq_true.mp e f (by simpa only [List.elem_eq_mem, decide_eq_true_eq] using q)] at hf; cases hf
      · cases q : [f_Heap_shapesMade, f_Heap_made].elem f with
        | false => rfl
        | true =>
          have e : [f_Heap_shapesMade, f_Heap_made].all (fun f => LXc.elem f) = true := by decide
          rw [List.all_eq_true.mp e f (by simpa using q)] at hf; cases hf
    · have fr0 : Fr [] [] 1 8 h (hn h k_Obj 8 0) := (Fr.r0.new (k := k_Obj) (n := 8) (m := 0)).le (by omega) (by omega)
      obtain ⟨⟨c0, c0'⟩, g0, bd0⟩ := HC.al fr0
      refine ⟨kS c0.1.2, q (some 0) (erS S 99) _ _ _ (fun d h0 T Q p q => s_MAKE0 (hP _ _ p) D n1 (fun _ => s_MAKE1 (hP _ _ p) D n1 a2 a3 c1 (by omega) hv (fun _ => tc) (fun r' S1' e => by cases e) (fun _ r' S1' e => by cases e) (fun _ => q)) (fun z => absurd w' z)) ?_⟩
      exact RLC.mem (v := 0) (x := 99) H c0 (c0' H.2.2.1) g0 (bd0.le (by decide) (by decide)) (fun _ _ _ => rfl) (fun _ _ _ _ => rfl) (fr0.mono (L' := LHc) (P' := []) (fun f q => by cases q) (fun q hq => hq)) (Or.inl ⟨rfl, rfl⟩)
    · refine ⟨kS H.2.1, q (some 0) (erS S 99) _ _ _ (fun d h0 T Q p q => s_MAKE0 (hP _ _ p) D n1 (fun _ => s_MAKE1 (e := none) (hP _ _ p) D n1 a2 a3 c1 (by omega) hv (fun z => absurd z rm1) (fun r' S1' e => by cases e) (fun _ r' S1' e => by cases e) (fun _ => q)) (fun z => absurd w' z)) ?_⟩
      exact RLC.mem (v := 0) (x := 99) H HC H.2.2.1 GRO.rf (BND.rf.le (by decide) (by decide)) (fun _ _ _ => rfl) (fun _ _ _ _ => rfl) (Fr.r0 (L := LHc) (P := [])) (Or.inl ⟨rfl, rfl⟩)
  · have w' : ¬ (S f_Md_pileType (2100 * t + (n - 1)) = 0 ∨ S f_Md_pileType (2100 * t + (n - 1)) = 4 ∨ S f_Md_pileType (2100 * t + (n - 1)) = 5) := by rw [← VE]; exact w
    refine r_MAKE HC I n1 c3 c6 VV (fun z => (VO1 z).2.2.2.2.2) (fun z => absurd z w) (fun _ => ?_)
    refine q (some 12) (erS S 12) _ _ _ (fun d h0 T Q p q => s_MAKE0 (hP _ _ p) D n1 (fun z => absurd z w') (fun _ => q)) ?_
    exact RLC.mem (v := 12) (x := 12) H HC H.2.2.1 GRO.rf (BND.rf.le (by decide) (by decide)) (fun _ _ _ => rfl) (fun _ _ _ _ => rfl) (Fr.r0 (L := LHc) (P := [])) (Or.inr ⟨by decide, rfl⟩)
end
