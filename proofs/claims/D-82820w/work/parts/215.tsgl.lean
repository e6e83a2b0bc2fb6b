/-! T: the one that is called -/
set_option maxRecDepth 20000
def mstB (g : HG) (ph : Nat) (ts : List Int) (cs : List Nat) (m : Nat) : Bool := fitB g ph ts m && cs.all (fun o => decide (o = m) || (!(fitB g ph ts o) || morB g ph ts m o))
def phG (g : HG) (ts : List Int) (cs : List Nat) (ph : Nat) : Option Int := if cs.any (fitB g ph ts) = true then some (if (cs.filter (mstB g ph ts cs)).length = 1 then ((cs.filter (mstB g ph ts cs)).getLastD 0 : Int) else -8) else none
def sglG (g : HG) (ts : List Int) (cs : List Nat) : Int := (phG g ts cs 1).getD ((phG g ts cs 2).getD ((phG g ts cs 3).getD (-9)))
section
variable {ρ : Nat → Nat} {P : ah → Nat → Prop} {d : Nat} {Q : QT} {h h0 : ah} {T k n m f i j c N M b r a ph : Nat} {S S' S1 S2 : SS} {g : HG} {tp l o bs pf L ts : List Int} {v st p x y : Int} {ls cs : List Nat} {w : Nat → Bool}
theorem take_last (hj : j < cs.length) (w : Nat → Bool) : (cs.take (j + 1)).filter w = (cs.take j).filter w ++ (if w (cs.getD j 0) = true then [cs.getD j 0] else []) := by
  have gx : cs.getD j 0 = cs[j] := by rw [List.getD_eq_getElem?_getD, List.getElem?_eq_getElem hj, Option.getD_some]
  have tk : cs.take (j + 1) = cs.take j ++ [cs.getD j 0] := by rw [gx, List.take_add_one, List.getElem?_eq_getElem hj]; rfl
  rw [tk, List.filter_append]
  congr 1
  split
  · rename_i e; rw [List.filter_cons_of_pos e]; rfl
  · rename_i e; rw [List.filter_cons_of_neg e]; rfl
/-- is it more special than all others -/
theorem s_sgl50 (K : PTO ρ g N M h0 T) (W : HPW g N M) (Y : TYS S N ts) (C1 : CND S cs) (O : OKL M cs) (hp : 1 ≤ ph ∧ ph ≤ 3) (hj : j < cs.length) (fj : fitB g ph ts (cs.getD j 0) = true) {l2 l3 l4 : Int} (hd : 10 ≤ d) (q1 : mstB g ph ts cs (cs.getD j 0) = true → wpB PGm ρ (d + 4) m_Md_single 121 [(0, vR T), (1, vI (ph : Int)), (2, vI l2), (3, vI l3), (4, vI l4), (5, vI (j : Int)), (6, vI 1)] [] (cn h0 T S) Q) (q0 : ¬ mstB g ph ts cs (cs.getD j 0) = true → wpB PGm ρ (d + 4) m_Md_single 121 [(0, vR T), (1, vI (ph : Int)), (2, vI l2), (3, vI l3), (4, vI l4), (5, vI (j : Int)), (6, vI 0)] [] (cn h0 T S) Q) : ∀ mm x, x + mm = cs.length → (cs.take x).all (fun o => decide (o = cs.getD j 0) || (!(fitB g ph ts o) || morB g ph ts (cs.getD j 0) o)) = true → wpB PGm ρ (d + 4) m_Md_single 50 [(0, vR T), (1, vI (ph : Int)), (2, vI l2), (3, vI l3), (4, vI l4), (5, vI (j : Int)), (6, vI 1), (7, vI (x : Int))] [] (cn h0 T S) Q := fun mm => by
  have OT := K.1.1
  have kT := OT.1
  have G := OT.2.1
  have ln := O.len
  have R := K.pth.2
  have M4 := R.2.2.2.2.2.1
  have gj : cs.getD j 0 = cs[j] := by rw [List.getD_eq_getElem?_getD, List.getElem?_eq_getElem hj, Option.getD_some]
  have jM : cs.getD j 0 < M := by rw [gj]; exact O.2 _ (List.getElem_mem hj)
  have ej := C1.2 j hj
  have b2 : 0 ≤ (j : Int) ∧ (j : Int) < ((400 : Nat) : Int) := by omega
  induction mm with
  | zero =>
    intro x hx ha
    have e : x = cs.length := by omega
    subst e
    rw [List.take_length] at ha
    refine b_Md_single_50 ⟨kT, ?_⟩
    rw [cnI (by decide), C1.1]
    exact ⟨fun _ => q1 (by unfold mstB; rw [fj, ha]; rfl), fun z => absurd z (by omega)⟩
  | succ mm ih =>
    intro x hx ha
    have lt : x < cs.length := by omega
    have gx : cs.getD x 0 = cs[x] := by rw [List.getD_eq_getElem?_getD, List.getElem?_eq_getElem lt, Option.getD_some]
    have tk : cs.take (x + 1) = cs.take x ++ [cs.getD x 0] := by rw [gx, List.take_add_one, List.getElem?_eq_getElem lt]; rfl
    have xM : cs.getD x 0 < M := by rw [gx]; exact O.2 _ (List.getElem_mem lt)
    have ex := C1.2 x lt
    have b1 : 0 ≤ (x : Int) ∧ (x : Int) < ((400 : Nat) : Int) := by omega
    have m1 : x ≤ 2000000000 := by omega
    have nd : ∀ (_ : cs.getD x 0 = cs.getD j 0), x = j := fun e => (List.getElem_inj O.1).mp (by rw [← gx, ← gj]; exact e)
    have z1 : (decide (cs.getD x 0 = cs.getD j 0) || (!(fitB g ph ts (cs.getD x 0)) || morB g ph ts (cs.getD j 0) (cs.getD x 0))) = true → wpB PGm ρ (d + 4) m_Md_single 113 [(0, vR T), (1, vI (ph : Int)), (2, vI l2), (3, vI l3), (4, vI l4), (5, vI (j : Int)), (7, vI (x : Int))] [vI 1] (cn h0 T S) Q := fun e => b_Md_single_113 (by
      rw [w32_p1 m1]
      exact ih (x + 1) (by omega) (by rw [tk, List.all_append, ha, List.all_cons, List.all_nil, e]; rfl))
    have z0 : ¬ (decide (cs.getD x 0 = cs.getD j 0) || (!(fitB g ph ts (cs.getD x 0)) || morB g ph ts (cs.getD j 0) (cs.getD x 0))) = true → wpB PGm ρ (d + 4) m_Md_single 113 [(0, vR T), (1, vI (ph : Int)), (2, vI l2), (3, vI l3), (4, vI l4), (5, vI (j : Int)), (7, vI (x : Int))] [vI 0] (cn h0 T S) Q := fun e => by
      have nf := q0 (fun c => by
        unfold mstB at c
        simp only [Bool.and_eq_true] at c
        exact e (List.all_eq_true.mp c.2 (cs.getD x 0) (by rw [gx]; exact List.getElem_mem lt)))
      exact b_Md_single_113 (b_Md_single_50 ⟨kT, fun _ => nf, fun _ => ⟨fun _ => nf, fun z => absurd rfl z⟩⟩)
    have n1 : ¬ (cs.length : Int) ≤ (x : Int) := by omega
    have n2 : (x : Int) < (cs.length : Int) := by omega
    have n3 : ¬ (x : Int) = (j : Int) → ¬ cs.getD x 0 = cs.getD j 0 := fun z c => z (by have := nd c; omega)
    have n4 : (x : Int) = (j : Int) → cs.getD x 0 = cs.getD j 0 := fun z => by rw [show x = j by omega]
    have e1 := C1.1
    have gF : ¬ (x : Int) = (j : Int) → wpB PGm ρ (d + 3) m_Md_fitsIn 0 [(0, vR T), (1, vI ((cs.getD x 0 : Nat) : Int)), (2, vI (ph : Int))] [] (cn h0 T S) (cI (fun x22 h17 => ((x22 = 0 → wpB PGm ρ (d + 4) m_Md_single 113 [(0, vR T), (1, vI (ph : Int)), (2, vI l2), (3, vI l3), (4, vI l4), (5, vI (j : Int)), (7, vI (x : Int))] [vI 1] h17 Q) ∧ (¬ x22 = 0 → hK h17 T = k_Md ∧ (hK h17 (hR h17 f_Md_candidate T) ∈ [1, 11] ∧ 0 ≤ (j : Int) ∧ (j : Int) < (hl h17 (hR h17 f_Md_candidate T) : Int)) ∧ (hK h17 (hR h17 f_Md_candidate T) ∈ [1, 11] ∧ 0 ≤ (x : Int) ∧ (x : Int) < (hl h17 (hR h17 f_Md_candidate T) : Int)) ∧ wpB PGm ρ (d + 3) m_Md_isMoreSpecific 0 [(0, vR T), (1, vI (hA h17 (hR h17 f_Md_candidate T) (j : Int).toNat)), (2, vI (hA h17 (hR h17 f_Md_candidate T) (x : Int).toNat)), (3, vI (ph : Int))] [] h17 (cI (fun x36 h31 => ((x36 = 0 → wpB PGm ρ (d + 4) m_Md_single 113 [(0, vR T), (1, vI (ph : Int)), (2, vI l2), (3, vI l3), (4, vI l4), (5, vI (j : Int)), (7, vI (x : Int))] [vI 0] h31 Q) ∧ (¬ x36 = 0 → wpB PGm ρ (d + 4) m_Md_single 113 [(0, vR T), (1, vI (ph : Int)), (2, vI l2), (3, vI l3), (4, vI l4), (5, vI (j : Int)), (7, vI (x : Int))] [vI 1] h31 Q))) (fun e34 h33 => hK h33 e34 ≠ 0 ∧ Q (Sum.inr e34) h33))))) (fun e20 h19 => hK h19 e20 ≠ 0 ∧ Q (Sum.inr e20) h19)) := fun ne => by
      refine s_fitsIn K W xM Y hp (fun fx => ⟨fun z => absurd z (by decide), fun _ => ?_⟩) (fun fx => ⟨fun _ => z1 (by rw [Bool.not_eq_true] at fx; rw [fx, Bool.not_false, Bool.true_or, Bool.or_true]), fun z => absurd rfl z⟩)
      have gm := s_more (ρ := ρ) (d := d + 2) (S := S) (Q := cI (fun x36 h31 => ((x36 = 0 → wpB PGm ρ (d + 4) m_Md_single 113 [(0, vR T), (1, vI (ph : Int)), (2, vI l2), (3, vI l3), (4, vI l4), (5, vI (j : Int)), (7, vI (x : Int))] [vI 0] h31 Q) ∧ (¬ x36 = 0 → wpB PGm ρ (d + 4) m_Md_single 113 [(0, vR T), (1, vI (ph : Int)), (2, vI l2), (3, vI l3), (4, vI l4), (5, vI (j : Int)), (7, vI (x : Int))] [vI 1] h31 Q))) (fun e34 h33 => hK h33 e34 ≠ 0 ∧ Q (Sum.inr e34) h33)) K W jM xM Y hp fj fx (by omega) (fun z => ⟨fun e => absurd e (by decide), fun _ => z1 (by rw [z, Bool.or_true, Bool.or_true])⟩) (fun z => ⟨fun _ => z0 (by rw [decide_eq_false (n3 ne), fx, Bool.false_or, Bool.not_true, Bool.false_or]; exact z), fun e => absurd rfl e⟩)
      clear ih z1 z0 W K R q1 q0 ha gj
      generalize cs.getD x 0 = cx at *
      generalize cs.getD j 0 = cj at *
      simp (decide := true) (disch := first | decide | omega) only [cnI, cnR, cnK, cnl, cnA' G, kT, KN G, LN G, ej, ex, Int.toNat_natCast, true_and, and_true]
      exact ⟨b2, b1, gm⟩
    have g1 : (x : Int) = (j : Int) → wpB PGm ρ (d + 4) m_Md_single 113 [(0, vR T), (1, vI (ph : Int)), (2, vI l2), (3, vI l3), (4, vI l4), (5, vI (j : Int)), (7, vI (x : Int))] [vI 1] (cn h0 T S) Q := fun z => z1 (by rw [decide_eq_true (n4 z)]; rfl)
    refine b_Md_single_50 (d := d + 3) ⟨kT, ?_⟩
    clear ih z1 z0 W K R q1 q0 ha gj n3 n4 nd tk gx
    generalize cs.getD x 0 = cx at *
    simp (decide := true) (disch := first | decide | omega) only [cI, cnI, cnR, cnK, cnl, cnA' G, kT, KN G, LN G, e1, ex, n1, n2, Int.toNat_natCast, true_and, and_true, false_implies, forall_const]
    exact ⟨fun z => g1 z, fun z => ⟨b1, gF z⟩⟩
theorem s_sgl17 (K : PTO ρ g N M h0 T) (W : HPW g N M) (Y : TYS S N ts) (C1 : CND S cs) (O : OKL M cs) (hp : 1 ≤ ph ∧ ph ≤ 3) (hd : 10 ≤ d) (q1 : ∀ v, phG g ts cs ph = some v → Q (Sum.inl (some (vI v))) (cn h0 T S)) (q0 : phG g ts cs ph = none → wpB PGm ρ (d + 4) m_Md_single 2 [(0, vR T), (1, vI ((ph + 1 : Nat) : Int))] [] (cn h0 T S) Q) : ∀ mm j, j + mm = cs.length → wpB PGm ρ (d + 4) m_Md_single 17 [(0, vR T), (1, vI (ph : Int)), (2, vI (((cs.take j).filter (fitB g ph ts)).length : Int)), (3, vI (((cs.take j).filter (mstB g ph ts cs)).length : Int)), (4, vI (if (cs.take j).filter (mstB g ph ts cs) = [] then -1 else (((cs.take j).filter (mstB g ph ts cs)).getLastD 0 : Int))), (5, vI (j : Int))] [] (cn h0 T S) Q := fun mm => by
  have OT := K.1.1
  have kT := OT.1
  have G := OT.2.1
  have ln := O.len
  have M4 := K.pth.2.2.2.2.2.2.1
  induction mm with
  | zero =>
    intro j hj
    rw [List.take_of_length_le (by omega)]
    refine b_Md_single_17 ⟨kT, ?_⟩
    rw [cnI (by decide), C1.1]
    refine ⟨fun _ => ⟨fun z => ?_, fun z => ⟨fun e => ?_, fun e => ?_⟩⟩, fun z => absurd z (by omega)⟩
    · rw [w32_p1 (by omega)]
      refine q0 ?_
      unfold phG
      rw [if_neg (fun c => ?_)]
      obtain ⟨x, hx, fx⟩ := List.any_eq_true.mp c
      have : x ∈ cs.filter (fitB g ph ts) := List.mem_filter.mpr ⟨hx, fx⟩
      have := List.length_pos_of_mem this
      omega
    all_goals
      have an : cs.any (fitB g ph ts) = true := by
        cases e : cs.filter (fitB g ph ts) with
        | nil => rw [e] at z; simp at z
        | cons x r =>
          have hx : x ∈ cs.filter (fitB g ph ts) := by rw [e]; exact List.mem_cons_self ..
          exact List.any_eq_true.mpr ⟨x, (List.mem_filter.mp hx).1, (List.mem_filter.mp hx).2⟩
      refine q1 _ ?_
      unfold phG
      rw [if_pos an]
    · rw [if_neg (by omega)]
    · have e' : (cs.filter (mstB g ph ts cs)).length = 1 := by omega
      rw [if_pos e', if_neg (fun c => by rw [c] at e'; simp at e')]
  | succ mm ih =>
    intro j hj
    have lt : j < cs.length := by omega
    have gx : cs.getD j 0 = cs[j] := by rw [List.getD_eq_getElem?_getD, List.getElem?_eq_getElem lt, Option.getD_some]
    have jM : cs.getD j 0 < M := by rw [gx]; exact O.2 _ (List.getElem_mem lt)
    have ej := C1.2 j lt
    have g1 := ih (j + 1) (by omega)
    have lF : ((cs.take j).filter (fitB g ph ts)).length ≤ 400 := Nat.le_trans (List.length_filter_le ..) (by rw [List.length_take]; omega)
    have lM : ((cs.take j).filter (mstB g ph ts cs)).length ≤ 400 := Nat.le_trans (List.length_filter_le ..) (by rw [List.length_take]; omega)
    rw [take_last lt, take_last lt] at g1
    have b1 : 0 ≤ (j : Int) ∧ (j : Int) < ((400 : Nat) : Int) := by omega
    have m1 : j ≤ 2000000000 := by omega
    have e1 := C1.1
    have gF : wpB PGm ρ (d + 3) m_Md_fitsIn 0 [(0, vR T), (1, vI ((cs.getD j 0 : Nat) : Int)), (2, vI (ph : Int))] [] (cn h0 T S) (cI (fun x22 h17 => ((x22 = 0 → wpB PGm ρ (d + 4) m_Md_single 17 [(0, vR T), (1, vI (ph : Int)), (2, vI (((cs.take j).filter (fitB g ph ts)).length : Int)), (3, vI (((cs.take j).filter (mstB g ph ts cs)).length : Int)), (4, vI (if (cs.take j).filter (mstB g ph ts cs) = [] then -1 else (((cs.take j).filter (mstB g ph ts cs)).getLastD 0 : Int))), (5, vI (w32 ((j : Int) + 1)))] [] h17 Q) ∧ (¬ x22 = 0 → wpB PGm ρ (d + 4) m_Md_single 50 [(0, vR T), (1, vI (ph : Int)), (2, vI (w32 ((((cs.take j).filter (fitB g ph ts)).length : Int) + 1))), (3, vI (((cs.take j).filter (mstB g ph ts cs)).length : Int)), (4, vI (if (cs.take j).filter (mstB g ph ts cs) = [] then -1 else (((cs.take j).filter (mstB g ph ts cs)).getLastD 0 : Int))), (5, vI (j : Int)), (6, vI 1), (7, vI 0)] [] h17 Q))) (fun e20 h19 => hK h19 e20 ≠ 0 ∧ Q (Sum.inr e20) h19)) := by
      refine s_fitsIn K W jM Y hp (fun fx => ⟨fun z => absurd z (by decide), fun _ => ?_⟩) (fun fx => ⟨fun _ => ?_, fun z => absurd rfl z⟩)
      · rw [if_pos fx, List.length_append] at g1
        rw [w32_p1 (by omega)]
        refine s_sgl50 K W Y C1 O hp lt fx hd (fun z => ?_) (fun z => ?_) cs.length 0 (by omega) (by simp)
        · rw [if_pos z, List.length_append] at g1
          refine b_Md_single_121 ⟨fun e => absurd e (by decide), fun _ => b_Md_single_132 ⟨fun e => absurd e (by decide), fun _ => ?_⟩⟩
          have y1 : w32 ((((cs.take j).filter (mstB g ph ts cs)).length : Int) + 1) = ((((cs.take j).filter (mstB g ph ts cs)).length + 1 : Nat) : Int) := w32_p1 (by omega)
          have y2 : w32 ((j : Int) + 1) = ((j + 1 : Nat) : Int) := w32_p1 m1
          rw [y1, y2]
          rw [if_neg (by simp), List.getLastD_eq_getLast?] at g1
          simp only [List.getLast?_append, List.getLast?_singleton, Option.some_or, Option.getD_some, List.length_singleton] at g1
          clear ih W K Y
          generalize cs.getD j 0 = cj at *
          simp (decide := true) (disch := first | decide | omega) only [cnI, cnR, cnK, cnl, cnA' G, kT, KN G, LN G, ej, Int.toNat_natCast, true_and, and_true]
          exact ⟨b1, g1⟩
        · rw [if_neg z, List.append_nil] at g1
          refine b_Md_single_121 ⟨fun _ => b_Md_single_132 ⟨fun _ => ?_, fun e => absurd rfl e⟩, fun e => absurd rfl e⟩
          rw [w32_p1 m1, Int.add_zero, w32_of (by omega) (by omega)]
          exact g1
      · have nm : ¬ mstB g ph ts cs (cs.getD j 0) = true := fun c => by
          unfold mstB at c
          simp only [Bool.and_eq_true] at c
          exact fx c.1
        rw [if_neg fx, if_neg nm, List.append_nil, List.append_nil] at g1
        rw [w32_p1 m1]; exact g1
    have n1 : ¬ (cs.length : Int) ≤ (j : Int) := by omega
    have n2 : (j : Int) < (cs.length : Int) := by omega
    refine b_Md_single_17 ⟨kT, ?_⟩
    clear ih W K Y g1 gx jM q1 q0 lF lM
    generalize ((cs.take j).filter (fitB g ph ts)).length = FF at *
    generalize ((cs.take j).filter (mstB g ph ts cs)).length = MM at *
    generalize (if (cs.take j).filter (mstB g ph ts cs) = [] then (-1 : Int) else (((cs.take j).filter (mstB g ph ts cs)).getLastD 0 : Int)) = LL at *
    generalize cs.getD j 0 = cj at *
    simp (decide := true) (disch := first | decide | omega) only [cnI, cnR, cnK, cnl, cnA' G, kT, KN G, LN G, e1, ej, n1, n2, Int.toNat_natCast, true_and, and_true, false_implies, forall_const]
    exact ⟨b1, gF⟩
theorem s_single (K : PTO ρ g N M h0 T) (W : HPW g N M) (Y : TYS S N ts) (C1 : CND S cs) (O : OKL M cs) (q : Q (Sum.inl (some (vI (sglG g ts cs)))) (cn h0 T S)) : wpB PGm ρ (d + 14) m_Md_single 0 [(0, vR T)] [] (cn h0 T S) Q := by
  unfold sglG at q
  have s : ∀ ph : Nat, 1 ≤ ph ∧ ph ≤ 3 → (∀ v, phG g ts cs ph = some v → Q (Sum.inl (some (vI v))) (cn h0 T S)) → (phG g ts cs ph = none → wpB PGm ρ (d + 14) m_Md_single 2 [(0, vR T), (1, vI ((ph + 1 : Nat) : Int))] [] (cn h0 T S) Q) → wpB PGm ρ (d + 14) m_Md_single 2 [(0, vR T), (1, vI (ph : Int))] [] (cn h0 T S) Q := fun ph hp q1 q0 => b_Md_single_2 ⟨fun z => absurd z (by omega), fun _ => s_sgl17 (d := d + 10) K W Y C1 O hp (by omega) q1 q0 cs.length 0 (by omega)⟩
  refine b_Md_single_0 (s 1 (by decide) (fun v e => by rw [e] at q; exact q) (fun e1 => s 2 (by decide) (fun v e => by rw [e1, e] at q; exact q) (fun e2 => s 3 (by decide) (fun v e => by rw [e1, e2, e] at q; exact q) (fun e3 => b_Md_single_2 ⟨fun _ => by rw [e1, e2, e3] at q; exact q, fun z => absurd z (by decide)⟩))))
end
