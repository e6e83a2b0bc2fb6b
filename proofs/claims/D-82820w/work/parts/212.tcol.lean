/-! T: members that may be meant are collected -/
set_option maxRecDepth 20000
/-- members of a class -/
def memG (g : HG) (k : Nat) : List Nat := (List.range (g.1 4 k).toNat).map (fun i => (g.1 3 k).toNat + i)
def addC (g : HG) (w : Nat → Bool) (cs : List Nat) (m : Nat) : List Nat := if (w m && cs.all (fun q => !(decide (g.2 2 q = g.2 2 m)))) = true then cs ++ [m] else cs
def colG (g : HG) (w : Nat → Bool) (o : List Nat) : List Nat := o.foldl (fun cs k => (memG g k).foldl (addC g w) cs) []
/-- a method of a name, of a number of parameters (-1: any) -/
def wtB (g : HG) (st : Int) (L : List Int) (p : Int) (m : Nat) : Bool := decide (g.1 6 m = 1) && (decide (g.1 7 m = st) && (decide (p < 0 ∨ ((g.2 2 m).length : Int) = p) && decide (g.2 3 m = L)))
def CND (S : SS) (cs : List Nat) : Prop := S f_Md_candidates 0 = (cs.length : Int) ∧ ∀ i, i < cs.length → S f_Md_candidate i = (cs.getD i 0 : Int)
def LCN : List Nat := [f_Md_candidate, f_Md_candidates]
/-- where the members of classes are -/
def HMW (g : HG) (N M : Nat) : Prop := ∀ k, k < N → 0 ≤ g.1 3 k ∧ 0 ≤ g.1 4 k ∧ g.1 3 k + g.1 4 k ≤ (M : Int)
section
variable {ρ : Nat → Nat} {P : ah → Nat → Prop} {d : Nat} {Q : QT} {h h0 : ah} {T k n m f i j c N M b r a : Nat} {S S' S1 S2 : SS} {g : HG} {tp l o bs pf L : List Int} {v st p : Int} {ls cs : List Nat} {w : Nat → Bool}
theorem addC_ok (H : OKL M cs) (hm : m < M) : OKL M (addC g w cs m) := by
  unfold addC
  split
  · rename_i e
    simp only [Bool.and_eq_true, List.all_eq_true] at e
    exact H.add hm (fun c => by have := e.2 m c; simp at this)
  · exact H
theorem CND.add (H : CND S cs) : CND (u2 (u2 S f_Md_candidate cs.length (c : Int)) f_Md_candidates 0 ((cs.length + 1 : Nat) : Int)) (cs ++ [c]) := by
  refine ⟨?_, fun i hi => ?_⟩
  · rw [u2_s]; simp
  · rw [u2_f (by decide)]
    rw [List.length_append] at hi
    by_cases w : i = cs.length
    · subst w; rw [u2_s]; simp [List.getD_eq_getElem?_getD]
    · have hi' : i < cs.length := by simp at hi; omega
      rw [u2_e, if_neg (fun c => w c.2), H.2 i hi', List.getD_eq_getElem?_getD, List.getD_eq_getElem?_getD, List.getElem?_append_left hi']
theorem s_col134 (K : PTO ρ g N M h0 T) (H : CND S cs) (O : OKL M cs) (hm : m < M) {l2 l3 l4 l5 : Int} (q1 : cs.all (fun q => !(decide (g.2 2 q = g.2 2 m))) = true → wpB PGm ρ (d + 1) m_Md_collects 180 [(0, vR T), (2, vI l2), (3, vI l3), (4, vI l4), (5, vI l5), (6, vI (m : Int)), (7, vI 1)] [] (cn h0 T S) Q) (q0 : ¬ cs.all (fun q => !(decide (g.2 2 q = g.2 2 m))) = true → wpB PGm ρ (d + 1) m_Md_collects 180 [(0, vR T), (2, vI l2), (3, vI l3), (4, vI l4), (5, vI l5), (6, vI (m : Int)), (7, vI 0)] [] (cn h0 T S) Q) : ∀ mm j, j + mm = cs.length → (cs.take j).all (fun q => !(decide (g.2 2 q = g.2 2 m))) = true → wpB PGm ρ (d + 1) m_Md_collects 134 [(0, vR T), (2, vI l2), (3, vI l3), (4, vI l4), (5, vI l5), (6, vI (m : Int)), (7, vI 1), (8, vI (j : Int))] [] (cn h0 T S) Q := fun mm => by
  have OT := K.1.1
  have kT := OT.1
  have G := OT.2.1
  have R := K.pth.2
  have ⟨a1, a2, a3, a4, a5, a6, a7, a8⟩ := R
  have kk := a2.2
  have ln := O.len
  induction mm with
  | zero =>
    intro j hj ha
    have e : j = cs.length := by omega
    subst e
    rw [List.take_length] at ha
    have g1 := q1 ha
    refine b_Md_collects_134 ⟨kT, ?_⟩
    rw [cnI (by decide), H.1]
    exact ⟨fun _ => g1, fun z => absurd z (by omega)⟩
  | succ mm ih =>
    intro j hj ha
    have lt : j < cs.length := by omega
    have g1 := ih (j + 1) (by omega)
    have gx : cs.getD j 0 = cs[j] := by rw [List.getD_eq_getElem?_getD, List.getElem?_eq_getElem lt, Option.getD_some]
    have tk : cs.take (j + 1) = cs.take j ++ [cs.getD j 0] := by rw [gx, List.take_add_one, List.getElem?_eq_getElem lt]; rfl
    have cM : cs.getD j 0 < M := by rw [gx]; exact O.2 _ (List.getElem_mem lt)
    have er := H.2 j lt
    have b1 : 0 ≤ (j : Int) ∧ (j : Int) < ((400 : Nat) : Int) := by omega
    have m1 : j ≤ 2000000000 := by omega
    have z1 : ¬ g.2 2 (cs.getD j 0) = g.2 2 m → wpB PGm ρ (d + 1) m_Md_collects 134 [(0, vR T), (2, vI l2), (3, vI l3), (4, vI l4), (5, vI l5), (6, vI (m : Int)), (7, vI 1), (8, vI ((j + 1 : Nat) : Int))] [] (cn h0 T S) Q := fun ne => g1 (by rw [tk, List.all_append, ha, List.all_cons, List.all_nil, decide_eq_false ne]; rfl)
    have z0 : g.2 2 (cs.getD j 0) = g.2 2 m → wpB PGm ρ (d + 1) m_Md_collects 134 [(0, vR T), (2, vI l2), (3, vI l3), (4, vI l4), (5, vI l5), (6, vI (m : Int)), (7, vI 0), (8, vI ((j + 1 : Nat) : Int))] [] (cn h0 T S) Q := fun e => by
      have g0 := q0 (fun c => by
        have := List.all_eq_true.mp c (cs.getD j 0) (by rw [gx]; exact List.getElem_mem lt)
        simp only [e, decide_true, Bool.not_true] at this
        cases this)
      refine b_Md_collects_134 ⟨kT, ?_⟩
      exact ⟨fun _ => g0, fun _ => ⟨fun _ => g0, fun z => absurd rfl z⟩⟩
    have y1 : w32 ((j : Int) + 1) = ((j + 1 : Nat) : Int) := w32_p1 m1
    refine b_Md_collects_134 ⟨kT, ?_⟩
    rw [cnI (by decide), H.1]
    refine ⟨fun z => absurd z (by omega), fun _ => ⟨fun z => absurd z (by decide), fun _ => ?_⟩⟩
    have ss := s_same (ρ := ρ) (d := d) (S := S) (i := cs.getD j 0) (j := m) (Q := cI (fun x18 h13 => ((¬ x18 = 0 → wpB PGm ρ (d + 1) m_Md_collects 172 [(0, vR T), (2, vI l2), (3, vI l3), (4, vI l4), (5, vI l5), (6, vI (m : Int)), (8, vI (j : Int))] [vI 0] h13 Q) ∧ (x18 = 0 → wpB PGm ρ (d + 1) m_Md_collects 172 [(0, vR T), (2, vI l2), (3, vI l3), (4, vI l4), (5, vI l5), (6, vI (m : Int)), (8, vI (j : Int))] [vI 1] h13 Q))) (fun e16 h15 => hK h15 e16 ≠ 0 ∧ Q (Sum.inr e16) h15)) OT R cM hm (fun e => ⟨fun _ => b_Md_collects_172 (by rw [y1]; exact z0 e), fun z => absurd z (by decide)⟩) (fun e => ⟨fun z => absurd rfl z, fun _ => b_Md_collects_172 (by rw [y1]; exact z1 e)⟩)
    clear ih g1 z1 z0 a7 a8 R K q1 q0
    simp (decide := true) (disch := first | decide | omega) only [cnI, cnR, cnK, cnl, cnA' G, kT, KN G, LN G, kk, er, Int.toNat_natCast, true_and, and_true]
    exact ⟨b1, ss⟩
theorem s_col1 (H : CND S cs) (O : OKL M cs) (hM : M ≤ 400) (W : WNT S l) (hm : m < M) (hst : st = 0 ∨ st = 1) (hk : k < N) (hp : -1 ≤ p) : ∃ S', OFF LCN S S' ∧ CND S' (addC g (wtB g st l p) cs m) ∧ ∀ (d : Nat) (h0 : ah) (T : Nat) (Q : QT) (l4 : Int), PTO ρ g N M h0 T → (m : Int) < g.1 3 k + g.1 4 k → 0 ≤ g.1 3 k ∧ 0 ≤ g.1 4 k ∧ g.1 3 k + g.1 4 k ≤ (M : Int) → wpB PGm ρ (d + 2) m_Md_collects 43 [(0, vR T), (2, vI st), (3, vI p), (4, vI l4), (5, vI (k : Int)), (6, vI ((m + 1 : Nat) : Int))] [] (cn h0 T S') Q → wpB PGm ρ (d + 2) m_Md_collects 43 [(0, vR T), (2, vI st), (3, vI p), (4, vI l4), (5, vI (k : Int)), (6, vI (m : Int))] [] (cn h0 T S) Q := by
  have ln := O.len
  -- T up to the question whether it is such a member
  have fr : ∀ (d : Nat) (h0 : ah) (T : Nat) (Q : QT) (l4 : Int), PTO ρ g N M h0 T → (m : Int) < g.1 3 k + g.1 4 k → 0 ≤ g.1 3 k ∧ 0 ≤ g.1 4 k ∧ g.1 3 k + g.1 4 k ≤ (M : Int) → (wtB g st l p m = true → wpB PGm ρ (d + 2) m_Md_collects 134 [(0, vR T), (2, vI st), (3, vI p), (4, vI l4), (5, vI (k : Int)), (6, vI (m : Int)), (7, vI 1), (8, vI 0)] [] (cn h0 T S) Q) → (¬ wtB g st l p m = true → wpB PGm ρ (d + 2) m_Md_collects 134 [(0, vR T), (2, vI st), (3, vI p), (4, vI l4), (5, vI (k : Int)), (6, vI (m : Int)), (7, vI 0), (8, vI 0)] [] (cn h0 T S) Q) → wpB PGm ρ (d + 2) m_Md_collects 43 [(0, vR T), (2, vI st), (3, vI p), (4, vI l4), (5, vI (k : Int)), (6, vI (m : Int))] [] (cn h0 T S) Q := by
    intro d h0 T Q l4 K mk mb g1 g0
    have OT := K.1.1
    have kT := OT.1
    have R := K.pth.2
    have ⟨a1, a2, a3, a4, a5, a6, a7, a8⟩ := R
    obtain ⟨u1, u2', u3', u4, u5, p1, p2, p3, -⟩ := a8 m hm
    obtain ⟨r1, r2, r3, r4, r5, r6, r7, r8, r9, -⟩ := a7 k hk
    have tA := tAH (S := S) OT a2
    have tK := tKH a2.1
    have tL := tLH a2.1
    have kk := a2.2
    have m4 : 0 ≤ (m : Int) ∧ (m : Int) < ((400 : Nat) : Int) := by omega
    have k4 : 0 ≤ (k : Int) ∧ (k : Int) < ((60 : Nat) : Int) := by omega
    have n1 : ¬ g.1 3 k + g.1 4 k ≤ (m : Int) := by omega
    have x1 : g.1 6 m = 1 → g.1 7 m = st → (p < 0 ∨ ((g.2 2 m).length : Int) = p) → wpB PGm ρ (d + 2) m_Md_collects 115 [(0, vR T), (2, vI st), (3, vI p), (4, vI l4), (5, vI (k : Int)), (6, vI (m : Int))] [] (cn h0 T S) Q := fun c1 c2 c3 => by
      refine b_Md_collects_115 ⟨kT, s_isWanted OT R hm W (fun e => ⟨fun z => absurd z (by decide), fun _ => b_Md_collects_129 (g1 ?_)⟩) (fun e => ⟨fun _ => b_Md_collects_129 (g0 ?_), fun z => absurd rfl z⟩)⟩
      · unfold wtB; simp [c1, c2, c3, e]
      · unfold wtB; simp [e]
    have x2 : ¬ g.1 6 m = 1 → wpB PGm ρ (d + 2) m_Md_collects 129 [(0, vR T), (2, vI st), (3, vI p), (4, vI l4), (5, vI (k : Int)), (6, vI (m : Int))] [vI 0] (cn h0 T S) Q := fun c => b_Md_collects_129 (g0 (by unfold wtB; simp [c]))
    have x3 : ¬ g.1 7 m = st → wpB PGm ρ (d + 2) m_Md_collects 129 [(0, vR T), (2, vI st), (3, vI p), (4, vI l4), (5, vI (k : Int)), (6, vI (m : Int))] [vI 0] (cn h0 T S) Q := fun c => b_Md_collects_129 (g0 (by unfold wtB; simp [c]))
    have x4 : 0 ≤ p → ¬ ((g.2 2 m).length : Int) = p → wpB PGm ρ (d + 2) m_Md_collects 129 [(0, vR T), (2, vI st), (3, vI p), (4, vI l4), (5, vI (k : Int)), (6, vI (m : Int))] [vI 0] (cn h0 T S) Q := fun c1 c => b_Md_collects_129 (g0 (by unfold wtB; simp [c]; intro _ _ z; omega))
    have m5 : -2147483648 ≤ g.1 3 k + g.1 4 k ∧ g.1 3 k + g.1 4 k < 2147483648 := by omega
    have y1 : w32 (g.1 3 k + g.1 4 k) = g.1 3 k + g.1 4 k := w32_of m5.1 m5.2
    refine b_Md_collects_43 ?_
    clear a7 a8 g1 g0 R
    simp (decide := true) (disch := first | decide | omega) only [cnI, cnR, cnK, cnl, kT, kk, tA, tK, tL, r8, r9, u2', u3', p1, y1, n1, mk, Int.toNat_natCast, true_and, and_true, false_implies, forall_const]
    exact ⟨k4, k4, m4, fun c => x2 c, fun c1 => ⟨m4, fun c => x3 c, fun c2 => ⟨fun c3 => x1 c1 c2 (Or.inl c3), fun c3 => ⟨m4, fun c => x4 c3 c, fun c4 => x1 c1 c2 (Or.inr c4)⟩⟩⟩⟩
  have m1 : m ≤ 2000000000 := by omega
  have s0 : ∀ (d : Nat) (h0 : ah) (T : Nat) (Q : QT) (l4 : Int), wpB PGm ρ (d + 2) m_Md_collects 43 [(0, vR T), (2, vI st), (3, vI p), (4, vI l4), (5, vI (k : Int)), (6, vI ((m + 1 : Nat) : Int))] [] (cn h0 T S) Q → wpB PGm ρ (d + 2) m_Md_collects 180 [(0, vR T), (2, vI st), (3, vI p), (4, vI l4), (5, vI (k : Int)), (6, vI (m : Int)), (7, vI 0)] [] (cn h0 T S) Q := fun d h0 T Q l4 q => b_Md_collects_180 ⟨fun _ => by rw [w32_p1 m1]; exact q, fun z => absurd rfl z⟩
  by_cases ww : wtB g st l p m = true
  · by_cases wa : cs.all (fun q => !(decide (g.2 2 q = g.2 2 m))) = true
    · have hn : cs.length < 400 := by
        have := (O.add hm (c := m) (fun c => by have := List.all_eq_true.mp wa m c; simp at this)).len
        rw [List.length_append] at this; simp at this; omega
      refine ⟨u2 (u2 S f_Md_candidate cs.length (m : Int)) f_Md_candidates 0 ((cs.length + 1 : Nat) : Int), (OFF.rf.u (by decide)).u (by decide), by unfold addC; rw [if_pos (by rw [ww, wa]; rfl)]; exact H.add, fun d h0 T Q l4 K mk mb q => fr d h0 T Q l4 K mk mb (fun _ => ?_) (fun z => absurd ww z)⟩
      refine s_col134 (d := d + 1) K H O hm (fun _ => ?_) (fun z => absurd wa z) cs.length 0 (by omega) (by simp)
      have OT := K.1.1
      have kT := OT.1
      have G := OT.2.1
      have e1 := H.1
      have b1 : 0 ≤ (cs.length : Int) ∧ (cs.length : Int) < ((400 : Nat) : Int) := by omega
      have y1 : w32 ((m : Int) + 1) = ((m + 1 : Nat) : Int) := w32_p1 m1
      have y2 : w32 ((cs.length : Int) + 1) = ((cs.length + 1 : Nat) : Int) := w32_p1 (by omega)
      refine b_Md_collects_180 ⟨fun z => absurd z (by decide), fun _ => ?_⟩
      clear fr s0 K W mb
      simp (decide := true) (disch := first | decide | omega) only [cnI, cnR, cnK, cnl, cnA' G, cn_sA' G, cn_sI, kT, KN G, LN G, e1, y1, y2, u2_f, Int.toNat_natCast, true_and, and_true]
      exact ⟨b1, q⟩
    · refine ⟨S, OFF.rf, by unfold addC; rw [if_neg (by rw [ww]; simpa using wa)]; exact H, fun d h0 T Q l4 K mk mb q => fr d h0 T Q l4 K mk mb (fun _ => ?_) (fun z => absurd ww z)⟩
      exact s_col134 (d := d + 1) K H O hm (fun z => absurd z wa) (fun _ => s0 d h0 T Q l4 q) cs.length 0 (by omega) (by simp)
  · refine ⟨S, OFF.rf, by unfold addC; rw [if_neg (by simp [ww])]; exact H, fun d h0 T Q l4 K mk mb q => fr d h0 T Q l4 K mk mb (fun z => absurd z ww) (fun _ => ?_)⟩
    have kT := K.1.1.1
    refine b_Md_collects_134 (d := d + 1) ⟨kT, ?_⟩
    rw [cnI (by decide), H.1]
    exact ⟨fun _ => s0 d h0 T Q l4 q, fun _ => ⟨fun _ => s0 d h0 T Q l4 q, fun z => absurd rfl z⟩⟩
end
