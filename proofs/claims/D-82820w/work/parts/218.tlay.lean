/-! T: fields of an instance are listed -/
set_option maxRecDepth 20000
section
variable {ρ : Nat → Nat} {P : ah → Nat → Prop} {d : Nat} {Q : QT} {h h0 : ah} {T k n m f i j N M b r a ph kn ac c : Nat} {S S' S1 S2 : SS} {g : HG} {tp l o bs pf L ts : List Int} {v st p x y md nm : Int} {ls cs ch : List Nat} {w : Nat → Bool}
theorem nodup_rev {l : List Nat} (h : l.Nodup) : l.reverse.Nodup := List.pairwise_reverse.mpr (List.Pairwise.imp (fun h => Ne.symm h) h)
theorem FLD.add (H : FLD S cs) : FLD (u2 (u2 S f_Md_fieldOf cs.length (c : Int)) f_Md_fields 0 ((cs.length + 1 : Nat) : Int)) (cs ++ [c]) := by
  refine ⟨?_, fun i hi => ?_⟩
  · rw [u2_s]; simp
  · rw [u2_f (by decide)]
    rw [List.length_append] at hi
    by_cases w : i = cs.length
    · subst w; rw [u2_s]; simp [List.getD_eq_getElem?_getD]
    · have hi' : i < cs.length := by simp at hi; omega
      rw [u2_e, if_neg (fun c => w c.2), H.2 i hi', List.getD_eq_getElem?_getD, List.getD_eq_getElem?_getD, List.getElem?_append_left hi']
/-- T's fields of a class are listed -/
theorem s_lay79 (W2 : HMW g N M) (hM : M ≤ 400) (hk : k < N) {l3 : Nat} (h3 : l3 ≤ 60) : ∀ mm j, j + mm = (g.1 4 k).toNat → ∀ (S : SS) (cs : List Nat), FLD S cs → cs.length + ((memG g k).drop j).length ≤ 400 → ∃ S', OFF LFD S S' ∧ FLD S' (cs ++ ((memG g k).drop j).filter (fun m => decide (g.1 6 m = 0) && decide (g.1 7 m = 0))) ∧ ∀ (d : Nat) (h0 : ah) (T : Nat) (Q : QT), PTO ρ g N M h0 T → wpB PGm ρ d m_Md_listsFields 33 [(0, vR T), (1, vI (c : Int)), (3, vI ((l3 : Int) - 1))] [] (cn h0 T S') Q → wpB PGm ρ d m_Md_listsFields 79 [(0, vR T), (1, vI (c : Int)), (3, vI (l3 : Int)), (4, vI (k : Int)), (5, vI (((g.1 3 k).toNat + j : Nat) : Int))] [] (cn h0 T S) Q := fun mm => by
  have wk := W2 k hk
  have lm : (memG g k).length = (g.1 4 k).toNat := by unfold memG; simp
  induction mm with
  | zero =>
    intro j hj S cs H hl
    refine ⟨S, OFF.rf, by rw [List.drop_eq_nil_of_le (by omega)]; simpa using H, fun d h0 T Q K q => ?_⟩
    have OT := K.1.1
    have kT := OT.1
    have R := K.pth.2
    have ⟨a1, a2, a3, a4, a5, a6, a7, a8⟩ := R
    obtain ⟨-, -, -, -, -, -, -, r8, r9, -⟩ := a7 k hk
    have tA := tAH (S := S) OT a2
    have tK := tKH a2.1
    have tL := tLH a2.1
    have kk := a2.2
    have k4 : 0 ≤ (k : Int) ∧ (k : Int) < ((60 : Nat) : Int) := by omega
    have n1 : g.1 3 k + g.1 4 k ≤ (((g.1 3 k).toNat + j : Nat) : Int) := by omega
    have n2 : ¬ (((g.1 3 k).toNat + j : Nat) : Int) < g.1 3 k + g.1 4 k := by omega
    have m5 : -2147483648 ≤ g.1 3 k + g.1 4 k ∧ g.1 3 k + g.1 4 k < 2147483648 := by omega
    have m6 : -2147483648 ≤ (l3 : Int) + -1 ∧ (l3 : Int) + -1 < 2147483648 := by omega
    have y1 : w32 (g.1 3 k + g.1 4 k) = g.1 3 k + g.1 4 k := w32_of m5.1 m5.2
    have y2 : w32 ((l3 : Int) + -1) = (l3 : Int) - 1 := by rw [w32_of m6.1 m6.2]; rfl
    refine b_Md_listsFields_79 ?_
    clear a7 a8 R wk
    simp (decide := true) (disch := first | decide | omega) only [cnI, cnR, cnK, cnl, kT, kk, tA, tK, tL, r8, r9, y1, y2, n1, n2, Int.toNat_natCast, true_and, and_true, false_implies, forall_const]
    exact ⟨k4, k4, q⟩
  | succ mm ih =>
    intro j hj S cs H hl
    have lt : j < (memG g k).length := by omega
    have hm : (g.1 3 k).toNat + j < M := by omega
    have ed : (memG g k).drop j = ((g.1 3 k).toNat + j) :: (memG g k).drop (j + 1) := by
      rw [List.drop_eq_getElem_cons lt]; congr 1; simp [memG]
    rw [ed, List.length_cons] at hl
    have fr : ∀ (d : Nat) (h0 : ah) (T : Nat) (Q : QT), PTO ρ g N M h0 T → (¬ (g.1 6 ((g.1 3 k).toNat + j) = 0 ∧ g.1 7 ((g.1 3 k).toNat + j) = 0) → wpB PGm ρ d m_Md_listsFields 79 [(0, vR T), (1, vI (c : Int)), (3, vI (l3 : Int)), (4, vI (k : Int)), (5, vI (((g.1 3 k).toNat + (j + 1) : Nat) : Int))] [] (cn h0 T S) Q) → (g.1 6 ((g.1 3 k).toNat + j) = 0 ∧ g.1 7 ((g.1 3 k).toNat + j) = 0 → wpB PGm ρ d m_Md_listsFields 79 [(0, vR T), (1, vI (c : Int)), (3, vI (l3 : Int)), (4, vI (k : Int)), (5, vI (((g.1 3 k).toNat + (j + 1) : Nat) : Int))] [] (cn h0 T (u2 (u2 S f_Md_fieldOf cs.length (((g.1 3 k).toNat + j : Nat) : Int)) f_Md_fields 0 ((cs.length + 1 : Nat) : Int))) Q) → wpB PGm ρ d m_Md_listsFields 79 [(0, vR T), (1, vI (c : Int)), (3, vI (l3 : Int)), (4, vI (k : Int)), (5, vI (((g.1 3 k).toNat + j : Nat) : Int))] [] (cn h0 T S) Q := by
      intro d h0 T Q K q0 q1
      have OT := K.1.1
      have kT := OT.1
      have G := OT.2.1
      have R := K.pth.2
      have ⟨a1, a2, a3, a4, a5, a6, a7, a8⟩ := R
      obtain ⟨-, -, -, -, -, -, -, r8, r9, -⟩ := a7 k hk
      obtain ⟨-, u2', u3', -⟩ := a8 _ hm
      have tA := tAH (S := S) OT a2
      have tK := tKH a2.1
      have tL := tLH a2.1
      have kk := a2.2
      have e1 := H.1
      have k4 : 0 ≤ (k : Int) ∧ (k : Int) < ((60 : Nat) : Int) := by omega
      have m4 : 0 ≤ (((g.1 3 k).toNat + j : Nat) : Int) ∧ (((g.1 3 k).toNat + j : Nat) : Int) < ((400 : Nat) : Int) := by omega
      have c4 : 0 ≤ (cs.length : Int) ∧ (cs.length : Int) < ((400 : Nat) : Int) := by omega
      have n1 : ¬ g.1 3 k + g.1 4 k ≤ (((g.1 3 k).toNat + j : Nat) : Int) := by omega
      have n2 : (((g.1 3 k).toNat + j : Nat) : Int) < g.1 3 k + g.1 4 k := by omega
      have m5 : -2147483648 ≤ g.1 3 k + g.1 4 k ∧ g.1 3 k + g.1 4 k < 2147483648 := by omega
      have m6 : (g.1 3 k).toNat + j ≤ 2000000000 := by omega
      have m7 : cs.length ≤ 2000000000 := by omega
      rw [← Nat.add_assoc] at q0 q1
      generalize (g.1 3 k).toNat + j = mx at *
      have y1 : w32 (g.1 3 k + g.1 4 k) = g.1 3 k + g.1 4 k := w32_of m5.1 m5.2
      have y2 : w32 ((mx : Int) + 1) = ((mx + 1 : Nat) : Int) := w32_p1 m6
      have y3 : w32 ((cs.length : Int) + 1) = ((cs.length + 1 : Nat) : Int) := w32_p1 m7
      refine b_Md_listsFields_79 ?_
      clear a7 a8 R wk ih ed H
      simp (decide := true) (disch := first | decide | omega) only [cnI, cnR, cnK, cnl, cnA' G, cn_sA' G, cn_sI, KN G, LN G, kT, kk, tA, tK, tL, r8, r9, u2', u3', e1, y1, y2, y3, n1, n2, u2_f, Int.toNat_natCast, true_and, and_true, false_implies, forall_const]
      exact ⟨k4, k4, m4, fun z => q0 (fun c => z c.1), fun z => ⟨m4, fun z2 => q0 (fun c => z2 c.2), fun z2 => ⟨c4, q1 ⟨z, z2⟩⟩⟩⟩
    by_cases w : g.1 6 ((g.1 3 k).toNat + j) = 0 ∧ g.1 7 ((g.1 3 k).toNat + j) = 0
    · obtain ⟨S', f2, c2, r2⟩ := ih (j + 1) (by omega) _ _ (H.add (c := (g.1 3 k).toNat + j)) (by rw [List.length_append]; simp only [List.length_singleton]; omega)
      refine ⟨S', ((OFF.rf.u (by decide)).u (by decide)).tr f2, by rw [ed, List.filter_cons_of_pos (by simp [w])]; rw [List.append_assoc] at c2; exact c2, fun d h0 T Q K q => fr d h0 T Q K (fun z => absurd w z) (fun _ => r2 d h0 T Q K q)⟩
    · obtain ⟨S', f2, c2, r2⟩ := ih (j + 1) (by omega) _ _ H (by omega)
      refine ⟨S', f2, by rw [ed, List.filter_cons_of_neg (by simpa using w)]; exact c2, fun d h0 T Q K q => fr d h0 T Q K (fun _ => r2 d h0 T Q K q) (fun z => absurd z w)⟩
/-- T goes up to a class -/
theorem s_lay43 (K : PTO ρ g N M h0 T) (hx : ∀ x, x ∈ ch → x < N) (ha : ∀ i, i + 1 < ch.length → g.1 2 (ch.getD i 0) = (ch.getD (i + 1) 0 : Int)) {dd : Nat} (hd : dd < ch.length) (h60 : ch.length ≤ 60) (q : wpB PGm ρ d m_Md_listsFields 79 [(0, vR T), (1, vI (c : Int)), (3, vI (dd : Int)), (4, vI ((ch.getD dd 0 : Nat) : Int)), (5, vI (g.1 3 (ch.getD dd 0)))] [] (cn h0 T S) Q) : ∀ mm i, i + mm = dd → wpB PGm ρ d m_Md_listsFields 43 [(0, vR T), (1, vI (c : Int)), (3, vI (dd : Int)), (4, vI ((ch.getD i 0 : Nat) : Int)), (5, vI (i : Int))] [] (cn h0 T S) Q := fun mm => by
  have OT := K.1.1
  have kT := OT.1
  have R := K.pth.2
  have ⟨a1, a2, a3, a4, a5, a6, a7, a8⟩ := R
  have tA := tAH (S := S) OT a2
  have tK := tKH a2.1
  have tL := tLH a2.1
  have kk := a2.2
  have cN : ∀ i, i < ch.length → ch.getD i 0 < N := fun i hi => by
    rw [List.getD_eq_getElem?_getD, List.getElem?_eq_getElem hi, Option.getD_some]; exact hx _ (List.getElem_mem hi)
  induction mm with
  | zero =>
    intro i hi
    have e : i = dd := by omega
    subst e
    have hk := cN i hd
    obtain ⟨-, -, r3, -, -, -, -, r8, r9, -⟩ := a7 _ hk
    have k4 : 0 ≤ ((ch.getD i 0 : Nat) : Int) ∧ ((ch.getD i 0 : Nat) : Int) < ((60 : Nat) : Int) := by omega
    refine b_Md_listsFields_43 ⟨fun _ => ?_, fun z => absurd z (by omega)⟩
    generalize ch.getD i 0 = cx at *
    clear a7 a8 R K ha cN
    simp (decide := true) (disch := first | decide | omega) only [cnI, cnR, cnK, cnl, kT, kk, tA, tK, tL, r8, Int.toNat_natCast, true_and, and_true]
    exact ⟨k4, q⟩
  | succ mm ih =>
    intro i hi
    have hk := cN i (by omega)
    obtain ⟨-, -, r3, -, -, -, -, r8, r9, -⟩ := a7 _ hk
    have k4 : 0 ≤ ((ch.getD i 0 : Nat) : Int) ∧ ((ch.getD i 0 : Nat) : Int) < ((60 : Nat) : Int) := by omega
    have e1 := ha i (by omega)
    have g1 := ih (i + 1) (by omega)
    have y1 : w32 ((i : Int) + 1) = ((i + 1 : Nat) : Int) := w32_p1 (by omega)
    refine b_Md_listsFields_43 ⟨fun z => absurd z (by omega), fun _ => ?_⟩
    rw [e1] at r3
    generalize ch.getD i 0 = cx at *
    generalize ch.getD (i + 1) 0 = cy at *
    clear a7 a8 R K ha cN ih e1
    simp (decide := true) (disch := first | decide | omega) only [cnI, cnR, cnK, cnl, kT, kk, tA, tK, tL, r3, y1, Int.toNat_natCast, true_and, and_true]
    exact ⟨k4, g1⟩
theorem s_lay9 (K : PTO ρ g N M h0 T) (W1 : HGW g N) : ∀ (b : Nat) (x : Int) (n : Nat), x < (b : Int) → -1 ≤ x → x < (N : Int) → (n : Int) + x ≤ 1000 → wpB PGm ρ d m_Md_listsFields 33 [(0, vR T), (1, vI (c : Int)), (3, vI (((n + (chnG g (b + 1) x).length : Nat) : Int) - 1))] [] (cn h0 T S) Q → wpB PGm ρ d m_Md_listsFields 9 [(0, vR T), (1, vI (c : Int)), (2, vI (n : Int)), (3, vI x)] [] (cn h0 T S) Q := fun b => by
  have OT := K.1.1
  have kT := OT.1
  have R := K.pth.2
  have ⟨a1, a2, a3, a4, a5, a6, a7, a8⟩ := R
  have tA := tAH (S := S) OT a2
  have tK := tKH a2.1
  have tL := tLH a2.1
  have kk := a2.2
  induction b with
  | zero =>
    intro x n h1 h2 h3 h4 q
    refine b_Md_listsFields_9 ⟨fun z => ?_, fun z => absurd z (by omega)⟩
    unfold chnG at q
    rw [if_pos z] at q
    simp only [List.length_nil, Nat.add_zero] at q
    rw [w32_of (by omega) (by omega)]; exact q
  | succ b ih =>
    intro x n h1 h2 h3 h4 q
    by_cases z : x < 0
    · refine b_Md_listsFields_9 ⟨fun _ => ?_, fun z' => absurd z' (by omega)⟩
      unfold chnG at q
      rw [if_pos z] at q
      simp only [List.length_nil, Nat.add_zero] at q
      rw [w32_of (by omega) (by omega)]; exact q
    · have hk : x.toNat < N := by omega
      have wa := (W1 x.toNat hk).2.1
      obtain ⟨-, -, r3, -⟩ := a7 _ hk
      have b1 : 0 ≤ x ∧ x < ((60 : Nat) : Int) := by omega
      have e : chnG g (b + 1 + 1) x = x.toNat :: chnG g (b + 1) (g.1 2 x.toNat) := by
        conv => lhs; unfold chnG
        rw [if_neg z]
      rw [e, List.length_cons] at q
      have g1 := ih (g.1 2 x.toNat) (n + 1) (by omega) (by omega) (by omega) (by omega) (by rw [show n + 1 + (chnG g (b + 1) (g.1 2 x.toNat)).length = n + ((chnG g (b + 1) (g.1 2 x.toNat)).length + 1) by omega]; exact q)
      have y1 : w32 ((n : Int) + 1) = ((n + 1 : Nat) : Int) := w32_p1 (by omega)
      refine b_Md_listsFields_9 ⟨fun z' => absurd z' z, fun _ => ?_⟩
      clear a7 a8 R K ih e q
      simp (decide := true) (disch := first | decide | omega) only [cnI, cnR, cnK, cnl, kT, kk, tA, tK, tL, r3, y1, Int.toNat_natCast, true_and, and_true]
      exact ⟨b1, g1⟩
theorem chnG_ab (W1 : HGW g N) : ∀ (b : Nat) (x : Int), x < (N : Int) → ∀ i, i + 1 < (chnG g b x).length → g.1 2 ((chnG g b x).getD i 0) = ((chnG g b x).getD (i + 1) 0 : Int) := fun b => by
  induction b with
  | zero => intro x _ i hi; simp [chnG] at hi
  | succ b ih =>
    intro x hx i hi
    unfold chnG at hi ⊢
    by_cases z : x < 0
    · rw [if_pos z] at hi; simp at hi
    · rw [if_neg z] at hi ⊢
      have wa := (W1 x.toNat (by omega)).2.1
      cases i with
      | zero =>
        simp only [List.length_cons] at hi
        cases b with
        | zero => simp [chnG] at hi
        | succ b =>
          have : (chnG g (b + 1) (g.1 2 x.toNat)).getD 0 0 = (g.1 2 x.toNat).toNat ∧ 0 ≤ g.1 2 x.toNat := by
            unfold chnG at hi ⊢
            by_cases z2 : g.1 2 x.toNat < 0
            · rw [if_pos z2] at hi; simp at hi
            · rw [if_neg z2]; exact ⟨rfl, by omega⟩
          show g.1 2 x.toNat = _
          rw [List.getD_cons_succ, this.1]; omega
      | succ i =>
        simp only [List.length_cons] at hi
        rw [List.getD_cons_succ, List.getD_cons_succ]
        exact ih _ (by omega) i (by omega)
theorem s_lay33 (W1 : HGW g N) (W2 : HMW g N M) (W3 : HMC g N) (hM : M ≤ 400) (hN : N ≤ 60) (hch : OKL N ch) (e0 : ch.getD 0 0 = c) (ha : ∀ i, i + 1 < ch.length → g.1 2 (ch.getD i 0) = (ch.getD (i + 1) 0 : Int)) : ∀ n, n ≤ ch.length → ∀ (S : SS), FLD S ((ch.drop n).reverse.flatMap (infG g)) → ∃ S', OFF LFD S S' ∧ FLD S' (ch.reverse.flatMap (infG g)) ∧ ∀ (d : Nat) (h0 : ah) (T : Nat) (Q : QT), PTO ρ g N M h0 T → Q (Sum.inl none) (cn h0 T S') → wpB PGm ρ d m_Md_listsFields 33 [(0, vR T), (1, vI (c : Int)), (3, vI ((n : Int) - 1))] [] (cn h0 T S) Q := fun n => by
  have h60 : ch.length ≤ 60 := by have := hch.len; omega
  induction n with
  | zero =>
    intro _ S H
    rw [List.drop_zero] at H
    exact ⟨S, OFF.rf, H, fun d h0 T Q K q => b_Md_listsFields_33 ⟨fun _ => q, fun z => absurd z (by omega)⟩⟩
  | succ n ih =>
    intro hn S H
    have lt : n < ch.length := by omega
    have gx : ch.getD n 0 = ch[n] := by rw [List.getD_eq_getElem?_getD, List.getElem?_eq_getElem lt, Option.getD_some]
    have hk : ch.getD n 0 < N := by rw [gx]; exact hch.2 _ (List.getElem_mem lt)
    have wk := W2 _ hk
    have ed : (ch.drop n).reverse.flatMap (infG g) = (ch.drop (n + 1)).reverse.flatMap (infG g) ++ infG g (ch.getD n 0) := by
      rw [List.drop_eq_getElem_cons lt, List.reverse_cons, List.flatMap_append, gx]; simp
    have mN : (memG g (ch.getD n 0)).Nodup := by
      unfold memG
      exact List.pairwise_map.mpr (List.Pairwise.imp (fun h e => h (by omega)) List.nodup_range)
    have ok2 : OKL M ((ch.drop (n + 1)).reverse.flatMap (infG g) ++ memG g (ch.getD n 0)) := by
      have sub : ∀ x, x ∈ (ch.drop (n + 1)).reverse → x ∈ ch.drop (n + 1) := fun x hx => List.mem_reverse.mp hx
      have nd : (ch.drop n).Nodup := hch.1.sublist (List.drop_sublist ..)
      rw [List.drop_eq_getElem_cons lt] at nd
      have nd1 := List.nodup_cons.mp nd
      have A := lay_ok W1 W2 W3 (ch.drop (n + 1)).reverse ⟨nodup_rev nd1.2, fun x hx => hch.2 x (List.mem_of_mem_drop (sub x hx))⟩
      refine ⟨List.nodup_append.mpr ⟨A.1, mN, fun a ha' b hb e => ?_⟩, fun x hx => ?_⟩
      · subst e
        obtain ⟨k', hk', hm'⟩ := List.mem_flatMap.mp ha'
        have e1 := W3 _ hk a hb
        have e2 := W3 k' (hch.2 k' (List.mem_of_mem_drop (sub k' hk'))) a (infG_mem hm')
        have : ch.getD n 0 = k' := by omega
        rw [gx] at this
        rw [← this] at hk'
        exact nd1.1 (sub _ hk')
      · rcases List.mem_append.mp hx with z | z
        · exact A.2 x z
        · exact memG_lt W2 hk x z
    have l4 := ok2.len
    rw [List.length_append] at l4
    obtain ⟨S1, f1, c1, r1⟩ := s_lay79 (ρ := ρ) (c := c) W2 hM hk (l3 := n) (by omega) (g.1 4 (ch.getD n 0)).toNat 0 (by omega) S _ H (by rw [List.drop_zero]; omega)
    rw [List.drop_zero] at c1
    rw [ed] at ih
    obtain ⟨S', f2, c2, r2⟩ := ih (by omega) S1 c1
    refine ⟨S', f1.tr f2, c2, fun d h0 T Q K q => b_Md_listsFields_33 ⟨fun z => absurd z (by omega), fun _ => ?_⟩⟩
    have g1 := r1 d h0 T Q K (r2 d h0 T Q K q)
    have e3 : (((g.1 3 (ch.getD n 0)).toNat + 0 : Nat) : Int) = g.1 3 (ch.getD n 0) := by omega
    rw [e3] at g1
    have g2 := s_lay43 (ρ := ρ) (d := d) (Q := Q) (S := S) K hch.2 ha lt h60 g1 n 0 (by omega)
    rw [e0] at g2
    rw [show ((n + 1 : Nat) : Int) - 1 = (n : Int) by omega]
    exact g2
theorem s_lists (W1 : HGW g N) (W2 : HMW g N M) (W3 : HMC g N) (hM : M ≤ 400) (hN : N ≤ 60) (hc : c < N) : ∃ S', OFF LFD S S' ∧ FLD S' (layG g c) ∧ TC ρ (PTO ρ g N M) 0 m_Md_listsFields 0 [(1, vI (c : Int))] [] S (some none) S' := by
  have ok := (chnG_ok W1 61 (c : Int) (by omega)).1
  have e0 : (chnG g 61 (c : Int)).getD 0 0 = c := by unfold chnG; rw [if_neg (by omega)]; simp
  obtain ⟨S', f1, c1, r1⟩ := s_lay33 (ρ := ρ) W1 W2 W3 hM hN ok e0 (chnG_ab W1 61 (c : Int) (by omega)) (chnG g 61 (c : Int)).length (Nat.le_refl _) (u2 S f_Md_fields 0 0) (by rw [List.drop_length]; exact ⟨by rw [u2_s]; rfl, fun i hi => absurd hi (by simp)⟩)
  refine ⟨S', (OFF.rf.u (by decide)).tr f1, c1, fun d h0 T Q K q => b_Md_listsFields_0 ⟨K.1.1.1, ?_⟩⟩
  show wpB PGm ρ (d + 0) m_Md_listsFields 9 [(0, vR T), (1, vI (c : Int)), (2, vI 0), (3, vI (c : Int))] [] (sI (cn h0 T S) f_Md_fields T 0) Q
  rw [cn_sI (by decide)]
  refine s_lay9 K W1 60 (c : Int) 0 (by omega) (by omega) (by omega) (by omega) ?_
  rw [Nat.zero_add]
  exact r1 (d + 0) h0 T Q K q
theorem s_placeOf (W1 : HGW g N) (W2 : HMW g N M) (W3 : HMC g N) (hM : M ≤ 400) (hN : N ≤ 60) (hc : c < N) (hi : i < (layG g c).length) (hm : (layG g c).getD i 0 = m) (hf : ∀ j, j < i → (layG g c).getD j 0 ≠ m) : ∃ S', OFF LFD S S' ∧ FLD S' (layG g c) ∧ TC ρ (PTO ρ g N M) 1 m_Md_placeOf 0 [(1, vI (c : Int)), (2, vI (m : Int))] [] S (some (some (vI (i : Int)))) S' := by
  obtain ⟨S', f1, c1, r1⟩ := s_lists (ρ := ρ) (S := S) W1 W2 W3 hM hN hc
  refine ⟨S', f1, c1, fun d h0 T Q K q => b_Md_placeOf_0 ⟨K.1.1.1, r1 d h0 T _ K ?_⟩⟩
  have OT := K.1.1
  have kT := OT.1
  have G := OT.2.1
  have ll := (lay_ok W1 W2 W3 (chnG g 61 (c : Int)).reverse ⟨nodup_rev (chnG_ok W1 61 (c : Int) (by omega)).1.1, fun x hx => (chnG_ok W1 61 (c : Int) (by omega)).1.2 x (List.mem_reverse.mp hx)⟩).len
  have l4 : (layG g c).length ≤ 400 := by unfold layG; omega
  have lp : ∀ mm j, j + mm = i → wpB PGm ρ (d + 1) m_Md_placeOf 7 [(0, vR T), (2, vI (m : Int)), (3, vI (j : Int))] [] (cn h0 T S') Q := fun mm => by
    induction mm with
    | zero =>
      intro j hj
      have e : j = i := by omega
      subst e
      have e1 := c1.2 j hi
      rw [hm] at e1
      have b1 : 0 ≤ (j : Int) ∧ (j : Int) < ((400 : Nat) : Int) := by omega
      refine b_Md_placeOf_7 ?_
      clear c1 r1 hf W1 W2 W3 hm
      simp (decide := true) (disch := first | decide | omega) only [cnI, cnR, cnK, cnl, cnA' G, kT, KN G, LN G, e1, Int.toNat_natCast, true_and, and_true, not_true_eq_false, false_implies, forall_const]
      exact ⟨b1, q⟩
    | succ mm ih =>
      intro j hj
      have e1 := c1.2 j (by omega)
      have ne := hf j (by omega)
      have b1 : 0 ≤ (j : Int) ∧ (j : Int) < ((400 : Nat) : Int) := by omega
      have n1 : ¬ (((layG g c).getD j 0 : Nat) : Int) = (m : Int) := by omega
      have g1 := ih (j + 1) (by omega)
      have y1 : w32 ((j : Int) + 1) = ((j + 1 : Nat) : Int) := w32_p1 (by omega)
      generalize (layG g c).getD j 0 = cx at *
      refine b_Md_placeOf_7 ?_
      clear c1 r1 hf W1 W2 W3 ih
      simp (decide := true) (disch := first | decide | omega) only [cnI, cnR, cnK, cnl, cnA' G, kT, KN G, LN G, e1, n1, y1, Int.toNat_natCast, true_and, and_true, false_implies, forall_const]
      exact ⟨b1, g1⟩
  exact lp i 0 (by omega)
end
