/-! T: members that may be meant, whole -/
set_option maxRecDepth 20000
def LCO : List Nat := LOR ++ LCN
section
variable {ρ : Nat → Nat} {P : ah → Nat → Prop} {d : Nat} {Q : QT} {h h0 : ah} {T k n m f i j c N M b r a : Nat} {S S' S1 S2 : SS} {g : HG} {tp l o bs pf L : List Int} {v st p : Int} {ls cs : List Nat} {w : Nat → Bool}
theorem WNT.ex (H : WNT S l) (e : EXS LWN S S1) : WNT S1 l := ⟨by rw [e _ (by decide)]; exact H.1, H.2.1, fun i hi => by rw [e _ (by decide)]; exact H.2.2 i hi⟩
theorem ORD.ex (H : ORD S ls) (e : EXS LOR S S1) : ORD S1 ls := ⟨by rw [e _ (by decide)]; exact H.1, fun i hi => by rw [e _ (by decide)]; exact H.2 i hi⟩
theorem CND.ex (H : CND S cs) (e : EXS LCN S S1) : CND S1 cs := ⟨by rw [e _ (by decide)]; exact H.1, fun i hi => by rw [e _ (by decide)]; exact H.2 i hi⟩
theorem fold_ok (hM : ∀ m, m ∈ ls → m < M) : ∀ cs, OKL M cs → OKL M (ls.foldl (addC g w) cs) := by
  induction ls with
  | nil => exact fun cs H => H
  | cons m r ih =>
    intro cs H
    rw [List.foldl_cons]
    exact ih (fun x hx => hM x (List.mem_cons_of_mem _ hx)) _ (addC_ok H (hM m (List.mem_cons_self ..)))
theorem memG_lt (W : HMW g N M) (hk : k < N) : ∀ m, m ∈ memG g k → m < M := fun m hm => by
  unfold memG at hm
  obtain ⟨i, hi, e⟩ := List.mem_map.mp hm
  have := W k hk
  rw [List.mem_range] at hi
  omega
theorem s_col43 (W2 : HMW g N M) (hM : M ≤ 400) (hst : st = 0 ∨ st = 1) (hp : -1 ≤ p) (hk : k < N) : ∀ mm j, j + mm = (g.1 4 k).toNat → ∀ (S : SS) (cs : List Nat), CND S cs → OKL M cs → WNT S l → ∃ S', OFF LCN S S' ∧ CND S' (((memG g k).drop j).foldl (addC g (wtB g st l p)) cs) ∧ ∀ (d : Nat) (h0 : ah) (T : Nat) (Q : QT) (l4 : Nat), PTO ρ g N M h0 T → l4 ≤ 60 → wpB PGm ρ (d + 2) m_Md_collects 13 [(0, vR T), (2, vI st), (3, vI p), (4, vI ((l4 + 1 : Nat) : Int))] [] (cn h0 T S') Q → wpB PGm ρ (d + 2) m_Md_collects 43 [(0, vR T), (2, vI st), (3, vI p), (4, vI (l4 : Int)), (5, vI (k : Int)), (6, vI (((g.1 3 k).toNat + j : Nat) : Int))] [] (cn h0 T S) Q := fun mm => by
  have wk := W2 k hk
  have lm : (memG g k).length = (g.1 4 k).toNat := by unfold memG; simp
  induction mm with
  | zero =>
    intro j hj S cs H O W
    refine ⟨S, OFF.rf, by rw [List.drop_eq_nil_of_le (by omega)]; exact H, fun d h0 T Q l4 K h6 q => ?_⟩
    have OT := K.1.1
    have kT := OT.1
    have R := K.pth.2
    have ⟨a1, a2, a3, a4, a5, a6, a7, a8⟩ := R
    obtain ⟨r1, r2, r3, r4, r5, r6, r7, r8, r9, -⟩ := a7 k hk
    have tA := tAH (S := S) OT a2
    have tK := tKH a2.1
    have tL := tLH a2.1
    have kk := a2.2
    have k4 : 0 ≤ (k : Int) ∧ (k : Int) < ((60 : Nat) : Int) := by omega
    have n1 : g.1 3 k + g.1 4 k ≤ (((g.1 3 k).toNat + j : Nat) : Int) := by omega
    have n2 : ¬ (((g.1 3 k).toNat + j : Nat) : Int) < g.1 3 k + g.1 4 k := by omega
    have m5 : -2147483648 ≤ g.1 3 k + g.1 4 k ∧ g.1 3 k + g.1 4 k < 2147483648 := by omega
    have m6 : l4 ≤ 2000000000 := by omega
    have y1 : w32 (g.1 3 k + g.1 4 k) = g.1 3 k + g.1 4 k := w32_of m5.1 m5.2
    have y2 : w32 ((l4 : Int) + 1) = ((l4 + 1 : Nat) : Int) := w32_p1 m6
    refine b_Md_collects_43 ?_
    clear a7 a8 R wk
    simp (decide := true) (disch := first | decide | omega) only [cnI, cnR, cnK, cnl, kT, kk, tA, tK, tL, r8, r9, y1, y2, n1, n2, Int.toNat_natCast, true_and, and_true, false_implies, forall_const]
    exact ⟨k4, k4, q⟩
  | succ mm ih =>
    intro j hj S cs H O W
    have lt : j < (memG g k).length := by omega
    have hm : (g.1 3 k).toNat + j < M := by omega
    have ed : (memG g k).drop j = ((g.1 3 k).toNat + j) :: (memG g k).drop (j + 1) := by
      rw [List.drop_eq_getElem_cons lt]; congr 1; simp [memG]
    obtain ⟨S1, f1, c1, r1⟩ := s_col1 (ρ := ρ) (N := N) (k := k) (m := (g.1 3 k).toNat + j) (p := p) H O hM W hm hst hk hp
    obtain ⟨S', f2, c2, r2⟩ := ih (j + 1) (by omega) S1 _ c1 (addC_ok O hm) (W.ex (f1.ex (by decide)))
    refine ⟨S', f1.tr f2, by rw [ed, List.foldl_cons]; exact c2, fun d h0 T Q l4 K h6 q => r1 d h0 T Q l4 K (by omega) wk (r2 d h0 T Q l4 K h6 q)⟩
theorem s_col13 (W2 : HMW g N M) (hM : M ≤ 400) (hN : N ≤ 60) (hst : st = 0 ∨ st = 1) (hp : -1 ≤ p) (ho : OKL N ls) : ∀ mm j, j + mm = ls.length → ∀ (S : SS) (cs : List Nat), CND S cs → OKL M cs → WNT S l → ORD S ls → ∃ S', OFF LCN S S' ∧ CND S' ((ls.drop j).foldl (fun cs k => (memG g k).foldl (addC g (wtB g st l p)) cs) cs) ∧ OKL M ((ls.drop j).foldl (fun cs k => (memG g k).foldl (addC g (wtB g st l p)) cs) cs) ∧ ∀ (d : Nat) (h0 : ah) (T : Nat) (Q : QT), PTO ρ g N M h0 T → Q (Sum.inl none) (cn h0 T S') → wpB PGm ρ (d + 2) m_Md_collects 13 [(0, vR T), (2, vI st), (3, vI p), (4, vI (j : Int))] [] (cn h0 T S) Q := fun mm => by
  have ll := ho.len
  induction mm with
  | zero =>
    intro j hj S cs H O W R
    rw [List.drop_eq_nil_of_le (by omega)]
    refine ⟨S, OFF.rf, H, O, fun d h0 T Q K q => b_Md_collects_13 ⟨K.1.1.1, ?_⟩⟩
    rw [cnI (by decide), R.1]
    exact ⟨fun _ => q, fun z => absurd z (by omega)⟩
  | succ mm ih =>
    intro j hj S cs H O W R
    have lt : j < ls.length := by omega
    have gx : ls.getD j 0 = ls[j] := by rw [List.getD_eq_getElem?_getD, List.getElem?_eq_getElem lt, Option.getD_some]
    have ed : ls.drop j = ls.getD j 0 :: ls.drop (j + 1) := by rw [List.drop_eq_getElem_cons lt, gx]
    have hk : ls.getD j 0 < N := by rw [gx]; exact ho.2 _ (List.getElem_mem lt)
    have er := R.2 j lt
    have wk := W2 _ hk
    obtain ⟨S1, f1, c1, r1⟩ := s_col43 (ρ := ρ) (p := p) W2 hM hst hp hk (g.1 4 (ls.getD j 0)).toNat 0 (by omega) S cs H O W
    rw [List.drop_zero] at c1
    have ok1 := fold_ok (g := g) (w := wtB g st l p) (memG_lt W2 hk) cs O
    obtain ⟨S', f2, c2, o2, r2⟩ := ih (j + 1) (by omega) S1 _ c1 ok1 (W.ex (f1.ex (by decide))) (R.ex (f1.ex (by decide)))
    rw [ed]
    simp only [List.foldl_cons]
    refine ⟨S', f1.tr f2, c2, o2, fun d h0 T Q K q => b_Md_collects_13 ⟨K.1.1.1, ?_⟩⟩
    have OT := K.1.1
    have kT := OT.1
    have G := OT.2.1
    have RR := K.pth.2
    have ⟨a1, a2, a3, a4, a5, a6, a7, a8⟩ := RR
    obtain ⟨-, -, -, -, -, -, -, r8, r9, -⟩ := a7 _ hk
    have tA := tAH (S := S) OT a2
    have tK := tKH a2.1
    have tL := tLH a2.1
    have kk := a2.2
    have g1 := r1 d h0 T Q j K (by omega) (r2 d h0 T Q K q)
    have e1 := R.1
    have n1 : ¬ (ls.length : Int) ≤ (j : Int) := by omega
    have n2 : (j : Int) < (ls.length : Int) := by omega
    have b1 : 0 ≤ (j : Int) ∧ (j : Int) < ((60 : Nat) : Int) := by omega
    have b2 : 0 ≤ ((ls.getD j 0 : Nat) : Int) ∧ ((ls.getD j 0 : Nat) : Int) < ((60 : Nat) : Int) := by omega
    have e3 : (((g.1 3 (ls.getD j 0)).toNat + 0 : Nat) : Int) = g.1 3 (ls.getD j 0) := by omega
    rw [e3] at g1
    generalize ls.getD j 0 = kx at *
    clear ih a7 a8 RR r2 r1 gx ed
    simp (decide := true) (disch := first | decide | omega) only [cnI, cnR, cnK, cnl, cnA' G, KN G, LN G, kT, kk, tA, tK, tL, r8, er, e1, n1, n2, Int.toNat_natCast, true_and, and_true, false_implies, forall_const]
    exact ⟨b1, b2, g1⟩
theorem s_collects (W1 : HGW g N) (W2 : HMW g N M) (hM : M ≤ 400) (hN : N ≤ 60) (hst : st = 0 ∨ st = 1) (hp : -1 ≤ p) (hc : c < N) (W : WNT S l) : ∃ S', OFF LCO S S' ∧ CND S' (colG g (wtB g st l p) (ordG g c)) ∧ OKL M (colG g (wtB g st l p) (ordG g c)) ∧ TC ρ (PTO ρ g N M) 123 m_Md_collects 0 [(1, vI (c : Int)), (2, vI st), (3, vI p)] [] S (some none) S' := by
  obtain ⟨S1, f1, o1, o2, c1⟩ := s_orders (ρ := ρ) (M := M) (S := S) W1 hN hc
  have f2 : OFF LCN S1 (u2 S1 f_Md_candidates 0 0) := OFF.rf.u (by decide)
  obtain ⟨S', f3, c3, o3, r3⟩ := s_col13 (ρ := ρ) (p := p) (l := l) W2 hM hN hst hp o2 (ordG g c).length 0 (by omega) (u2 S1 f_Md_candidates 0 0) [] ⟨by rw [u2_s]; rfl, fun i hi => absurd hi (by simp)⟩ ⟨List.nodup_nil, fun x hx => absurd hx (by simp)⟩ ((W.ex (f1.ex (by decide))).ex (f2.ex (by decide))) (o1.ex (f2.ex (by decide)))
  rw [List.drop_zero] at c3 o3
  refine ⟨S', (f1.le (by decide)).tr ((f2.le (by decide)).tr (f3.le (by decide))), c3, o3, fun d h0 T Q K q => b_Md_collects_0 (d := d + 122) ⟨K.1.1.1, ?_⟩⟩
  refine c1 d h0 T _ K ⟨K.1.1.1, ?_⟩
  show wpB PGm ρ (d + 123) m_Md_collects 13 [(0, vR T), (2, vI st), (3, vI p), (4, vI 0)] [] (sI (cn h0 T S1) f_Md_candidates T 0) Q
  rw [cn_sI (by decide)]
  exact r3 (d + 121) h0 T Q K q
/-- makers of a class -/
def mkrG (g : HG) (k : Nat) : List Nat := (memG g k).filter (fun m => decide (g.1 6 m = 2))
theorem s_makers15 (W2 : HMW g N M) (hM : M ≤ 400) (hk : k < N) : ∀ mm j, j + mm = (g.1 4 k).toNat → ∀ (S : SS) (cs : List Nat), CND S cs → cs.length ≤ j → ∃ S', OFF LCN S S' ∧ CND S' (cs ++ ((memG g k).drop j).filter (fun m => decide (g.1 6 m = 2))) ∧ TC ρ (PTO ρ g N M) 1 m_Md_collectsMakers 15 [(1, vI (k : Int)), (2, vI (((g.1 3 k).toNat + j : Nat) : Int))] [] S (some none) S' := fun mm => by
  have wk := W2 k hk
  have lm : (memG g k).length = (g.1 4 k).toNat := by unfold memG; simp
  induction mm with
  | zero =>
    intro j hj S cs H hl
    refine ⟨S, OFF.rf, by rw [List.drop_eq_nil_of_le (by omega)]; simpa using H, fun d h0 T Q K q => ?_⟩
    have OT := K.1.1
    have kT := OT.1
    have R := K.pth.2
    have ⟨a1, a2, a3, a4, a5, a6, a7, a8⟩ := R
    obtain ⟨-, -, -, -, -, -, -, r8, r9, -⟩ := a7 k hk
    have tA := tAH (S := S) OT a2
    have tK := tKH a2.1
    have tL := tLH a2.1
    have kk := a2.2
    have k4 : 0 ≤ (k : Int) ∧ (k : Int) < ((60 : Nat) : Int) := by omega
    have n1 : g.1 3 k + g.1 4 k ≤ (((g.1 3 k).toNat + j : Nat) : Int) := by omega
    have n2 : ¬ (((g.1 3 k).toNat + j : Nat) : Int) < g.1 3 k + g.1 4 k := by omega
    have m5 : -2147483648 ≤ g.1 3 k + g.1 4 k ∧ g.1 3 k + g.1 4 k < 2147483648 := by omega
    have y1 : w32 (g.1 3 k + g.1 4 k) = g.1 3 k + g.1 4 k := w32_of m5.1 m5.2
    refine b_Md_collectsMakers_15 ?_
    clear a7 a8 R wk
    simp (decide := true) (disch := first | decide | omega) only [cnI, cnR, cnK, cnl, kT, kk, tA, tK, tL, r8, r9, y1, n1, n2, Int.toNat_natCast, true_and, and_true, false_implies, forall_const]
    exact ⟨k4, k4, q⟩
  | succ mm ih =>
    intro j hj S cs H hl
    have lt : j < (memG g k).length := by omega
    have hm : (g.1 3 k).toNat + j < M := by omega
    have ed : (memG g k).drop j = ((g.1 3 k).toNat + j) :: (memG g k).drop (j + 1) := by
      rw [List.drop_eq_getElem_cons lt]; congr 1; simp [memG]
    have fr : ∀ (d : Nat) (h0 : ah) (T : Nat) (Q : QT), PTO ρ g N M h0 T → (¬ g.1 6 ((g.1 3 k).toNat + j) = 2 → wpB PGm ρ (d + 1) m_Md_collectsMakers 15 [(0, vR T), (1, vI (k : Int)), (2, vI (((g.1 3 k).toNat + (j + 1) : Nat) : Int))] [] (cn h0 T S) Q) → (g.1 6 ((g.1 3 k).toNat + j) = 2 → wpB PGm ρ (d + 1) m_Md_collectsMakers 15 [(0, vR T), (1, vI (k : Int)), (2, vI (((g.1 3 k).toNat + (j + 1) : Nat) : Int))] [] (cn h0 T (u2 (u2 S f_Md_candidate cs.length (((g.1 3 k).toNat + j : Nat) : Int)) f_Md_candidates 0 ((cs.length + 1 : Nat) : Int))) Q) → wpB PGm ρ (d + 1) m_Md_collectsMakers 15 [(0, vR T), (1, vI (k : Int)), (2, vI (((g.1 3 k).toNat + j : Nat) : Int))] [] (cn h0 T S) Q := by
      intro d h0 T Q K q0 q1
      have OT := K.1.1
      have kT := OT.1
      have G := OT.2.1
      have R := K.pth.2
      have ⟨a1, a2, a3, a4, a5, a6, a7, a8⟩ := R
      obtain ⟨-, -, -, -, -, -, -, r8, r9, -⟩ := a7 k hk
      obtain ⟨-, u2', -⟩ := a8 _ hm
      have tA := tAH (S := S) OT a2
      have tK := tKH a2.1
      have tL := tLH a2.1
      have kk := a2.2
      have e1 := H.1
      have k4 : 0 ≤ (k : Int) ∧ (k : Int) < ((60 : Nat) : Int) := by omega
      have m4 : 0 ≤ (((g.1 3 k).toNat + j : Nat) : Int) ∧ (((g.1 3 k).toNat + j : Nat) : Int) < ((400 : Nat) : Int) := by omega
      have c4 : 0 ≤ (cs.length : Int) ∧ (cs.length : Int) < ((400 : Nat) : Int) := by omega
      have n1 : ¬ g.1 3 k + g.1 4 k ≤ (((g.1 3 k).toNat + j : Nat) : Int) := by omega
      have n2 : (((g.1 3 k).toNat + j : Nat) : Int) < g.1 3 k + g.1 4 k := by omega
      have m5 : -2147483648 ≤ g.1 3 k + g.1 4 k ∧ g.1 3 k + g.1 4 k < 2147483648 := by omega
      have m6 : (g.1 3 k).toNat + j ≤ 2000000000 := by omega
      have m7 : cs.length ≤ 2000000000 := by omega
      rw [← Nat.add_assoc] at q0 q1
      generalize (g.1 3 k).toNat + j = mx at *
      have y1 : w32 (g.1 3 k + g.1 4 k) = g.1 3 k + g.1 4 k := w32_of m5.1 m5.2
      have y2 : w32 ((mx : Int) + 1) = ((mx + 1 : Nat) : Int) := w32_p1 m6
      have y3 : w32 ((cs.length : Int) + 1) = ((cs.length + 1 : Nat) : Int) := w32_p1 m7
      refine b_Md_collectsMakers_15 ?_
      clear a7 a8 R wk ih ed H
      simp (decide := true) (disch := first | decide | omega) only [cnI, cnR, cnK, cnl, cnA' G, cn_sA' G, cn_sI, KN G, LN G, kT, kk, tA, tK, tL, r8, r9, u2', e1, y1, y2, y3, n1, n2, u2_f, Int.toNat_natCast, true_and, and_true, false_implies, forall_const]
      exact ⟨k4, k4, m4, q0, fun z => ⟨c4, q1 z⟩⟩
    by_cases w : g.1 6 ((g.1 3 k).toNat + j) = 2
    · obtain ⟨S', f2, c2, r2⟩ := ih (j + 1) (by omega) _ _ (H.add (c := (g.1 3 k).toNat + j)) (by rw [List.length_append]; simp; omega)
      refine ⟨S', ((OFF.rf.u (by decide)).u (by decide)).tr f2, by rw [ed, List.filter_cons_of_pos (by simp [w])]; rw [List.append_assoc] at c2; exact c2, fun d h0 T Q K q => fr d h0 T Q K (fun z => absurd w z) (fun _ => r2 d h0 T Q K q)⟩
    · obtain ⟨S', f2, c2, r2⟩ := ih (j + 1) (by omega) _ _ H (by omega)
      refine ⟨S', f2, by rw [ed, List.filter_cons_of_neg (by simp [w])]; exact c2, fun d h0 T Q K q => fr d h0 T Q K (fun _ => r2 d h0 T Q K q) (fun z => absurd z w)⟩
theorem s_makers (W2 : HMW g N M) (hM : M ≤ 400) (hk : k < N) : ∃ S', OFF LCN S S' ∧ CND S' (mkrG g k) ∧ TC ρ (PTO ρ g N M) 1 m_Md_collectsMakers 0 [(1, vI (k : Int))] [] S (some none) S' := by
  have wk := W2 k hk
  obtain ⟨S', f2, c2, r2⟩ := s_makers15 (ρ := ρ) W2 hM hk (g.1 4 k).toNat 0 (by omega) (u2 S f_Md_candidates 0 0) [] ⟨by rw [u2_s]; rfl, fun i hi => absurd hi (by simp)⟩ (by simp)
  rw [List.nil_append, List.drop_zero] at c2
  refine ⟨S', (OFF.rf.u (by decide)).tr f2, c2, fun d h0 T Q K q => b_Md_collectsMakers_0 ?_⟩
  have OT := K.1.1
  have kT := OT.1
  have R := K.pth.2
  have ⟨a1, a2, a3, a4, a5, a6, a7, a8⟩ := R
  obtain ⟨-, -, -, -, -, -, -, r8, r9, -⟩ := a7 k hk
  have tA := tAH (S := u2 S f_Md_candidates 0 0) OT a2
  have tK := tKH a2.1
  have tL := tLH a2.1
  have kk := a2.2
  have k4 : 0 ≤ (k : Int) ∧ (k : Int) < ((60 : Nat) : Int) := by omega
  have g1 := r2 d h0 T Q K q
  have e3 : (((g.1 3 k).toNat + 0 : Nat) : Int) = g.1 3 k := by omega
  rw [e3] at g1
  clear a7 a8 R wk r2
  simp (decide := true) (disch := first | decide | omega) only [cnI, cnR, cnK, cnl, cn_sI, kT, kk, tA, tK, tL, r8, Int.toNat_natCast, true_and, and_true]
  exact ⟨k4, g1⟩
end
