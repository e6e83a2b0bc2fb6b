/-! T: the order, whole; names that are wanted -/
set_option maxRecDepth 20000
section
variable {ρ : Nat → Nat} {P : ah → Nat → Prop} {d : Nat} {Q : QT} {h h0 : ah} {T k n m f i j c N M b : Nat} {S S' S1 S2 : SS} {g : HG} {tp l o : List Int} {v : Int} {ls L L' : List Nat}
theorem dfsB_pre : ∀ b (o : List Nat) (c : Nat), ∃ r, dfsB g b o c = o ++ r := fun b => by
  induction b with
  | zero => exact fun o c => ⟨[], by unfold dfsB; simp⟩
  | succ b ih =>
    intro o c
    unfold dfsB
    generalize g.2 1 c = L
    induction L generalizing o with
    | nil => exact ⟨[], by simp⟩
    | cons s r ihr =>
      rw [List.foldl_cons]
      by_cases w : g.1 1 s.toNat = 1 ∧ ¬ s.toNat ∈ o
      · rw [if_pos w]
        obtain ⟨r1, e1⟩ := ih (o ++ [s.toNat]) s.toNat
        obtain ⟨r2, e2⟩ := ihr (dfsB g b (o ++ [s.toNat]) s.toNat)
        exact ⟨[s.toNat] ++ (r1 ++ r2), by rw [e2, e1]; simp⟩
      · rw [if_neg w]; exact ihr o
theorem s_ord7 (W : HGW g N) (hN : N ≤ 60) : ∀ (b : Nat) (k : Int), k < (b : Int) → -1 ≤ k → k < (N : Int) → ∀ (S : SS) (ls : List Nat), ORD S ls → OKL N ls → (∀ x, x ∈ ls → k < (x : Int)) → ∃ S', OFF LOR S S' ∧ ORD S' (ls ++ chnG g (b + 1) k) ∧ OKL N (ls ++ chnG g (b + 1) k) ∧ ∀ (d : Nat) (h0 : ah) (T : Nat) (Q : QT), PTO ρ g N M h0 T → wpB PGm ρ (d + 1) m_Md_orders 37 [(0, vR T), (2, vI ((ls ++ chnG g (b + 1) k).length : Int)), (3, vI 0)] [] (cn h0 T S') Q → wpB PGm ρ (d + 1) m_Md_orders 7 [(0, vR T), (2, vI k)] [] (cn h0 T S) Q := fun b => by
  induction b with
  | zero =>
    intro k h1 h2 h3 S ls O1 O2 hx
    have e : chnG g (0 + 1) k = [] := by unfold chnG; rw [if_pos (by omega)]
    rw [e, List.append_nil]
    refine ⟨S, OFF.rf, O1, O2, fun d h0 T Q p q => b_Md_orders_7 ⟨fun _ => ⟨p.1.1.1, ?_⟩, fun z => absurd z (by omega)⟩⟩
    rw [cnI (by decide), O1.1]; exact q
  | succ b ih =>
    intro k h1 h2 h3 S ls O1 O2 hx
    by_cases w : k < 0
    · have e : chnG g (b + 1 + 1) k = [] := by unfold chnG; rw [if_pos w]
      rw [e, List.append_nil]
      refine ⟨S, OFF.rf, O1, O2, fun d h0 T Q p q => b_Md_orders_7 ⟨fun _ => ⟨p.1.1.1, ?_⟩, fun z => absurd z (by omega)⟩⟩
      rw [cnI (by decide), O1.1]; exact q
    · have ek : (k.toNat : Int) = k := by omega
      have e : chnG g (b + 1 + 1) k = k.toNat :: chnG g (b + 1) (g.1 2 k.toNat) := by
        conv => lhs; unfold chnG
        rw [if_neg w]
      have kN : k.toNat < N := by omega
      have wa := (W k.toNat kN).2.1
      have nm : k.toNat ∉ ls := fun z => by have := hx _ z; omega
      have O3 := O2.add kN nm
      have l3 := O3.len
      rw [List.length_append] at l3
      simp only [List.length_singleton] at l3
      obtain ⟨S', f1, o1, o2, c1⟩ := ih (g.1 2 k.toNat) (by omega) (by omega) (by omega) _ _ (O1.add (c := k.toNat)) O3 (fun x hx' => by
        rcases List.mem_append.mp hx' with z | z
        · have := hx x z; omega
        · simp at z; omega)
      rw [List.append_assoc] at o1 o2 c1
      rw [e]
      refine ⟨S', ((OFF.rf.u (by decide)).u (by decide)).tr f1, o1, o2, fun d h0 T Q p q => b_Md_orders_7 ⟨fun z => absurd z w, fun _ => ⟨p.1.1.1, ?_⟩⟩⟩
      have H := p.pth.2
      have O := p.1.1
      have kT := O.1
      have ⟨a1, a2, a3, a4, a5, a6, a7, a8⟩ := H
      obtain ⟨r1, r2, r3, -⟩ := a7 k.toNat kN
      have tK := tKH a2.1
      have tL := tLH a2.1
      have kk := a2.2
      have b1 : 0 ≤ k ∧ k < ((60 : Nat) : Int) := by omega
      have g1 := c1 d h0 T Q p q
      have aa := s_addOrder (ρ := ρ) (d := d) (c := k.toNat) (Q := cI (fun x14 h9 => hK h9 T = k_Md ∧ hK h9 (hR h9 f_Md_host T) = k_MdHost ∧ (hK h9 (hR h9 f_MdHost_above (hR h9 f_Md_host T)) ∈ [1, 11] ∧ 0 ≤ k ∧ k < (hl h9 (hR h9 f_MdHost_above (hR h9 f_Md_host T)) : Int)) ∧ wpB PGm ρ (d + 1) m_Md_orders 7 [(0, vR T), (2, vI (hA h9 (hR h9 f_MdHost_above (hR h9 f_Md_host T)) (k).toNat))] [] h9 Q) (fun e12 h11 => hK h11 e12 ≠ 0 ∧ Q (Sum.inr e12) h11)) O O1 (by omega) (by omega) (fun _ => by omega) (fun _ => ?_) (fun z => absurd z nm)
      · rw [ek] at aa; exact aa
      · have tA := tAH (S := u2 (u2 S f_Md_order ls.length (k.toNat : Int)) f_Md_ordered 0 ((ls.length + 1 : Nat) : Int)) O a2
        clear a7 a8 H ih W
        simp (decide := true) (disch := first | decide | omega) only [cI, cnI, cnR, cnK, cnl, kT, kk, tA, tK, tL, r3, true_and, and_true]
        exact ⟨b1, g1⟩
theorem s_ord37 (W : HGW g N) (hN : N ≤ 60) (ch : List Nat) : ∀ mm j, j + mm = ch.length → (∀ x, x ∈ ch → x < N) → ∀ (S : SS) (ls : List Nat), ORD S (ch ++ ls) → OKL N (ch ++ ls) → ∃ S', OFF LOR S S' ∧ ORD S' ((ch.drop j).foldl (fun o k => dfsB g 60 o k) (ch ++ ls)) ∧ OKL N ((ch.drop j).foldl (fun o k => dfsB g 60 o k) (ch ++ ls)) ∧ TC ρ (PTO ρ g N M) 122 m_Md_orders 37 [(2, vI (ch.length : Int)), (3, vI (j : Int))] [] S (some none) S' := fun mm => by
  induction mm with
  | zero =>
    intro j hj hx S ls O1 O2
    rw [List.drop_eq_nil_of_le (by omega)]
    exact ⟨S, OFF.rf, O1, O2, fun d h0 T Q p q => b_Md_orders_37 ⟨fun _ => q, fun z => absurd z (by omega)⟩⟩
  | succ mm ih =>
    intro j hj hx S ls O1 O2
    have lt : j < ch.length := by omega
    have gx : ch.getD j 0 = ch[j] := by rw [List.getD_eq_getElem?_getD, List.getElem?_eq_getElem lt, Option.getD_some]
    have ed : ch.drop j = ch.getD j 0 :: ch.drop (j + 1) := by rw [List.drop_eq_getElem_cons lt, gx]
    have hk : ch.getD j 0 < N := by rw [gx]; exact hx _ (List.getElem_mem lt)
    have er : S f_Md_order j = ((ch.getD j 0 : Nat) : Int) := by
      rw [O1.2 j (by rw [List.length_append]; omega), List.getD_eq_getElem?_getD, List.getD_eq_getElem?_getD, List.getElem?_append_left lt]
    obtain ⟨S1, f1, o1, c1⟩ := s_supers (ρ := ρ) (M := M) W hN 60 (ch.getD j 0) (by omega) hk S _ O1 O2
    obtain ⟨r, re⟩ := dfsB_pre (g := g) 60 (ch ++ ls) (ch.getD j 0)
    have o2 := dfsB_ok W 60 _ _ O2 hk
    rw [re, List.append_assoc] at o1 o2
    obtain ⟨S', f2, o3, o4, c2⟩ := ih (j + 1) (by omega) hx S1 (ls ++ r) o1 o2
    rw [ed]
    simp only [List.foldl_cons]
    rw [re, List.append_assoc]
    have lc : ch.length ≤ 60 := by have := O2.len; rw [List.length_append] at this; omega
    refine ⟨S', f1.tr f2, o3, o4, fun d h0 T Q p q => b_Md_orders_37 (d := d + 121) ⟨fun z => absurd z (by omega), fun _ => ?_⟩⟩
    have O := p.1.1
    have kT := O.1
    have G := O.2.1
    have b1 : 0 ≤ (j : Int) ∧ (j : Int) < ((60 : Nat) : Int) := by omega
    have g1 := c1 d h0 T (cV (fun h9 => wpB PGm ρ (d + 122) m_Md_orders 37 [(0, vR T), (2, vI (ch.length : Int)), (3, vI ((j + 1 : Nat) : Int))] [] h9 Q) (fun e12 h11 => hK h11 e12 ≠ 0 ∧ Q (Sum.inr e12) h11)) p (c2 d h0 T Q p q)
    have w1 : w32 ((j : Int) + 1) = ((j + 1 : Nat) : Int) := w32_p1 (by omega)
    clear ih W
    simp (decide := true) (disch := first | decide | omega) only [cnI, cnR, cnK, cnl, cnA' G, kT, KN G, LN G, er, w1, Int.toNat_natCast, true_and, and_true]
    exact ⟨b1, g1⟩
theorem s_orders (W : HGW g N) (hN : N ≤ 60) (hc : c < N) : ∃ S', OFF LOR S S' ∧ ORD S' (ordG g c) ∧ OKL N (ordG g c) ∧ TC ρ (PTO ρ g N M) 122 m_Md_orders 0 [(1, vI (c : Int))] [] S (some none) S' := by
  obtain ⟨S1, f1, o1, o2, c1⟩ := s_ord7 (ρ := ρ) (M := M) W hN 60 (c : Int) (by omega) (by omega) (by omega) (u2 S f_Md_ordered 0 0) [] ⟨by rw [u2_s]; rfl, fun i hi => absurd hi (by simp)⟩ ⟨List.nodup_nil, fun x hx => absurd hx (by simp)⟩ (fun x hx => absurd hx (by simp))
  rw [List.nil_append] at o1 o2 c1
  obtain ⟨S2, f2, o3, o4, c2⟩ := s_ord37 (ρ := ρ) (M := M) W hN (chnG g 61 (c : Int)) (chnG g 61 (c : Int)).length 0 (by omega) (fun x hx => o2.2 x hx) S1 [] (by rw [List.append_nil]; exact o1) (by rw [List.append_nil]; exact o2)
  rw [List.append_nil, List.drop_zero] at o3 o4
  refine ⟨S2, (OFF.rf.u (by decide)).tr (f1.tr f2), o3, o4, fun d h0 T Q p q => b_Md_orders_0 ⟨p.1.1.1, ?_⟩⟩
  show wpB PGm ρ (d + 122) m_Md_orders 7 [(0, vR T), (2, vI (c : Int))] [] (sI (cn h0 T S) f_Md_ordered T 0) Q
  rw [cn_sI (by decide)]
  exact c1 (d + 121) h0 T Q p (c2 d h0 T Q p q)
/-- the name that is wanted -/
def WNT (S : SS) (L : List Int) : Prop := S f_Md_wantSize 0 = (L.length : Int) ∧ L.length ≤ 72 ∧ ∀ i, i < L.length → S f_Md_want i = L.getD i 0
theorem s_isWanted (O : TOK h0 T) (H : HRW h0 T k g N M) (hm : m < M) (w : WNT S l) (q1 : g.2 3 m = l → Q (Sum.inl (some (vI 1))) (cn h0 T S)) (q0 : ¬ g.2 3 m = l → Q (Sum.inl (some (vI 0))) (cn h0 T S)) : wpB PGm ρ d m_Md_isWanted 0 [(0, vR T), (1, vI (m : Int))] [] (cn h0 T S) Q := by
  have kT := O.1
  have G := O.2.1
  obtain ⟨w1, w2, w3⟩ := w
  have ⟨a1, a2, a3, a4, a5, a6, a7, a8⟩ := H
  subst a1
  obtain ⟨-, -, -, -, -, -, -, -, a, e1, e2, b1, b2⟩ := a8 m hm
  have tA := tAH (S := S) O a2
  have tK := tKH a2.1
  have tL := tLH a2.1
  have kk := a2.2
  have m4 : 0 ≤ (m : Int) ∧ (m : Int) < ((400 : Nat) : Int) := by omega
  -- the loop
  have lp : (g.2 3 m).length = l.length → ∀ mm j, j + mm = l.length → (∀ i, i < j → (g.2 3 m).getD i 0 = l.getD i 0) → wpB PGm ρ d m_Md_isWanted 37 [(0, vR T), (1, vI (m : Int)), (2, vI (l.length : Int)), (3, vI 1), (4, vI (j : Int))] [] (cn h0 T S) Q := fun le mm => by
    induction mm with
    | zero =>
      intro j hj hp
      refine b_Md_isWanted_37 ⟨fun _ => ⟨Or.inr rfl, q1 (list_ext0 le (fun i hi => hp i (by omega)))⟩, fun z => absurd z (by omega)⟩
    | succ mm ih =>
      intro j hj hp
      have jl : j < (g.2 3 m).length := by omega
      have s1 := (b2 j jl).1
      have s2 := w3 j (by omega)
      have c1 : 0 ≤ ((a + j : Nat) : Int) ∧ ((a + j : Nat) : Int) < ((65536 : Nat) : Int) := by omega
      have c2 : 0 ≤ (j : Int) ∧ (j : Int) < ((72 : Nat) : Int) := by omega
      have g1 := ih (j + 1) (by omega)
      have z0 : ¬ (g.2 3 m).getD j 0 = l.getD j 0 → wpB PGm ρ d m_Md_isWanted 37 [(0, vR T), (1, vI (m : Int)), (2, vI (l.length : Int)), (3, vI 0), (4, vI ((j + 1 : Nat) : Int))] [] (cn h0 T S) Q := fun ne => by
        have nq := q0 (fun c => ne (by rw [c]))
        exact b_Md_isWanted_37 ⟨fun _ => ⟨Or.inl rfl, nq⟩, fun _ => ⟨fun _ => ⟨Or.inl rfl, nq⟩, fun z => absurd rfl z⟩⟩
      have z1 : (g.2 3 m).getD j 0 = l.getD j 0 → wpB PGm ρ d m_Md_isWanted 37 [(0, vR T), (1, vI (m : Int)), (2, vI (l.length : Int)), (3, vI 1), (4, vI ((j + 1 : Nat) : Int))] [] (cn h0 T S) Q := fun e => g1 (fun i hi => by
        by_cases w : i = j
        · rw [w]; exact e
        · exact hp i (by omega))
      have y1 : a + j ≤ 2000000000 := by omega
      have y2 : w32 ((j : Int) + 1) = ((j + 1 : Nat) : Int) := w32_p1 (by omega)
      have y3 : w32 ((a : Int) + (j : Int)) = ((a + j : Nat) : Int) := w32_aa y1
      refine b_Md_isWanted_37 ⟨fun z => absurd z (by omega), fun _ => ⟨fun z => absurd z (by decide), fun _ => ?_⟩⟩
      clear ih g1 q1 q0 a8 a7 b2 hp w3
      simp (decide := true) (disch := first | decide | omega) only [cnI, cnR, cnK, cnl, cnA' G, kT, KN G, LN G, kk, tA, tK, tL, e1, y3, s1, s2, Int.toNat_natCast, true_and, and_true]
      refine ⟨m4, c1, c2, fun z => b_Md_isWanted_82 ?_, fun z => b_Md_isWanted_82 ?_⟩
      · rw [y2]; exact z0 z
      · rw [y2]; exact z1 z
  have hla : a + (g.2 3 m).length ≤ 1024 := b1
  have y4 : w32 (((a + (g.2 3 m).length : Nat) : Int) - (a : Int)) = ((g.2 3 m).length : Int) := by
    have := w32_ss (a := a + (g.2 3 m).length) (b := a) (by omega)
    rw [this]; congr 1; omega
  have zz : ¬ (g.2 3 m).length = l.length → wpB PGm ρ d m_Md_isWanted 37 [(0, vR T), (1, vI (m : Int)), (2, vI ((g.2 3 m).length : Int)), (3, vI 0), (4, vI 0)] [] (cn h0 T S) Q := fun ne => by
    have nq := q0 (fun c => ne (by rw [c]))
    exact b_Md_isWanted_37 ⟨fun _ => ⟨Or.inl rfl, nq⟩, fun _ => ⟨fun _ => ⟨Or.inl rfl, nq⟩, fun z => absurd rfl z⟩⟩
  have zy : (g.2 3 m).length = l.length → wpB PGm ρ d m_Md_isWanted 37 [(0, vR T), (1, vI (m : Int)), (2, vI ((g.2 3 m).length : Int)), (3, vI 1), (4, vI 0)] [] (cn h0 T S) Q := fun e => by
    have := lp e l.length 0 (by omega) (fun i hi => absurd hi (by omega))
    rw [e]; exact this
  refine b_Md_isWanted_0 ?_
  clear q1 q0 a8 a7 b2 lp w3
  simp (decide := true) (disch := first | decide | omega) only [cnI, cnR, cnK, cnl, kT, kk, tA, tK, tL, e1, e2, y4, w1, Int.toNat_natCast, true_and, and_true, Int.natCast_inj]
  exact ⟨m4, m4, fun z => b_Md_isWanted_33 (zz z), fun z => b_Md_isWanted_33 (zy z)⟩
end
