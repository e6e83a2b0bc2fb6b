/-! T: classes in the order of members that may be meant -/
set_option maxRecDepth 20000
/-- only some rows are changed -/
def OFF (L : List Nat) (S S' : SS) : Prop := ∀ f i, L.elem f = false → S' f i = S f i
def LOR : List Nat := [f_Md_order, f_Md_ordered]
section
variable {ρ : Nat → Nat} {P : ah → Nat → Prop} {d : Nat} {Q : QT} {h h0 : ah} {T k n m f i j c N M b : Nat} {S S' S1 S2 : SS} {g : HG} {tp l o : List Int} {v : Int} {ls L L' : List Nat}
theorem OFF.rf : OFF L S S := fun _ _ _ => rfl
theorem OFF.tr (a : OFF L S S1) (b : OFF L S1 S2) : OFF L S S2 := fun f i h => (b f i h).trans (a f i h)
theorem OFF.u {f : Nat} (a : OFF L S S1) (e : L.elem f = true) : OFF L S (u2 S1 f i v) := fun f' i' h => by
  rw [u2_f (by rintro rfl; rw [e] at h; cases h)]; exact a f' i' h
theorem OFF.le (a : OFF L S S1) (e : L.all (fun f => L'.elem f) = true) : OFF L' S S1 := fun f i h => a f i (by
  cases w : L.elem f with
  | false => rfl
  | true => rw [List.all_eq_true.mp e f (by simpa using w)] at h; cases h)
theorem OFF.ex (a : OFF L S S1) (e : L'.all (fun f => !(L.elem f)) = true) : EXS L' S S1 := exs_of a e
theorem s_supers (W : HGW g N) (hN : N ≤ 60) : ∀ b c, c < b → c < N → ∀ (S : SS) (ls : List Nat), ORD S ls → OKL N ls → ∃ S', OFF LOR S S' ∧ ORD S' (dfsB g b ls c) ∧ TC ρ (PTO ρ g N M) (2 * b + 1) m_Md_ordersSupers 0 [(1, vI (c : Int))] [] S (some none) S' := fun b => by
  induction b with
  | zero => intro c hc; omega
  | succ b ih =>
    intro c hcb hcN S ls O1 O2
    have lp : ∀ mm j, j + mm = (g.2 1 c).length → ∀ (S : SS) (ls : List Nat), ORD S ls → OKL N ls → ∃ S', OFF LOR S S' ∧ ORD S' (((g.2 1 c).drop j).foldl (fun o s => if g.1 1 s.toNat = 1 ∧ ¬ s.toNat ∈ o then dfsB g b (o ++ [s.toNat]) s.toNat else o) ls) ∧ TC ρ (PTO ρ g N M) (2 * (b + 1) + 1) m_Md_ordersSupers 2 [(1, vI (c : Int)), (2, vI (j : Int))] [] S (some none) S' := fun mm => by
      induction mm with
      | zero =>
        intro j hj S ls O1 O2
        refine ⟨S, OFF.rf, by rw [List.drop_eq_nil_of_le (by omega)]; exact O1, fun d h0 T Q p q => ?_⟩
        have H := p.pth.2
        have O := p.1.1
        have kT := O.1
        have ⟨a1, a2, a3, a4, a5, a6, a7, a8⟩ := H
        obtain ⟨r1, r2, r3, r4, r5, -⟩ := a7 c hcN
        have tA := tAH (S := S) O a2
        have tK := tKH a2.1
        have tL := tLH a2.1
        have kk := a2.2
        have b1 : 0 ≤ (c : Int) ∧ (c : Int) < ((60 : Nat) : Int) := by omega
        have n1 : ((g.2 1 c).length : Int) ≤ (j : Int) := by omega
        have n2 : ¬ (j : Int) < ((g.2 1 c).length : Int) := by omega
        refine b_Md_ordersSupers_2 ?_
        clear a7 a8 ih H
        simp (decide := true) (disch := first | decide | omega) only [cnI, cnR, cnK, cnl, kT, kk, tA, tK, tL, r5, n1, n2, Int.toNat_natCast, true_and, and_true, false_implies, forall_const]
        exact ⟨b1, q⟩
      | succ mm ihm =>
        intro j hj S ls O1 O2
        have lt : j < (g.2 1 c).length := by omega
        have ws := (W c hcN).2.2.2 j lt
        have wl := (W c hcN).2.2.1
        have ed : (g.2 1 c).drop j = (g.2 1 c).getD j 0 :: (g.2 1 c).drop (j + 1) := by
          rw [List.drop_eq_getElem_cons lt, List.getD_eq_getElem?_getD, List.getElem?_eq_getElem lt, Option.getD_some]
        generalize es : (g.2 1 c).getD j 0 = s at ws ed
        have esn : (s.toNat : Int) = s := by omega
        have sN : s.toNat < N := by omega
        have ki := (W s.toNat sN).1
        rw [ed]
        simp only [List.foldl_cons]
        -- T up to the question whether it is an interface
        have fr : ∀ (d : Nat) (h0 : ah) (T : Nat) (Q : QT), PTO ρ g N M h0 T → (g.1 1 s.toNat = 0 → wpB PGm ρ (d + (2 * (b + 1) + 1)) m_Md_ordersSupers 2 [(0, vR T), (1, vI (c : Int)), (2, vI ((j + 1 : Nat) : Int))] [] (cn h0 T S) Q) → (¬ g.1 1 s.toNat = 0 → wpB PGm ρ (d + (2 * (b + 1))) m_Md_addOrder 0 [(0, vR T), (1, vI (s.toNat : Int))] [] (cn h0 T S) (cI (fun x20 h15 => ((x20 = 0 → wpB PGm ρ (d + (2 * (b + 1) + 1)) m_Md_ordersSupers 2 [(0, vR T), (1, vI (c : Int)), (2, vI ((j + 1 : Nat) : Int))] [] h15 Q) ∧ (¬ x20 = 0 → hK h15 T = k_Md ∧ wpB PGm ρ (d + (2 * (b + 1))) m_Md_ordersSupers 0 [(0, vR T), (1, vI (s.toNat : Int))] [] h15 (cV (fun h27 => wpB PGm ρ (d + (2 * (b + 1) + 1)) m_Md_ordersSupers 2 [(0, vR T), (1, vI (c : Int)), (2, vI ((j + 1 : Nat) : Int))] [] h27 Q) (fun e30 h29 => hK h29 e30 ≠ 0 ∧ Q (Sum.inr e30) h29))))) (fun e18 h17 => hK h17 e18 ≠ 0 ∧ Q (Sum.inr e18) h17))) → wpB PGm ρ (d + (2 * (b + 1) + 1)) m_Md_ordersSupers 2 [(0, vR T), (1, vI (c : Int)), (2, vI (j : Int))] [] (cn h0 T S) Q := by
          intro d h0 T Q p g1 g2
          have b1 : 0 ≤ (c : Int) ∧ (c : Int) < ((60 : Nat) : Int) := by omega
          have b2 : 0 ≤ ((60 * c + j : Nat) : Int) ∧ ((60 * c + j : Nat) : Int) < ((3600 : Nat) : Int) := by omega
          have b3 : 0 ≤ s ∧ s < ((60 : Nat) : Int) := by omega
          have n1 : ¬ ((g.2 1 c).length : Int) ≤ (j : Int) := by omega
          have n2 : (j : Int) < ((g.2 1 c).length : Int) := by omega
          have m1 : (60 * (c : Int)) = ((60 * c : Nat) : Int) := by omega
          have m2 : 60 * c + j ≤ 2000000000 := by omega
          have m3 : j ≤ 2000000000 := by omega
          have m4 : -2147483648 ≤ ((60 * c : Nat) : Int) ∧ ((60 * c : Nat) : Int) < 2147483648 := by omega
          have H := p.pth.2
          have O := p.1.1
          have kT := O.1
          have ⟨a1, a2, a3, a4, a5, a6, a7, a8⟩ := H
          obtain ⟨r1, r2, r3, r4, r5, r6, r7, -⟩ := a7 c hcN
          have r8 := r7 j lt
          rw [es] at r8
          obtain ⟨u1, -⟩ := a7 s.toNat sN
          have tA := tAH (S := S) O a2
          have tK := tKH a2.1
          have tL := tLH a2.1
          have kk := a2.2
          have w0 : w32 (60 * (c : Int)) = ((60 * c : Nat) : Int) := by rw [m1]; exact w32_of m4.1 m4.2
          have w1 : w32 (((60 * c : Nat) : Int) + (j : Int)) = ((60 * c + j : Nat) : Int) := w32_aa m2
          have w2 : w32 ((j : Int) + 1) = ((j + 1 : Nat) : Int) := w32_p1 m3
          rw [esn] at g2
          refine b_Md_ordersSupers_2 (d := d + (2 * (b + 1))) ?_
          clear a7 a8 ih H r7 ihm
          simp (decide := true) (disch := first | decide | omega) only [cnI, cnR, cnK, cnl, kT, kk, tA, tK, tL, r5, r8, n1, n2, w0, w1, w2, u1, Int.toNat_natCast, true_and, and_true, false_implies, forall_const]
          exact ⟨b1, b2, b3, g1, g2⟩
        by_cases iw : g.1 1 s.toNat = 0
        · obtain ⟨S', f1, o1, c1⟩ := ihm (j + 1) (by omega) S ls O1 O2
          refine ⟨S', f1, by rw [if_neg (by rw [iw]; simp)]; exact o1, fun d h0 T Q p q => fr d h0 T Q p (fun _ => c1 d h0 T Q p q) (fun z => absurd iw z)⟩
        · have i1 : g.1 1 s.toNat = 1 := by omega
          by_cases mw : s.toNat ∈ ls
          · obtain ⟨S', f1, o1, c1⟩ := ihm (j + 1) (by omega) S ls O1 O2
            refine ⟨S', f1, by rw [if_neg (by simp [mw])]; exact o1, fun d h0 T Q p q => fr d h0 T Q p (fun z => absurd z iw) (fun _ => ?_)⟩
            refine s_addOrder p.1.1 O1 (by omega) (by have := O2.len; omega) (fun z => absurd mw z) (fun z => absurd mw z) (fun _ => ?_)
            exact ⟨fun _ => c1 d h0 T Q p q, fun z => absurd rfl z⟩
          · have O3 := O2.add sN mw
            have l3 := O3.len
            rw [List.length_append] at l3
            simp only [List.length_singleton] at l3
            obtain ⟨S2, f2, o2, c2⟩ := ih s.toNat (by omega) sN _ _ (O1.add (c := s.toNat)) O3
            obtain ⟨S', f1, o1, c1⟩ := ihm (j + 1) (by omega) S2 _ o2 (dfsB_ok W b _ _ O3 sN)
            refine ⟨S', ((OFF.rf.u (by decide)).u (by decide)).tr (f2.tr f1), by rw [if_pos ⟨i1, mw⟩]; exact o1, fun d h0 T Q p q => fr d h0 T Q p (fun z => absurd z iw) (fun _ => ?_)⟩
            refine s_addOrder p.1.1 O1 (by omega) (by omega) (fun _ => by omega) (fun _ => ?_) (fun z => absurd z mw)
            refine ⟨fun z => absurd z (by decide), fun _ => ⟨p.1.1.1, ?_⟩⟩
            have := c2 (d + 1) h0 T (cV (fun h27 => wpB PGm ρ (d + (2 * (b + 1) + 1)) m_Md_ordersSupers 2 [(0, vR T), (1, vI (c : Int)), (2, vI ((j + 1 : Nat) : Int))] [] h27 Q) (fun e30 h29 => hK h29 e30 ≠ 0 ∧ Q (Sum.inr e30) h29)) p (c1 d h0 T Q p q)
            rw [show d + (2 * (b + 1)) = d + 1 + (2 * b + 1) by omega]
            exact this
    obtain ⟨S', f1, o1, c1⟩ := lp (g.2 1 c).length 0 (by omega) S ls O1 O2
    refine ⟨S', f1, by unfold dfsB; rw [List.drop_zero] at o1; exact o1, fun d h0 T Q p q => b_Md_ordersSupers_0 (c1 d h0 T Q p q)⟩
end
