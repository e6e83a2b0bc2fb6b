/-! T's names -/
set_option maxRecDepth 20000
def TN (h : ah) (T : Nat) (ws : List (List Int)) : Prop := TT h T ∧ hK h T = k_Md ∧ hI h f_Md_names T = (ws.length : Int) ∧ ws.length ≤ 4000 ∧ ∀ k, k < ws.length → (ws.getD k []).length ≤ 60 ∧ hA h (hR h f_Md_nameSize T) k = ((ws.getD k []).length : Int) ∧ ∀ i, i < (ws.getD k []).length → hA h (hR h f_Md_nameSigns T) (60 * k + i) = (ws.getD k []).getD i 0
theorem w32_n {a b : Nat} (h : a + b ≤ 2000000000) : w32 ((a : Int) + (b : Int)) = ((a + b : Nat) : Int) := by rw [w32_of (by omega) (by omega)]; omega
theorem w32_60 {k i : Nat} (h : k ≤ 4000) (h2 : i ≤ 60) : w32 (w32 (60 * (k : Int)) + (i : Int)) = ((60 * k + i : Nat) : Int) := by
  rw [w32_of (x := 60 * (k : Int)) (by omega) (by omega), w32_of (by omega) (by omega)]; omega
section
variable {ρ : Nat → Nat} {d : Nat} {h : ah} {F : Int → ah → Prop} {E : Nat → ah → Prop} {T r at_ : Nat} {ws : List (List Int)} {l : List Int}
theorem t_findName (H : TN h T ws) (hk : hK h r ∈ [3, 4, 13]) (R : RW h r at_ l) (hb : at_ + l.length ≤ 1000000) (q1 : ∀ k : Nat, k < ws.length → ws.getD k [] = l → (∀ j, j < k → ws.getD j [] ≠ l) → F (k : Int) h) (q0 : l ∉ ws → F (-1) h) : wpB PGm ρ d m_Md_findName 0 [(0, vR T), (1, vR r), (2, vI (at_ : Int)), (3, vI (l.length : Int))] [] h (cI F E) := by
  obtain ⟨t, a1, a2, a3, a4⟩ := H
  have lp : ∀ m k, ws.length - k < m → k ≤ ws.length → (∀ j, j < k → ws.getD j [] ≠ l) → wpB PGm ρ d m_Md_findName 3 [(0, vR T), (1, vR r), (2, vI (at_ : Int)), (3, vI (l.length : Int)), (4, vI (k : Int))] [] h (cI F E) := by
    intro m
    induction m with
    | zero => intro k hm; omega
    | succ m ih =>
      intro k hm hk2 hno
      refine b_Md_findName_3 ⟨a1, fun z => q0 fun hm => ?_, fun z => ?_⟩
      · obtain ⟨j, j1, j2⟩ := mem_getD hm
        exact hno j (by omega) j2
      · rw [a2] at z
        have hk3 : k < ws.length := by omega
        obtain ⟨b1, b2, b3⟩ := a4 k hk3
        have nx : ws.getD k [] ≠ l → wpB PGm ρ d m_Md_findName 79 [(0, vR T), (1, vR r), (2, vI (at_ : Int)), (3, vI (l.length : Int)), (4, vI (k : Int)), (5, vI 0)] [] h (cI F E) := fun ne => by
          refine b_Md_findName_79 ⟨fun _ => ?_, fun z => absurd rfl z⟩
          rw [w32_s (by omega)]
          exact ih (k + 1) (by omega) (by omega) (fun j hj => by
            by_cases c : j = k
            · rw [c]; exact ne
            · exact hno j (by omega))
        rw [Int.toNat_natCast, b2]
        refine ⟨t.ri rfl (by omega), fun ne => b_Md_findName_28 (b_Md_findName_33 ⟨fun _ => nx (fun e => ne (by rw [e])), fun _ => ⟨fun _ => nx (fun e => ne (by rw [e])), fun z => absurd rfl z⟩⟩), fun el => b_Md_findName_28 ?_⟩
        have el2 : (ws.getD k []).length = l.length := by omega
        have il : ∀ m i, l.length - i < m → i ≤ l.length → (∀ j, j < i → (ws.getD k []).getD j 0 = l.getD j 0) → wpB PGm ρ d m_Md_findName 33 [(0, vR T), (1, vR r), (2, vI (at_ : Int)), (3, vI (l.length : Int)), (4, vI (k : Int)), (5, vI 1), (6, vI (i : Int))] [] h (cI F E) := by
          intro m
          induction m with
          | zero => intro i hm; omega
          | succ m ih2 =>
            intro i hm hi heq
            refine b_Md_findName_33 ⟨fun z => b_Md_findName_79 ⟨fun z => absurd z (by decide), fun _ => q1 k hk3 (leq el2 (fun j hj => heq j (by omega))) hno⟩, fun z => ⟨fun z => absurd z (by decide), fun _ => ⟨a1, ?_⟩⟩⟩
            have hi2 : i < l.length := by omega
            have := R.1
            rw [w32_60 (by omega) (by omega), w32_n (by omega), Int.toNat_natCast, Int.toNat_natCast, R.2 i hi2, b3 i (by omega)]
            refine ⟨t.rb rfl (by omega), ⟨hk, by omega, by omega⟩, fun ne => b_Md_findName_71 ?_, fun e => b_Md_findName_71 ?_⟩
            · have ne2 := nx (fun e => ne (by rw [e]))
              exact b_Md_findName_33 ⟨fun _ => ne2, fun _ => ⟨fun _ => ne2, fun z => absurd rfl z⟩⟩
            · rw [w32_s (by omega)]
              exact ih2 (i + 1) (by omega) (by omega) (fun j hj => by
                by_cases c : j = i
                · rw [c]; exact e
                · exact heq j (by omega))
        exact il _ 0 (Nat.lt_succ_self _) (Nat.zero_le _) (fun j hj => by omega)
  exact b_Md_findName_0 (lp _ 0 (Nat.lt_succ_self _) (Nat.zero_le _) (fun j hj => by omega))
/-- a name more -/
def tnew (h : ah) (T : Nat) (n : Nat) (l : List Int) : ah := sI (sA (sF h (hR h f_Md_nameSigns T) (fil h (hR h f_Md_nameSigns T) (60 * n) l l.length)) (hR h f_Md_nameSize T) n (l.length : Int)) f_Md_names T ((n + 1 : Nat) : Int)
theorem TN.new (H : TN h T ws) (hl1 : l.length ≤ 60) (hn : ws.length < 4000) : TN (tnew h T ws.length l) T (ws ++ [l]) := by
  obtain ⟨t, a1, a2, a3, a4⟩ := H
  have e1 : lkA tabM f_Md_nameSigns = some (3, 240000) := rfl
  have e2 : lkA tabM f_Md_nameSize = some (1, 4000) := rfl
  have ne := t.ne e1 e2 (by decide)
  refine ⟨t, a1, by simp [tnew, g_hI_sI], by simp; omega, fun k hk => ?_⟩
  simp only [List.length_append, List.length_cons, List.length_nil] at hk
  rw [app_getD1 (by omega)]
  have r1 : ∀ j, hA (tnew h T ws.length l) (hR h f_Md_nameSize T) j = if j = ws.length then (l.length : Int) else hA h (hR h f_Md_nameSize T) j := fun j => by
    simp only [tnew, g_hA_sI, g_hA_sA, g_hA_sF, ne.symm, if_false, true_and, and_true]
  have r2 : ∀ j, hA (tnew h T ws.length l) (hR h f_Md_nameSigns T) j = if 60 * ws.length ≤ j ∧ j < 60 * ws.length + l.length then l.getD (j - 60 * ws.length) 0 else hA h (hR h f_Md_nameSigns T) j := fun j => by
    simp only [tnew, g_hA_sI, g_hA_sA, g_hA_sF, ne, fil_ap, if_false, if_true, false_and]
  rw [show hR (tnew h T ws.length l) f_Md_nameSize T = hR h f_Md_nameSize T from rfl, show hR (tnew h T ws.length l) f_Md_nameSigns T = hR h f_Md_nameSigns T from rfl, r1]
  by_cases c : k = ws.length
  · simp only [if_pos c]
    refine ⟨hl1, trivial, fun i hi => ?_⟩
    rw [r2, if_pos (by omega)]
    congr 1
    omega
  · simp only [if_neg c]
    obtain ⟨b1, b2, b3⟩ := a4 k (by omega)
    refine ⟨b1, b2, fun i hi => ?_⟩
    rw [r2, if_neg (by omega)]
    exact b3 i hi
theorem t_addName (H : TN h T ws) (hk : hK h r ∈ [3, 4, 13]) (R : RW h r at_ l) (hb : at_ + l.length ≤ 1000000) (hB : ∀ i, i < l.length → -128 ≤ l.getD i 0 ∧ l.getD i 0 ≤ 127) (hne : r ≠ hR h f_Md_nameSigns T) (hl1 : l.length ≤ 60) (hn : ws.length < 4000) (q : F (ws.length : Int) (tnew h T ws.length l)) : wpB PGm ρ d m_Md_addName 0 [(0, vR T), (1, vR r), (2, vI (at_ : Int)), (3, vI (l.length : Int))] [] h (cI F E) := by
  obtain ⟨t, a1, a2, a3, a4⟩ := H
  have lp : ∀ m k, l.length - k < m → k ≤ l.length → wpB PGm ρ d m_Md_addName 3 [(0, vR T), (1, vR r), (2, vI (at_ : Int)), (3, vI (l.length : Int)), (4, vI (k : Int))] [] (sF h (hR h f_Md_nameSigns T) (fil h (hR h f_Md_nameSigns T) (60 * ws.length) l k)) (cI F E) := by
    intro m
    induction m with
    | zero => intro k hm; omega
    | succ m ih =>
      intro k hm hk2
      have p3 : k < l.length → w32 ((k : Int) + 1) = ((k + 1 : Nat) : Int) ∧ w32 (w32 (60 * (ws.length : Int)) + (k : Int)) = ((60 * ws.length + k : Nat) : Int) ∧ w32 ((at_ : Int) + (k : Int)) = ((at_ + k : Nat) : Int) := fun c => ⟨w32_s (by omega), w32_60 (by omega) (by omega), w32_n (by omega)⟩
      have eI : hI (sF h (hR h f_Md_nameSigns T) (fil h (hR h f_Md_nameSigns T) (60 * ws.length) l k)) f_Md_names T = (ws.length : Int) := a2
      have eR : ∀ f, hR (sF h (hR h f_Md_nameSigns T) (fil h (hR h f_Md_nameSigns T) (60 * ws.length) l k)) f T = hR h f T := fun _ => rfl
      have w1 := t.wi (f := f_Md_nameSize) (i := (ws.length : Int)) rfl (by omega)
      have p1 : w32 (((ws.length + 1 : Nat) : Int) - 1) = (ws.length : Int) := by rw [w32_of (by omega) (by omega)]; omega
      have p2 : w32 ((ws.length : Int) + 1) = ((ws.length + 1 : Nat) : Int) := w32_s (by omega)
      refine b_Md_addName_3 ⟨fun z => ⟨a1, ?_⟩, fun z => ⟨a1, ?_⟩⟩
      · have ek : k = l.length := by omega
        subst ek
        rw [eI, eR, Int.toNat_natCast]
        refine ⟨w1, ?_⟩
        intro h7
        rw [show hI h7 f_Md_names T = (ws.length : Int) from a2, p2]
        intro h8
        rw [show hI h8 f_Md_names T = ((ws.length + 1 : Nat) : Int) from I_I _ _ _ _, p1]
        exact q
      · have hk3 : k < l.length := by omega
        have := R.1
        have hbk := hB k hk3
        have b2 : (0 : Int) ≤ ((60 * ws.length + k : Nat) : Int) ∧ ((60 * ws.length + k : Nat) : Int) < ((240000 : Nat) : Int) := by clear hbk ih p1 p2 p3 eI eR w1; omega
        have w2 := t.wb (f := f_Md_nameSigns) (i := ((60 * ws.length + k : Nat) : Int)) rfl hbk b2
        have g1 : (0 : Int) ≤ ((at_ + k : Nat) : Int) ∧ ((at_ + k : Nat) : Int) < (hl h r : Int) := by clear p1 p2 p3 eI w1; omega
        have g2 : l.length - (k + 1) < m := by clear p1 p2 p3 eI w1; omega
        have ra : hA (sF h (hR h f_Md_nameSigns T) (fil h (hR h f_Md_nameSigns T) (60 * ws.length) l k)) r (at_ + k) = l.getD k 0 := by
          rw [g_hA_sF, if_neg hne]; exact R.2 k hk3
        rw [eI, eR, (p3 hk3).2.1, (p3 hk3).2.2, Int.toNat_natCast, Int.toNat_natCast, ra, sF_s rfl, (p3 hk3).1]
        exact ⟨⟨hk, g1⟩, w2, ih (k + 1) g2 hk3⟩
  have := lp _ 0 (Nat.lt_succ_self _) (Nat.zero_le _)
  rw [sF_0] at this
  exact b_Md_addName_0 this
end
