/-! C's host: the layout of a class is filled -/
set_option maxRecDepth 20000
/-- the array a is being filled -/
def LYS (h H : ah) (a : Nat) (ls : List Nat) : Prop := OL1 h H ∧ Fr [] [] 1 ls.length h H ∧ hK H a = 24 ∧ hl H a = ls.length ∧ ∀ f, hR H f a = 0
section
variable {ρ : Nat → Nat} {d : Nat} {Q : QT} {h h' h1 h2 H : ah} {ho k n m i j N M a b z s x y ca ph nw l0 acc len : Nat} {g : HG} {v p es lo sb st c : Int} {hw : List (List Int)} {L ts : List Int} {cs o ls : List Nat} {w : Nat → Bool} {F : Int → ah → Prop} {E : Nat → ah → Prop} {FR : Nat → ah → Prop}
theorem LYS.put (A : LYS h H (hz h) ls) : LYS h (sB H (hz h) i v.toNat) (hz h) ls := by
  obtain ⟨⟨a1, a2⟩, a3, a4, a5⟩ := A
  refine ⟨⟨a1, fun x hx => ?_⟩, Fr.wB (Or.inl (Nat.le_refl _)) a3, a4, a5⟩
  obtain ⟨b1, b2, b3, b4, b5, b6⟩ := a2 x hx
  refine ⟨b1, b2, b3, b4, b5, fun i' => ?_⟩
  rw [g_hB_sB, if_neg (fun c => by omega)]
  exact b6 i'
theorem inf_g (hk : j < (g.1 4 k).toNat) (hb : inB g ((g.1 3 k).toNat + j) = true) : (((memG g k).take j).filter (inB g)).length < (infG g k).length ∧ (infG g k).getD (((memG g k).take j).filter (inB g)).length 0 = (g.1 3 k).toNat + j := by
  obtain ⟨ml, mt⟩ := memG_g (g := g) (i := k) hk
  have e : infG g k = ((memG g k).take j).filter (inB g) ++ ((g.1 3 k).toNat + j) :: ((memG g k).drop (j + 1)).filter (inB g) := by
    show (memG g k).filter (inB g) = _
    conv => lhs; rw [← List.take_append_drop (j + 1) (memG g k), mt]
    rw [List.filter_append, List.filter_append, List.filter_cons_of_pos hb, List.append_assoc]
    rfl
  rw [e]
  refine ⟨by rw [List.length_append, List.length_cons]; omega, ?_⟩
  rw [List.getD_eq_getElem?_getD, List.getElem?_append_right (Nat.le_refl _), Nat.sub_self]
  rfl
theorem c_lay59 (W2 : HMW g N M) (hk : k < N) (H0 : HCX ρ h ho g N M hw) (h61 : len + (infG g k).length ≤ ls.length) (hls : ls.length ≤ 1000000) (hg : ∀ j, j < (infG g k).length → ls.getD (len + j) 0 = (infG g k).getD j 0) (q : ∀ H, LYS h H (hz h) ls → (∀ i, len ≤ i → i < ls.length → hB H (hz h) i = hB h (ho + 3) (ls.getD i 0)) → wpB PGm ρ (d + 11) m_HostType_layout 42 [(0, vR l0), (1, vI (len : Int)), (2, vR (hz h)), (3, vR (hcA h ho (g.1 2 k)))] [] H Q) : ∀ mm j H, j + mm = (g.1 4 k).toNat → LYS h H (hz h) ls → (∀ i, len ≤ i → i < len + (((memG g k).take j).filter (inB g)).length → hB H (hz h) i = hB h (ho + 3) (ls.getD i 0)) → (∀ i, len + (infG g k).length ≤ i → i < ls.length → hB H (hz h) i = hB h (ho + 3) (ls.getD i 0)) → wpB PGm ρ (d + 11) m_HostType_layout 59 [(0, vR l0), (1, vI (len : Int)), (2, vR (hz h)), (3, vR (hB h (ho + 2) k)), (4, vI ((len + (((memG g k).take j).filter (inB g)).length : Nat) : Int)), (5, vI (j : Int))] [] H Q := fun mm => by
  obtain ⟨w1, w2, w3⟩ := W2 k hk
  have ml : (memG g k).length = (g.1 4 k).toNat := by unfold memG; simp
  obtain ⟨⟨y1, y1', y0⟩, -, -, -, -, y5, -, ⟨y2, y3, y4⟩, -⟩ := H0.tp hk
  have M4 := H0.hh.2.2.2.2.2.2.2.2.2.2
  have ab : hR h f_HostType_above (hB h (ho + 2) k) = hcA h ho (g.1 2 k) := by
    unfold hcA
    rcases y5 with ⟨z1, z2⟩ | ⟨z1, z2, z3⟩
    · rw [if_pos (by omega)]; exact z2
    · rw [if_neg (by omega)]; exact z3
  induction mm with
  | zero =>
    intro j H hj A c1 c2
    obtain ⟨-, -, -, oR, -, -⟩ := A.1.2 _ y1'
    obtain ⟨mK, ml', mI, -, -, mB⟩ := A.1.2 _ y2.2.2
    have k1 : hK H (hB h (ho + 2) k) = k_HostType := by rw [(A.1.2 _ y1').1]; exact y1
    have k2 : lok H (hR h f_HostType_members (hB h (ho + 2) k)) := ⟨by rw [mK]; exact y2.1.1, by rw [mI]; exact y2.1.2⟩
    have e : (memG g k).take j = memG g k := List.take_of_length_le (by omega)
    have ei : ((memG g k).filter (inB g)).length = (infG g k).length := rfl
    rw [e, ei] at c1
    have ln : ¬ (j : Int) < (hl h (hR h f_HostType_members (hB h (ho + 2) k)) : Int) := by omega
    refine b_HostType_layout_59 (by omega) ⟨k1, ?_⟩
    rw [oR, oR, ml', ab]
    exact ⟨k2.1, k2, fun _ => q H A (fun i i1 i2 => by
      by_cases w : i < len + (infG g k).length
      · exact c1 i i1 w
      · exact c2 i (by omega) i2), fun c => absurd c ln⟩
  | succ mm ih =>
    intro j H hj A c1 c2
    have kl : j < (g.1 4 k).toNat := by omega
    have mM : (g.1 3 k).toNat + j < M := by omega
    obtain ⟨⟨m1, m2, m3⟩, -, m4, -, -, -, -, m5, -⟩ := H0.me mM
    obtain ⟨-, -, -, oR, -, -⟩ := A.1.2 _ y1'
    obtain ⟨mK, ml', mI, -, -, mB⟩ := A.1.2 _ y2.2.2
    obtain ⟨pK, -, pI, -, -, -⟩ := A.1.2 _ m2
    have k1 : hK H (hB h (ho + 2) k) = k_HostType := by rw [(A.1.2 _ y1').1]; exact y1
    have k2 : lok H (hR h f_HostType_members (hB h (ho + 2) k)) := ⟨by rw [mK]; exact y2.1.1, by rw [mI]; exact y2.1.2⟩
    have km : hK H (hB h (ho + 3) ((g.1 3 k).toNat + j)) = k_Member := by rw [pK]; exact m1
    have fl : (((memG g k).take j).filter (inB g)).length ≤ j := Nat.le_trans (List.length_filter_le _ _) (by rw [List.length_take]; omega)
    have ln : ¬ (hl h (hR h f_HostType_members (hB h (ho + 2) k)) : Int) ≤ (j : Int) ∧ 0 ≤ (j : Int) ∧ (j : Int) < (hl h (hR h f_HostType_members (hB h (ho + 2) k)) : Int) ∧ j ≤ 2000000000 := by omega
    have lt : ((memG g k).take (j + 1)).filter (inB g) = ((memG g k).take j).filter (inB g) ++ [(g.1 3 k).toNat + j].filter (inB g) := by rw [(memG_g kl).2, List.filter_append]
    have no : ¬ inB g ((g.1 3 k).toNat + j) = true → wpB PGm ρ (d + 11) m_HostType_layout 59 [(0, vR l0), (1, vI (len : Int)), (2, vR (hz h)), (3, vR (hB h (ho + 2) k)), (4, vI ((len + (((memG g k).take j).filter (inB g)).length : Nat) : Int)), (5, vI (w32 ((j : Int) + 1)))] [] H Q := fun w => by
      rw [w32_p1 ln.2.2.2]
      have e : ((memG g k).take (j + 1)).filter (inB g) = ((memG g k).take j).filter (inB g) := by rw [lt, List.filter_cons_of_neg w]; simp
      have g1 := ih (j + 1) H (by omega) A
      rw [e] at g1
      exact g1 c1 c2
    have yes : inB g ((g.1 3 k).toNat + j) = true → (0 ≤ ((len + (((memG g k).take j).filter (inB g)).length : Nat) : Int) ∧ ((len + (((memG g k).take j).filter (inB g)).length : Nat) : Int) < (ls.length : Int)) ∧ wpB PGm ρ (d + 11) m_HostType_layout 59 [(0, vR l0), (1, vI (len : Int)), (2, vR (hz h)), (3, vR (hB h (ho + 2) k)), (4, vI (w32 (((len + (((memG g k).take j).filter (inB g)).length : Nat) : Int) + 1))), (5, vI (w32 ((j : Int) + 1)))] [] (sB H (hz h) (len + (((memG g k).take j).filter (inB g)).length) (hB h (ho + 3) ((g.1 3 k).toNat + j))) Q := fun w => by
      obtain ⟨f1, f2⟩ := inf_g kl w
      have e : ((memG g k).take (j + 1)).filter (inB g) = ((memG g k).take j).filter (inB g) ++ [(g.1 3 k).toNat + j] := by rw [lt, List.filter_cons_of_pos w]; rfl
      have gg := hg _ f1
      rw [f2] at gg
      refine ⟨by omega, ?_⟩
      have A2 := A.put (i := len + (((memG g k).take j).filter (inB g)).length) (v := ((hB h (ho + 3) ((g.1 3 k).toNat + j) : Nat) : Int))
      rw [Int.toNat_natCast] at A2
      have g1 := ih (j + 1) _ (by omega) A2
      rw [e, List.length_append, List.length_singleton] at g1
      rw [w32_p1 ln.2.2.2, w32_p1 (by omega)]
      refine g1 (fun i i1 i2 => ?_) (fun i i1 i2 => ?_)
      · rw [g_hB_sB]
        by_cases w3 : i = len + (((memG g k).take j).filter (inB g)).length
        · rw [if_pos ⟨rfl, w3⟩, w3, gg]
        · rw [if_neg (fun c => w3 c.2)]
          exact c1 i i1 (by omega)
      · rw [g_hB_sB, if_neg (fun c => by omega)]
        exact c2 i i1 i2
    refine b_HostType_layout_59 (by omega) ⟨k1, ?_⟩
    rw [oR, oR, ml', Int.toNat_natCast, Int.toNat_natCast, mB, y4 j (by omega), pI, pI, m4, m5, A.2.2.2.1]
    refine ⟨k2.1, k2, fun c => absurd c ln.1, fun _ => ⟨k2.1, ⟨k2, ln.2.1, ln.2.2.1⟩, Or.inr (by rw [km]; decide), km, fun c => no (fun z => c ?_), fun c0 => ⟨fun c => ?_, fun c => no (fun z => c ?_)⟩⟩⟩
    · unfold inB at z
      simp only [Bool.and_eq_true, decide_eq_true_eq] at z
      exact z.1
    · obtain ⟨z1, z2⟩ := yes (by unfold inB; simp only [Bool.and_eq_true, decide_eq_true_eq]; exact ⟨c0, c⟩)
      exact ⟨⟨⟨A.2.2.1, Or.inr (by rw [km]; decide)⟩, z1⟩, z2⟩
    · unfold inB at z
      simp only [Bool.and_eq_true, decide_eq_true_eq] at z
      exact z.2
end
