/-! C's host: how a class lays out its fields -/
set_option maxRecDepth 20000
def inB (g : HG) (m : Nat) : Bool := decide (g.1 6 m = 0) && decide (g.1 7 m = 0)
section
variable {ρ : Nat → Nat} {d : Nat} {Q : QT} {h h' h1 h2 : ah} {ho k n m i j N M a b z s x y ca ph nw : Nat} {g : HG} {v p es lo sb st c : Int} {hw : List (List Int)} {L ts : List Int} {cs o : List Nat} {w : Nat → Bool} {F : Int → ah → Prop} {E : Nat → ah → Prop} {FR : Nat → ah → Prop}
theorem memG_g (hk : k < (g.1 4 i).toNat) : (memG g i).length = (g.1 4 i).toNat ∧ (memG g i).take (k + 1) = (memG g i).take k ++ [(g.1 3 i).toNat + k] := by
  have ml : (memG g i).length = (g.1 4 i).toNat := by unfold memG; simp
  refine ⟨ml, ?_⟩
  rw [List.take_succ_eq_append_getElem (by omega)]
  congr 2
  unfold memG; simp
theorem c_own (W2 : HMW g N M) (hi : i < N) (H : HCX ρ h ho g N M hw) (hd : 10 ≤ d) (q : F ((infG g i).length : Int) h) : wpB PGm ρ d m_HostType_ownFields 0 [(0, vR (hB h (ho + 2) i))] [] h (cI F E) := by
  obtain ⟨w1, w2, w3⟩ := W2 i hi
  have M4 := H.hh.2.2.2.2.2.2.2.2.2.2
  have ml : (memG g i).length = (g.1 4 i).toNat := by unfold memG; simp
  obtain ⟨⟨y1, -, -⟩, -, -, -, -, -, -, ⟨y2, y3, y4⟩, -⟩ := H.tp hi
  have lp : ∀ mm k, k + mm = (g.1 4 i).toNat → wpB PGm ρ d m_HostType_ownFields 4 [(0, vR (hB h (ho + 2) i)), (1, vI ((((memG g i).take k).filter (inB g)).length : Int)), (2, vI (k : Int))] [] h (cI F E) := fun mm => by
    induction mm with
    | zero =>
      intro k hk
      have ln : ¬ (k : Int) < (hl h (hR h f_HostType_members (hB h (ho + 2) i)) : Int) := by omega
      have e : (memG g i).take k = memG g i := List.take_of_length_le (by omega)
      rw [e]
      exact b_HostType_ownFields_4 hd ⟨y1, y2.1.1, y2.1, fun _ => q, fun c => absurd c ln⟩
    | succ mm ih =>
      intro k hk
      have kl : k < (g.1 4 i).toNat := by omega
      have mM : (g.1 3 i).toNat + k < M := by omega
      have ln : ¬ (hl h (hR h f_HostType_members (hB h (ho + 2) i)) : Int) ≤ (k : Int) ∧ 0 ≤ (k : Int) ∧ (k : Int) < (hl h (hR h f_HostType_members (hB h (ho + 2) i)) : Int) ∧ k ≤ 2000000000 := by omega
      obtain ⟨⟨m1, m2, m3⟩, -, m4, -, -, -, -, m5, -, m6, -, -, m7⟩ := H.me mM
      have fl : (((memG g i).take k).filter (inB g)).length ≤ k := Nat.le_trans (List.length_filter_le _ _) (by rw [List.length_take]; omega)
      have g1 := ih (k + 1) (by omega)
      rw [(memG_g kl).2, List.filter_append, List.length_append] at g1
      have bb : (((memG g i).take k).filter (inB g)).length + 1 ≤ 2000000000 := by omega
      have b0 : (((memG g i).take k).filter (inB g)).length + 0 ≤ 2000000000 := by omega
      generalize (((memG g i).take k).filter (inB g)).length = r at *
      have g55 : ∀ u : Nat, u ≤ 1 → (([(g.1 3 i).toNat + k].filter (inB g)).length = u) → wpB PGm ρ d m_HostType_ownFields 55 [(0, vR (hB h (ho + 2) i)), (2, vI (k : Int))] [vI (u : Int), vI (r : Int)] h (cI F E) := fun u hu eu => by
        rw [eu] at g1
        refine b_HostType_ownFields_55 ?_
        rw [w32_p1 ln.2.2.2, w32_aa (by omega)]
        exact g1
      have no : ¬ inB g ((g.1 3 i).toNat + k) = true → ([(g.1 3 i).toNat + k].filter (inB g)).length = 0 := fun w => by rw [List.filter_cons_of_neg w]; rfl
      have yes : inB g ((g.1 3 i).toNat + k) = true → ([(g.1 3 i).toNat + k].filter (inB g)).length = 1 := fun w => by rw [List.filter_cons_of_pos w]; rfl
      refine b_HostType_ownFields_4 hd ⟨y1, y2.1.1, y2.1, fun c => absurd c ln.1, fun _ => ⟨y2.1.1, ⟨y2.1, ln.2.1, ln.2.2.1⟩, ?_⟩⟩
      rw [Int.toNat_natCast, y4 k (by omega)]
      refine ⟨Or.inr (by rw [m1]; decide), m1, ?_⟩
      rw [m4]
      refine ⟨fun c => g55 0 (by omega) (no (fun z => c ?_)), fun c0 => ⟨y2.1.1, ⟨y2.1, ln.2.1, ln.2.2.1⟩, Or.inr (by rw [m1]; decide), ?_⟩⟩
      · unfold inB at z
        simp only [Bool.and_eq_true, decide_eq_true_eq] at z
        exact z.1
      · rw [m5]
        refine ⟨fun c => g55 0 (by omega) (no (fun z => c ?_)), fun c => g55 1 (by omega) (yes ?_)⟩
        · unfold inB at z
          simp only [Bool.and_eq_true, decide_eq_true_eq] at z
          exact z.2
        · unfold inB
          simp only [Bool.and_eq_true, decide_eq_true_eq]
          exact ⟨c0, c⟩
  exact b_HostType_ownFields_0 (lp (g.1 4 i).toNat 0 (by omega))
end
