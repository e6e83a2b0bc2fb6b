/-! C's host: the layout of a class -/
set_option maxRecDepth 20000
def LL (g : HG) (cs : List Nat) : List Nat := cs.reverse.flatMap (infG g)
/-- an array of members -/
def LYA (h : ah) (ho a : Nat) (ls : List Nat) : Prop := (hK h a = 24 ∧ a ≠ 0 ∧ a < hz h ∧ UNO h a) ∧ hl h a = ls.length ∧ ∀ i, i < ls.length → hB h a i = hB h (ho + 3) (ls.getD i 0)
/-- all that was there is as it was; one array more -/
def OL1 (h H : ah) : Prop := hz H = hz h + 1 ∧ ∀ x, x < hz h → hK H x = hK h x ∧ hl H x = hl h x ∧ (∀ f, hI H f x = hI h f x) ∧ (∀ f, hR H f x = hR h f x) ∧ (∀ i, hA H x i = hA h x i) ∧ ∀ i, hB H x i = hB h x i
section
variable {ρ : Nat → Nat} {d : Nat} {Q : QT} {h h' h1 h2 H : ah} {ho k n m i j N M a b z s x y ca ph nw l0 acc len : Nat} {g : HG} {v p es lo sb st c : Int} {hw : List (List Int)} {L ts : List Int} {cs o ls : List Nat} {w : Nat → Bool} {F : Int → ah → Prop} {E : Nat → ah → Prop} {FR : Nat → ah → Prop}
theorem LL_c : LL g (k :: cs) = LL g cs ++ infG g k := by
  unfold LL
  rw [List.reverse_cons, List.flatMap_append]
  simp
theorem inf_le (W2 : HMW g N M) (hk : k < N) : (infG g k).length ≤ M := by
  have := W2 k hk
  have h1 : (infG g k).length ≤ (memG g k).length := List.length_filter_le _ _
  have h2 : (memG g k).length = (g.1 4 k).toNat := by unfold memG; simp
  omega
theorem LL_le (W : HGW g N) (W2 : HMW g N M) : ∀ (b : Nat) (c : Int), c < (b : Int) → c < (N : Int) → (LL g (chnG g (b + 1) c)).length ≤ (b + 1) * M := fun b => by
  induction b with
  | zero =>
    intro c h1 h2
    unfold chnG
    rw [if_pos (by omega)]
    exact Nat.zero_le _
  | succ b ih =>
    intro c h1 h2
    by_cases c0 : c < 0
    · conv => lhs; unfold chnG
      rw [if_pos c0]
      exact Nat.zero_le _
    · have wa := (W c.toNat (by omega)).2.1
      conv => lhs; unfold chnG
      rw [if_neg c0, LL_c, List.length_append]
      have := ih (g.1 2 c.toNat) (by omega) (by omega)
      have := inf_le W2 (k := c.toNat) (by omega)
      rw [Nat.succ_mul]
      omega
theorem c_lay16 (W : HGW g N) (W2 : HMW g N M) (H : HCX ρ h ho g N M hw) : ∀ (b : Nat) (c : Int) (acc : Nat), c < (b : Int) → -1 ≤ c → c < (N : Int) → acc + (LL g (chnG g (b + 1) c)).length ≤ 2000000000 → wpB PGm ρ (d + 11) m_HostType_layout 16 [(0, vR l0), (1, vI ((acc + (LL g (chnG g (b + 1) c)).length : Nat) : Int)), (2, vR 0)] [] h Q → wpB PGm ρ (d + 11) m_HostType_layout 16 [(0, vR l0), (1, vI (acc : Int)), (2, vR (hcA h ho c))] [] h Q := fun b => by
  induction b with
  | zero =>
    intro c acc h1 h2 h3 hb q
    have e : hcA h ho c = 0 := if_pos (by omega)
    have e2 : chnG g (0 + 1) c = [] := by unfold chnG; rw [if_pos (by omega)]
    rw [e2] at q
    rw [e]
    exact q
  | succ b ih =>
    intro c acc h1 h2 h3 hb q
    by_cases c0 : c < 0
    · have e : hcA h ho c = 0 := if_pos c0
      have e2 : chnG g (b + 1 + 1) c = [] := by unfold chnG; rw [if_pos c0]
      rw [e2] at q
      rw [e]
      exact q
    · have wa := (W c.toNat (by omega)).2.1
      have e2 : chnG g (b + 1 + 1) c = c.toNat :: chnG g (b + 1) (g.1 2 c.toNat) := by
        conv => lhs; unfold chnG
        rw [if_neg c0]
      rw [e2, LL_c, List.length_append] at q hb
      have e : hcA h ho c = hB h (ho + 2) c.toNat := if_neg c0
      obtain ⟨⟨y1, y1', y0⟩, -, -, -, -, y5, -⟩ := H.tp (i := c.toNat) (by omega)
      have ab : hR h f_HostType_above (hB h (ho + 2) c.toNat) = hcA h ho (g.1 2 c.toNat) := by
        unfold hcA
        rcases y5 with ⟨z1, z2⟩ | ⟨z1, z2, z3⟩
        · rw [if_pos (by omega)]; exact z2
        · rw [if_neg (by omega)]; exact z3
      rw [e]
      refine b_HostType_layout_16 (d := d + 10) ⟨fun z => absurd z y0, fun _ => ⟨y1, c_own W2 (by omega) H (by omega) ⟨y1, ?_⟩⟩⟩
      rw [ab, w32_aa (by omega)]
      refine ih (g.1 2 c.toNat) _ (by omega) (by omega) (by omega) (by omega) ?_
      have e3 : acc + (infG g c.toNat).length + (LL g (chnG g (b + 1) (g.1 2 c.toNat))).length = acc + ((LL g (chnG g (b + 1) (g.1 2 c.toNat))).length + (infG g c.toNat).length) := by omega
      rw [e3]
      exact q
end
