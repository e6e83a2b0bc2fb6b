/-! T: the builtin turn -/
set_option maxRecDepth 20000
section
variable {ρ : Nat → Nat} {d : Nat} {h0 : ah} {Q : QT} {T k f n i j t c p0 kk : Nat} {p b o : Int} {S S' S1 : SS}
theorem s_TURN0 (O : TOK h0 T) (D : DF S t n c f p0 kk 28 3 b) (n2 : 2 ≤ n) (q : ∀ K : QT, (∀ S3, TF S3 t n c → S3 f_Md_top 0 = S f_Md_top 0 → S3 f_Md_after 0 = S f_Md_after 0 → Q (Sum.inl none) (cn h0 T (atS (u2 S3 f_Md_height t ((n - 1 : Nat) : Int)) t c ((p0 + 1 : Nat) : Int))) → K (Sum.inl none) (cn h0 T S3)) → (∀ S3, Q (Sum.inr (hR h0 f_Md_halt T)) (cn h0 T S3) → K (Sum.inr (hR h0 f_Md_halt T)) (cn h0 T S3)) → wpB PGm ρ (d + 57) m_Md_turns 0 [(0, vR T), (1, vI ((2100 * t + (n - 2) : Nat) : Int)), (2, vI ((2100 * t + (n - 1) : Nat) : Int))] [] (cn h0 T S) K) : wpB PGm ρ (d + 60) m_Md_does 0 [(0, vR T)] [] (cn h0 T S) Q := by
  have O' := O
  have d2 := D.2.1
  have w2 : w32 (((2100 * t + n : Nat) : Int) - 1) = ((2100 * t + (n - 1) : Nat) : Int) := by
    have : 2100 * t + (n - 1) = 2100 * t + n - 1 := by omega
    rw [this]; exact w32_m1 (by omega)
  have w3 : w32 (((2100 * t + (n - 1) : Nat) : Int) - 1) = ((2100 * t + (n - 2) : Nat) : Int) := by
    have : 2100 * t + (n - 2) = 2100 * t + (n - 1) - 1 := by omega
    rw [this]; exact w32_m1 (by omega)
  have kT := O'.1
  have G0 := O'.2.1
  have kH : hK h0 (hR h0 f_Md_halt T) ≠ 0 := by rw [O'.2.2]; decide
  refine s_BLT (d := d + 52) O' D ?_
  refine b_Md_builtins_0 ⟨O'.1, s_h O' D.1 d2.1 (by omega) ?_⟩
  simp (decide := true) only [cI, cnI, cnR, cnK, cnl, cnA' G0, kT, KN G0, LN G0, w2, w3, Int.toNat_natCast, true_and, and_true, false_implies, forall_const]
  refine q _ (fun S3 F3 e1 e2 qq => ?_) (fun S3 qq => ⟨kH, bK_er O' qq⟩)
  have g := bK_fin (ρ := ρ) (d := d + 52) (S1 := u2 S3 f_Md_height t ((n - 1 : Nat) : Int)) (Q := Q) O' D (by rw [u2_f (by decide)]; exact e1) (by rw [u2_f (by decide)]; exact e2) qq
  have f1 := F3.1
  have f4 := F3.2.2.2.1
  have c1 : 0 ≤ (t : Int) ∧ (t : Int) < ((2 : Nat) : Int) := by have := d2.1; omega
  have w4 : w32 ((n : Int) - 1) = ((n - 1 : Nat) : Int) := w32_m1 (by omega)
  clear q qq w2 w3
  show hK (cn h0 T S3) T = k_Md ∧ _
  simp (decide := true) only [cnI, cnR, cnK, cnl, cnA' G0, cn_sA' G0, kT, KN G0, LN G0, f1, f4, w4, Int.toNat_natCast, true_and, and_true]
  exact ⟨c1, c1, g⟩
/-- what is asked of both -/
theorem s_turns (O : TOK h0 T) {x y : Nat} (hx : x < 4200) (hy : y < 4200) (hv : S f_Md_pileType x = 4 ∨ S f_Md_pileType x = 5 → S f_Md_pileValue x = (k : Int) ∧ k < 8000) (hp : S f_Md_pileType y = 0 ∧ p = -1 ∨ (S f_Md_pileType y = 4 ∨ S f_Md_pileType y = 5) ∧ S f_Md_pileValue y = p ∧ 0 ≤ p ∧ p < 8000 ∨ ¬ (S f_Md_pileType y = 0 ∨ S f_Md_pileType y = 4 ∨ S f_Md_pileType y = 5)) (q1 : (S f_Md_pileType x = 4 ∨ S f_Md_pileType x = 5) → (S f_Md_pileType y = 0 ∨ S f_Md_pileType y = 4 ∨ S f_Md_pileType y = 5) → wpB PGm ρ (d + 2) m_Md_turns 75 [(0, vR T), (3, vI (k : Int)), (4, vI p), (5, vI p)] [] (cn h0 T S) Q) (q0 : ¬ ((S f_Md_pileType x = 4 ∨ S f_Md_pileType x = 5) ∧ (S f_Md_pileType y = 0 ∨ S f_Md_pileType y = 4 ∨ S f_Md_pileType y = 5)) → Q (Sum.inr (hR h0 f_Md_halt T)) (cn h0 T (erS S 12))) : wpB PGm ρ (d + 2) m_Md_turns 0 [(0, vR T), (1, vI (x : Int)), (2, vI (y : Int))] [] (cn h0 T S) Q := by
  have O' := O
  have kT := O'.1
  have G0 := O'.2.1
  have kH : hK h0 (hR h0 f_Md_halt T) ≠ 0 := by rw [O'.2.2]; decide
  have cx : 0 ≤ (x : Int) ∧ (x : Int) < ((4200 : Nat) : Int) := by omega
  have cy : 0 ≤ (y : Int) ∧ (y : Int) < ((4200 : Nat) : Int) := by omega
  have g35 : ¬ ((S f_Md_pileType x = 4 ∨ S f_Md_pileType x = 5) ∧ (S f_Md_pileType y = 0 ∨ S f_Md_pileType y = 4 ∨ S f_Md_pileType y = 5)) → wpB PGm ρ (d + 2) m_Md_turns 35 [(0, vR T), (1, vI (x : Int)), (2, vI (y : Int))] [] (cn h0 T S) Q := fun z => b_Md_turns_35 ⟨kT, s_error O' ⟨kH, q0 z⟩⟩
  have g41 : (S f_Md_pileType x = 4 ∨ S f_Md_pileType x = 5) → (S f_Md_pileType y = 0 ∨ S f_Md_pileType y = 4 ∨ S f_Md_pileType y = 5) → wpB PGm ρ (d + 2) m_Md_turns 41 [(0, vR T), (1, vI (x : Int)), (2, vI (y : Int))] [] (cn h0 T S) Q := fun z z2 => by
    have g := q1 z z2
    obtain ⟨v1, v2⟩ := hv z
    have g69 := b_Md_turns_69 (d := d + 2) (ρ := ρ) (l3 := (k : Int)) (s0 := p) (l0 := T) g
    have x1 : -2147483648 ≤ (k : Int) ∧ (k : Int) < 2147483648 := by omega
    have w1 : w32 (k : Int) = (k : Int) := w32_of x1.1 x1.2
    rcases hp with ⟨a1, a2⟩ | ⟨a1, a2, a3, a4⟩ | a
    · subst a2
      clear q1 q0 g35 hv
      refine b_Md_turns_41 ?_
      simp (decide := true) only [cnR, cnK, cnl, cnA' G0, kT, KN G0, LN G0, v1, w1, a1, Int.toNat_natCast, true_and, and_true, forall_const, false_implies, not_true_eq_false]
      exact ⟨cx, cy, g69⟩
    · have nz : ¬ S f_Md_pileType y = 0 := by omega
      have x2 : -2147483648 ≤ p ∧ p < 2147483648 := by omega
      have w2 : w32 p = p := w32_of x2.1 x2.2
      clear q1 q0 g35 hv
      refine b_Md_turns_41 ?_
      simp (decide := true) only [cnR, cnK, cnl, cnA' G0, kT, KN G0, LN G0, v1, w1, a2, w2, nz, Int.toNat_natCast, true_and, and_true, forall_const, false_implies, not_false_eq_true]
      exact ⟨cx, cy, cy, g69⟩
    · exact absurd z2 a
  clear q1 q0 hv hp
  refine b_Md_turns_0 ⟨kT, ?_⟩
  simp (decide := true) only [cnR, cnK, cnl, cnA' G0, KN G0, LN G0, Int.toNat_natCast, true_and, and_true]
  refine ⟨cx, s_hasSh (fun w => ⟨fun z => absurd z (by decide), fun _ => ⟨kT, ?_⟩⟩) (fun w => ⟨fun _ => g35 (fun c => w c.1), fun z => absurd rfl z⟩)⟩
  simp (decide := true) only [cnR, cnK, cnl, cnA' G0, KN G0, LN G0, Int.toNat_natCast, true_and, and_true]
  exact ⟨cy, fun z => g41 w (Or.inl z), fun z => ⟨cy, s_hasSh (fun w2 => ⟨fun _ => g41 w (Or.inr w2), fun z => absurd z (by decide)⟩) (fun w2 => ⟨fun z => absurd rfl z, fun _ => g35 (fun c => c.2.elim z w2)⟩)⟩⟩
/-- the thing is turned -/
theorem s_t75 (O : TOK h0 T) (hk : k < 8000) {e : SS ⊕ (Nat × SS)} (ct : TRW ρ S k p (-1) e) (hc : ∀ r S1, e = Sum.inr (r, S1) → (0 ≤ S1 f_Md_epoch k ∧ S1 f_Md_epoch k ≤ 1000000) ∧ (0 ≤ S1 f_Md_changes 0 ∧ S1 f_Md_changes 0 ≤ 1000000)) (q0 : ∀ S1, e = Sum.inl S1 → Q (Sum.inr (hR h0 f_Md_halt T)) (cn h0 T (erS S1 99))) (q1 : ∀ r S1, e = Sum.inr (r, S1) → Q (Sum.inl none) (cn h0 T (grwS (u2 S1 f_Md_thingShape k (r : Int)) k))) : wpB PGm ρ (d + 5) m_Md_turns 75 [(0, vR T), (3, vI (k : Int)), (4, vI p), (5, vI (-1))] [] (cn h0 T S) Q := by
  have kT := O.1
  have G0 := O.2.1
  have kH : hK h0 (hR h0 f_Md_halt T) ≠ 0 := by rw [O.2.2]; decide
  have ck : 0 ≤ (k : Int) ∧ (k : Int) < ((8000 : Nat) : Int) := by omega
  refine b_Md_turns_75 ⟨fun _ => ⟨kT, ct d h0 T _ O ?_⟩, fun z => absurd z (by decide)⟩
  cases e with
  | inl S1 => exact ⟨kH, q0 S1 rfl⟩
  | inr rs =>
    obtain ⟨r, S1⟩ := rs
    obtain ⟨h1, h2⟩ := hc r S1 rfl
    have g : wpB PGm ρ (d + 4) m_Md_changed 0 [(0, vR T), (1, vI (k : Int))] [] (cn h0 T (u2 S1 f_Md_thingShape k (r : Int))) (cV (fun h18 => Q (Sum.inl none) h18) (fun e21 h20 => hK h20 e21 ≠ 0 ∧ Q (Sum.inr e21) h20)) := s_changed O hk (by rw [u2_f (by decide)]; exact h1) (by rw [u2_f (by decide)]; exact h2) (q1 r S1 rfl)
    clear q0 q1 ct hc
    show _ ∧ _
    simp (decide := true) only [cnR, cnK, cnl, cn_sA' G0, kT, KN G0, LN G0, Int.toNat_natCast, true_and, and_true]
    exact ⟨ck, g⟩
end
