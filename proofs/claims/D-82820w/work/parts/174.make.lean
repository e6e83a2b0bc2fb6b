/-! the builtin make -/
set_option maxRecDepth 20000
section
variable {ρ : Nat → Nat} {P : ah → Nat → Prop} {d : Nat} {Q : QT} {Γ Γ' : GH} {h h0 h1 h' : ah} {C ho T : Nat} {X X' X1 X2 : X3} {Y Y' : Y3} {S S' S1 S2 : SS} {N t o n c r f i j k m z s n' pu po p tn w sn mk rm l6 : Nat} {ty v x y op a b p' pT : Int} {L : List Nat}
/-- T: what may be a prototype -/
def mkOK (ty v pT : Int) : Prop := (ty = 0 ∧ pT = -1) ∨ ((ty = 4 ∨ ty = 5) ∧ pT = v ∧ 0 ≤ v ∧ v < 8000)
theorem s_MAKE0 (O : TOK h0 T) (D : DF S t n c f p k 28 1 b) (n1 : 1 ≤ n) (q1 : S f_Md_pileType (2100 * t + (n - 1)) = 0 ∨ S f_Md_pileType (2100 * t + (n - 1)) = 4 ∨ S f_Md_pileType (2100 * t + (n - 1)) = 5 → wpB PGm ρ (d + 58) m_Md_builtins 110 [(0, vR T), (2, vI ((2100 * t + (n - 1) : Nat) : Int))] [] (cn h0 T S) (bK ρ (d + 52) T Q)) (q0 : ¬ (S f_Md_pileType (2100 * t + (n - 1)) = 0 ∨ S f_Md_pileType (2100 * t + (n - 1)) = 4 ∨ S f_Md_pileType (2100 * t + (n - 1)) = 5) → Q (Sum.inr (hR h0 f_Md_halt T)) (cn h0 T (erS S 12))) : wpB PGm ρ (d + 60) m_Md_does 0 [(0, vR T)] [] (cn h0 T S) Q := by
  have O' := O
  have d2 := D.2.1
  have w2 : w32 (((2100 * t + n : Nat) : Int) - 1) = ((2100 * t + (n - 1) : Nat) : Int) := by
    have : 2100 * t + (n - 1) = 2100 * t + n - 1 := by omega
    rw [this]; exact w32_m1 (by omega)
  have c1' : 0 ≤ ((2100 * t + (n - 1) : Nat) : Int) ∧ ((2100 * t + (n - 1) : Nat) : Int) < ((4200 : Nat) : Int) := by omega
  have kT := O'.1
  have G0 := O'.2.1
  have kH : hK h0 (hR h0 f_Md_halt T) ≠ 0 := by rw [O'.2.2]; decide
  refine s_BLT (d := d + 52) O' D ?_
  refine b_Md_builtins_0 ⟨O'.1, s_h O' D.1 d2.1 (by omega) ?_⟩
  simp (decide := true) only [cI, cnI, cnR, cnK, cnl, cnA' G0, kT, KN G0, LN G0, w2, Int.toNat_natCast, true_and, and_true, false_implies, forall_const]
  refine ⟨c1', fun z => q1 (Or.inl z), fun z => ⟨c1', s_hasSh (fun w => ⟨fun _ => q1 (Or.inr w), fun z => absurd z (by decide)⟩) (fun w => ⟨fun z => absurd rfl z, fun _ => ⟨kT, s_error O' ⟨kH, bK_er O' (q0 (fun c => c.elim z w))⟩⟩⟩)⟩⟩
theorem s_MAKE1 (O : TOK h0 T) (D : DF S t n c f p k 28 1 b) (n1 : 1 ≤ n) (e2 : S f_Md_allMade 0 = (mk : Int)) (hm : mk ≤ 8000) (et : S f_Md_things 0 = (tn : Int)) (ht : tn ≤ mk) (hv : mkOK (S f_Md_pileType (2100 * t + (n - 1))) (S f_Md_pileValue (2100 * t + (n - 1))) pT) {e : Option (Nat × SS)} (ct : mk + 1 ≤ 8000 → TMD ρ S (-1) pT (-1) e) (eo : ∀ r S1, e = some (r, S1) → ∀ f i, LSH.elem f = false → S1 f i = S f i) (q1 : mk + 1 ≤ 8000 → ∀ r S1, e = some (r, S1) → Q (Sum.inl none) (cn h0 T (atS (putS (mobS S1 tn mk r) (2100 * t + (n - 1)) 4 (tn : Int)) t c ((p + 1 : Nat) : Int)))) (q0 : (¬ mk + 1 ≤ 8000) ∨ e = none → Q (Sum.inr (hR h0 f_Md_halt T)) (cn h0 T (erS S 99))) : wpB PGm ρ (d + 58) m_Md_builtins 110 [(0, vR T), (2, vI ((2100 * t + (n - 1) : Nat) : Int))] [] (cn h0 T S) (bK ρ (d + 52) T Q) := by
  have O' := O
  have d2 := D.2.1
  have c1' : 0 ≤ ((2100 * t + (n - 1) : Nat) : Int) ∧ ((2100 * t + (n - 1) : Nat) : Int) < ((4200 : Nat) : Int) := by omega
  have kT := O'.1
  have G0 := O'.2.1
  have kH : hK h0 (hR h0 f_Md_halt T) ≠ 0 := by rw [O'.2.2]; decide
  have g : mk + 1 ≤ 8000 → wpB PGm ρ (d + 58) m_Md_builtins 141 [(0, vR T), (2, vI ((2100 * t + (n - 1) : Nat) : Int))] [vI pT, vI (-1), vR T] (cn h0 T S) (bK ρ (d + 52) T Q) := fun rm => by
    refine b_Md_builtins_141 ⟨kT, ct rm (d + 55) h0 T _ O' ?_⟩
    cases e with
    | none => exact ⟨kH, bK_er O' (q0 (Or.inr rfl))⟩
    | some rs =>
      obtain ⟨r, S1⟩ := rs
      have eo' := eo r S1 rfl
      have g1 := q1 rm r S1 rfl
      refine ⟨kT, s_newThing O' (tn := tn) (mk := mk) (by rw [eo' _ _ (by decide)]; exact et) (by omega) (by rw [eo' _ _ (by decide)]; exact e2) hm ?_⟩
      have c2 : 0 ≤ (tn : Int) ∧ (tn : Int) < ((8000 : Nat) : Int) := by omega
      have gg : wpB PGm ρ (d + 57) m_Md_put 0 [(0, vR T), (1, vI ((2100 * t + (n - 1) : Nat) : Int)), (2, vI 4), (3, vL (tn : Int))] [] (cn h0 T (mobS S1 tn mk r)) (cV (fun h22 => bK ρ (d + 52) T Q (Sum.inl none) h22) (fun e25 h24 => hK h24 e25 ≠ 0 ∧ bK ρ (d + 52) T Q (Sum.inr e25) h24)) := by
        refine s_putP O' (by omega) (bK_fin O' D ?_ ?_ g1)
        · unfold putS mobS; rw [u2_f (by decide), u2_f (by decide), u2_f (by decide), nthS_o (by decide), eo' _ _ (by decide)]
        · unfold putS mobS; rw [u2_f (by decide), u2_f (by decide), u2_f (by decide), nthS_o (by decide), eo' _ _ (by decide)]
      unfold mobS at gg
      clear q0 q1 ct eo eo' hv g1
      show hK (cn h0 T (nthS S1 tn mk 4)) T = k_Md ∧ _
      simp (decide := true) only [cnR, cnK, cnl, cn_sA' G0, kT, KN G0, LN G0, Int.toNat_natCast, true_and, and_true]
      exact ⟨c2, gg⟩
  refine b_Md_builtins_110 ⟨kT, s_hasRoomFor (n := 1) O' e2 (by omega) (by omega) (fun rm => ⟨kT, s_room O' (fun _ => ?_) (fun z => absurd z (by decide))⟩) (fun rm => ⟨kT, s_room O' (fun z => absurd rfl z) (fun _ => ⟨kH, bK_er O' (q0 (Or.inl (by omega)))⟩)⟩)⟩
  have g' := g rm
  clear q0 q1 g ct eo
  rcases hv with ⟨v1, v2⟩ | ⟨v1, v2, v3, v4⟩
  · subst v2
    show hK (cn h0 T S) T = k_Md ∧ _
    simp (decide := true) only [cnR, cnK, cnl, cnA' G0, kT, KN G0, LN G0, v1, Int.toNat_natCast, true_and, and_true, forall_const, false_implies]
    exact ⟨c1', g'⟩
  · have w1 : w32 (S f_Md_pileValue (2100 * t + (n - 1))) = pT := by rw [v2]; exact w32_of (by omega) (by omega)
    have nz : ¬ S f_Md_pileType (2100 * t + (n - 1)) = 0 := by omega
    show hK (cn h0 T S) T = k_Md ∧ _
    simp (decide := true) only [cnR, cnK, cnl, cnA' G0, kT, KN G0, LN G0, nz, w1, Int.toNat_natCast, true_and, and_true, forall_const, false_implies, not_false_eq_true]
    exact ⟨c1', c1', g'⟩
end
