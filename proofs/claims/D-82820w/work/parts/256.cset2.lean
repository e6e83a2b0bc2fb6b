/-! C: an entry's classes -/
set_option maxRecDepth 20000
def cpC (H : ah) (ca : Nat) (X : X3) : Nat → ah
  | 0 => H
  | j + 1 => sA (cpC H ca X j) ca j (X 53 f_Found_classes j)
section
variable {ρ : Nat → Nat} {d : Nat} {Q : QT} {Γ : GH} {h h' h0 h1 h2 H : ah} {C ho T k n m f i j N M b a rr mn sn tn row e t z s be ca : Nat} {S S' S1 S2 SX : SS} {X : X3} {Y Y1 Y2 : Y3} {g : HG} {v p x y nm ty κ hd w La bv el now : Int}
theorem cpC_s : ∀ j, (∀ f x, hI (cpC H ca X j) f x = hI H f x) ∧ (∀ f x, hR (cpC H ca X j) f x = hR H f x) ∧ (∀ x, hK (cpC H ca X j) x = hK H x) ∧ (∀ x, hl (cpC H ca X j) x = hl H x) ∧ hz (cpC H ca X j) = hz H ∧ hs (cpC H ca X j) = hs H ∧ (∀ x i, hB (cpC H ca X j) x i = hB H x i) ∧ (∀ x i, hA (cpC H ca X j) x i = if x = ca ∧ i < j then X 53 f_Found_classes i else hA H x i) := fun j => by
  induction j with
  | zero => exact ⟨fun _ _ => rfl, fun _ _ => rfl, fun _ => rfl, fun _ => rfl, rfl, rfl, fun _ _ => rfl, fun x i => by rw [if_neg (fun c => by omega)]; rfl⟩
  | succ j ih =>
    obtain ⟨a1, a2, a3, a4, a5, a6, a7, a8⟩ := ih
    refine ⟨a1, a2, a3, a4, a5, a6, a7, fun x i => ?_⟩
    show hA (sA (cpC H ca X j) ca j (X 53 f_Found_classes j)) x i = _
    rw [g_hA_sA, a8]
    by_cases w1 : x = ca
    · subst w1
      by_cases w2 : i = j
      · subst w2; rw [if_pos ⟨rfl, rfl⟩, if_pos ⟨rfl, by omega⟩]
      · rw [if_neg (fun c => w2 c.2)]
        by_cases w3 : i < j
        · rw [if_pos ⟨rfl, w3⟩, if_pos ⟨rfl, by omega⟩]
        · rw [if_neg (fun c => w3 c.2), if_neg (fun c => by omega)]
    · rw [if_neg (fun c => w1 c.1), if_neg (fun c => w1 c.1), if_neg (fun c => w1 c.1)]
theorem cpC_ac (G : AC H C) : ∀ j, AC (cpC H ca X j) C := fun j => by
  induction j with
  | zero => exact G
  | succ j ih =>
    obtain ⟨g1, g2, g3, g4, g5⟩ := ih
    exact ⟨g1, g2, g3, g4, g5⟩
theorem r_set173 (G : AC H C) (ko : hK H (C + 53) = k_Found) (ke : hK H e = k_Entry) (eo : hI H f_Entry_operands e = (n : Int)) (n8 : n ≤ 8) (ec : hR H f_Entry_classes e = ca) (kc : hK H ca = 1) (lc : hl H ca = 8) (nq : ∀ q, q ∈ arC → hR H q.1 (C + q.2.1) ≠ ca) (lf : hl H (hR H f_Found_classes (C + 53)) = 9) (q : Q (Sum.inl none) (cc (sI (sR (cpC H ca X n) f_Entry_next e be) f_Entry_ticks e now) C X Y)) : ∀ mm j, j + mm = n → wpB PGm ρ d m_Entry_set 173 [(0, vR e), (1, vR (C + 53)), (2, vR be), (3, vI now), (5, vI (j : Int))] [] (cc (cpC H ca X j) C X Y) Q := fun mm => by
  have kf : hK H (hR H f_Found_classes (C + 53)) = 1 := by simp (decide := true) (disch := first | decide | omega) only [KC G]
  induction mm with
  | zero =>
    intro j hj
    have ej : j = n := by omega
    subst ej
    obtain ⟨a1, a2, a3, a4, a5, a6, a7, a8⟩ := cpC_s (H := H) (ca := ca) (X := X) j
    have i1 : hI (cc (cpC H ca X j) C X Y) f_Entry_operands e = (j : Int) := by rw [ccIo (by decide), a1]; exact eo
    have n2 : ¬ (j : Int) < (j : Int) := by omega
    refine b_Entry_set_173 ⟨by show hK (cpC H ca X j) e = k_Entry; rw [a3]; exact ke, ?_⟩
    rw [i1]
    refine ⟨fun _ => ?_, fun c => absurd c n2⟩
    show Q (Sum.inl none) (sI (sR (cc (cpC H ca X j) C X Y) f_Entry_next e be) f_Entry_ticks e now)
    rw [cc_sRo (by decide), cc_sIo (by decide)]; exact q
  | succ mm ih =>
    intro j hj
    have g1 := ih (j + 1) (by omega)
    obtain ⟨a1, a2, a3, a4, a5, a6, a7, a8⟩ := cpC_s (H := H) (ca := ca) (X := X) j
    have i1 : hI (cc (cpC H ca X j) C X Y) f_Entry_operands e = (n : Int) := by rw [ccIo (by decide), a1]; exact eo
    have r1 : hR (cc (cpC H ca X j) C X Y) f_Entry_classes e = ca := by rw [ccRo (by decide), a2]; exact ec
    have r2 : hR (cc (cpC H ca X j) C X Y) f_Found_classes (C + 53) = hR H f_Found_classes (C + 53) := by rw [ccRo (by decide), a2]
    have n1 : ¬ (n : Int) ≤ (j : Int) := by omega
    have b1 : 0 ≤ (j : Int) ∧ (j : Int) < ((8 : Nat) : Int) := by omega
    have b2 : 0 ≤ (j : Int) ∧ (j : Int) < ((9 : Nat) : Int) := by omega
    have m1 : j ≤ 2000000000 := by omega
    have rd : hA (cc (cpC H ca X j) C X Y) (hR H f_Found_classes (C + 53)) j = X 53 f_Found_classes j := by
      have G' : AC (cpC H ca X j) C := cpC_ac G j
      have := ccA (h := cpC H ca X j) (C := C) (X := X) (Y := Y) (i := j) G' (show inA arC f_Found_classes 53 = true by decide)
      rw [a2] at this; exact this
    refine b_Entry_set_173 ⟨by show hK (cpC H ca X j) e = k_Entry; rw [a3]; exact ke, ?_⟩
    rw [i1]
    refine ⟨fun c => absurd c n1, fun _ => ⟨by show hK (cpC H ca X j) (C + 53) = k_Found; rw [a3]; exact ko, ?_, ?_, ?_⟩⟩
    · rw [r2]
      refine ⟨?_, b2.1, ?_⟩
      · show hK (cpC H ca X j) (hR H f_Found_classes (C + 53)) ∈ [1, 11]; rw [a3, kf]; decide
      · show (j : Int) < (hl (cpC H ca X j) (hR H f_Found_classes (C + 53)) : Int); rw [a4, lf]; exact b2.2
    · rw [r1]
      refine ⟨?_, b1.1, ?_⟩
      · show hK (cpC H ca X j) ca = 1; rw [a3]; exact kc
      · show (j : Int) < (hl (cpC H ca X j) ca : Int); rw [a4, lc]; exact b1.2
    · show wpB PGm ρ d m_Entry_set 173 [(0, vR e), (1, vR (C + 53)), (2, vR be), (3, vI now), (5, vI (w32 ((j : Int) + 1)))] [] (sA (cc (cpC H ca X j) C X Y) (hR (cc (cpC H ca X j) C X Y) f_Entry_classes e) (j : Int).toNat (hA (cc (cpC H ca X j) C X Y) (hR (cc (cpC H ca X j) C X Y) f_Found_classes (C + 53)) (j : Int).toNat)) Q
      rw [r1, r2, Int.toNat_natCast, rd, cc_sA0 (fun q hq => by rw [a2]; exact nq q hq), w32_p1 m1]
      exact g1
end
