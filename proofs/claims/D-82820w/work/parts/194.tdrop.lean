/-! T: a slot is dropped -/
set_option maxRecDepth 20000
/-- the slot is out of the chain -/
def dr1 (S : SS) (k i : Nat) : SS := if i = 0 then u2 S f_Md_thingFirst k (S f_Md_slotNext (slS S k 0)) else u2 S f_Md_slotNext (slS S k (i - 1)) (S f_Md_slotNext (slS S k i))
def dr2 (S : SS) (k i n : Nat) : SS := u2 (dr1 S k i) f_Md_thingCount k ((n - 1 : Nat) : Int)
def drS (S : SS) (k i n : Nat) : SS := if i = n - 1 ∧ 0 < i then u2 (dr2 S k i n) f_Md_thingLast k (slS S k (i - 1) : Int) else dr2 S k i n
/-- a chain of slots -/
def SLG (S : SS) (k n : Nat) : Prop := k < 8000 ∧ n ≤ 60000 ∧ S f_Md_thingCount k = (n : Int) ∧ (0 < n → 0 ≤ S f_Md_thingFirst k) ∧ (∀ i, i < n → slS S k i < 60000) ∧ (∀ i, i + 1 < n → 0 ≤ S f_Md_slotNext (slS S k i))
theorem SLK.g {S : SS} {k n : Nat} (H : SLK S k n) : SLG S k n := ⟨H.1, by have := H.2.1; omega, H.2.2⟩
section
variable {ρ : Nat → Nat} {d : Nat} {h0 : ah} {Q : QT} {T k f n i j m : Nat} {v : Int} {S S' : SS}
theorem dr1_o (h1 : f ≠ f_Md_thingFirst) (h2 : f ≠ f_Md_slotNext) : dr1 S k i f j = S f j := by
  unfold dr1
  split
  · exact u2_f h1
  · exact u2_f h2
theorem drS_o (hf : [f_Md_thingFirst, f_Md_slotNext, f_Md_thingCount, f_Md_thingLast].elem f = false) : drS S k i n f j = S f j := by
  have nn : ∀ g, [f_Md_thingFirst, f_Md_slotNext, f_Md_thingCount, f_Md_thingLast].elem g = true → f ≠ g := by rintro g hg rfl; rw [hg] at hf; cases hf
  unfold drS dr2
  split
  · rw [u2_f (nn _ (by decide)), u2_f (nn _ (by decide)), dr1_o (nn _ (by decide)) (nn _ (by decide))]
  · rw [u2_f (nn _ (by decide)), dr1_o (nn _ (by decide)) (nn _ (by decide))]
theorem drS_c : drS S k i n f_Md_thingCount k = ((n - 1 : Nat) : Int) := by
  unfold drS dr2
  split
  · rw [u2_f (by decide), u2_s]
  · rw [u2_s]
theorem drS_x (hf : f = f_Md_thingFirst ∨ f = f_Md_slotNext) : drS S k i n f j = dr1 S k i f j := by
  unfold drS dr2
  split
  · rw [u2_f (by rcases hf with rfl | rfl <;> decide), u2_f (by rcases hf with rfl | rfl <;> decide)]
  · rw [u2_f (by rcases hf with rfl | rfl <;> decide)]
/-- other things keep their rows -/
theorem drS_k (hj : j ≠ k) (hf : f ≠ f_Md_slotNext) : drS S k i n f j = S f j := by
  have e1 : dr1 S k i f j = S f j := by
    unfold dr1
    split
    · rw [u2_e, if_neg (fun c => hj c.2)]
    · exact u2_f hf
  unfold drS dr2
  split
  · rw [u2_e, if_neg (fun c => hj c.2), u2_e, if_neg (fun c => hj c.2)]; exact e1
  · rw [u2_e, if_neg (fun c => hj c.2)]; exact e1
theorem drS_n (hm : i = 0 ∨ m ≠ slS S k (i - 1)) : drS S k i n f_Md_slotNext m = S f_Md_slotNext m := by
  rw [drS_x (Or.inr rfl)]
  unfold dr1
  split
  · exact u2_f (by decide)
  · rename_i h
    rw [u2_e, if_neg (fun c => by rcases hm with e | e; exact h e; exact e c.2)]
/-- the slots that are left -/
theorem drS_sl (L : SLG S k n) (hi : i < n) (un : ∀ a b, a < n → b < n → slS S k a = slS S k b → a = b) : ∀ j, j < n - 1 → slS (drS S k i n) k j = slS S k (if j < i then j else j + 1) := by
  intro j
  induction j with
  | zero =>
    intro hj
    show (drS S k i n f_Md_thingFirst k).toNat = _
    rw [drS_x (Or.inl rfl)]
    unfold dr1
    by_cases i0 : i = 0
    · rw [if_pos i0, u2_s, if_neg (by omega)]; rfl
    · rw [if_neg i0, u2_f (by decide), if_pos (by omega)]; rfl
  | succ j ih =>
    intro hj
    have e := ih (by omega)
    show (drS S k i n f_Md_slotNext (slS (drS S k i n) k j)).toNat = _
    rw [e]
    by_cases q : j + 1 < i
    · rw [if_pos (by omega), if_pos q, drS_n (Or.inr (fun c => by have := un j (i - 1) (by omega) (by omega) c; omega))]; rfl
    · by_cases q2 : j + 1 = i
      · rw [if_pos (by omega), if_neg (by omega), drS_x (Or.inr rfl)]
        unfold dr1
        rw [if_neg (by omega)]
        have e2 : i - 1 = j := by omega
        rw [e2, u2_s, ← q2]; rfl
      · rw [if_neg (by omega), if_neg (by omega)]
        have : i = 0 ∨ slS S k (j + 1) ≠ slS S k (i - 1) := by
          by_cases i0 : i = 0
          · exact Or.inl i0
          · exact Or.inr (fun c => by have := un (j + 1) (i - 1) (by omega) (by omega) c; omega)
        rw [drS_n this]; rfl
/-- the i-th slot -/
theorem s_slotAt (O : TOK h0 T) (L : SLG S k n) (hi : i < n) (q : Q (Sum.inl (some (vI (slS S k i : Int)))) (cn h0 T S)) : wpB PGm ρ d m_Md_slotAt 0 [(0, vR T), (1, vI (k : Int)), (2, vI (i : Int))] [] (cn h0 T S) Q := by
  obtain ⟨kT, G, kH⟩ := O
  obtain ⟨a1, a2, a3, a4, a5, a6⟩ := L
  have ck : 0 ≤ (k : Int) ∧ (k : Int) < ((8000 : Nat) : Int) := by omega
  have key : ∀ m j, j + m = i → wpB PGm ρ d m_Md_slotAt 10 [(0, vR T), (2, vI (i : Int)), (3, vI (slS S k j : Int)), (4, vI (j : Int))] [] (cn h0 T S) Q := by
    intro m
    induction m with
    | zero =>
      intro j hj
      have e : j = i := by omega
      subst e
      exact b_Md_slotAt_10 ⟨fun _ => q, fun z => absurd z (Int.lt_irrefl _)⟩
    | succ m ih =>
      intro j hj
      have nx := ih (j + 1) (by omega)
      have c1 : 0 ≤ (slS S k j : Int) ∧ (slS S k j : Int) < ((60000 : Nat) : Int) := by have := a5 j (by omega); omega
      have e1 : S f_Md_slotNext (slS S k j) = (slS S k (j + 1) : Int) := by
        have := a6 j (by omega)
        show _ = (((S f_Md_slotNext (slS S k j)).toNat : Nat) : Int)
        omega
      have lt : ¬ (i : Int) ≤ (j : Int) := by omega
      have x1 : j ≤ 2000000000 := by omega
      have w1 : w32 ((j : Int) + 1) = ((j + 1 : Nat) : Int) := w32_s x1
      clear ih q
      refine b_Md_slotAt_10 ⟨fun z => absurd z lt, fun _ => ⟨kT, ?_⟩⟩
      simp (decide := true) only [cnR, cnK, cnl, cnA' G, KN G, LN G, e1, w1, Int.toNat_natCast, true_and, and_true]
      exact ⟨c1, nx⟩
  have g := key i 0 (by omega)
  have e0 : S f_Md_thingFirst k = (slS S k 0 : Int) := by
    have := a4 (by omega)
    show _ = (((S f_Md_thingFirst k).toNat : Nat) : Int)
    omega
  clear key q
  refine b_Md_slotAt_0 ?_
  simp (decide := true) only [cnR, cnK, cnl, cnA' G, kT, KN G, LN G, e0, Int.toNat_natCast, true_and, and_true]
  exact ⟨ck, g⟩
theorem s_dropSlot (O : TOK h0 T) (L : SLG S k n) (hi : i < n) (un : ∀ a b, a < n → b < n → slS S k a = slS S k b → a = b) (q : Q (Sum.inl none) (cn h0 T (drS S k i n))) : wpB PGm ρ (d + 1) m_Md_dropSlot 0 [(0, vR T), (1, vI (k : Int)), (2, vI (i : Int))] [] (cn h0 T S) Q := by
  have O' := O
  have L' := L
  obtain ⟨kT, G, kH⟩ := O
  obtain ⟨a1, a2, a3, a4, a5, a6⟩ := L
  have ck : 0 ≤ (k : Int) ∧ (k : Int) < ((8000 : Nat) : Int) := by omega
  have ci : 0 ≤ (slS S k i : Int) ∧ (slS S k i : Int) < ((60000 : Nat) : Int) := by have := a5 i hi; omega
  -- the end
  have g45 : wpB PGm ρ (d + 1) m_Md_dropSlot 45 [(0, vR T), (1, vI (k : Int)), (2, vI (i : Int))] [] (cn h0 T (dr1 S k i)) Q := by
    have e3 : dr1 S k i f_Md_thingCount k = (n : Int) := by rw [dr1_o (by decide) (by decide)]; exact a3
    have fin : (i : Int) = ((n - 1 : Nat) : Int) → 0 < (i : Int) → wpB PGm ρ d m_Md_slotAt 0 [(0, vR T), (1, vI (k : Int)), (2, vI ((i - 1 : Nat) : Int))] [] (cn h0 T (dr2 S k i n)) (cI (fun x19 h14 => (hK h14 (hR h0 f_Md_thingLast T) = 1 ∧ 0 ≤ (k : Int) ∧ (k : Int) < (hl h14 (hR h0 f_Md_thingLast T) : Int)) ∧ Q (Sum.inl none) (sA h14 (hR h0 f_Md_thingLast T) (k : Int).toNat x19)) (fun e17 h16 => hK h16 e17 ≠ 0 ∧ Q (Sum.inr e17) h16)) := fun z z2 => by
      have ei : i = n - 1 := by omega
      have i0 : 0 < i := by omega
      have q' := q
      unfold drS at q'
      rw [if_pos ⟨ei, i0⟩] at q'
      have n2 : ∀ m, dr2 S k i n f_Md_slotNext m = dr1 S k i f_Md_slotNext m := fun m => by unfold dr2; rw [u2_f (by decide)]
      have n3 : dr2 S k i n f_Md_thingFirst k = S f_Md_thingFirst k := by unfold dr2 dr1; rw [u2_f (by decide), if_neg (by omega), u2_f (by decide)]
      have sl : ∀ j, j < i → slS (dr2 S k i n) k j = slS S k j := fun j => by
        induction j with
        | zero => intro _; show (dr2 S k i n f_Md_thingFirst k).toNat = _; rw [n3]; rfl
        | succ j ih =>
          intro hj
          show (dr2 S k i n f_Md_slotNext (slS (dr2 S k i n) k j)).toNat = _
          rw [ih (by omega), n2]
          unfold dr1
          rw [if_neg (by omega), u2_e, if_neg (fun c => by have := un j (i - 1) (by omega) (by omega) c.2; omega)]; rfl
      have L2 : SLG (dr2 S k i n) k (n - 1) := by
        refine ⟨a1, by omega, by unfold dr2; rw [u2_s], fun w => by rw [n3]; exact a4 (by omega), fun j hj => by rw [sl j (by omega)]; exact a5 j (by omega), fun j hj => ?_⟩
        rw [sl j (by omega), n2]
        unfold dr1
        rw [if_neg (by omega), u2_e, if_neg (fun c => by have := un j (i - 1) (by omega) (by omega) c.2; omega)]
        exact a6 j (by omega)
      refine s_slotAt O' L2 (by omega) ?_
      rw [sl (i - 1) (by omega)]
      show _ ∧ _
      simp (decide := true) only [cnK, cnl, cn_sA' G, KN G, LN G, Int.toNat_natCast, true_and, and_true]
      exact ⟨ck, q'⟩
    have non : ¬ ((i : Int) = ((n - 1 : Nat) : Int) ∧ 0 < (i : Int)) → Q (Sum.inl none) (cn h0 T (dr2 S k i n)) := fun z => by
      unfold drS at q
      rw [if_neg (fun c => z ⟨by omega, by omega⟩)] at q
      exact q
    have x1 : 1 ≤ n ∧ n ≤ 2000000000 := by omega
    have x2 : 0 < (i : Int) → 1 ≤ i ∧ i ≤ 2000000000 := fun z => by omega
    have w1 : w32 ((n : Int) - 1) = ((n - 1 : Nat) : Int) := w32_m1 x1
    unfold dr2 at fin non
    clear q
    refine b_Md_dropSlot_45 ⟨kT, ?_⟩
    simp (decide := true) only [cnR, cnK, cnl, cnA' G, cn_sA' G, kT, KN G, LN G, e3, w1, u2_s, Int.toNat_natCast, true_and, and_true]
    refine ⟨ck, ck, ck, fun z => non (fun c => z c.1), fun z => ⟨fun z2 => non (fun c => Int.not_lt.mpr z2 c.2), fun z2 => ?_⟩⟩
    rw [w32_m1 (x2 z2)]
    have g := fin z z2
    simp (decide := true) only [Int.toNat_natCast] at g
    exact g
  clear q
  by_cases i0 : i = 0
  · have e : dr1 S k i = u2 S f_Md_thingFirst k (S f_Md_slotNext (slS S k i)) := by unfold dr1; rw [if_pos i0, i0]
    rw [e] at g45
    refine b_Md_dropSlot_0 ⟨kT, s_slotAt O' L' hi ⟨fun z => absurd (by rw [i0]; rfl) z, fun _ => ?_⟩⟩
    simp (decide := true) only [cnR, cnK, cnl, cnA' G, cn_sA' G, kT, KN G, LN G, Int.toNat_natCast, true_and, and_true]
    exact ⟨ci, ck, g45⟩
  · have e : dr1 S k i = u2 S f_Md_slotNext (slS S k (i - 1)) (S f_Md_slotNext (slS S k i)) := by unfold dr1; rw [if_neg i0]
    rw [e] at g45
    have nz : ¬ (i : Int) = 0 := by omega
    have x1 : 1 ≤ i ∧ i ≤ 2000000000 := by omega
    have cp : 0 ≤ (slS S k (i - 1) : Int) ∧ (slS S k (i - 1) : Int) < ((60000 : Nat) : Int) := by have := a5 (i - 1) (by omega); omega
    refine b_Md_dropSlot_0 ⟨kT, s_slotAt O' L' hi ⟨fun _ => ⟨kT, ?_⟩, fun z => absurd z nz⟩⟩
    rw [w32_m1 x1]
    refine s_slotAt O' L' (by omega) ⟨kT, ?_⟩
    simp (decide := true) only [cnR, cnK, cnl, cnA' G, cn_sA' G, kT, KN G, LN G, Int.toNat_natCast, true_and, and_true]
    exact ⟨ci, cp, g45⟩
end
