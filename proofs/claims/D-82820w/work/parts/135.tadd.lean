/-! C: a value joins a thing -/
set_option maxRecDepth 20000
/-- a thing with m values, and room for l -/
def TA (H : ah) (a m l : Nat) : Prop := hK H a ∈ [244, 245, 246, 249] ∧ a < hz H ∧ hI H f_Thing_size a = (m : Int) ∧ (hR H f_Thing_words a ≠ 0 ∧ hK H (hR H f_Thing_words a) = 2 ∧ hl H (hR H f_Thing_words a) = l) ∧ (hR H f_Thing_tags a ≠ 0 ∧ hK H (hR H f_Thing_tags a) = 3 ∧ hl H (hR H f_Thing_tags a) = l) ∧ m ≤ l ∧ l ≤ 130000
def PTA (a : Nat) : List (Nat × Nat) := [(f_Thing_words, a), (f_Thing_tags, a), (f_Thing_size, a), (f_Thing_words + 1, a), (f_Thing_tags + 1, a)]
section
variable {ρ : Nat → Nat} {d : Nat} {Q : QT} {h H H' : ah} {C k n m o c x y z s f i j a l : Nat} {X X' : X3} {Y : Y3} {L : List Nat} {P : List (Nat × Nat)} {v w : Int}
/-- a heap that comes of the machine's is its own base -/
theorem matP (G : AC h C) (F : FC h C) (fr : Fr L P z s (cc h C X Y) H) (d : DJ LMM L P) (p0 : ∀ y, (0, y) ∉ P) : AC H C ∧ FC H C ∧ cc H C X Y = H ∧ Fr (LCC ++ L) P z s h H := by
  have G1 : AC (cc h C X Y) C := cc_AC G
  have F1 : FC (cc h C X Y) C := FC_cc F G
  have m : ∀ {K : List Nat}, (∀ f, f ∈ K → f ∈ LMM) → DJ K L P := fun e => d.sub e
  have dA : DJ (arC.map (fun q => q.1) ++ raC.map (fun q => q.1)) L P := m (fun f hf => by unfold LMM; simp only [List.mem_append] at hf ⊢; rcases hf with q | q <;> simp [q])
  refine ⟨G1.frm fr dA, F1.frm G1 fr (m (fun f hf => by unfold LMM; simp only [List.mem_append]; simp [hf])) ⟨p0 _, p0 _, p0 _⟩, XO.e ((cc_XO G).frm G1 fr (m (fun f hf => by unfold LMM; simp only [List.mem_append] at hf ⊢; rcases hf with q | q <;> simp [q])) dA (m (fun f hf => by unfold LMM; simp only [List.mem_append] at hf ⊢; rcases hf with q | q <;> simp [q])) p0), ?_⟩
  have a : Fr (LCC ++ L) P 0 0 h (cc h C X Y) := (cc_fr G).mono (fun f hf => List.mem_append_left _ hf) (fun _ q => by cases q)
  have b : Fr (LCC ++ L) P z s (cc h C X Y) H := fr.mono (fun f hf => List.mem_append_right _ hf) (fun _ q => q)
  exact (a.trans b).le (by omega) (by omega)
/-- an array of an object grows -/
theorem fr_cp (ij : INJ H) (ho : (f, a) ∈ P) : Fr L P 1 n H (sR (hcp H k (hR H f a) n) f a (hz H)) := by
  have a0 : Fr L P (0 + 1) (0 + n) H (hcp H k (hR H f a) n) := Fr.r0.cp
  have e1 : hz (hcp H k (hR H f a) n) = hz H + 1 := rfl
  refine (a0.wO (Or.inl (Or.inr ho)) (Nat.le_refl _) (by omega) (fun g y hy hg c => ?_)).le (by omega) (by omega)
  exact INJ.new (k := k) (n := n) (m := n) ij g y hy hg c
theorem t_put (ij : INJ H) (A : TA H a m l) (hl' : m < l) (hv : -128 ≤ v ∧ v ≤ 127) (q : ∀ H', Fr [] (PTA a) 0 0 H H' → TA H' a (m + 1) l → hR H' f_Thing_words a = hR H f_Thing_words a → hR H' f_Thing_tags a = hR H f_Thing_tags a → (∀ i, hA H' (hR H f_Thing_words a) i = if i = m then w else hA H (hR H f_Thing_words a) i) → (∀ i, hA H' (hR H f_Thing_tags a) i = if i = m then v else hA H (hR H f_Thing_tags a) i) → Q (Sum.inl none) H') : wpB PGm ρ d m_Thing_add 50 [(0, vR a), (1, vI v), (2, vL w)] [] H Q := by
  obtain ⟨a1, a2, a3, ⟨a4, a5, a6⟩, ⟨a7, a8, a9⟩, a10, a11⟩ := A
  have oW : own f_Thing_words := by unfold own; decide
  have oT : own f_Thing_tags := by unfold own; decide
  have ne : hR H f_Thing_words a ≠ hR H f_Thing_tags a := fun c => by
    have := (ij.2.1 _ _ _ _ a2 a2 oW oT c a4).1
    revert this; decide
  have b0 : (0 : Int) ≤ (m : Int) := by omega
  have b1 : (m : Int) < (hl H (hR H f_Thing_words a) : Int) := by omega
  have b2 : (m : Int) < (hl H (hR H f_Thing_tags a) : Int) := by omega
  have w1 : w32 ((m : Int) + 1) = ((m + 1 : Nat) : Int) := w32_s (by omega)
  refine b_Thing_add_50 ?_
  rw [a3, Int.toNat_natCast]
  refine ⟨a1, ⟨a5, b0, b1⟩, ⟨Or.inl ⟨a8, hv⟩, by show (0 : Int) ≤ hI H f_Thing_size a; rw [a3]; exact b0, ?_⟩, ?_⟩
  · show hI H f_Thing_size a < (hl H (hR H f_Thing_tags a) : Int)
    rw [a3]; exact b2
  show Q (Sum.inl none) (sI (sA (sA H (hR H f_Thing_words a) m w) (hR H f_Thing_tags a) (hI H f_Thing_size a).toNat v) f_Thing_size a (w32 (hI H f_Thing_size a + 1)))
  rw [a3, Int.toNat_natCast, w1]
  refine q _ ?_ ⟨a1, a2, ?_, ⟨a4, a5, a6⟩, ⟨a7, a8, a9⟩, hl', a11⟩ rfl rfl (fun i => ?_) (fun i => ?_)
  · exact Fr.wI (by decide) (Or.inr (by unfold PTA; simp)) (Fr.wA (Or.inr (Or.inr (Or.inr ⟨f_Thing_tags, a, a2, oT, rfl, Or.inr (Or.inr (by unfold PTA; simp))⟩))) (Fr.wA (Or.inr (Or.inr (Or.inr ⟨f_Thing_words, a, a2, oW, rfl, Or.inr (Or.inr (by unfold PTA; simp))⟩))) Fr.r0))
  · rw [I_I]
  · show hA (sA (sA H (hR H f_Thing_words a) m w) (hR H f_Thing_tags a) m v) (hR H f_Thing_words a) i = _
    rw [A_Ane ne]
    by_cases q : i = m
    · rw [q, A_A, if_pos rfl]
    · rw [A_Ane' q, if_neg q]
  · show hA (sA (sA H (hR H f_Thing_words a) m w) (hR H f_Thing_tags a) m v) (hR H f_Thing_tags a) i = _
    by_cases q : i = m
    · rw [q, A_A, if_pos rfl]
    · rw [A_Ane' q, if_neg q, A_Ane (fun c => ne c.symm)]
/-- a value joins -/
theorem t_add (ij : INJ H) (A : TA H a m l) (hd : 10 ≤ d) (hm : m ≤ 60000) (hv : -128 ≤ v ∧ v ≤ 127) (q : ∀ H' l', Fr [] (PTA a) 2 (4 * m + 4) H H' → (hz H' ≤ hz H + 2 ∧ hs H' + 4 * l ≤ hs H + 4 * l') → TA H' a (m + 1) l' → (m < l → l' = l ∧ hz H' = hz H) → (∀ i, i ≤ m → hA H' (hR H' f_Thing_words a) i = if i = m then w else hA H (hR H f_Thing_words a) i) → (∀ i, i ≤ m → hA H' (hR H' f_Thing_tags a) i = if i = m then v else hA H (hR H f_Thing_tags a) i) → Q (Sum.inl none) H') : wpB PGm ρ d m_Thing_add 0 [(0, vR a), (1, vI v), (2, vL w)] [] H Q := by
  have A0 := A
  obtain ⟨a1, a2, a3, ⟨a4, a5, a6⟩, ⟨a7, a8, a9⟩, a10, a11⟩ := A
  have oW : own f_Thing_words := by unfold own; decide
  have oT : own f_Thing_tags := by unfold own; decide
  have w1 : w32 (w32 (2 * (m : Int)) + 2) = ((2 * m + 2 : Nat) : Int) := by rw [w32_of (x := 2 * (m : Int)) (by omega) (by omega), w32_of (by omega) (by omega)]; omega
  refine b_Thing_add_0 hd ⟨a1, ⟨by omega, by omega⟩, fun ne => ?_, fun e => ?_⟩
  · have : m < l := by omega
    refine t_put ij A0 this hv (fun H' fr A' r1 r2 c1 c2 => q H' l (fr.le (by omega) (by omega)) (by have := fr.1; omega) A' (fun _ => ⟨rfl, by have := fr.1; omega⟩) (fun i _ => by rw [r1]; exact c1 i) (fun i _ => by rw [r2]; exact c2 i))
  · have el : l = m := by omega
    subst el
    rw [a3, w1, Int.toNat_natCast]
    have lW : hR H f_Thing_words a < hz H := ij.1 _ _ a2 oW
    have lT : hR H f_Thing_tags a < hz H := ij.1 _ _ a2 oT
    refine ⟨⟨a5, by omega, by omega⟩, ?_⟩
    have f1 : Fr [] (PTA a) 1 (2 * l + 2) H (sR (hcp H 2 (hR H f_Thing_words a) (2 * l + 2)) f_Thing_words a (hz H)) := fr_cp ij (by unfold PTA; simp)
    have zH1 : hz (sR (hcp H 2 (hR H f_Thing_words a) (2 * l + 2)) f_Thing_words a (hz H)) = hz H + 1 := rfl
    have K1 : ∀ x, x < hz H → hK (sR (hcp H 2 (hR H f_Thing_words a) (2 * l + 2)) f_Thing_words a (hz H)) x = hK H x := fun x hx => f1.K hx
    have r1 : hR (sR (hcp H 2 (hR H f_Thing_words a) (2 * l + 2)) f_Thing_words a (hz H)) f_Thing_words a = hz H := R_R _ _ _ _
    have r2 : hR (sR (hcp H 2 (hR H f_Thing_words a) (2 * l + 2)) f_Thing_words a (hz H)) f_Thing_tags a = hR H f_Thing_tags a := by
      rw [R_Rne (by decide), g_hR_hcp, if_neg (by omega)]
    have i1 : hI (sR (hcp H 2 (hR H f_Thing_words a) (2 * l + 2)) f_Thing_words a (hz H)) f_Thing_size a = (l : Int) := by
      show hI (hcp H 2 (hR H f_Thing_words a) (2 * l + 2)) f_Thing_size a = _
      rw [g_hI_hcp, if_neg (by omega)]; exact a3
    have l1 : ∀ x, x < hz H → hl (sR (hcp H 2 (hR H f_Thing_words a) (2 * l + 2)) f_Thing_words a (hz H)) x = hl H x := fun x hx => by
      show hl (hcp H 2 (hR H f_Thing_words a) (2 * l + 2)) x = _
      rw [g_hl_hcp, if_neg (by omega)]
    have l1' : hl (sR (hcp H 2 (hR H f_Thing_words a) (2 * l + 2)) f_Thing_words a (hz H)) (hz H) = 2 * l + 2 := by
      show hl (hcp H 2 (hR H f_Thing_words a) (2 * l + 2)) (hz H) = _
      rw [g_hl_hcp, if_pos rfl]
    have k1' : hK (sR (hcp H 2 (hR H f_Thing_words a) (2 * l + 2)) f_Thing_words a (hz H)) (hz H) = 2 := by
      show hK (hcp H 2 (hR H f_Thing_words a) (2 * l + 2)) (hz H) = _
      rw [g_hK_hcp, if_pos rfl]
    have c1 : ∀ x i, x < hz H → hA (sR (hcp H 2 (hR H f_Thing_words a) (2 * l + 2)) f_Thing_words a (hz H)) x i = hA H x i := fun x i hx => by
      show hA (hcp H 2 (hR H f_Thing_words a) (2 * l + 2)) x i = _
      rw [g_hA_hcp, if_neg (by omega)]
    have c1' : ∀ i, i < l → hA (sR (hcp H 2 (hR H f_Thing_words a) (2 * l + 2)) f_Thing_words a (hz H)) (hz H) i = hA H (hR H f_Thing_words a) i := fun i hi => by
      show hA (hcp H 2 (hR H f_Thing_words a) (2 * l + 2)) (hz H) i = _
      rw [g_hA_hcp, if_pos rfl, if_pos ⟨by omega, by omega⟩]
    have K0 : hK (hcp H 2 (hR H f_Thing_words a) (2 * l + 2)) a ∈ [244, 245, 246, 249] := by rw [g_hK_hcp, if_neg (by omega)]; exact a1
    have ij1 := f1.inj ij
    refine ⟨K0, ?_⟩
    show (hK (sR (hcp H 2 (hR H f_Thing_words a) (2 * l + 2)) f_Thing_words a (hz H)) (hR (sR (hcp H 2 (hR H f_Thing_words a) (2 * l + 2)) f_Thing_words a (hz H)) f_Thing_tags a) = 3 ∧ _) ∧ _
    generalize sR (hcp H 2 (hR H f_Thing_words a) (2 * l + 2)) f_Thing_words a (hz H) = H1 at *
    clear K0
    rw [i1, w1, Int.toNat_natCast, r2, K1 _ lT]
    refine ⟨⟨a8, by omega, by omega⟩, ?_⟩
    have f2 : Fr [] (PTA a) 1 (2 * l + 2) H1 (sR (hcp H1 3 (hR H1 f_Thing_tags a) (2 * l + 2)) f_Thing_tags a (hz H1)) := fr_cp ij1 (by unfold PTA; simp)
    rw [r2] at f2
    have K0 : hK (hcp H1 3 (hR H f_Thing_tags a) (2 * l + 2)) a ∈ [244, 245, 246, 249] := by rw [g_hK_hcp, if_neg (by omega), K1 _ a2]; exact a1
    refine ⟨K0, ?_⟩
    have A2 : TA (sR (hcp H1 3 (hR H f_Thing_tags a) (2 * l + 2)) f_Thing_tags a (hz H1)) a l (2 * l + 2) := by
      refine ⟨K0, by show a < hz H1 + 1; omega, ?_, ?_, ?_, by omega, by omega⟩
      · show hI (hcp H1 3 (hR H f_Thing_tags a) (2 * l + 2)) f_Thing_size a = _
        rw [g_hI_hcp, if_neg (by omega)]; exact i1
      · have : hR (sR (hcp H1 3 (hR H f_Thing_tags a) (2 * l + 2)) f_Thing_tags a (hz H1)) f_Thing_words a = hz H := by
          rw [R_Rne (by decide), g_hR_hcp, if_neg (by omega)]; exact r1
        rw [this]
        refine ⟨by omega, ?_, ?_⟩
        · show hK (hcp H1 3 (hR H f_Thing_tags a) (2 * l + 2)) (hz H) = 2
          rw [g_hK_hcp, if_neg (by omega)]; exact k1'
        · show hl (hcp H1 3 (hR H f_Thing_tags a) (2 * l + 2)) (hz H) = _
          rw [g_hl_hcp, if_neg (by omega)]; exact l1'
      · have : hR (sR (hcp H1 3 (hR H f_Thing_tags a) (2 * l + 2)) f_Thing_tags a (hz H1)) f_Thing_tags a = hz H1 := R_R _ _ _ _
        rw [this]
        refine ⟨by omega, ?_, ?_⟩
        · show hK (hcp H1 3 (hR H f_Thing_tags a) (2 * l + 2)) (hz H1) = 3
          rw [g_hK_hcp, if_pos rfl]
        · show hl (hcp H1 3 (hR H f_Thing_tags a) (2 * l + 2)) (hz H1) = _
          rw [g_hl_hcp, if_pos rfl]
    have rw2 : hR (sR (hcp H1 3 (hR H f_Thing_tags a) (2 * l + 2)) f_Thing_tags a (hz H1)) f_Thing_words a = hz H := by
      rw [R_Rne (by decide), g_hR_hcp, if_neg (by omega)]; exact r1
    have rt2 : hR (sR (hcp H1 3 (hR H f_Thing_tags a) (2 * l + 2)) f_Thing_tags a (hz H1)) f_Thing_tags a = hz H1 := R_R _ _ _ _
    refine t_put (f2.inj ij1) A2 (by omega) hv (fun H' fr A' q1 q2 c3 c4 => q H' _ (((f1.trans f2).trans fr).le (by omega) (by omega)) (by have := ((f1.trans f2).trans fr).1; omega) A' (fun c => by omega) (fun i hi => ?_) (fun i hi => ?_))
    · rw [q1, c3]
      by_cases w : i = l
      · rw [if_pos w, if_pos w]
      · rw [if_neg w, if_neg w, rw2]
        show hA (hcp H1 3 (hR H f_Thing_tags a) (2 * l + 2)) (hz H) i = _
        rw [g_hA_hcp, if_neg (by omega)]
        exact c1' i (by omega)
    · rw [q2, c4]
      by_cases w : i = l
      · rw [if_pos w, if_pos w]
      · rw [if_neg w, if_neg w, rt2]
        show hA (hcp H1 3 (hR H f_Thing_tags a) (2 * l + 2)) (hz H1) i = _
        rw [g_hA_hcp, if_pos rfl, if_pos ⟨by rw [l1 _ lT, a9]; omega, by omega⟩]
        exact c1 _ _ lT
end
