/-! C's machine: an array grows -/
set_option maxRecDepth 20000
def LCC : List Nat := scC.map (fun q => q.1) ++ rfC.map (fun q => q.1) ++ arC.map (fun q => q.1 + 1) ++ raC.map (fun q => q.1 + 1)
def trX (X : X3) (o f l n : Nat) : X3 := fun a g i => if a = o ∧ g = f then (if i < l ∧ i < n then X o f i else 0) else X a g i
section
variable {h h' : ah} {C f g o a b n i j x k m z s l : Nat} {v : Int} {X X' : X3} {Y Y' : Y3} {L : List Nat} {P : List (Nat × Nat)}
theorem ccI4 (h5 : f < 5) : hI (cc h C X Y) f a = hI h f a := if_neg (by
  rintro ⟨-, c⟩
  have := List.all_eq_true.mp scF5 (f, a - C) (by simpa using c)
  rw [Bool.and_eq_true] at this
  have t2 : Nat.ble 5 f = true := this.2
  have := Nat.le_of_ble_eq_true t2
  omega)
theorem cc_fr (G : AC h C) : Fr LCC [] 0 0 h (cc h C X Y) := by
  refine ⟨⟨Nat.le_refl _, Nat.le_refl _, Nat.le_refl _, Nat.le_refl _⟩, fun _ _ => rfl, fun f a ha h5 hf => ⟨?_, ?_⟩, fun x h0 hx _ hm => ⟨⟨rfl, fun i => ?_, fun i => ?_⟩, ccI4 (by decide)⟩, fun _ _ _ => rfl, fun a ha hk => ?_, fun f a hf ha => Or.inr (Or.inr ⟨ha, cc_own hf⟩), cc_INJ⟩
  · refine if_neg fun c => hf (Or.inl ?_)
    unfold LCC
    have := c.2
    simp only [List.mem_append, List.mem_map]
    exact Or.inl (Or.inl (Or.inl ⟨(f, a - C), by simpa using this, rfl⟩))
  · refine if_neg fun c => hf (Or.inl ?_)
    unfold LCC
    have := c.2
    simp only [List.mem_append, List.mem_map]
    exact Or.inl (Or.inl (Or.inr ⟨(f, a - C), by simpa using this, rfl⟩))
  · refine ccA0 fun q m c => ?_
    obtain ⟨a1, a2, a3⟩ := G.oA q m
    have g1 := G.1
    refine hm q.1 (C + q.2.1) (by omega) a1 c (Or.inr (Or.inl ?_))
    unfold LCC
    simp only [List.mem_append, List.mem_map]
    exact Or.inl (Or.inr ⟨q, m, rfl⟩)
  · refine ccB0 fun q m c => ?_
    obtain ⟨a1, a2, a3⟩ := G.oB q m
    have g1 := G.1
    refine hm q.1 (C + q.2.1) (by omega) a1 c (Or.inr (Or.inl ?_))
    unfold LCC
    simp only [List.mem_append, List.mem_map]
    exact Or.inr ⟨q, m, rfl⟩
  · show (if C ≤ a ∧ scC.elem (4, a - C) = true then X (a - C) 4 0 else hI h 4 a) = 1
    rw [if_neg]
    · exact hk
    · rintro ⟨-, c⟩
      have := List.all_eq_true.mp scF5 (4, a - C) (by simpa using c)
      rw [Bool.and_eq_true] at this
      have t2 : Nat.ble 5 4 = true := this.2
      exact absurd t2 (by decide)
theorem FC_cc (F : FC h C) (G : AC h C) : FC (cc h C X Y) C := F.frm G (cc_fr G) (by unfold DJ; decide) ⟨by simp, by simp, by simp⟩
theorem Fr.app {L' : List Nat} {P' : List (Nat × Nat)} (a : Fr L P z s h h') (b : ∀ f, f ∈ L → f ∈ L') (c : ∀ q, q ∈ P → q ∈ P') : Fr L' P' z s h h' := a.mono b c
/-- an array of the machine grows -/
theorem cc_grow (G : AC h C) (F : FC h C) (e : inA arC f o = true) (ho : o ≤ 101) (nf : DJ LFC [] [(f, C + o)]) (hk : k = hK h (hR h f (C + o))) : ∃ h2, sR (hcp (cc h C X Y) k (hR h f (C + o)) n) f (C + o) (hz h) = cc h2 C (trX X o f (hl h (hR h f (C + o))) n) Y ∧ AC h2 C ∧ FC h2 C ∧ Fr LCC [(f, C + o)] 1 n h h2 ∧ hl h2 (hR h2 f (C + o)) = n ∧ hz h2 = hz h + 1 := by
  have G1 : AC (cc h C X Y) C := cc_AC G
  have F1 : FC (cc h C X Y) C := FC_cc F G
  have X1 : XO (cc h C X Y) C X Y := cc_XO G
  obtain ⟨kk, m⟩ := inA_mem e
  have of := (ownA' m).1
  simp only at of
  have eR : hR (cc h C X Y) f (C + o) = hR h f (C + o) := cc_own of
  have fr0 := cc_fr (X := X) (Y := Y) G
  have ez : hz (cc h C X Y) = hz h := rfl
  have eK : hK (cc h C X Y) (hR h f (C + o)) = k := by rw [hk]; rfl
  have el : hl (cc h C X Y) (hR h f (C + o)) = hl h (hR h f (C + o)) := rfl
  rw [← ez, ← el]
  generalize hcc : cc h C X Y = h1 at *
  have g1 := G1.1
  have xlt : hR h f (C + o) < hz h1 := by rw [← eR]; exact G1.2.1.1 _ _ (by omega) of
  have fr1 : Fr [] [(f, C + o)] 1 n h1 (sR (hcp h1 k (hR h f (C + o)) n) f (C + o) (hz h1)) := by
    have a0 : Fr [] [(f, C + o)] (0 + 1) (0 + n) h1 (hcp h1 k (hR h f (C + o)) n) := Fr.r0.cp
    have e1 : hz (hcp h1 k (hR h f (C + o)) n) = hz h1 + 1 := rfl
    refine (a0.wO (Or.inl (Or.inr (by simp))) (Nat.le_refl _) (by omega) (fun g y hy hg c => ?_)).le (by omega) (by omega)
    exact INJ.new (k := k) (n := n) (m := n) G1.2.1 g y hy hg c
  refine ⟨sR (hcp h1 k (hR h f (C + o)) n) f (C + o) (hz h1), ?_, ?_, F1.frm G1 fr1 nf ⟨?_, ?_, ?_⟩, ?_, ?_, rfl⟩
  · -- the rows
    refine (XO.e ?_).symm
    obtain ⟨b1, b2, b3, b4⟩ := X1
    have i5 : ∀ g p, scC.elem (g, p) = true → 5 ≤ g ∧ p ≤ 101 := fun g p e => by
      have := List.all_eq_true.mp scF5 (g, p) (by simpa using e)
      rw [Bool.and_eq_true] at this
      exact ⟨Nat.le_of_ble_eq_true this.2, Nat.le_of_ble_eq_true this.1⟩
    have r5 : ∀ g p, rfC.elem (g, p) = true → 5 ≤ g ∧ p ≤ 101 := fun g p e => by
      have := List.all_eq_true.mp rfF5 (g, p) (by simpa using e)
      rw [Bool.and_eq_true] at this
      exact ⟨Nat.le_of_ble_eq_true this.2, Nat.le_of_ble_eq_true this.1⟩
    have nw : ∀ g y, g ≠ f → ¬ okW [] [(f, C + o)] g y := fun g y ne c => by rcases c with c | c <;> simp at c; exact ne c.1
    refine ⟨fun g p eg => ?_, fun g p eg => ?_, fun g p eg i => ?_, fun g p eg i => ?_⟩
    · have := i5 g p eg
      have ne : g ≠ f := by rintro rfl; rw [scA' m] at eg; cases eg
      rw [fr1.I (by omega) this.1 (nw g _ ne), b1 g p eg]
      unfold trX; rw [if_neg (fun c => ne c.2)]
    · have := r5 g p eg
      have ne : g ≠ f := by rintro rfl; rw [rfA' (Or.inl m)] at eg; cases eg
      rw [fr1.R (by omega) this.1 (nw g _ ne)]
      exact b2 g p eg
    · obtain ⟨k2, m2⟩ := inA_mem eg
      have og := ownA' m2
      simp only at og
      by_cases c : p = o ∧ g = f
      · obtain ⟨rfl, rfl⟩ := c
        rw [R_R]
        show (if hz h1 = hz h1 then (if i < hl h1 (hR h g (C + p)) ∧ i < n then hA h1 (hR h g (C + p)) i else 0) else _) = _
        rw [if_pos rfl, ← eR, b3 g p eg i]
        exact (if_pos (c := p = p ∧ g = g) ⟨rfl, rfl⟩).symm
      · have w1 : ¬ okC [] [(f, C + o)] g (C + p) := by
          rintro ((q | q) | (q | q)) <;> simp at q
          · exact c ⟨by omega, q.1⟩
          · have o1 := own5 og.1
            have := List.all_eq_true.mp ownA _ m
            have t1 : arC.all (fun q => arC.all (fun p => !(Nat.beq (q.1 + 1) p.1))) = true := by decide
            have := List.all_eq_true.mp (List.all_eq_true.mp t1 _ m2) _ m
            simp only [Bool.not_eq_true'] at this
            rw [q.1] at this
            simp at this
        have sa := fr1.ar G1.2.1 og.1 (x := C + p) (by omega) rfl (G1.2.2.2.1 _ m2).1 w1 (by simp; intro c0; rw [← c0] at of; exact absurd (own5 of) (by decide))
        rw [fr1.R (by omega) (own5 og.1) (fun c => w1 (Or.inl c)), sa.2.1, b3 g p eg i]
        unfold trX; rw [if_neg c]
    · obtain ⟨k2, m2⟩ := inA_mem eg
      have og := ownB' m2
      simp only at og
      have w1 : ¬ okC [] [(f, C + o)] g (C + p) := by
        have t1 : raC.all (fun q => arC.all (fun p => !(Nat.beq (q.1 + 1) p.1) && !(Nat.beq q.1 p.1))) = true := by decide
        have := List.all_eq_true.mp (List.all_eq_true.mp t1 _ m2) _ m
        simp only [Bool.and_eq_true, Bool.not_eq_true'] at this
        rintro ((q | q) | (q | q)) <;> simp at q
        · rw [q.1] at this; simp at this
        · rw [q.1] at this; simp at this
      have sa := fr1.ar G1.2.1 og.1 (x := C + p) (by omega) rfl (G1.2.2.2.2 _ m2).1 w1 (by simp; intro c0; rw [← c0] at of; exact absurd (own5 of) (by decide))
      rw [fr1.R (by omega) (own5 og.1) (fun c => w1 (Or.inl c)), sa.2.2]
      exact b4 g p eg i
  · -- where they lie
    obtain ⟨a1, a2, a3, a4, a5⟩ := G1
    refine ⟨by have := fr1.1.1; omega, fr1.inj a2, a3, fun q mq => ?_, fun q mq => ?_⟩
    · have o1 := ownA' mq
      by_cases c : q.1 = f ∧ C + q.2.1 = C + o
      · rw [c.1, c.2, R_R]
        refine ⟨by omega, ?_⟩
        have kq : q.2.2 = k := by
          rw [← eK, ← eR, ← c.1, ← c.2]; exact ((a4 q mq).2).symm
        rw [kq]
        exact if_pos rfl
      · have w : ¬ okW [] [(f, C + o)] q.1 (C + q.2.1) := by
          rintro (q | q) <;> simp at q
          exact c ⟨q.1, by omega⟩
        rw [fr1.R (by omega) (own5 o1.1) w, fr1.K (a2.1 _ _ (by omega) o1.1)]
        exact a4 q mq
    · have o1 := ownB' mq
      have w : ¬ okW [] [(f, C + o)] q.1 (C + q.2.1) := by
        have t1 : raC.all (fun q => arC.all (fun p => !(Nat.beq q.1 p.1))) = true := by decide
        have := List.all_eq_true.mp (List.all_eq_true.mp t1 _ mq) _ m
        simp only [Bool.not_eq_true'] at this
        rintro (q | q) <;> simp at q
        rw [q.1] at this; simp at this
      rw [fr1.R (by omega) (own5 o1.1) w, fr1.K (a2.1 _ _ (by omega) o1.1)]
      exact a5 q mq
  · simp; intro c0; rw [← c0] at of; exact absurd (own5 of) (by decide)
  · simp; intro c0; rw [← c0] at of; exact absurd (own5 of) (by decide)
  · simp; intro c0; rw [← c0] at of; exact absurd (own5 of) (by decide)
  · have b0 : Fr LCC [(f, C + o)] 0 0 h h1 := fr0.mono (fun _ q => q) (fun _ q => by cases q)
    have b1 : Fr LCC [(f, C + o)] 1 n h1 (sR (hcp h1 k (hR h f (C + o)) n) f (C + o) (hz h1)) := fr1.mono (fun _ q => by cases q) (fun _ q => q)
    exact (b0.trans b1).le (by omega) (by omega)
  · rw [R_R]
    exact if_pos rfl
end
