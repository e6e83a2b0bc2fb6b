/-! one thing changes -/
set_option maxRecDepth 20000
section
variable {Γ Γ' : GH} {h h' : ah} {C ho a N tn sn k z s n j m i : Nat} {S S' : SS} {L : List Nat} {P : List (Nat × Nat)} {X X' : X3} {Y : Y3}
theorem THC.mod (H : THC Γ h C ho S N) (G : AC h C) (F : FC h C) (g : GRO Γ Γ' h h' C S S') (fr : Fr L P z s h h') (dL : DJ (LHH ++ LHH1) L []) (hp : ∀ q, q ∈ P → q.2 = hB h (C + 51) k) (p0 : ∀ y, (0, y) ∉ P) (hk : (k : Int) < S f_Md_things 0) (eo : ∀ i, i < N → hB h' (ho + 2) i = hB h (ho + 2) i) (eS : EXS (f_Md_things :: f_Md_shapes :: LSP) S S') (eK : ∀ j, j ≠ k → ∀ f, LTT.elem f = true → S' f j = S f j) (eL : ∀ j, j ≠ k → (j : Int) < S f_Md_things 0 → ∀ i : Nat, (i : Int) < S f_Md_thingCount j → ∀ f, LSL.elem f = true → S' f (slS S j i) = S f (slS S j i)) (e1 : S f_Md_slots 0 ≤ S' f_Md_slots 0) (ec : S f_Md_changes 0 ≤ S' f_Md_changes 0) (acy : ACY S → ACY S')
  (nw : ∀ tn sn : Nat, S f_Md_things 0 = (tn : Int) → S f_Md_shapes 0 = (sn : Int) → (∀ i, hB h' (C + 51) i = hB h (C + 51) i) → (∀ i, hB h' (C + 52) i = hB h (C + 52) i) → (∀ s, s < sn → SH1 h C S tn sn s) → TH1 Γ h C ho S N tn sn k → TH1 Γ' h' C ho S' N tn sn k)
  (uq : (∀ k i k' i' : Nat, (k : Int) < S f_Md_things 0 → (k' : Int) < S f_Md_things 0 → (i : Int) < S f_Md_thingCount k → (i' : Int) < S f_Md_thingCount k' → slS S k i = slS S k' i' → k = k' ∧ i = i') → ∀ k i k' i' : Nat, (k : Int) < S f_Md_things 0 → (k' : Int) < S f_Md_things 0 → (i : Int) < S' f_Md_thingCount k → (i' : Int) < S' f_Md_thingCount k' → slS S' k i = slS S' k' i' → k = k' ∧ i = i') : THC Γ' h' C ho S' N := by
  have gz := G.1
  obtain ⟨tn, sn, a1, a2, a3, a4, a5, a6, a6', a7, a8, a9, a10⟩ := H
  have T0 := (a7 k (by omega)).p.1
  have nC : C + 50 ≠ hB h (C + 51) k := fun c => by
    have := T0.2.1.1
    rw [← c, F.1.2.2.2.2.2.1] at this
    revert this
    unfold kdK
    split
    · decide
    · split
      · decide
      · split <;> decide
  have nokC : ∀ f, (f ∈ LHH ++ LHH1) → ∀ x, x ≠ hB h (C + 51) k → ¬ okW L P f x := fun f hf x hx => by
    rintro (c | c)
    · exact dL.w (by simpa using hf) (x := 0) (Or.inl c)
    · exact hx (hp _ c)
  have s51 := fr.ar G.2.1 (f := f_Heap_things) (by unfold own; decide) (x := C + 50) (by omega) F.2.2.1.2.1 (by omega) (fun c => c.elim (nokC _ (by decide) _ nC) (nokC _ (by decide) _ nC)) (p0 _)
  have s52 := fr.ar G.2.1 (f := f_Heap_shapes) (by unfold own; decide) (x := C + 50) (by omega) F.2.2.1.2.2.1 (by omega) (fun c => c.elim (nokC _ (by decide) _ nC) (nokC _ (by decide) _ nC)) (p0 _)
  have hb : ∀ s, s < sn → (S f_Md_shapeBefore s).toNat < sn := fun s hs => (a8 s hs).bef hs
  have eR : ∀ s, s < sn → ∀ f, LSP.elem f = true → S' f s = S f s := fun s _ f hf => eS f (by
    simp only [List.elem_eq_mem, decide_eq_true_eq, List.mem_cons] at hf ⊢
    exact Or.inr (Or.inr hf)) s
  have aM : ∀ f, LHH.elem f = true → f ∈ LHH ++ LHH1 := fun f hf => List.mem_append_left _ (by simpa using hf)
  refine ⟨tn, sn, by rw [eS _ (by decide)]; exact a1, by rw [eS _ (by decide)]; exact a2, by rw [s51.1]; exact a3, by rw [s52.1]; exact a4, a5, a6, a6', fun j hj => ?_, fun s hs => ?_, fun j i j' i' h1 h2 => uq (fun j i j' i' w1 w2 => a9 j i j' i' (by omega) (by omega)) j i j' i' (by omega) (by omega), fun q q' h1 h2 h3 h4 => ?_, acy a10.2⟩
  · have T := a7 j hj
    by_cases q : j = k
    · subst q
      exact nw tn sn a1 a2 s51.2.2 s52.2.2 a8 T
    · have ne : hB h (C + 51) j ≠ hB h (C + 51) k := fun c => by
        have x1 := T.p.1.2.2.1
        have x2 := T0.2.2.1
        rw [c] at x1; omega
      exact T.keep g (s51.2.2 j) (fun s _ => s52.2.2 s) ⟨a5, Nat.le_refl _⟩ (eK j q) (fun i hi f hf => eL j q (by omega) i hi f hf) e1 ec eR hb (rooB_k (fun s hs => ⟨eR s hs _ (by decide), eR s hs _ (by decide)⟩)) (SMO.fr G.2.1 T.2.1.2.1 T.2.2.2.2.2.1.1 T.2.2.2.2.2.1.2.2.1 fr (fun f hf => nokC f (aM f hf) _ ne) (nokC _ (by decide) _ ne) (nokC _ (by decide) _ ne) p0) eo
  · have T := a8 s hs
    have ne : hB h (C + 52) s ≠ hB h (C + 51) k := fun c => by
      have x1 := T.1.1
      rw [c, T0.2.1.1] at x1
      exact kd_ns x1
    exact T.keep g a1 (Nat.le_refl _) hs (fun s _ => s52.2.2 s) eR hb (lastB_k (fun s hs => eR s hs _ (by decide))) (SMF.fr T.1.2.1 fr (fun f hf => nokC f (aM f hf) _ ne))
  · rw [eR q h3 _ (by decide), eR q' h4 _ (by decide), eR q h3 _ (by decide), eR q' h4 _ (by decide), eR q h3 _ (by decide), eR q' h4 _ (by decide)]
    exact a10.1 q q' h1 h2 h3 h4
/-- what the epoch is after a change -/
def grwS (S : SS) (k : Nat) : SS := if S f_Md_isWatched k = 0 then S else u2 (u2 (u2 S f_Md_epoch k (S f_Md_epoch k + 1)) f_Md_changes 0 (S f_Md_changes 0 + 1)) f_Md_changedAt k (S f_Md_changes 0 + 1)
theorem grwS_o {f i : Nat} (hf : [f_Md_epoch, f_Md_changes, f_Md_changedAt].elem f = false) : grwS S k f i = S f i := by
  have n : ∀ g, [f_Md_epoch, f_Md_changes, f_Md_changedAt].elem g = true → f ≠ g := by rintro g hg rfl; rw [hg] at hf; cases hf
  unfold grwS
  split
  · rfl
  · rw [u2_f (n _ (by decide)), u2_f (n _ (by decide)), u2_f (n _ (by decide))]
theorem grwS_k {f : Nat} (hj : j ≠ k) (hf : f ≠ f_Md_changes) : grwS S k f j = S f j := by
  unfold grwS
  split
  · rfl
  · rw [u2_e, if_neg (fun c => hj c.2), u2_f hf, u2_e, if_neg (fun c => hj c.2)]
theorem grwS_w : grwS S k f_Md_epoch k = (if S f_Md_isWatched k = 0 then S f_Md_epoch k else S f_Md_epoch k + 1) ∧ grwS S k f_Md_changedAt k = (if S f_Md_isWatched k = 0 then S f_Md_changedAt k else S f_Md_changes 0 + 1) ∧ grwS S k f_Md_changes 0 = (if S f_Md_isWatched k = 0 then S f_Md_changes 0 else S f_Md_changes 0 + 1) := by
  unfold grwS
  by_cases q : S f_Md_isWatched k = 0
  · rw [if_pos q, if_pos q, if_pos q, if_pos q]; exact ⟨rfl, rfl, rfl⟩
  · rw [if_neg q, if_neg q, if_neg q, if_neg q]
    refine ⟨?_, ?_, ?_⟩
    · rw [u2_f (by decide), u2_f (by decide), u2_s]
    · rw [u2_s]
    · rw [u2_f (by decide), u2_s]
/-- T: a change is noted -/
theorem s_changed {ρ : Nat → Nat} {d T : Nat} {h0 : ah} {Q : QT} (O : TOK h0 T) (hk : k < 8000) (he : 0 ≤ S f_Md_epoch k ∧ S f_Md_epoch k ≤ 1000000) (hc : 0 ≤ S f_Md_changes 0 ∧ S f_Md_changes 0 ≤ 1000000) (q : Q (Sum.inl none) (cn h0 T (grwS S k))) : wpB PGm ρ d m_Md_changed 0 [(0, vR T), (1, vI (k : Int))] [] (cn h0 T S) Q := by
  obtain ⟨kT, G, kH⟩ := O
  have c1 : 0 ≤ (k : Int) ∧ (k : Int) < ((8000 : Nat) : Int) := by omega
  have w1 : w32 (S f_Md_epoch k + 1) = S f_Md_epoch k + 1 := w32_of (by omega) (by omega)
  have w2 : w32 (S f_Md_changes 0 + 1) = S f_Md_changes 0 + 1 := w32_of (by omega) (by omega)
  unfold grwS at q
  clear he hc
  refine b_Md_changed_0 ?_
  by_cases z : S f_Md_isWatched k = 0
  · rw [if_pos z] at q
    simp (decide := true) only [cnI, cnIe, cnR, cnK, cnl, cnA' G, cn_sI, cn_sIe, cn_sA' G, kT, KN G, LN G, u2_f, u2_s, w1, w2, z, Int.toNat_natCast, true_and, and_true, forall_const, false_implies, not_true_eq_false]
    exact ⟨c1, q⟩
  · rw [if_neg z] at q
    simp (decide := true) only [cnI, cnIe, cnR, cnK, cnl, cnA' G, cn_sI, cn_sIe, cn_sA' G, kT, KN G, LN G, u2_f, u2_s, w1, w2, z, Int.toNat_natCast, true_and, and_true, forall_const, false_implies, not_false_eq_true]
    exact ⟨c1, c1, c1, c1, q⟩
end
