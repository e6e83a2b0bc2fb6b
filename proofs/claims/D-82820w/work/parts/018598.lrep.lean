/-! a list is other: what stands for what -/
section
variable {D : va_G} {aC : Nat → ClassId} {B0 : Nat} {H0 : Heap} {eE : Nat} {h h' : ah} {H H' : Heap}
theorem rep_L (r : Rep D aC B0 H0 eE h H) {x y : Nat} (hx : hK h (x + 1) = 190) (z1 : H'.size + 1 = hz h')
    (hs : (H'.size = H.size ∧ (∀ b, hK h' b = hK h b) ∧ (y = x ∨ (hK h (y + 1) = 105 ∧ hR h 3 (y + 1) = x + 1))) ∨ (H'.size = H.size + 1 ∧ y = H.size ∧ ∀ b, hK h' b = if b = hz h then 105 else hK h b))
    (hq : ∀ q, q < H.size → q ≠ x → q ≠ y → H'[q]? = H[q]?) (hsm : ∀ b, b ≠ x + 1 → b ≠ y + 1 → sameAt h h' b) (hown : ∀ b, b ≠ x + 1 → b ≠ hz h → hR h' 3 b = hR h 3 b)
    {cell' : Cell} (c1 : H'[x]? = some cell') (c2 : cell'.cls = D.1 190) (c3 : cell'.vm = .none) (c4 : lsC D h' (x + 1) cell') (hLR : hI h' 4 (x + 1) = 1 → LRep D aC eE h' H' (x + 1)) : Rep D aC B0 H0 eE h' H' := by
  obtain ⟨⟨y1, y2, y3⟩, r2, r3, r4, r5, r6, r7⟩ := r
  have hxB : B0 < x + 1 := r5 _ (by rw [hx]; rfl)
  have hxz := r2 (x + 1) (by rw [hx]; decide)
  have hge : H.size ≤ H'.size := by rcases hs with ⟨a, -⟩ | ⟨a, -⟩ <;> omega
  have hyB : B0 ≤ y := by
    rcases hs with ⟨-, -, rfl | ⟨a, -⟩⟩ | ⟨-, rfl, -⟩
    · omega
    · have := r5 (y + 1) (by rw [a]; rfl); omega
    · exact y2
  have hKo : ∀ b, b ≠ y + 1 → hK h' b = hK h b := by
    intro b hb
    rcases hs with ⟨-, a, -⟩ | ⟨-, rfl, a⟩
    · exact a b
    · rw [a b, if_neg (by omega)]
  have hKx : hK h' (x + 1) = 190 := by
    rcases hs with ⟨-, a, -⟩ | ⟨-, rfl, a⟩
    · rw [a]; exact hx
    · rw [a, if_neg (by omega)]; exact hx
  have hKy : y = x ∨ hK h' (y + 1) = 105 := by
    rcases hs with ⟨-, a, rfl | ⟨b, -⟩⟩ | ⟨-, rfl, a⟩
    · exact Or.inl rfl
    · right; rw [a]; exact b
    · right; rw [a, if_pos (by omega)]
  have hlt' : ∀ q cl, H'[q]? = some cl → q < H.size ∨ q = y := by
    intro q cl hcl
    have := (Array.getElem?_eq_some_iff.mp hcl).1
    rcases hs with ⟨a, -⟩ | ⟨a, rfl, -⟩ <;> omega
  refine ⟨⟨z1, by omega, y3⟩, ?_, ?_, ?_, ?_, ?_, ?_⟩
  · intro b hb
    by_cases hby : b = y + 1
    · subst hby
      refine ⟨by omega, ?_⟩
      rcases hs with ⟨a, a2, a3⟩ | ⟨a, rfl, -⟩
      · rw [a2] at hb
        have := r2 _ hb; omega
      · omega
    · rw [hKo b hby] at hb
      have := r2 b hb
      omega
  · intro q cl hcl
    by_cases hqx : q = x
    · subst hqx
      cases c1.symm.trans hcl
      rw [hKx]
      unfold cellOf
      rw [if_neg (by decide), if_neg (by decide), if_neg (by decide), if_pos (Or.inl rfl)]
      exact ⟨c2, ⟨by rw [c3]; rfl, by rw [c3]; exact fun z => by cases z⟩, fun _ => ⟨c3, c4⟩⟩
    · by_cases hqy : q = y
      · subst hqy
        rcases hKy with e9 | e9
        · exact absurd e9 hqx
        · rw [e9]; unfold cellOf; rw [if_pos (Or.inr rfl)]; trivial
      · have hql : q < H.size := (hlt' q cl hcl).resolve_right hqy
        rw [hq q hql hqx hqy] at hcl
        rw [hKo _ (by omega)]
        exact (r3 q cl hcl).same (hsm _ (by omega) (by omega))
  · intro q hq0
    rw [hq q (by omega) (by omega) (by omega)]; exact r4 q hq0
  · intro b hb
    by_cases hby : b = y + 1
    · omega
    · rw [hKo b hby] at hb; exact r5 b hb
  · intro b hb hf
    by_cases hbx : b = x + 1
    · subst hbx; exact hLR hf
    · have hby : b ≠ y + 1 := fun z => by
        rcases hKy with e9 | e9
        · exact hbx (by omega)
        · rw [z, e9] at hb; cases hb
      rw [hKo b hby] at hb
      obtain ⟨s1, s2, s3, s4, s5⟩ := hsm b hbx hby
      rw [s1] at hf
      obtain ⟨ee, cl, cE, mc, cap9, l1, l2, l3, l4, l5, l6, l7, l8, l9, l10, l11, l12⟩ := r6 b hb hf
      have hap := r2 b (by rw [hb]; decide)
      have hel : ee < H.size := (Array.getElem?_eq_some_iff.mp l5).1
      have hee : ee ≠ x ∧ ee ≠ y := by
        by_cases h0 : hI h 2 b = 0
        · rw [if_pos h0] at l12; omega
        · rw [if_neg h0] at l12
          obtain ⟨m1, m2, m3⟩ := l12
          refine ⟨fun z => (by rw [z, hx] at m2; cases m2), fun z => ?_⟩
          rcases hs with ⟨-, -, rfl | ⟨-, a⟩⟩ | ⟨-, rfl, -⟩
          · rw [z, hx] at m2; cases m2
          · rw [z, a] at m3; exact hbx m3.symm
          · omega
      refine ⟨ee, cl, cE, mc, cap9, by rw [hq _ (by omega) (by omega) (by omega)]; exact l1, l2, by rw [s3]; exact l3, l4, by rw [hq _ hel hee.1 hee.2]; exact l5, l6, l7, by rw [s1]; exact l8, by rw [s3]; exact l9, l10, fun i hi => ?_, ?_⟩
      · rw [s5]
        obtain ⟨m1, m2⟩ := l11 i (by rw [← s3]; exact hi)
        refine ⟨m1, m2.imp_right fun m3 => ?_⟩
        by_cases hbi : hB h b i = y + 1
        · rcases hs with ⟨-, a, -⟩ | ⟨-, rfl, -⟩
          · rw [a]; exact m3
          · exfalso
            have := r2 _ (show hK h (hB h b i) ≠ 0 by omega); omega
        · rw [hKo _ hbi]; exact m3
      · rw [s1, s2]
        by_cases h0 : hI h 2 b = 0
        · rw [if_pos h0] at l12 ⊢; exact l12
        · rw [if_neg h0] at l12 ⊢
          obtain ⟨m1, m2, m3⟩ := l12
          refine ⟨m1, by rw [hKo _ (by omega)]; exact m2, ?_⟩
          rw [hown _ (by intro z; rw [z, hx] at m2; cases m2) (by omega)]; exact m3
  · intro b hb
    have hbx : b ≠ x + 1 := fun z => by rw [z, hKx] at hb; cases hb
    have hby : b ≠ y + 1 := fun z => by
      rcases hKy with e9 | e9
      · exact hbx (by omega)
      · rw [z, e9] at hb; cases hb
    rw [hKo b hby] at hb
    obtain ⟨s1, s2, s3, s4, s5⟩ := hsm b hbx hby
    obtain ⟨⟨cl, vv, t1, t2, t3, t4, t5, t6⟩, t7⟩ := r7 b hb
    have hap := r2 b (by rw [hb]; decide)
    have hvv : (vv : Nat) < (B0 : Nat) := t7 cl vv t1 t2
    refine ⟨⟨cl, vv, by rw [hq _ (by omega) (by omega) (by omega)]; exact t1, t2, t3, ?_, by rw [s3]; exact t5, fun i hi => by rw [s4]; exact t6 i (by rw [← s3]; exact hi)⟩, fun c2 v2 h1 h2 => t7 c2 v2 (by rw [← hq _ (by omega) (by omega) (by omega)]; exact h1) h2⟩
    rw [hq vv (by omega) (by omega) (by omega), s3]
    simp only [s4]; exact t4
end
