/-! C: a look begins -/
set_option maxRecDepth 20000
def lkX (X : X3) (k : Nat) : X3 := u3 (u3 (u3 X 98 f_Lookup_asked k (w32 (X 98 f_Lookup_asked k + 1))) 53 f_Found_place 0 (-1)) 53 f_Found_byClasses 0 0
def lkY (Y : Y3) : Y3 := u3 (u3 (u3 Y 53 f_Found_holder 0 0) 53 f_Found_to 0 0) 53 f_Found_member 0 0
section
variable {ρ : Nat → Nat} {d : Nat} {Q : QT} {h : ah} {C a k o f i : Nat} {X : X3} {Y : Y3}
theorem lkX_o (hf : [f_Lookup_asked, f_Found_place, f_Found_byClasses].elem f = false) : lkX X k o f i = X o f i := by
  unfold lkX
  rw [u3_f (by rintro rfl; exact absurd hf (by decide)), u3_f (by rintro rfl; exact absurd hf (by decide)), u3_f (by rintro rfl; exact absurd hf (by decide))]
theorem lkY_o (hf : [f_Found_holder, f_Found_to, f_Found_member].elem f = false) : lkY Y o f i = Y o f i := by
  unfold lkY
  rw [u3_f (by rintro rfl; exact absurd hf (by decide)), u3_f (by rintro rfl; exact absurd hf (by decide)), u3_f (by rintro rfl; exact absurd hf (by decide))]
theorem lkX_g : lkX X k 53 f_Found_place 0 = -1 ∧ lkX X k 53 f_Found_byClasses 0 = 0 ∧ (∀ i, lkX X k 98 f_Lookup_asked i = if i = k then w32 (X 98 f_Lookup_asked k + 1) else X 98 f_Lookup_asked i) := by
  unfold lkX
  refine ⟨by rw [u3_f (by decide), u3_s], by rw [u3_s], fun i => ?_⟩
  rw [u3_f (by decide), u3_f (by decide), u3_e]
  by_cases c : i = k
  · rw [if_pos ⟨rfl, rfl, c⟩, if_pos c]
  · rw [if_neg (fun z => c z.2.2), if_neg c]
theorem lkY_g : lkY Y 53 f_Found_holder 0 = 0 ∧ lkY Y 53 f_Found_to 0 = 0 ∧ lkY Y 53 f_Found_member 0 = 0 := by
  unfold lkY
  exact ⟨by rw [u3_f (by decide), u3_f (by decide), u3_s], by rw [u3_f (by decide), u3_s], by rw [u3_s]⟩
theorem r_look (G : AC h C) (F : FC h C) (e : X 53 f_Found_linker 0 = (k : Int)) (hk : k < 4) (q0 : k = 0 → wpB PGm ρ d m_Lookup_object 0 [(0, vR (C + 98)), (1, vR a), (2, vR (C + 53))] [] (cc h C (lkX X k) (lkY Y)) (cV (fun h18 => Q (Sum.inl none) h18) (fun e21 h20 => hK h20 e21 ≠ 0 ∧ Q (Sum.inr e21) h20))) (q3 : k = 3 → wpB PGm ρ d m_Lookup_row 0 [(0, vR (C + 98)), (1, vR a), (2, vR (C + 53))] [] (cc h C (lkX X k) (lkY Y)) (cV (fun h29 => Q (Sum.inl none) h29) (fun e32 h31 => hK h31 e32 ≠ 0 ∧ Q (Sum.inr e32) h31))) (qh : k = 1 ∨ k = 2 → wpB PGm ρ d m_Lookup_host 0 [(0, vR (C + 98)), (1, vR a), (2, vR (C + 53))] [] (cc h C (lkX X k) (lkY Y)) (cV (fun h36 => Q (Sum.inl none) h36) (fun e39 h38 => hK h38 e39 ≠ 0 ∧ Q (Sum.inr e39) h38))) : wpB PGm ρ (d + 1) m_Lookup_look 0 [(0, vR (C + 98)), (1, vR a), (2, vR (C + 53))] [] (cc h C X Y) Q := by
  have ko : hK h (C + 53) = k_Found := F.1.2.2.2.2.2.2.1
  have kl : hK h (C + 98) = k_Lookup := F.1.2.2.2.2.2.2.2.2
  have ra : hR (cc h C X Y) f_Lookup_asked (C + 98) = hR h f_Lookup_asked (C + 98) := ccRo (by decide)
  have kA : hK h (hR h f_Lookup_asked (C + 98)) = 1 := (KC G).2.2.2.2.2.2.2.2.2.2.2.2.2.2.1
  have lA : hl h (hR h f_Lookup_asked (C + 98)) = 4 := F.2.2.2.2.2.2.1.2.1
  have el : hI (cc h C X Y) f_Found_linker (C + 53) = (k : Int) := by rw [ccI (by decide)]; exact e
  have bq : 0 ≤ (k : Int) ∧ (k : Int) < ((4 : Nat) : Int) := by omega
  have c0 : (k : Int) = 0 → k = 0 := fun c => by omega
  have c3 : (k : Int) = 3 → k = 3 := fun c => by omega
  have ch : ¬ (k : Int) = 0 → ¬ (k : Int) = 3 → k = 1 ∨ k = 2 := fun c c' => by omega
  have e2 : hI (cc h C (lkX X k) (lkY Y)) f_Found_linker (C + 53) = (k : Int) := by rw [ccI (by decide), lkX_o (by decide)]; exact e
  refine b_Lookup_look_0 ⟨kl, ko, ?_⟩
  rw [ra, el, Int.toNat_natCast, ccA G (by decide)]
  refine ⟨⟨by rw [ccK, kA]; decide, bq.1, by rw [ccl, lA]; exact bq.2⟩, ⟨by rw [ccK, kA], bq.1, by rw [ccl, lA]; exact bq.2⟩, ?_⟩
  dsimp only
  rw [cc_sA G (by decide), cc_sI (by decide), cc_sR (by decide), cc_sR (by decide), cc_sR (by decide), cc_sI (by decide)]
  show ((hI (cc h C (lkX X k) (lkY Y)) f_Found_linker (C + 53) = 0 → _) ∧ (¬ hI (cc h C (lkX X k) (lkY Y)) f_Found_linker (C + 53) = 0 → ((hI (cc h C (lkX X k) (lkY Y)) f_Found_linker (C + 53) = 3 → _) ∧ (¬ hI (cc h C (lkX X k) (lkY Y)) f_Found_linker (C + 53) = 3 → _))))
  rw [e2]
  exact ⟨fun c => q0 (c0 c), fun c => ⟨fun c' => q3 (c3 c'), fun c' => qh (ch c c')⟩⟩
end
