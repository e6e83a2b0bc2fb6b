/-! entries of sites: after a hit's loop -/
set_option maxRecDepth 20000
section
variable {S S2 : SS} {g : HG} {ws : List (List Int)} {s0 n m rr : Nat} {e : ENT} {κ ty v el : Int}
theorem HITR.sub : ∀ (l l2 : List ENT) (r : Option Nat), HITR S κ ty v el rr l l2 r → ∀ e, e ∈ l2 → e ∈ l
  | [], l2, r, H, e, he => by
    obtain ⟨rfl, -⟩ := H
    exact he
  | a :: l, l2, r, H, e, he => by
    rcases H with ⟨-, H⟩ | ⟨-, -, rfl, -⟩ | ⟨-, -, l3, r2, rfl, -, H⟩
    · exact List.mem_cons_of_mem _ (HITR.sub l l2 r H e he)
    · exact he
    · rcases List.mem_cons.mp he with rfl | he
      · exact List.mem_cons_self
      · exact List.mem_cons_of_mem _ (HITR.sub l l3 r2 H e he)
/-- the entry that was hit is not stale, and its guard holds -/
theorem HITR.at : ∀ (l l2 : List ENT) (r : Nat), HITR S κ ty v el rr l l2 (some r) → ∃ e, l2[r]? = some e ∧ STE S κ e 0 ∧ GDE S κ ty v el rr e
  | [], l2, r, H => by cases H.2
  | a :: l, l2, r, H => by
    rcases H with ⟨-, H⟩ | ⟨h1, h2, rfl, h4⟩ | ⟨-, -, l3, r2, rfl, h4, H⟩
    · exact HITR.at l l2 r H
    · cases h4
      exact ⟨a, rfl, h1, h2⟩
    · cases r2 with
      | none => cases h4
      | some r2 =>
        cases h4
        obtain ⟨e, h5, h6⟩ := HITR.at l l3 r2 H
        exact ⟨e, by rw [List.getElem?_cons_succ]; exact h5, h6⟩
end
