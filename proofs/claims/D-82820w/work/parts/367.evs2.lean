/-! entries of sites: after a hit's loop, after a link -/
set_option maxRecDepth 20000
section
variable {S S2 : SS} {g : HG} {ws : List (List Int)} {s0 n m : Nat} {es : List ENT} {e : ENT}
theorem SLO.row {s s0 : Nat} (H : SLO s0 S S2) (hs : s ≠ s0) : S2 f_Md_entries s = S f_Md_entries s ∧ ∀ i, i < 5 → rowE S2 (5 * s + i) = rowE S (5 * s + i) := ⟨H.2 _ _ (by decide) hs, fun i hi => rowE_e (fun f hf => H.1 f _ hf (by omega))⟩
theorem enL_get {i : Nat} (hi : i < n) : (enL S s0 n)[i]? = some (rowE S (5 * s0 + i)) := by
  unfold enL
  rw [List.getElem?_map, List.getElem?_range hi]; rfl
/-- rows that are among these are right if these are -/
theorem enL_all {P : ENT → Prop} (e1 : enL S2 s0 m = es) (H : ∀ e, e ∈ es → P e) : ∀ i, i < m → P (rowE S2 (5 * s0 + i)) := fun i hi => by
  have := enL_get (S := S2) (s0 := s0) hi
  rw [e1] at this
  exact H _ (List.mem_of_getElem? this)
theorem enL_mem (h : e ∈ enL S s0 n) : ∃ i, i < n ∧ e = rowE S (5 * s0 + i) := by
  unfold enL at h
  obtain ⟨i, hi, rfl⟩ := List.mem_map.mp h
  exact ⟨i, List.mem_range.mp hi, rfl⟩
end
