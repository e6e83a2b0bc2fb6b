/-! the rows of the methods -/
set_option maxRecDepth 100000
theorem hek : ∀ k, ekOK k = true → EKOK k := by
  intro k h
  simp only [ekOK, List.elem_eq_mem, List.mem_cons, List.not_mem_nil, or_false, decide_eq_true_eq] at h
  rcases h with rfl | rfl | rfl | rfl | rfl | rfl | rfl | rfl
  · exact ⟨"LinkedTongueModel$Part", by simp [arrT], (List.forall_mem_cons.mpr ⟨⟨by decide, Or.inl (by decide +kernel)⟩, fun _ h => absurd h List.not_mem_nil⟩ : ∀ kv ∈ ([242] : List Nat), 190 ≤ kv ∧ (kName kv = "LinkedTongueModel$Part" ∨ Cond.castable (kName kv) "LinkedTongueModel$Part" ∈ lw_tbl))⟩
  · exact ⟨"LinkedTongue$Choice", by simp [arrT], (List.forall_mem_cons.mpr ⟨⟨by decide, Or.inl (by decide +kernel)⟩, fun _ h => absurd h List.not_mem_nil⟩ : ∀ kv ∈ ([247] : List Nat), 190 ≤ kv ∧ (kName kv = "LinkedTongue$Choice" ∨ Cond.castable (kName kv) "LinkedTongue$Choice" ∈ lw_tbl))⟩
  · exact ⟨"LinkedTongue$Code", by simp [arrT], (List.forall_mem_cons.mpr ⟨⟨by decide, Or.inl (by decide +kernel)⟩, fun _ h => absurd h List.not_mem_nil⟩ : ∀ kv ∈ ([222] : List Nat), 190 ≤ kv ∧ (kName kv = "LinkedTongue$Code" ∨ Cond.castable (kName kv) "LinkedTongue$Code" ∈ lw_tbl))⟩
  · exact ⟨"LinkedTongue$Member", by simp [arrT], (List.forall_mem_cons.mpr ⟨⟨by decide, Or.inl (by decide +kernel)⟩, fun _ h => absurd h List.not_mem_nil⟩ : ∀ kv ∈ ([219] : List Nat), 190 ≤ kv ∧ (kName kv = "LinkedTongue$Member" ∨ Cond.castable (kName kv) "LinkedTongue$Member" ∈ lw_tbl))⟩
  · exact ⟨"LinkedTongue$Obj", by simp [arrT], (List.forall_mem_cons.mpr ⟨⟨by decide, Or.inl (by decide +kernel)⟩, List.forall_mem_cons.mpr ⟨⟨by decide, Or.inr (by rw [show kName 245 = "LinkedTongue$Fun" from by decide +kernel]; exact q5502)⟩, fun _ h => absurd h List.not_mem_nil⟩⟩ : ∀ kv ∈ ([244, 245] : List Nat), 190 ≤ kv ∧ (kName kv = "LinkedTongue$Obj" ∨ Cond.castable (kName kv) "LinkedTongue$Obj" ∈ lw_tbl))⟩
  · exact ⟨"LinkedTongue$Task", by simp [arrT], (List.forall_mem_cons.mpr ⟨⟨by decide, Or.inl (by decide +kernel)⟩, fun _ h => absurd h List.not_mem_nil⟩ : ∀ kv ∈ ([211] : List Nat), 190 ≤ kv ∧ (kName kv = "LinkedTongue$Task" ∨ Cond.castable (kName kv) "LinkedTongue$Task" ∈ lw_tbl))⟩
  · exact ⟨"LinkedTongue$Variables", by simp [arrT], (List.forall_mem_cons.mpr ⟨⟨by decide, Or.inl (by decide +kernel)⟩, fun _ h => absurd h List.not_mem_nil⟩ : ∀ kv ∈ ([243] : List Nat), 190 ≤ kv ∧ (kName kv = "LinkedTongue$Variables" ∨ Cond.castable (kName kv) "LinkedTongue$Variables" ∈ lw_tbl))⟩
  · exact ⟨"java/lang/String", by simp [arrT], (List.forall_mem_cons.mpr ⟨⟨by decide, Or.inl (by decide +kernel)⟩, fun _ h => absurd h List.not_mem_nil⟩ : ∀ kv ∈ ([191] : List Nat), 190 ≤ kv ∧ (kName kv = "java/lang/String" ∨ Cond.castable (kName kv) "java/lang/String" ∈ lw_tbl))⟩
