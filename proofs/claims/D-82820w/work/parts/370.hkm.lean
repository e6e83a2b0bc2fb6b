set_option maxRecDepth 20000
section
variable {g : HG} {N M c m f k b : Nat} {κ st p : Int} {L ts : List Int} {cs o : List Nat} {w : Nat → Bool} {mn : Nat}
theorem fold_mem : ∀ (l cs : List Nat), m ∈ l.foldl (addC g w) cs → m ∈ cs ∨ (m ∈ l ∧ w m = true) := fun l => by
  induction l with
  | nil => exact fun cs h => Or.inl h
  | cons a l ih =>
    intro cs h
    rw [List.foldl_cons] at h
    rcases ih _ h with q | ⟨q1, q2⟩
    · unfold addC at q
      split at q
      · rename_i z
        rw [Bool.and_eq_true] at z
        rcases List.mem_append.mp q with q | q
        · exact Or.inl q
        · rw [List.mem_singleton] at q
          subst q
          exact Or.inr ⟨by simp, z.1⟩
      · exact Or.inl q
    · exact Or.inr ⟨by simp [q1], q2⟩
theorem col_mem : ∀ (o cs : List Nat), m ∈ o.foldl (fun cs k => (memG g k).foldl (addC g w) cs) cs → m ∈ cs ∨ ((∃ k, k ∈ o ∧ m ∈ memG g k) ∧ w m = true) := fun o => by
  induction o with
  | nil => exact fun cs h => Or.inl h
  | cons a l ih =>
    intro cs h
    rw [List.foldl_cons] at h
    rcases ih _ h with q | ⟨⟨k, q1, q2⟩, q3⟩
    · rcases fold_mem _ _ q with q | ⟨q1, q2⟩
      · exact Or.inl q
      · exact Or.inr ⟨⟨a, by simp, q1⟩, q2⟩
    · exact Or.inr ⟨⟨k, by simp [q1], q2⟩, q3⟩
theorem colG_mem (h : m ∈ colG g w o) : (∃ k, k ∈ o ∧ m ∈ memG g k) ∧ w m = true := by
  unfold colG at h
  rcases col_mem _ _ h with q | q
  · cases q
  · exact q
theorem wtB_g (h : wtB g st L p m = true) : g.1 6 m = 1 ∧ g.1 7 m = st ∧ (p < 0 ∨ ((g.2 2 m).length : Int) = p) ∧ g.2 3 m = L := by
  unfold wtB at h
  simpa using h
theorem fld_mem {z : Int} (e : fldG g st L b z = some m) : (∃ k, k ∈ chnG g b z ∧ m ∈ memG g k) ∧ g.1 6 m = 0 ∧ (st < 0 ∨ g.1 7 m = st) ∧ g.2 3 m = L := by
  unfold fldG at e
  obtain ⟨k, hk, e2⟩ := List.exists_of_findSome?_eq_some e
  have h1 := List.mem_of_find?_eq_some e2
  have h2 := List.find?_some e2
  unfold fbB at h2
  refine ⟨⟨k, hk, h1⟩, ?_⟩
  simpa using h2
theorem first_ix : ∀ (l : List Nat), m ∈ l → ∃ i, i < l.length ∧ l.getD i 0 = m ∧ ∀ j, j < i → l.getD j 0 ≠ m := fun l => by
  induction l with
  | nil => exact fun h => by cases h
  | cons a l ih =>
    intro h
    by_cases q : a = m
    · exact ⟨0, by simp, by simpa using q, fun j hj => absurd hj (by omega)⟩
    · have : m ∈ l := by
        rcases List.mem_cons.mp h with h | h
        · exact absurd h.symm q
        · exact h
      obtain ⟨i, i1, i2, i3⟩ := ih this
      refine ⟨i + 1, by simpa using i1, by simpa using i2, fun j hj => ?_⟩
      cases j with
      | zero => simpa using q
      | succ j => simpa using i3 j (by omega)
theorem lay_plc (hk : k ∈ chnG g 61 (c : Int)) (hm : m ∈ memG g k) (k6 : g.1 6 m = 0) (k7 : g.1 7 m = 0) : ∃ i, PLC g c m i := by
  refine first_ix _ ?_
  unfold layG
  rw [List.mem_flatMap]
  refine ⟨k, by simpa using hk, ?_⟩
  unfold infG
  rw [List.mem_filter]
  exact ⟨hm, by simp [k6, k7]⟩
theorem fit_len {ph : Nat} (h : fitB g ph ts m = true) : (ph < 3 → (g.2 2 m).length = ts.length) ∧ (g.1 9 m = if ph = 3 then 1 else 0) := by
  unfold fitB at h
  rw [Bool.and_eq_true, Bool.and_eq_true] at h
  obtain ⟨h1, h2, -⟩ := h
  have h1 := of_decide_eq_true h1
  have h2 := of_decide_eq_true h2
  exact ⟨fun q => by rw [if_pos q] at h2; exact h2, h1⟩
theorem ph_fit {ph : Nat} (H : phG g ts cs ph = some (m : Int)) : m ∈ cs ∧ fitB g ph ts m = true := by
  unfold phG at H
  split at H
  · rename_i z
    have H := Option.some.inj H
    split at H
    · rename_i z2
      cases e : cs.filter (mstB g ph ts cs) with
      | nil => rw [e] at z2; cases z2
      | cons a l =>
        rw [e] at z2 H
        cases l with
        | nil =>
          have : a = m := by
            have : (a : Int) = (m : Int) := H
            omega
          subst this
          have : a ∈ cs.filter (mstB g ph ts cs) := by rw [e]; simp
          rw [List.mem_filter] at this
          refine ⟨this.1, ?_⟩
          have := this.2
          unfold mstB at this
          rw [Bool.and_eq_true] at this
          exact this.1
        | cons b l => simp at z2
    · omega
  · cases H
theorem sgl_fit (H : sglG g ts cs = (m : Int)) : m ∈ cs ∧ ∃ ph, (ph = 1 ∨ ph = 2 ∨ ph = 3) ∧ fitB g ph ts m = true := by
  unfold sglG at H
  cases e1 : phG g ts cs 1 with
  | some v =>
    rw [e1] at H
    have : v = (m : Int) := H
    subst this
    exact ⟨(ph_fit e1).1, 1, by simp, (ph_fit e1).2⟩
  | none =>
    rw [e1] at H
    cases e2 : phG g ts cs 2 with
    | some v =>
      rw [e2] at H
      have : v = (m : Int) := H
      subst this
      exact ⟨(ph_fit e2).1, 2, by simp, (ph_fit e2).2⟩
    | none =>
      rw [e2] at H
      cases e3 : phG g ts cs 3 with
      | some v =>
        rw [e3] at H
        have : v = (m : Int) := H
        subst this
        exact ⟨(ph_fit e3).1, 3, by simp, (ph_fit e3).2⟩
      | none =>
        rw [e3] at H
        have : (-9 : Int) = (m : Int) := H
        omega
theorem sgl_len (W : HPW g N M) (hm : m < M) (H : sglG g ts cs = (m : Int)) : ((g.2 2 m).length = 1 ∧ g.1 9 m = 0 → 1 ≤ ts.length) ∧ (0 < ts.length → 1 ≤ (g.2 2 m).length) := by
  obtain ⟨-, ph, hp, hf⟩ := sgl_fit H
  obtain ⟨f1, f2⟩ := fit_len hf
  obtain ⟨-, -, w3, -⟩ := W m hm
  by_cases q : ph = 3
  · rw [if_pos q] at f2
    exact ⟨fun z => absurd z.2 (by omega), fun _ => w3 f2⟩
  · have := f1 (by omega)
    omega
/-- what a search at the host finds -/
def HKM (g : HG) (N M : Nat) (κ st : Int) (c : Nat) (L : List Int) (mn m : Nat) : Prop := m < M ∧ ((g.1 6 m = 0 ∧ (κ = 0 ∨ κ = 1) ∧ g.1 7 m = st ∧ (st = 0 → ∃ i, PLC g c m i)) ∨ (g.1 6 m = 1 ∧ (κ = 0 ∨ κ = 1 ∨ κ = 5) ∧ g.1 7 m = st ∧ (∃ k, k ∈ ordG g c ∧ m ∈ memG g k) ∧ ((g.2 2 m).length = 1 ∧ g.1 9 m = 0 → 1 ≤ esK κ mn)) ∨ (g.1 6 m = 2 ∧ κ = 6 ∧ (0 < esK κ mn → 1 ≤ (g.2 2 m).length)))
theorem fld_hkm (W : HWF g N M) (hc : c < N) (hκ : κ = 0 ∨ κ = 1) (hs : st = 0 ∨ st = 1) (e : fldG g st L 61 (c : Int) = some m) : HKM g N M κ st c L mn m := by
  obtain ⟨⟨k, a1, a2⟩, a3, a4, a5⟩ := fld_mem e
  refine ⟨(fld_lt W (by omega) e).1, Or.inl ⟨a3, hκ, by omega, fun z => lay_plc a1 a2 a3 (by omega)⟩⟩
theorem gt_hkm (W : HWF g N M) (hc : c < N) (hs : st = 0 ∨ st = 1) (e : gtG g st c L = (m : Int)) : HKM g N M 0 st c L mn m := by
  have F : oN (fldG g st L 61 (c : Int)) = (m : Int) → HKM g N M 0 st c L mn m := fun q => by
    cases e2 : fldG g st L 61 (c : Int) with
    | none => rw [e2] at q; exact absurd (show (-1 : Int) = (m : Int) from q) (by omega)
    | some f =>
      rw [e2] at q
      have : f = m := by unfold oN at q; simp at q; omega
      subst this
      exact fld_hkm W hc (Or.inl rfl) hs e2
  have K : ∀ pf, m ∈ colG g (wtB g st (wtL pf L) 0) (ordG g c) → HKM g N M 0 st c L mn m := fun pf q => by
    obtain ⟨q1, q2⟩ := colG_mem q
    obtain ⟨w1, w2, w3, w4⟩ := wtB_g q2
    refine ⟨col_lt W.1 W.2.1 hc m q, Or.inr (Or.inl ⟨w1, Or.inl rfl, w2, q1, fun z => ?_⟩)⟩
    omega
  unfold gtG at e
  split at e
  · rename_i x r e2
    have : x = m := by omega
    subst this
    exact K xGET (by rw [e2]; simp)
  · split at e
    · rename_i x r e2
      split at e
      · have : x = m := by omega
        subst this
        exact K xIS (by rw [e2]; simp)
      · exact F e
    · exact F e
theorem hk_mem (W : HWF g N M) (hc : c < N) (hs : st = 0 ∨ st = 1) (tl : hkB g κ st c L = true → ts.length = opC κ mn) (e : hkG g κ st c L ts = (m : Int)) : HKM g N M κ st c L mn m := by
  unfold hkG at e
  split at e
  · rename_i k0
    subst k0
    split at e
    · omega
    · exact gt_hkm W hc hs e
  · rename_i k0
    split at e
    · rename_i k1
      subst k1
      split at e
      · split at e
        · omega
        · cases e2 : fldG g st L 61 (c : Int) with
          | none => rw [e2] at e; exact absurd (show (-1 : Int) = (m : Int) from e) (by omega)
          | some f =>
            rw [e2] at e
            have : f = m := by unfold oN at e; simp at e; omega
            subst this
            exact fld_hkm W hc (Or.inr rfl) hs e2
      · rename_i nn
        have q := (sgl_fit e).1
        unfold hkC at q
        rw [if_pos rfl] at q
        obtain ⟨q1, q2⟩ := colG_mem q
        obtain ⟨w1, w2, w3, w4⟩ := wtB_g q2
        exact ⟨col_lt W.1 W.2.1 hc m q, Or.inr (Or.inl ⟨w1, Or.inr (Or.inl rfl), w2, q1, fun _ => by unfold esK; simp⟩)⟩
    · rename_i k1
      split at e
      · rename_i k5
        subst k5
        split at e
        · omega
        · rename_i nn
          have q := (sgl_fit e).1
          have tl := tl (by unfold hkB; simp [nn])
          unfold hkC at q
          rw [if_neg k1, if_pos rfl] at q
          obtain ⟨q1, q2⟩ := colG_mem q
          obtain ⟨w1, w2, w3, w4⟩ := wtB_g q2
          have hm := col_lt W.1 W.2.1 hc m q
          refine ⟨hm, Or.inr (Or.inl ⟨w1, Or.inr (Or.inr rfl), w2, q1, fun z => ?_⟩)⟩
          have := (sgl_len W.2.2.1 hm e).1 z
          rw [tl] at this
          exact this
      · rename_i k5
        split at e
        · rename_i k6
          obtain ⟨k6, s1⟩ := k6
          subst k6 s1
          split at e
          · omega
          · rename_i nn
            have q := (sgl_fit e).1
            have tl := tl (by unfold hkB; simp [nn])
            unfold hkC at q
            rw [if_neg k1, if_neg k5] at q
            have hm := (mkr_ok W.2.1 hc).2 m q
            unfold mkrG at q
            rw [List.mem_filter] at q
            refine ⟨hm, Or.inr (Or.inr ⟨by simpa using q.2, rfl, fun z => ?_⟩)⟩
            exact (sgl_len W.2.2.1 hm e).2 (by rw [tl]; exact z)
        · omega
end
