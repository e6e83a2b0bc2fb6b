/-! small things for the great theorem -/
theorem lgsl_len (as : List AV) : (lg_sl (as.map cv)).length = asz as := by
  induction as with
  | nil => rfl
  | cons v r ih =>
    rcases v with x | x | x
    · have : lg_sl ((Sum.inl x :: r).map cv) = .val (cv (Sum.inl x)) :: lg_sl (r.map cv) := rfl
      rw [this, List.length_cons, ih]; rfl
    · have : lg_sl ((Sum.inr (Sum.inl x) :: r).map cv) = .val (cv (Sum.inr (Sum.inl x))) :: .second :: lg_sl (r.map cv) := rfl
      rw [this, List.length_cons, List.length_cons, ih]; rfl
    · have : lg_sl ((Sum.inr (Sum.inr x) :: r).map cv) = .val (cv (Sum.inr (Sum.inr x))) :: lg_sl (r.map cv) := by cases x <;> rfl
      rw [this, List.length_cons, ih]; rfl
theorem argl_mem (as : List AV) (hc : ∀ v ∈ as, can v) : ∀ (i k : Nat) (v : AV), (argl i as).lookup k = some v → (k, cv v) ∈ lv_args i (as.map cv) ∧ can v := by
  induction as with
  | nil => intro i k v h; cases h
  | cons a r ih =>
    have ih := ih (fun v hv => hc v (List.mem_cons_of_mem _ hv))
    intro i k v h
    have key : ∀ j, argl i (a :: r) = (i, a) :: argl j r → lv_args i ((a :: r).map cv) = (i, cv a) :: lv_args j (r.map cv) → (k, cv v) ∈ lv_args i ((a :: r).map cv) ∧ can v := by
      intro j e1 e2
      rw [e1, List.lookup_cons] at h
      rw [e2]
      by_cases e : (k == i) = true
      · rw [e] at h
        cases h
        have : k = i := by simpa using e
        exact ⟨by rw [this]; exact List.mem_cons_self, hc _ List.mem_cons_self⟩
      · rw [Bool.not_eq_true] at e
        rw [e] at h
        obtain ⟨q1, q2⟩ := ih j k v h
        exact ⟨List.mem_cons_of_mem _ q1, q2⟩
    rcases a with x | x | x
    · exact key (i + 1) rfl rfl
    · exact key (i + 2) rfl rfl
    · exact key (i + 1) rfl (by cases x <;> rfl)
theorem LR_entry {as : List AV} {n : Nat} (hc : ∀ v ∈ as, can v) (hn : asz as ≤ n) : LR ((lg_sl (as.map cv) ++ List.replicate (n - (lg_sl (as.map cv)).length) Slot.unset).toArray) n (argl 0 as) := by
  obtain ⟨h1, h2, h3⟩ := lv_entry (as.map cv) (n := n) (by rw [lgsl_len]; exact hn)
  exact ⟨h1, h2, fun k v hk => ⟨h3 _ (argl_mem as hc 0 k v hk).1, (argl_mem as hc 0 k v hk).2⟩⟩
theorem wp_nil {P : PG} {ρ : Nat → Nat} {d : Nat} {M : MT} {lv : LV} {st : List AV} {h : ah} {Q : QT} (k : wp P ρ d M [] lv st h Q) : False :=
  k (fun _ _ is _ _ _ _ => is ≠ []) (fun _ _ _ _ _ _ _ _ _ _ _ a => a) (fun _ _ _ _ _ _ _ _ _ _ => by simp) rfl
theorem sfx_suf (c : List (Nat × Instr)) (t : Nat) : sfx c t <:+ c := List.dropWhile_suffix _
theorem sfx_head (c : List (Nat × Instr)) (t : Nat) : sfx c t = [] ∨ ∃ i r, sfx c t = (t, i) :: r := by
  unfold sfx
  induction c with
  | nil => left; rfl
  | cons a c ih =>
    obtain ⟨p, i⟩ := a
    rw [List.dropWhile_cons]
    by_cases e : p = t
    · right
      subst e
      exact ⟨i, c, by simp⟩
    · have : (!(p == t)) = true := by simpa using e
      rw [if_pos this]
      exact ih
theorem hndl_elim {hs : List (Nat × Nat × Nat × List Nat × List Nat)} {pc k : Nat} {F : Nat → Prop} {N B : Prop} (hF : ∀ t, F t → B) (hN : N → B) : hndl hs pc k F N → B := by
  induction hs with
  | nil => exact hN
  | cons q hs ih =>
    obtain ⟨q1, q2, q3, q4, q5⟩ := q
    intro h
    unfold hndl at h
    split at h
    · by_cases hk : k ∈ q4
      · exact hF _ (h.1 hk)
      · exact ih (h.2 hk).2
    · exact ih h
theorem hndl_mono {hs : List (Nat × Nat × Nat × List Nat × List Nat)} {pc k : Nat} {F F' : Nat → Prop} {N : Prop} (hF : ∀ t, F t → F' t) : hndl hs pc k F N → hndl hs pc k F' N := by
  induction hs with
  | nil => exact id
  | cons q hs ih =>
    obtain ⟨q1, q2, q3, q4, q5⟩ := q
    intro h
    unfold hndl at h ⊢
    split at h
    · rename_i hc
      rw [if_pos hc]
      exact ⟨fun a => hF _ (h.1 a), fun a => ⟨(h.2 a).1, ih (h.2 a).2⟩⟩
    · rename_i hc
      rw [if_neg hc]
      exact ih h
theorem swt_mono {x : Int} {F F' : Nat → Prop} {D D' : Prop} (hF : ∀ t, F t → F' t) (hD : D → D') : ∀ {ts : List Int} {j : Int}, swt x j ts F D → swt x j ts F' D' := by
  intro ts
  induction ts with
  | nil => intro j h; exact hD h
  | cons t r ih => intro j h; exact ⟨fun e => hF _ (h.1 e), fun e => ih (h.2 e)⟩
theorem swl_mono {x : Int} {F F' : Nat → Prop} {D D' : Prop} (hF : ∀ t, F t → F' t) (hD : D → D') : ∀ {ts : List (Int × Int)}, swl x ts F D → swl x ts F' D' := by
  intro ts
  induction ts with
  | nil => intro h; exact hD h
  | cons t r ih => intro h; exact ⟨fun e => hF _ (h.1 e), fun e => ih (h.2 e)⟩
theorem sum_cat (st : List AV) : ((st.map cv).map fun v => v.category).sum ≤ 2 * st.length := by
  induction st with
  | nil => simp
  | cons v r ih =>
    simp only [List.map_cons, List.sum_cons, List.length_cons]
    have : (cv v).category ≤ 2 := by rw [cat_cv]; split <;> omega
    omega
theorem putv_mono {ft : Nat} {v : AV} {h : ah} {f a : Nat} {F G : ah → Prop} (hF : ∀ h1, F h1 → G h1) (hp : putv ft v h f a F) : putv ft v h f a G := by
  unfold putv at hp ⊢
  split at hp
  · exact hF _ hp
  · exact ⟨hp.1, hF _ hp.2⟩
  · exact ⟨hp.1, hF _ hp.2⟩
  · exact hF _ hp
  · exact hF _ hp
  · exact hp.elim
