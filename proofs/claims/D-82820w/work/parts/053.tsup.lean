/-! T: one class above -/
set_option maxRecDepth 20000
def sSup (S : Nat → Nat → Int) (g : HG) (n s : Nat) : Nat → Nat → Int :=
  let S1 := u2 S f_MdHost_superOf (60 * n + (g.2 1 n).length) (s : Int)
  let S2 := u2 S1 f_MdHost_supers n (((g.2 1 n).length + 1 : Nat) : Int)
  let S3 := u2 S2 f_MdHost_all n (o64 (· ||| ·) (S f_MdHost_all n) (S f_MdHost_all s))
  if g.1 1 s = 0 then u2 S3 f_MdHost_above n (s : Int) else S3
theorem sSup_o {S : Nat → Nat → Int} {g : HG} {n s f i : Nat} (h : ¬ ((f = f_MdHost_superOf ∧ i = 60 * n + (g.2 1 n).length) ∨ (f = f_MdHost_supers ∧ i = n) ∨ (f = f_MdHost_all ∧ i = n) ∨ (f = f_MdHost_above ∧ i = n))) : sSup S g n s f i = S f i := by
  unfold sSup
  split
  · rw [u2_e, if_neg (fun c => h (Or.inr (Or.inr (Or.inr c)))), u2_e, if_neg (fun c => h (Or.inr (Or.inr (Or.inl c)))), u2_e, if_neg (fun c => h (Or.inr (Or.inl c))), u2_e, if_neg (fun c => h (Or.inl c))]
  · rw [u2_e, if_neg (fun c => h (Or.inr (Or.inr (Or.inl c)))), u2_e, if_neg (fun c => h (Or.inr (Or.inl c))), u2_e, if_neg (fun c => h (Or.inl c))]
theorem sSup_so {S : Nat → Nat → Int} {g : HG} {n s i : Nat} : sSup S g n s f_MdHost_superOf i = if i = 60 * n + (g.2 1 n).length then (s : Int) else S f_MdHost_superOf i := by
  unfold sSup
  split
  · rw [u2_e, if_neg (fun c => absurd c.1 (by decide)), u2_e, if_neg (fun c => absurd c.1 (by decide)), u2_e, if_neg (fun c => absurd c.1 (by decide)), u2_e]; simp
  · rw [u2_e, if_neg (fun c => absurd c.1 (by decide)), u2_e, if_neg (fun c => absurd c.1 (by decide)), u2_e]; simp
theorem sSup_su {S : Nat → Nat → Int} {g : HG} {n s : Nat} : sSup S g n s f_MdHost_supers n = (((g.2 1 n).length + 1 : Nat) : Int) := by
  unfold sSup
  split
  · rw [u2_e, if_neg (fun c => absurd c.1 (by decide)), u2_e, if_neg (fun c => absurd c.1 (by decide)), u2_e, if_pos ⟨rfl, rfl⟩]
  · rw [u2_e, if_neg (fun c => absurd c.1 (by decide)), u2_e, if_pos ⟨rfl, rfl⟩]
theorem sSup_al {S : Nat → Nat → Int} {g : HG} {n s : Nat} : sSup S g n s f_MdHost_all n = o64 (· ||| ·) (S f_MdHost_all n) (S f_MdHost_all s) := by
  unfold sSup
  split
  · rw [u2_e, if_neg (fun c => absurd c.1 (by decide)), u2_e, if_pos ⟨rfl, rfl⟩]
  · rw [u2_e, if_pos ⟨rfl, rfl⟩]
theorem sSup_ab {S : Nat → Nat → Int} {g : HG} {n s : Nat} : sSup S g n s f_MdHost_above n = if g.1 1 s = 0 then (s : Int) else S f_MdHost_above n := by
  unfold sSup
  split
  · rw [u2_e, if_pos ⟨rfl, rfl⟩]
  · rw [u2_e, if_neg (fun c => absurd c.1 (by decide)), u2_e, if_neg (fun c => absurd c.1 (by decide)), u2_e, if_neg (fun c => absurd c.1 (by decide))]
theorem HGS.sup {g : HG} {n m s : Nat} {tp : List Int} {S : Nat → Nat → Int} (H : HGS g (n + 1) m tp S) (hs : s < n) (hn : n < 60) (hl1 : (g.2 1 n).length < n) : HGS (gSup g n s) (n + 1) m tp (sSup S g n s) := by
  intro i hi
  obtain ⟨a1, a2, a3, a4, a5, a6, a7, a8, a9, a10, ⟨x, y, b1, b2, b3, b4, b5⟩, a12⟩ := H i hi
  have ob : ∀ {j : Nat}, j < 60 → bt (S f_MdHost_all s) j = g.1 (100 + s) j := fun hj => (H s (by omega)).2.2.2.2.2.2.2.2.2.2.2 _ hj
  rw [sSup_o (f := f_MdHost_isInterface) (by intro c; rcases c with c | c | c | c <;> exact absurd c.1 (by decide)), sSup_o (f := f_MdHost_first) (by intro c; rcases c with c | c | c | c <;> exact absurd c.1 (by decide)), sSup_o (f := f_MdHost_many) (by intro c; rcases c with c | c | c | c <;> exact absurd c.1 (by decide)), sSup_o (f := f_MdHost_nameFrom) (by intro c; rcases c with c | c | c | c <;> exact absurd c.1 (by decide)), sSup_o (f := f_MdHost_nameTo) (by intro c; rcases c with c | c | c | c <;> exact absurd c.1 (by decide)), gSup_1 (k := 1) (by omega), gSup_1 (k := 3) (by omega), gSup_1 (k := 4) (by omega), gSup_2 (k := 0) (by omega)]
  by_cases c : i = n
  · subst c
    have g2 : (gSup g i s).1 2 i = if g.1 1 s = 0 then (s : Int) else g.1 2 i := by
      show (if 2 = 2 ∧ i = i ∧ g.1 1 s = 0 then (s : Int) else if 2 = 100 + i then _ else _) = _
      by_cases c : g.1 1 s = 0
      · rw [if_pos ⟨rfl, rfl, c⟩, if_pos c]
      · rw [if_neg (fun x => c x.2.2), if_neg (by omega), if_neg c]
    have l2 : (gSup g i s).2 1 i = g.2 1 i ++ [(s : Int)] := by
      show u2 g.2 1 i _ 1 i = _
      rw [u2_e, if_pos ⟨rfl, rfl⟩]
    rw [sSup_ab, sSup_su, sSup_al, g2, l2, a3]
    refine ⟨a1, a2, rfl, by split <;> omega, by split <;> omega, by simp, by simp; omega, fun k hk => ?_, a9, a10, ⟨x, y, b1, b2, b3, b4, b5⟩, fun j hj => ?_⟩
    · simp only [List.length_append, List.length_cons, List.length_nil] at hk
      rw [sSup_so, app_getD1 (by omega)]
      by_cases c : k = (g.2 1 i).length
      · rw [if_pos (by omega), if_pos c]
      · rw [if_neg (by omega), if_neg c]; exact a8 k (by omega)
    · have e1 : (gSup g i s).1 (100 + i) j = if g.1 (100 + i) j ≠ 0 ∨ g.1 (100 + s) j ≠ 0 then 1 else 0 := by
        show (if 100 + i = 2 ∧ j = i ∧ g.1 1 s = 0 then (s : Int) else if 100 + i = 100 + i then _ else _) = _
        rw [if_neg (by omega), if_pos rfl]
      have b1 := bt_e (S f_MdHost_all i) j (by omega)
      have b2 := bt_e (S f_MdHost_all s) j (by omega)
      have f1 : bt (S f_MdHost_all i) j = g.1 (100 + i) j := a12 j hj
      have f2 := ob hj
      show bt (o64 (· ||| ·) (S f_MdHost_all i) (S f_MdHost_all s)) j = _
      rw [bt_or _ _ _ (by omega), e1, f1, f2]
      rw [f1] at b1
      rw [f2] at b2
      by_cases c1 : (BitVec.ofInt 64 (S f_MdHost_all i)).getLsbD j = true
      · rw [if_pos c1] at b1; rw [b1]; simp
      · rw [if_neg c1] at b1
        by_cases c2 : (BitVec.ofInt 64 (S f_MdHost_all s)).getLsbD j = true
        · rw [if_pos c2] at b2; rw [b2]; simp
        · rw [if_neg c2] at b2; rw [b1, b2]; simp
  · rw [sSup_o (f := f_MdHost_above) (by omega), sSup_o (f := f_MdHost_supers) (by omega), sSup_o (f := f_MdHost_all) (by omega), gSup_1 (k := 2) (by omega), gSup_2 (k := 1) (by omega)]
    refine ⟨a1, a2, a3, a4, a5, a6, a7, fun k hk => ?_, a9, a10, ⟨x, y, b1, b2, b3, b4, b5⟩, fun j hj => ?_⟩
    · rw [sSup_so, if_neg (by omega)]; exact a8 k hk
    · rw [gSup_1 (by omega)]; exact a12 j hj
theorem MGS.sup {g : HG} {n m s : Nat} {tp : List Int} {S : Nat → Nat → Int} (H : MGS g m tp S) : MGS (gSup g n s) m tp (sSup S g n s) := by
  intro j hj
  have := H j hj
  have so : ∀ f i, f ∈ [f_MdHost_itsClass, f_MdHost_sort, f_MdHost_isStatic, f_MdHost_type, f_MdHost_variable, f_MdHost_parameters, f_MdHost_parameter, f_MdHost_memberFrom, f_MdHost_memberTo] → sSup S g n s f i = S f i := fun f i hm => sSup_o (by
    simp only [List.mem_cons, List.not_mem_nil, or_false] at hm
    intro c
    rcases hm with e | e | e | e | e | e | e | e | e <;> subst e <;> rcases c with c | c | c | c <;> exact absurd c.1 (by decide))
  rw [gSup_1 (by omega), gSup_1 (by omega), gSup_1 (by omega), gSup_1 (by omega), gSup_1 (by omega), gSup_2 (by omega), gSup_2 (by omega), so _ _ (by simp), so _ _ (by simp), so _ _ (by simp), so _ _ (by simp), so _ _ (by simp), so _ _ (by simp), so _ _ (by simp), so _ _ (by simp)]
  obtain ⟨a1, a2, a3, a4, a5, a6, a7, a8, a9⟩ := this
  exact ⟨a1, a2, a3, a4, a5, a6, a7, fun k hk => by rw [so _ _ (by simp)]; exact a8 k hk, a9⟩
def LTq : List Nat := TSM ++ HTM
def PTq (k : Nat) : List (Nat × Nat) := tabH.map (fun q => (q.1 + 1, k)) ++ [(f_MdHost_classes, k), (f_MdHost_members, k)]
section
variable {ρ : Nat → Nat} {d : Nat} {h h' : ah} {F : Int → ah → Prop} {G : ah → Prop} {E : Nat → ah → Prop} {Q : QT} {T k : Nat} {tp : List Int} {t t' : TKN} {S : Nat → Nat → Int} {g : HG} {n m N : Nat}
theorem FX.wH {h0 : ah} {f a b i : Nat} {v : Int} (H : FX LTq (PTq k) h0 h) (hk : k < hz h0) (eR : hR h f k = hR h0 f k) (e : lkA tabH f = some (a, b)) (ho : own f) : FX LTq (PTq k) h0 (sA h (hR h f k) i v) := by
  obtain ⟨z, s, H⟩ := H
  refine ⟨z, s, H.wA (Or.inr (Or.inr (Or.inr ⟨f, k, hk, ho, eR.symm, Or.inr (Or.inr ?_)⟩)))⟩
  have := lkA_mem e
  unfold PTq
  simp only [List.mem_append]
  exact Or.inl (List.mem_map.mpr ⟨_, this, rfl⟩)
/-- a row is written -/
theorem TQ.w (H : TQ ρ h T k tp S n m t) {f a b i : Nat} {v : Int} (e : lkA tabH f = some (a, b)) (hne : hR h f k ≠ hR h f_Md_tape T ∧ hR h f k ≠ hR h f_Md_text T) (hst : ∀ j, j ≤ 12 ∨ j = 31 ∨ j = 32 → hR h f k ≠ ρ j) : TQ ρ (sA h (hR h f k) i v) T k tp (u2 S f i v) n m t := by
  obtain ⟨a1, a2, a3, a4, a5, a6, a7, a8, ⟨c1, c2, c3, ⟨k1, k2, k3, k4, k5⟩, c5⟩, b1, b2, ⟨b3, b4, b5, b6, b7⟩, b8, b9⟩ := H
  have st : ∀ {j w}, (j ≤ 12 ∨ j = 31 ∨ j = 32) → STR h (ρ j) w → STR (sA h (hR h f k) i v) (ρ j) w := fun hj H => ⟨H.1, H.2.1, H.2.2.1, fun i hi => by rw [g_hA_sA, if_neg (fun c => hst _ hj c.1.symm)]; exact H.2.2.2 i hi⟩
  refine ⟨a1, a2, a3, a4.w a1 e, a5, a6, a7, a8, ⟨c1, fun i hi => ?_, c3, ⟨k1, k2, k3, k4, fun c => ⟨fun i hi => ?_, (k5 c).2⟩⟩, c5⟩, st (by omega) b1, st (by omega) b2, ⟨fun i hi => st (by omega) (b3 i hi), st (by omega) b4, st (by omega) b5, st (by omega) b6, st (by omega) b7⟩, b8, b9⟩
  · show hA (sA h _ _ v) (hR h f_Md_tape T) i = _
    rw [g_hA_sA, if_neg (fun c => hne.1 c.1.symm)]; exact c2 i hi
  · show hA (sA h _ _ v) (hR h f_Md_text T) i = _
    rw [g_hA_sA, if_neg (fun c => hne.2 c.1.symm)]; exact (k5 c).1 i hi
theorem TQ.ne (H : TQ ρ h T k tp S n m t) {f a b : Nat} (e : lkA tabH f = some (a, b)) (hf : f ≠ f_Md_tape ∧ f ≠ f_Md_text) : (hR h f k ≠ hR h f_Md_tape T ∧ hR h f k ≠ hR h f_Md_text T) ∧ (∀ j, j ≤ 12 ∨ j = 31 ∨ j = 32 → hR h f k ≠ ρ j) ∧ own f := by
  obtain ⟨a1, a2, a3, a4, a5, a6, a7, a8, ⟨c1, c2⟩, b1, b2, -, b8, b9⟩ := H
  have hT := c1.2.2.2.2.2.2.2.2.2.1.1
  obtain ⟨x1, x2, x3, x4⟩ := a1.g e
  exact ⟨⟨fun c => hf.1 (a1.2.1.2.1 _ _ _ _ a1.1 hT x4 (own_of rfl) c x1).1, fun c => hf.2 (a1.2.1.2.1 _ _ _ _ a1.1 hT x4 (own_of rfl) c x1).1⟩, fun j hj c => (b8 j hj).2.2 f k a1.1 x4 c, x4⟩
end
