/-! lists: one more -/
set_option maxRecDepth 20000
theorem I_lroom {h : ah} {a n f y : Nat} (h5 : 5 ≤ f) (hy : y < hz h) : hI (lroom h a n) f y = hI h f y := by
  unfold lroom
  rw [g_hI_sI, if_neg (by omega), g_hI_sR, g_hI_sR, g_hI_hn, if_neg (by omega)]
theorem R_lroom {h : ah} {a n f y : Nat} (h5 : 5 ≤ f) (hy : y < hz h) : hR (lroom h a n) f y = hR h f y := by
  unfold lroom
  rw [g_hR_sI, g_hR_sR, if_neg (by omega), g_hR_sR, if_neg (by omega), g_hR_hn, if_neg (by omega)]
theorem K_lroom {h : ah} {a n y : Nat} (hy : y < hz h) : hK (lroom h a n) y = hK h y := by
  unfold lroom
  rw [g_hK_sI, g_hK_sR, g_hK_sR, g_hK_hn, if_neg (by omega)]
theorem l_lroom {h : ah} {a n y : Nat} (hy : y < hz h) : hl (lroom h a n) y = hl h y := by
  unfold lroom
  rw [g_hl_sI, g_hl_sR, g_hl_sR, g_hl_hn, if_neg (by omega)]
theorem A_lroom {h : ah} {a n y i : Nat} (hy : y < hz h) : hA (lroom h a n) y i = hA h y i := by
  unfold lroom
  rw [g_hA_sI, g_hA_sR, g_hA_sR, g_hA_hn, if_neg (by omega)]
theorem B_lroom {h : ah} {a n y i : Nat} (hy : y < hz h) : hB (lroom h a n) y i = hB h y i := by
  unfold lroom
  rw [g_hB_sI, g_hB_sR, g_hB_sR, g_hB_hn, if_neg (by omega)]
theorem z_lroom {h : ah} {a n : Nat} : hz (lroom h a n) = hz h + 1 := rfl
theorem s_lroom {h : ah} {a n : Nat} : hs (lroom h a n) = hs h + n := rfl
section
variable {h : ah} {a x : Nat}
/-- what is known of a list that has got one more -/
theorem ladd_c : ladd h a x = lput h a x ∨ ∃ n, n ≤ 2 * hl h a + 10 ∧ ladd h a x = lput (lroom h a n) a x := by
  unfold ladd
  by_cases c : (hl h a : Int) = hI h 2 a
  · rw [if_pos c]
    refine Or.inr ⟨_, ?_, rfl⟩
    rw [← c]
    unfold lcap
    split
    · omega
    · simp only [Int.toNat_natCast]; omega
  · rw [if_neg c]
    exact Or.inl rfl
theorem I_ladd {f y : Nat} (h5 : 5 ≤ f) (hy : y < hz h) : hI (ladd h a x) f y = hI h f y := by
  rcases ladd_c (h := h) (a := a) (x := x) with e | ⟨n, -, e⟩
  · rw [e]; rfl
  · rw [e]; exact I_lroom h5 hy
theorem I4_ladd {y : Nat} (hy : y < hz h) : hI (ladd h a x) 4 y = hI h 4 y := by
  rcases ladd_c (h := h) (a := a) (x := x) with e | ⟨n, -, e⟩
  · rw [e]; rfl
  · rw [e]
    show hI (lroom h a n) 4 y = _
    unfold lroom
    rw [g_hI_sI, if_neg (by omega), g_hI_sR, g_hI_sR, g_hI_hn, if_neg (by omega)]
theorem R_ladd {f y : Nat} (h5 : 5 ≤ f) (hy : y < hz h) : hR (ladd h a x) f y = hR h f y := by
  rcases ladd_c (h := h) (a := a) (x := x) with e | ⟨n, -, e⟩
  · rw [e]; rfl
  · rw [e]; exact R_lroom h5 hy
theorem K_ladd {y : Nat} (hy : y < hz h) : hK (ladd h a x) y = hK h y := by
  rcases ladd_c (h := h) (a := a) (x := x) with e | ⟨n, -, e⟩
  · rw [e]; rfl
  · rw [e]; exact K_lroom (a := a) (n := n) hy
theorem A_ladd {y i : Nat} (hy : y < hz h) : hA (ladd h a x) y i = hA h y i := by
  rcases ladd_c (h := h) (a := a) (x := x) with e | ⟨n, -, e⟩
  · rw [e]; rfl
  · rw [e]; exact A_lroom (a := a) (n := n) hy
theorem l_lput {y : Nat} : hl (lput h a x) y = if y = a then hl h a + 1 else hl h y := rfl
theorem B_lput {y i : Nat} : hB (lput h a x) y i = if y = a ∧ i = hl h a then x else hB h y i := rfl
theorem l_ladd {y : Nat} (ha : a < hz h) (hy : y < hz h) : hl (ladd h a x) y = if y = a then hl h a + 1 else hl h y := by
  rcases ladd_c (h := h) (a := a) (x := x) with e | ⟨n, -, e⟩
  · rw [e]; rfl
  · rw [e, l_lput, l_lroom ha, l_lroom hy]
theorem B_ladd {y i : Nat} (ha : a < hz h) (hy : y < hz h) : hB (ladd h a x) y i = if y = a ∧ i = hl h a then x else hB h y i := by
  rcases ladd_c (h := h) (a := a) (x := x) with e | ⟨n, -, e⟩
  · rw [e]; rfl
  · rw [e, B_lput, l_lroom ha, B_lroom hy]
theorem Fr.sR4 {L : List Nat} {P : List (Nat × Nat)} {z s : Nat} {h h1 : ah} {f y v : Nat} (hf : f < 5) (b : Fr L P z s h h1) : Fr L P z s h (sR h1 f y v) := by
  obtain ⟨a1, a5, a6, a7, a8, a9, a10, a11⟩ := b
  have ne : ∀ g y', own g → hR (sR h1 f y v) g y' = hR h1 g y' := fun g y' hg => if_neg fun k => by have := own5 hg; omega
  refine ⟨a1, a5, fun g y' hy h5 hg => ⟨(a6 g y' hy h5 hg).1, ?_⟩, a7, a8, a9, fun g y' hg hy => ?_, fun k => ⟨fun g y' hy hg => ?_, fun g y1 g' y2 hy hy' hg hg' e e0 => ?_, (a11 k).2.2⟩⟩
  · exact Eq.trans (if_neg fun k => by omega) (a6 g y' hy h5 hg).2
  · rw [ne g y' hg]; exact a10 g y' hg hy
  · rw [ne g y' hg]; exact (a11 k).1 g y' hy hg
  · rw [ne g y1 hg] at e e0; rw [ne g' y2 hg'] at e; exact (a11 k).2.1 g y1 g' y2 hy hy' hg hg' e e0
theorem Fr.sI2 {L : List Nat} {P : List (Nat × Nat)} {z s : Nat} {h h1 : ah} {f y : Nat} {v : Int} (hf : f < 4) (k0 : okA L P h y) (b : Fr L P z s h h1) : Fr L P z s h (sI h1 f y v) := by
  obtain ⟨a1, a5, a6, a7, a8, a9, a10, a11⟩ := b
  refine ⟨a1, a5, fun g y' hy h5 hg => ⟨?_, (a6 g y' hy h5 hg).2⟩, fun y' h0 hy hp hn => ⟨(a7 y' h0 hy hp hn).1, Eq.trans (if_neg fun k => k0.no h0 hy hp hn k.2) (a7 y' h0 hy hp hn).2⟩, a8, fun y' hy hk => ?_, a10, a11⟩
  · exact Eq.trans (if_neg fun k => by omega) (a6 g y' hy h5 hg).1
  · exact Eq.trans (if_neg fun k => by omega) (a9 y' hy hk)
/-- a list's owner allows that it grows -/
theorem Fr.lad {L : List Nat} {P : List (Nat × Nat)} {z s : Nat} {h h1 : ah} {a x : Nat} (k : okA L P h a) (hk : hz h ≤ a ∨ 100 ≤ hK h a) (b : Fr L P z s h h1) : Fr L P (z + 1) (s + (2 * hl h1 a + 10)) h (ladd h1 a x) := by
  rcases ladd_c (h := h1) (a := a) (x := x) with e | ⟨n, hn2, e⟩
  · rw [e]
    exact (Fr.wN k hk (Fr.wB k b)).le (by omega) (by omega)
  · rw [e]
    exact (Fr.wN k hk (Fr.wB k (Fr.sI2 (by omega) k (Fr.sR4 (by omega) (Fr.sR4 (by omega) (b.new (k := 105) (n := n) (m := n))))))).le (by omega) (by omega)
/-- a list that stands -/
def LSt (h : ah) (l : Nat) : Prop := lok h l ∧ l ≠ 0 ∧ l < hz h
theorem LSt.fr {L : List Nat} {P : List (Nat × Nat)} {z s : Nat} {h h1 : ah} {l : Nat} (H : LSt h l) (b : Fr L P z s h h1) : LSt h1 l := ⟨⟨by rw [b.K H.2.2]; exact H.1.1, b.2.2.2.2.2.1 l H.2.2 H.1.2⟩, H.2.1, b.lt H.2.2⟩
theorem LSt.add {h : ah} {l a x : Nat} (H : LSt h l) : LSt (ladd h a x) l := ⟨⟨by rw [K_ladd H.2.2]; exact H.1.1, by rw [I4_ladd H.2.2]; exact H.1.2⟩, H.2.1, by
  rcases ladd_c (h := h) (a := a) (x := x) with e | ⟨n, -, e⟩
  · rw [e]; exact H.2.2
  · rw [e]; exact Nat.lt_succ_of_lt H.2.2⟩
theorem z_ladd {h : ah} {a x : Nat} : hz h ≤ hz (ladd h a x) ∧ hz (ladd h a x) ≤ hz h + 1 := by
  rcases ladd_c (h := h) (a := a) (x := x) with e | ⟨n, -, e⟩
  · rw [e]; exact ⟨Nat.le_refl _, Nat.le_succ _⟩
  · rw [e]; exact ⟨Nat.le_succ _, Nat.le_refl _⟩
/-- owned by nobody -/
def UNO (h : ah) (y : Nat) : Prop := ∀ f x, x < hz h → own f → hR h f x ≠ y
theorem UNO.fr {L : List Nat} {P : List (Nat × Nat)} {z s : Nat} {h h1 : ah} {y : Nat} (H : UNO h y) (hy : y < hz h) (h0 : y ≠ 0) (b : Fr L P z s h h1) : UNO h1 y := by
  intro f x hx hf e
  rcases b.2.2.2.2.2.2.1 f x hf hx with c | c | ⟨c, c2⟩
  · omega
  · omega
  · exact H f x c hf (by rw [← c2]; exact e)
end
