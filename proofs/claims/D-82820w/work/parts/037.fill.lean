/-! a row of an array written in a loop -/
set_option maxRecDepth 20000
def sF (h : ah) (x : Nat) (f : Nat → Int) : ah := (h.1, h.2.1, h.2.2.1, h.2.2.2.1, h.2.2.2.2.1, (fun b j => if b = x then f j else h.2.2.2.2.2.1 b j), h.2.2.2.2.2.2)
theorem g_hz_sF (h : ah) (x : Nat) (f : Nat → Int) : hz (sF h x f) = hz h := rfl
theorem g_hs_sF (h : ah) (x : Nat) (f : Nat → Int) : hs (sF h x f) = hs h := rfl
theorem g_hK_sF (h : ah) (x : Nat) (f : Nat → Int) (b : Nat) : hK (sF h x f) b = hK h b := rfl
theorem g_hI_sF (h : ah) (x : Nat) (f : Nat → Int) (g b : Nat) : hI (sF h x f) g b = hI h g b := rfl
theorem g_hR_sF (h : ah) (x : Nat) (f : Nat → Int) (g b : Nat) : hR (sF h x f) g b = hR h g b := rfl
theorem g_hl_sF (h : ah) (x : Nat) (f : Nat → Int) (b : Nat) : hl (sF h x f) b = hl h b := rfl
theorem g_hA_sF (h : ah) (x : Nat) (f : Nat → Int) (b j : Nat) : hA (sF h x f) b j = if b = x then f j else hA h b j := rfl
theorem g_hB_sF (h : ah) (x : Nat) (f : Nat → Int) (b j : Nat) : hB (sF h x f) b j = hB h b j := rfl
grind_pattern g_hz_sF => hz (sF h x f)
grind_pattern g_hs_sF => hs (sF h x f)
grind_pattern g_hK_sF => hK (sF h x f) b
grind_pattern g_hI_sF => hI (sF h x f) g b
grind_pattern g_hR_sF => hR (sF h x f) g b
grind_pattern g_hl_sF => hl (sF h x f) b
grind_pattern g_hA_sF => hA (sF h x f) b j
grind_pattern g_hB_sF => hB (sF h x f) b j
/-- the first k of a list stand from u on -/
def fil (h : ah) (x u : Nat) (l : List Int) (k : Nat) : Nat → Int := fun j => if u ≤ j ∧ j < u + k then l.getD (j - u) 0 else hA h x j
theorem fil_ap (h : ah) (x u : Nat) (l : List Int) (k j : Nat) : fil h x u l k j = if u ≤ j ∧ j < u + k then l.getD (j - u) 0 else hA h x j := rfl
grind_pattern fil_ap => fil h x u l k j
theorem sF_0 {h : ah} {x u : Nat} {l : List Int} : sF h x (fil h x u l 0) = h := by
  have e : (fun b j => if b = x then fil h x u l 0 j else h.2.2.2.2.2.1 b j) = h.2.2.2.2.2.1 := by
    funext b j
    by_cases c : b = x
    · subst c
      rw [if_pos rfl]
      exact if_neg (by omega)
    · exact if_neg c
  unfold sF
  rw [e]
theorem sF_s {h : ah} {x u k : Nat} {l : List Int} {v : Int} (e : v = l.getD k 0) : sA (sF h x (fil h x u l k)) x (u + k) v = sF h x (fil h x u l (k + 1)) := by
  have e2 : u2 (fun b j => if b = x then fil h x u l k j else h.2.2.2.2.2.1 b j) x (u + k) v = fun b j => if b = x then fil h x u l (k + 1) j else h.2.2.2.2.2.1 b j := by
    funext b j
    unfold u2 fil
    grind
  unfold sA sF
  rw [← e2]
theorem Fr.wF {L : List Nat} {P : List (Nat × Nat)} {z s : Nat} {h h1 : ah} {x : Nat} {f : Nat → Int} (k : okA L P h x) (a : Fr L P z s h h1) : Fr L P z s h (sF h1 x f) := by
  obtain ⟨a1, a5, a6, a7, a8, a9, a10, a11⟩ := a
  refine ⟨a1, a5, a6, fun y h0 hy hp hn => ?_, a8, a9, a10, a11⟩
  obtain ⟨⟨b1, b2, b3⟩, b4⟩ := a7 y h0 hy hp hn
  exact ⟨⟨b1, fun j => Eq.trans (if_neg fun q => k.no h0 hy hp hn q) (b2 j), b3⟩, b4⟩
