/-! entries of sites: names join, entries come and go -/
set_option maxRecDepth 20000
/-- names of sites are there -/
def SNW (S : SS) (ws : List (List Int)) : Prop := ∀ s : Nat, (s : Int) < S f_Md_sites 0 → (S f_Md_siteKind s = 0 ∨ S f_Md_siteKind s = 1 ∨ S f_Md_siteKind s = 5) → 0 ≤ S f_Md_siteName s ∧ S f_Md_siteName s < (ws.length : Int)
section
variable {S S2 : SS} {g : HG} {ws : List (List Int)} {l : List Int} {κ nm : Int} {s0 n m : Nat} {es : List ENT}
theorem LTW.app (H : κ = 0 ∨ κ = 1 ∨ κ = 5 → 0 ≤ nm ∧ nm < (ws.length : Int)) : LTW (ws ++ [l]) κ nm = LTW ws κ nm := by
  unfold LTW
  by_cases c : κ = 0 ∨ κ = 1 ∨ κ = 5
  · rw [if_pos c, if_pos c]
    have := H c
    rw [List.getD_eq_getElem?_getD, List.getD_eq_getElem?_getD, List.getElem?_append_left (by omega)]
  · rw [if_neg c, if_neg c]
theorem EVS.app (H : EVS g S ws) (N : SNW S ws) : EVS g S (ws ++ [l]) := fun s hs i hi => by
  rw [LTW.app (N s hs)]
  exact H s hs i hi
theorem SNW.app (N : SNW S ws) : SNW S (ws ++ [l]) := fun s hs c => by
  have := N s hs c
  rw [List.length_append, List.length_singleton]
  omega
/-- the entries of one site are others now -/
theorem EVS.one (H : EVS g S ws) (hb : ∀ s : Nat, (s : Int) < S f_Md_shapes 0 → (S f_Md_shapeBefore s).toNat < (S f_Md_shapes 0).toNat) (c : CHG S S2) (e1 : EXS [f_Md_sites, f_Md_siteKind, f_Md_siteName, f_Md_siteMany] S S2) (oth : ∀ s : Nat, s ≠ s0 → S2 f_Md_entries s = S f_Md_entries s ∧ ∀ i, i < 5 → rowE S2 (5 * s + i) = rowE S (5 * s + i)) (l4 : ∀ s : Nat, (s : Int) < S f_Md_sites 0 → S f_Md_entries s ≤ 4) (new : (s0 : Int) < S f_Md_sites 0 → ∀ i : Nat, (i : Int) < S2 f_Md_entries s0 → ENV g S2 (S f_Md_siteKind s0) (S f_Md_siteName s0) (LTW ws (S f_Md_siteKind s0) (S f_Md_siteName s0)) (S f_Md_siteMany s0).toNat (rowE S2 (5 * s0 + i))) : EVS g S2 ws := fun s hs i hi => by
  rw [e1 _ (by decide)] at hs
  rw [e1 _ (by decide), e1 _ (by decide), e1 _ (by decide)]
  by_cases w : s = s0
  · subst w
    exact new hs i hi
  · obtain ⟨o1, o2⟩ := oth s w
    rw [o1] at hi
    have := l4 s hs
    rw [o2 i (by omega)]
    exact (H s hs i hi).chg hb c
end
