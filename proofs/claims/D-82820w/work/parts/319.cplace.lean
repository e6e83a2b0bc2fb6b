/-! C's host: the place of a field -/
set_option maxRecDepth 20000
section
variable {ρ : Nat → Nat} {d : Nat} {Q : QT} {h h' h1 h2 H : ah} {ho k n m i j N M a b z s x y ca ph nw l0 acc len f : Nat} {g : HG} {v p es lo sb st c : Int} {hw : List (List Int)} {L ts : List Int} {cs o ls : List Nat} {w : Nat → Bool} {F : Int → ah → Prop} {E : Nat → ah → Prop} {FR : Nat → ah → Prop}
/-- what stays as a layout becomes known -/
theorem LYJ.old (J : LYJ h ho g k h') : ∀ x, x < hz h → hK h' x = hK h x ∧ hl h' x = hl h x ∧ (∀ f, hI h' f x = hI h f x) ∧ (∀ f, f ≠ f_HostType_layout → hR h' f x = hR h f x) ∧ (∀ i, hA h' x i = hA h x i) ∧ (∀ i, hB h' x i = hB h x i) ∧ (∀ f, x ≠ hB h (ho + 2) k → hR h' f x = hR h f x) := fun x hx => by
  rcases J with rfl | ⟨-, H, A, rfl⟩
  · exact ⟨rfl, rfl, fun _ => rfl, fun _ _ => rfl, fun _ => rfl, fun _ => rfl, fun _ _ => rfl⟩
  · obtain ⟨b1, b2, b3, b4, b5, b6⟩ := A.1.2 x hx
    exact ⟨b1, b2, b3, fun f hf => by rw [R_Rne hf]; exact b4 f, b5, b6, fun f hne => by rw [R_Rne' hne]; exact b4 f⟩
theorem LYJ.fr (J : LYJ h ho g k h') : Fr [f_HostType_layout] [] 1 (layG g k).length h h' := by
  rcases J with rfl | ⟨-, H, A, rfl⟩
  · exact Fr.r0.le (by omega) (by omega)
  · exact Fr.wR (Or.inl (by simp)) (by unfold own; decide) (A.2.1.mono (fun _ q => by cases q) (fun _ q => q))
theorem c_place (W : HGW g N) (W2 : HMW g N M) (H0 : HCX ρ h ho g N M hw) (LM : LYM h ho g N) (ij : INJ h) (hk : k < N) (lm : ∀ j, j < (layG g k).length → (layG g k).getD j 0 < M) (hm : m < M) (P : PLC g k m i) (q : ∀ h' a, LYJ h ho g k h' → hR h' f_HostType_layout (hB h (ho + 2) k) = a → LYA h' ho a (layG g k) → F (i : Int) h') : wpB PGm ρ (d + 12) m_HostType_place 0 [(0, vR (hB h (ho + 2) k)), (1, vR (hB h (ho + 3) m))] [] h (cI F E) := by
  obtain ⟨⟨y1, y1', y0⟩, -⟩ := H0.tp hk
  have hh := H0.hh
  have N60 := H0.hh.2.2.2.2.2.2.2.2.2.1
  have M4 := H0.hh.2.2.2.2.2.2.2.2.2.2
  obtain ⟨p1, p2, p3⟩ := P
  have le := LL_le W W2 60 (k : Int) (by omega) (by omega)
  have eL : LL g (chnG g (60 + 1) (k : Int)) = layG g k := rfl
  rw [eL] at le
  refine b_HostType_place_0 (d := d + 11) ⟨y1, c_layout W W2 H0 LM ij hk (fun h' a J ea A => ?_)⟩
  obtain ⟨⟨a1, a2, a3, a4⟩, a5, a6⟩ := A
  have e3 : ∀ j, hB h' (ho + 3) j = hB h (ho + 3) j := (J.old _ hh.2.2.2.2.2.2.1.2.2).2.2.2.2.2.1
  have lp : ∀ mm j, j + mm = i → wpB PGm ρ (d + 12) m_HostType_place 7 [(1, vR (hB h (ho + 3) m)), (2, vR a), (3, vI (j : Int))] [] h' (cI F E) := fun mm => by
    induction mm with
    | zero =>
      intro j hj
      have ej : j = i := by omega
      subst ej
      refine b_HostType_place_7 ⟨⟨by rw [a1]; decide, by rw [a1]; decide, by omega, by rw [a5]; omega⟩, ?_⟩
      rw [Int.toNat_natCast, a6 j p1, e3, p2]
      exact ⟨fun _ => q h' a J ea ⟨⟨a1, a2, a3, a4⟩, a5, a6⟩, fun c => absurd rfl c⟩
    | succ mm ih =>
      intro j hj
      have hj2 : j < (layG g k).length := by omega
      refine b_HostType_place_7 ⟨⟨by rw [a1]; decide, by rw [a1]; decide, by omega, by rw [a5]; omega⟩, ?_⟩
      rw [Int.toNat_natCast, a6 j hj2, e3, w32_p1 (by omega)]
      refine ⟨fun c => absurd (H0.mad _ _ (lm j hj2) hm c) (p3 j (by omega)), fun _ => ih (j + 1) (by omega)⟩
  exact lp i 0 (by omega)
end
