/-! C's host: the layout of a class, and the place of a field -/
set_option maxRecDepth 20000
section
variable {ρ : Nat → Nat} {d : Nat} {Q : QT} {h h' h1 h2 H : ah} {ho k n m i j N M a b z s x y ca ph nw l0 acc len : Nat} {g : HG} {v p es lo sb st c : Int} {hw : List (List Int)} {L ts : List Int} {cs o ls : List Nat} {w : Nat → Bool} {F : Int → ah → Prop} {E : Nat → ah → Prop} {FR : Nat → ah → Prop}
theorem getD_l {l1 l2 : List Nat} (hj : j < l1.length) : (l1 ++ l2).getD j 0 = l1.getD j 0 := by
  rw [List.getD_eq_getElem?_getD, List.getElem?_append_left hj, ← List.getD_eq_getElem?_getD]
theorem getD_r {l1 l2 : List Nat} : (l1 ++ l2).getD (l1.length + j) 0 = l2.getD j 0 := by
  rw [List.getD_eq_getElem?_getD, List.getElem?_append_right (by omega), ← List.getD_eq_getElem?_getD]
  congr 1; omega
theorem c_lay42 (W : HGW g N) (W2 : HMW g N M) (H0 : HCX ρ h ho g N M hw) (kl : hK h l0 = k_HostType ∧ l0 < hz h) (hls : ls.length ≤ 1000000) (q : ∀ H, LYS h H (hz h) ls → (∀ i, i < ls.length → hB H (hz h) i = hB h (ho + 3) (ls.getD i 0)) → Q (Sum.inl (some (vR (hz h)))) (sR H f_HostType_layout l0 (hz h))) : ∀ (b : Nat) (c : Int) (H : ah), c < (b : Int) → -1 ≤ c → c < (N : Int) → (LL g (chnG g (b + 1) c)).length ≤ ls.length → (∀ j, j < (LL g (chnG g (b + 1) c)).length → ls.getD j 0 = (LL g (chnG g (b + 1) c)).getD j 0) → LYS h H (hz h) ls → (∀ i, (LL g (chnG g (b + 1) c)).length ≤ i → i < ls.length → hB H (hz h) i = hB h (ho + 3) (ls.getD i 0)) → wpB PGm ρ (d + 11) m_HostType_layout 42 [(0, vR l0), (1, vI ((LL g (chnG g (b + 1) c)).length : Int)), (2, vR (hz h)), (3, vR (hcA h ho c))] [] H Q := fun b => by
  have dn : ∀ (c : Int) (H : ah) (u : Int), c < 0 → LYS h H (hz h) ls → (∀ i, 0 ≤ i → i < ls.length → hB H (hz h) i = hB h (ho + 3) (ls.getD i 0)) → wpB PGm ρ (d + 11) m_HostType_layout 42 [(0, vR l0), (1, vI u), (2, vR (hz h)), (3, vR (hcA h ho c))] [] H Q := fun c H u c0 A c1 => by
    have e : hcA h ho c = 0 := if_pos c0
    rw [e]
    exact b_HostType_layout_42 (d := d + 10) ⟨fun _ => ⟨by rw [(A.1.2 _ kl.2).1]; exact kl.1, q H A (fun i hi => c1 i (Nat.zero_le _) hi)⟩, fun z => absurd rfl z⟩
  induction b with
  | zero =>
    intro c H h1 h2 h3 hl' hg A c1
    have e2 : chnG g (0 + 1) c = [] := by unfold chnG; rw [if_pos (by omega)]
    rw [e2] at c1
    exact dn c H _ (by omega) A c1
  | succ b ih =>
    intro c H h1 h2 h3 hl' hg A c1
    by_cases c0 : c < 0
    · have e2 : chnG g (b + 1 + 1) c = [] := by unfold chnG; rw [if_pos c0]
      rw [e2] at c1
      exact dn c H _ c0 A c1
    · have wa := (W c.toNat (by omega)).2.1
      have e2 : chnG g (b + 1 + 1) c = c.toNat :: chnG g (b + 1) (g.1 2 c.toNat) := by
        conv => lhs; unfold chnG
        rw [if_neg c0]
      rw [e2, LL_c] at hg
      rw [e2, LL_c, List.length_append] at hl' c1
      rw [List.length_append] at hg
      rw [e2, LL_c, List.length_append]
      have e : hcA h ho c = hB h (ho + 2) c.toNat := if_neg c0
      have hcN : c.toNat < N := by omega
      obtain ⟨⟨y1, y1', y0⟩, -⟩ := H0.tp hcN
      have HX : HCX ρ H ho g N M hw := H0.fr A.2.1 (by unfold DJ; decide) (fun y c => by simp at c)
      have hh := H0.hh
      have eB : hB H (ho + 2) c.toNat = hB h (ho + 2) c.toNat := (A.1.2 _ hh.2.2.2.2.2.1.2.2).2.2.2.2.2 _
      have k1 : hK H (hB h (ho + 2) c.toNat) = k_HostType := by rw [(A.1.2 _ y1').1]; exact y1
      rw [e]
      have co := c_own (ρ := ρ) (d := d + 10) (i := c.toNat) (F := fun x15 h10 => wpB PGm ρ (d + 10 + 1) m_HostType_layout 59 [(0, vR l0), (1, vI (w32 ((((LL g (chnG g (b + 1) (g.1 2 c.toNat))).length + (infG g c.toNat).length : Nat) : Int) - x15))), (2, vR (hz h)), (3, vR (hB h (ho + 2) c.toNat)), (4, vI (w32 ((((LL g (chnG g (b + 1) (g.1 2 c.toNat))).length + (infG g c.toNat).length : Nat) : Int) - x15))), (5, vI 0)] [] h10 Q) (E := fun e13 h12 => hK h12 e13 ≠ 0 ∧ Q (Sum.inr e13) h12) W2 hcN HX (by omega) (by
        rw [w32_ss (by omega), Nat.add_sub_cancel]
        have g59 := c_lay59 (ρ := ρ) (d := d) (Q := Q) (l0 := l0) (k := c.toNat) (len := (LL g (chnG g (b + 1) (g.1 2 c.toNat))).length) (ls := ls) W2 hcN H0 hl' hls (fun j hj => by rw [hg _ (by omega), getD_r]) (fun H2 A2 c2 => ih (g.1 2 c.toNat) H2 (by omega) (by omega) (by omega) (by omega) (fun j hj => by rw [hg j (by omega), getD_l hj]) A2 c2) (g.1 4 c.toNat).toNat 0 H (by omega) A (fun i i1 i2 => by
            have : (((memG g c.toNat).take 0).filter (inB g)).length = 0 := rfl
            omega) c1
        exact g59)
      rw [eB] at co
      exact b_HostType_layout_42 (d := d + 10) ⟨fun z => absurd z y0, fun _ => ⟨k1, co⟩⟩
/-- what is kept of layouts -/
def LYM (h : ah) (ho : Nat) (g : HG) (N : Nat) : Prop := ∀ c, c < N → hR h f_HostType_layout (hB h (ho + 2) c) = 0 ∨ LYA h ho (hR h f_HostType_layout (hB h (ho + 2) c)) (layG g c)
/-- the layout of class k is known now -/
def LYJ (h : ah) (ho : Nat) (g : HG) (k : Nat) (h' : ah) : Prop := h' = h ∨ (hR h f_HostType_layout (hB h (ho + 2) k) = 0 ∧ ∃ H, LYS h H (hz h) (layG g k) ∧ h' = sR H f_HostType_layout (hB h (ho + 2) k) (hz h))
theorem c_layout (W : HGW g N) (W2 : HMW g N M) (H0 : HCX ρ h ho g N M hw) (LM : LYM h ho g N) (ij : INJ h) (hk : k < N) (q : ∀ h' a, LYJ h ho g k h' → hR h' f_HostType_layout (hB h (ho + 2) k) = a → LYA h' ho a (layG g k) → FR a h') : wpB PGm ρ (d + 11) m_HostType_layout 0 [(0, vR (hB h (ho + 2) k))] [] h (cR FR E) := by
  obtain ⟨⟨y1, y1', y0⟩, -⟩ := H0.tp hk
  have N60 := H0.hh.2.2.2.2.2.2.2.2.2.1
  have M4 := H0.hh.2.2.2.2.2.2.2.2.2.2
  have hh := H0.hh
  have eL : LL g (chnG g (60 + 1) (k : Int)) = layG g k := rfl
  have le := LL_le W W2 60 (k : Int) (by omega) (by omega)
  rw [eL] at le
  have lb : (layG g k).length ≤ 1000000 := by omega
  refine b_HostType_layout_0 ⟨y1, fun z => ?_, fun z => ?_⟩
  · have e : hcA h ho (k : Int) = hB h (ho + 2) k := by unfold hcA; rw [if_neg (by omega), Int.toNat_natCast]
    have g16 := c_lay16 (ρ := ρ) (d := d) (Q := cR FR E) (l0 := hB h (ho + 2) k) W W2 H0 60 (k : Int) 0 (by omega) (by omega) (by omega) (by rw [eL]; omega) (by
      rw [eL, Nat.zero_add]
      refine b_HostType_layout_16 (d := d + 10) ⟨fun _ => ⟨⟨by omega, by omega⟩, ?_⟩, fun c => absurd rfl c⟩
      rw [Int.toNat_natCast]
      have A0 : LYS h (hn h 24 (layG g k).length (layG g k).length) (hz h) (layG g k) := by
        refine ⟨⟨rfl, fun x hx => ⟨hnK hx, hnl hx, fun f => hnI hx, fun f => hnR hx, fun i => if_neg (by omega), fun i => hnB hx⟩⟩, ?_, if_pos rfl, if_pos rfl, fun f => if_pos rfl⟩
        have := Fr.new (k := 24) (n := (layG g k).length) (m := (layG g k).length) (Fr.r0 (L := []) (P := []) (h := h))
        exact this.le (by omega) (by omega)
      have g42 := c_lay42 (ρ := ρ) (d := d) (Q := cR FR E) (l0 := hB h (ho + 2) k) (ls := layG g k) W W2 H0 ⟨y1, y1'⟩ lb (fun H A c1 => ?_) 60 (k : Int) _ (by omega) (by omega) (by omega) (by rw [eL]; exact Nat.le_refl _) (fun j _ => by rw [eL]) A0 (fun i i1 i2 => by rw [eL] at i1; omega)
      · rw [eL, e] at g42
        exact g42
      · have uno : UNO (sR H f_HostType_layout (hB h (ho + 2) k) (hz h)) (hz h) := fun f x hx hf c => by
          have fne : f ≠ f_HostType_layout := by rintro rfl; exact absurd hf (by unfold own; decide)
          rw [R_Rne fne] at c
          have hx2 : x < hz H := hx
          have ijH := A.2.1.inj ij
          by_cases w : x < hz h
          · rw [(A.1.2 _ w).2.2.2.1] at c
            have := ij.1 _ _ w hf
            omega
          · have ex : x = hz h := by have := A.1.1; omega
            rw [ex, A.2.2.2.2 f] at c
            have := ij.2.2
            omega
        refine q _ _ (Or.inr ⟨z, H, A, rfl⟩) (R_R _ _ _ _) ⟨⟨A.2.2.1, by have := ij.2.2; omega, by show hz h < hz H; rw [A.1.1]; omega, uno⟩, A.2.2.2.1, fun i hi => ?_⟩
        show hB H (hz h) i = hB H (ho + 3) _
        rw [c1 i hi, (A.1.2 _ hh.2.2.2.2.2.2.1.2.2).2.2.2.2.2])
    rw [e] at g16
    exact g16
  · exact q h _ (Or.inl rfl) rfl ((LM k hk).resolve_left z)
end
