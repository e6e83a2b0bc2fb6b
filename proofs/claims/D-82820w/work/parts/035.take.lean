/-! words: one more; only the first ones -/
set_option maxRecDepth 20000
def WP (w : Nat) : List (Nat × Nat) := [(f_Words_many, w), (f_Words_used, w), (f_Words_bytes, w), (f_Words_from, w), (f_Words_size, w), (f_Words_next, w), (f_Words_heads + 1, w)]
/-- what may still be made for the words: cells, slots -/
def wpz (h : ah) (fr by_ mb : Nat) : Nat := (if hl h fr = 128 then 3 else 0) + (if hl h by_ < 4096 then 2 else if hl h by_ < mb then 1 else 0)
def wps (h : ah) (fr by_ most mb : Nat) : Nat := (if hl h fr = 128 then 3 * most else 0) + (if hl h by_ < 4096 then 4096 + mb else if hl h by_ < mb then mb else 0)
/-- reads behind a copy that takes a field's place -/
theorem cpK {h : ah} {k a n f x : Nat} {y : Nat} (hy : y < hz h) : hK (sR (hcp h k a n) f x (hz h)) y = hK h y := if_neg (by omega)
theorem cpKn {h : ah} {k a n f x : Nat} : hK (sR (hcp h k a n) f x (hz h)) (hz h) = k := if_pos rfl
theorem cpI {h : ah} {k a n f x g y : Nat} (hy : y < hz h) : hI (sR (hcp h k a n) f x (hz h)) g y = hI h g y := if_neg (by omega)
theorem cpR {h : ah} {k a n f x g y : Nat} (hy : y < hz h) (hn : g ≠ f ∨ y ≠ x) : hR (sR (hcp h k a n) f x (hz h)) g y = hR h g y := Eq.trans (if_neg fun z => hn.elim (fun q => q z.1) (fun q => q z.2)) (if_neg (by omega))
theorem cpl {h : ah} {k a n f x y : Nat} (hy : y < hz h) : hl (sR (hcp h k a n) f x (hz h)) y = hl h y := if_neg (by omega)
theorem cpln {h : ah} {k a n f x : Nat} : hl (sR (hcp h k a n) f x (hz h)) (hz h) = n := if_pos rfl
theorem cpA {h : ah} {k a n f x y i : Nat} (hy : y < hz h) : hA (sR (hcp h k a n) f x (hz h)) y i = hA h y i := if_neg (by omega)
theorem cpAn {h : ah} {k a n f x i : Nat} (h1 : i < hl h a) (h2 : i < n) : hA (sR (hcp h k a n) f x (hz h)) (hz h) i = hA h a i := Eq.trans (if_pos rfl) (if_pos ⟨h1, h2⟩)
theorem cpF {L : List Nat} {P : List (Nat × Nat)} {z s : Nat} {h h1 : ah} {k a n f x : Nat} (ho : okW L P f x ∨ hz h ≤ x) (hi : INJ h1) (hf : Fr L P z s h h1) : Fr L P (z + 1) (s + n) h (sR (hcp h1 k a n) f x (hz h1)) := by
  refine (hf.cp (k := k) (x := a) (n := n)).wO ho (hf.1.1) (Nat.lt_succ_self _) (fun g y hy hg e => ?_)
  exact INJ.new (k := k) (n := n) (m := n) hi g y hy hg e
section
variable {ρ : Nat → Nat} {d : Nat} {h : ah} {F : Int → ah → Prop} {G : ah → Prop} {E : Nat → ah → Prop} {w most mb by_ fr sz nx hd : Nat} {ws : List (List Int)} {r at_ : Nat} {l : List Int}
theorem WD.addr (H : WD h w most mb ws by_ fr sz nx hd) : by_ < hz h ∧ fr < hz h ∧ sz < hz h ∧ nx < hz h ∧ hd < hz h := by
  obtain ⟨⟨a1, a2, a3, -⟩, ⟨b1, b2, b3, b4, b5⟩, -⟩ := H
  exact ⟨by rw [← b1]; exact a3.1 _ _ a2 (own_of rfl), by rw [← b2]; exact a3.1 _ _ a2 (own_of rfl), by rw [← b3]; exact a3.1 _ _ a2 (own_of rfl), by rw [← b4]; exact a3.1 _ _ a2 (own_of rfl), by rw [← b5]; exact a3.1 _ _ a2 (own_of rfl)⟩
theorem WD.dist (H : WD h w most mb ws by_ fr sz nx hd) : by_ ≠ fr ∧ by_ ≠ sz ∧ by_ ≠ nx ∧ by_ ≠ hd ∧ fr ≠ sz ∧ fr ≠ nx ∧ fr ≠ hd ∧ sz ≠ nx ∧ sz ≠ hd ∧ nx ≠ hd := by
  obtain ⟨⟨a1, a2, a3, -⟩, ⟨b1, b2, b3, b4, b5⟩, ⟨c1, c2, c3, c4, c5⟩, ⟨d1, d2, d3, d4, d5⟩, -⟩ := H
  have ne : ∀ f g x y, own f → own g → hR h f w = x → hR h g w = y → 0 < x → f ≠ g → x ≠ y := fun f g x y hf hg e1 e2 h0 hn e => hn (a3.2.1 f w g w a2 a2 hf hg (by rw [e1, e2, e]) (by omega)).1
  refine ⟨(fun e => by rw [e, c2] at c1; cases c1), (fun e => by rw [e, c3] at c1; cases c1), (fun e => by rw [e, c4] at c1; cases c1), (fun e => by rw [e, c5] at c1; cases c1), ne _ _ _ _ (own_of rfl) (own_of rfl) b2 b3 d2 (by decide), ne _ _ _ _ (own_of rfl) (own_of rfl) b2 b4 d2 (by decide), ne _ _ _ _ (own_of rfl) (own_of rfl) b2 b5 d2 (by decide), ne _ _ _ _ (own_of rfl) (own_of rfl) b3 b4 d3 (by decide), ne _ _ _ _ (own_of rfl) (own_of rfl) b3 b5 d3 (by decide), ne _ _ _ _ (own_of rfl) (own_of rfl) b4 b5 d4 (by decide)⟩
/-- an array of the words is made longer -/
theorem WD.grow1 (H : WD h w most mb ws by_ fr sz nx hd) {n : Nat} (hn : n = 4096 ∨ n = mb) (hn2 : hl h by_ ≤ n) : WD (sR (hcp h 3 by_ n) f_Words_bytes w (hz h)) w most mb ws (hz h) fr sz nx hd := by
  obtain ⟨⟨a1, a2, a3, a4, a5, a6, a7⟩, ⟨b1, b2, b3, b4, b5⟩, ⟨c1, c2, c3, c4, c5⟩, ⟨d1, d2, d3, d4, d5⟩, ⟨e1, e2, e3, e4, e5, e6, e7⟩, ⟨g1, g2, g3, g4, g5⟩, H7, H8, H9⟩ := id H
  obtain ⟨l1, l2, l3, l4, l5⟩ := H.addr
  have hF : Fr [] [(f_Words_bytes, w)] (0 + 1) (0 + n) h (sR (hcp h 3 by_ n) f_Words_bytes w (hz h)) := cpF (Or.inl (Or.inr (by simp))) a3 Fr.r0
  refine H.move ⟨by rw [cpK a2]; exact a1, hF.lt a2, hF.inj a3⟩ (fun f _ => cpI a2) ⟨R_R _ _ _ _, by rw [cpR a2 (Or.inl (by decide))]; exact b2, by rw [cpR a2 (Or.inl (by decide))]; exact b3, by rw [cpR a2 (Or.inl (by decide))]; exact b4, by rw [cpR a2 (Or.inl (by decide))]; exact b5⟩ ⟨cpKn, by rw [cpK l2]; exact c2, by rw [cpK l3]; exact c3, by rw [cpK l4]; exact c4, by rw [cpK l5]; exact c5⟩ ⟨by omega, d2, d3, d4, d5⟩ ⟨by rw [cpl l3, cpl l2]; exact e1, by rw [cpl l4, cpl l2]; exact e2, by rw [cpl l2]; exact e3, by rw [cpl l2]; exact e4, by rw [cpl l5]; exact e5, by rw [cpln]; omega⟩ (by rw [cpln]; exact Or.inr hn) (fun k hk => ⟨cpA l2, cpA l3, cpA l4⟩) (fun i hi => cpAn (by omega) (by omega)) (fun b hb => cpA l5)
theorem WD.grow3 (H : WD h w most mb ws by_ fr sz nx hd) (h128 : hl h fr = 128) {h1 h2 h3 : ah} (e1 : h1 = sR (hcp h 1 fr most) f_Words_from w (hz h)) (e2 : h2 = sR (hcp h1 1 sz most) f_Words_size w (hz h1)) (e3 : h3 = sR (hcp h2 1 nx most) f_Words_next w (hz h2)) : WD h3 w most mb ws by_ (hz h) (hz h + 1) (hz h + 2) hd ∧ Fr [] (WP w) 3 (3 * most) h h3 ∧ hl h3 (hz h) = most ∧ hl h3 by_ = hl h by_ ∧ hs h3 = hs h + 3 * most ∧ hz h3 = hz h + 3 := by
  obtain ⟨⟨a1, a2, a3, a4, a5, a6, a7⟩, ⟨b1, b2, b3, b4, b5⟩, ⟨c1, c2, c3, c4, c5⟩, ⟨d1, d2, d3, d4, d5⟩, ⟨g1, g2, g3, g4, g5, g6, g7⟩, ⟨m1, m2, m3, m4, m5⟩, H7, H8, H9⟩ := id H
  obtain ⟨l1, l2, l3, l4, l5⟩ := H.addr
  have z1 : hz h1 = hz h + 1 := by rw [e1]; rfl
  have z2 : hz h2 = hz h1 + 1 := by rw [e2]; rfl
  have z3 : hz h3 = hz h2 + 1 := by rw [e3]; rfl
  have s1 : hs h1 = hs h + most := by rw [e1]; rfl
  have s2 : hs h2 = hs h1 + most := by rw [e2]; rfl
  have s3 : hs h3 = hs h2 + most := by rw [e3]; rfl
  have F1 : Fr [] (WP w) (0 + 1) (0 + most) h h1 := by rw [e1]; exact cpF (Or.inl (Or.inr (by simp [WP]))) a3 Fr.r0
  have F2 : Fr [] (WP w) (0 + 1 + 1) (0 + most + most) h h2 := by rw [e2]; exact cpF (Or.inl (Or.inr (by simp [WP]))) (F1.inj a3) F1
  have F3 : Fr [] (WP w) (0 + 1 + 1 + 1) (0 + most + most + most) h h3 := by rw [e3]; exact cpF (Or.inl (Or.inr (by simp [WP]))) (F2.inj a3) F2
  have I3 : ∀ g y, y < hz h → hI h3 g y = hI h g y := fun g y hy => by rw [e3, cpI (by omega), e2, cpI (by omega), e1, cpI hy]
  have K3 : ∀ y, y < hz h → hK h3 y = hK h y := fun y hy => by rw [e3, cpK (by omega), e2, cpK (by omega), e1, cpK hy]
  have L3 : ∀ y, y < hz h → hl h3 y = hl h y := fun y hy => by rw [e3, cpl (by omega), e2, cpl (by omega), e1, cpl hy]
  have A3 : ∀ y i, y < hz h → hA h3 y i = hA h y i := fun y i hy => by rw [e3, cpA (by omega), e2, cpA (by omega), e1, cpA hy]
  have R3 : ∀ g y, y < hz h → g ≠ f_Words_from → g ≠ f_Words_size → g ≠ f_Words_next → hR h3 g y = hR h g y := fun g y hy n1 n2 n3 => by rw [e3, cpR (by omega) (Or.inl n3), e2, cpR (by omega) (Or.inl n2), e1, cpR hy (Or.inl n1)]
  have kf : hK h3 (hz h) = 1 := by rw [e3, cpK (by omega), e2, cpK (by omega), e1, cpKn]
  have ks : hK h3 (hz h + 1) = 1 := by rw [e3, cpK (by omega), ← z1, e2, cpKn]
  have kn : hK h3 (hz h + 2) = 1 := by rw [show hz h + 2 = hz h2 by omega, e3, cpKn]
  have lf : hl h3 (hz h) = most := by rw [e3, cpl (by omega), e2, cpl (by omega), e1, cpln]
  have ls : hl h3 (hz h + 1) = most := by rw [e3, cpl (by omega), ← z1, e2, cpln]
  have ln : hl h3 (hz h + 2) = most := by rw [show hz h + 2 = hz h2 by omega, e3, cpln]
  have af : ∀ i, i < ws.length → hA h3 (hz h) i = hA h fr i := fun i hi => by rw [e3, cpA (by omega), e2, cpA (by omega), e1, cpAn (by omega) (by omega)]
  have as : ∀ i, i < ws.length → hA h3 (hz h + 1) i = hA h sz i := fun i hi => by
    rw [e3, cpA (by omega), ← z1, e2, cpAn (by rw [e1, cpl l3]; omega) (by omega), e1, cpA l3]
  have an : ∀ i, i < ws.length → hA h3 (hz h + 2) i = hA h nx i := fun i hi => by
    rw [show hz h + 2 = hz h2 by omega, e3, cpAn (by rw [e2, cpl (by omega), e1, cpl l4]; omega) (by omega), e2, cpA (by omega), e1, cpA l4]
  refine ⟨H.move ⟨by rw [K3 _ a2]; exact a1, F3.lt a2, F3.inj a3⟩ (fun f _ => I3 _ _ a2) ⟨by rw [R3 _ _ a2 (by decide) (by decide) (by decide)]; exact b1, ?_, ?_, ?_, by rw [R3 _ _ a2 (by decide) (by decide) (by decide)]; exact b5⟩ ⟨by rw [K3 _ l1]; exact c1, kf, ks, kn, by rw [K3 _ l5]; exact c5⟩ ⟨d1, by omega, by omega, by omega, d5⟩ ⟨by omega, by omega, by omega, Or.inr lf, by rw [L3 _ l5]; exact g5, by rw [L3 _ l1]; exact g6⟩ (by rw [L3 _ l1]; exact m5) (fun k hk => ⟨af k hk, as k hk, an k hk⟩) (fun i hi => A3 _ _ l1) (fun b hb => A3 _ _ l5), F3.le (by omega) (by omega), lf, L3 _ l1, by omega, by omega⟩
  · rw [e3, cpR (by omega) (Or.inl (by decide)), e2, cpR (by omega) (Or.inl (by decide)), e1]; exact R_R _ _ _ _
  · rw [e3, cpR (by omega) (Or.inl (by decide)), e2, ← z1]; exact R_R _ _ _ _
  · rw [show hz h + 2 = hz h2 by omega, e3]; exact R_R _ _ _ _
end
