/-! tokens: what both scanners find -/
set_option maxRecDepth 20000
/-- the sign at a place; 0 behind the end -/
def ta (t : Nat → Int) (n k : Nat) : Int := if k < n then t k else 0
def lett (c : Int) : Prop := (97 ≤ c ∧ c ≤ 122) ∨ (65 ≤ c ∧ c ≤ 90) ∨ c = 95
def digi (c : Int) : Prop := 48 ≤ c ∧ c ≤ 57
/-- a stretch ends -/
def endOf (P : Int → Prop) (a : Nat → Int) (p q : Nat) : Prop := p ≤ q ∧ (∀ k, p ≤ k → k < q → P (a k)) ∧ ¬ P (a q)
theorem endOf_u {P : Int → Prop} {a : Nat → Int} {p q r : Nat} (h1 : endOf P a p q) (h2 : endOf P a p r) : q = r := by
  obtain ⟨a1, a2, a3⟩ := h1
  obtain ⟨b1, b2, b3⟩ := h2
  by_cases c1 : q < r
  · exact absurd (b2 q a1 c1) a3
  · by_cases c2 : r < q
    · exact absurd (a2 r b1 c2) b3
    · omega
def eol (a : Nat → Int) (n p : Nat) : Nat := if p < n ∧ ¬ a p = 10 then eol a n (p + 1) else p
termination_by n - p
theorem eol_ge (a : Nat → Int) (n : Nat) : ∀ m p, n - p ≤ m → p ≤ eol a n p := by
  intro m
  induction m with
  | zero => intro p hp; rw [eol, if_neg (by omega)]; exact Nat.le_refl _
  | succ m ih =>
    intro p hp
    rw [eol]
    split
    · have := ih (p + 1) (by omega); omega
    · exact Nat.le_refl _
theorem eol_le (a : Nat → Int) (n : Nat) : ∀ m p, n - p ≤ m → p ≤ n → eol a n p ≤ n := by
  intro m
  induction m with
  | zero => intro p hp hn; rw [eol, if_neg (by omega)]; exact hn
  | succ m ih =>
    intro p hp hn
    rw [eol]
    split
    · exact ih (p + 1) (by omega) (by omega)
    · exact hn
/-- where the next token begins -/
def skp (a : Nat → Int) (n p : Nat) : Nat := if h : p < n then (if a p = 32 ∨ a p = 10 then skp a n (p + 1) else if a p = 47 ∧ a (p + 1) = 47 then skp a n (eol a n (p + 1)) else p) else p
termination_by n - p
decreasing_by
  · omega
  · have := eol_ge a n _ (p + 1) (Nat.le_refl _); omega
theorem skp_le (a : Nat → Int) (n : Nat) : ∀ m p, n - p ≤ m → p ≤ n → p ≤ skp a n p ∧ skp a n p ≤ n := by
  intro m
  induction m with
  | zero => intro p hp hn; rw [skp, dif_neg (by omega)]; omega
  | succ m ih =>
    intro p hp hn
    rw [skp]
    split
    · split
      · have := ih (p + 1) (by omega) (by omega); omega
      · split
        · have h1 := eol_ge a n _ (p + 1) (Nat.le_refl _)
          have h2 := eol_le a n _ (p + 1) (Nat.le_refl _) (by omega)
          have := ih (eol a n (p + 1)) (by omega) h2; omega
        · omega
    · omega
theorem skp_b {a : Nat → Int} {n p : Nat} (h : p < n) (hb : a p = 32 ∨ a p = 10) : skp a n p = skp a n (p + 1) := by
  rw [skp, dif_pos h, if_pos hb]
theorem skp_c {a : Nat → Int} {n p : Nat} (h : p < n) (hb : a p = 47) (hc : a (p + 1) = 47) : skp a n p = skp a n (eol a n (p + 1)) := by
  rw [skp, dif_pos h, if_neg (by omega), if_pos ⟨hb, hc⟩]
theorem skp_n {a : Nat → Int} {n p : Nat} (hb : n ≤ p ∨ (¬ (a p = 32 ∨ a p = 10) ∧ ¬ (a p = 47 ∧ a (p + 1) = 47))) : skp a n p = p := by
  rw [skp]
  split
  · rcases hb with hb | ⟨h1, h2⟩
    · omega
    · rw [if_neg h1, if_neg h2]
  · rfl
theorem eol_s {a : Nat → Int} {n p : Nat} (h : p < n) (hb : ¬ a p = 10) : eol a n p = eol a n (p + 1) := by rw [eol, if_pos ⟨h, hb⟩]
theorem eol_n {a : Nat → Int} {n p : Nat} (h : n ≤ p ∨ a p = 10) : eol a n p = p := by rw [eol, if_neg (by omega)]
theorem ta_in {t : Nat → Int} {n k : Nat} (h : k < n) : ta t n k = t k := if_pos h
theorem ta_out {t : Nat → Int} {n k : Nat} (h : n ≤ k) : ta t n k = 0 := if_neg (by omega)
def ld (c : Int) : Prop := lett c ∨ digi c
theorem ld0 : ¬ ld 0 := by unfold ld lett digi; omega
theorem digi0 : ¬ digi 0 := by unfold digi; omega
/-- the number that so many digits tell -/
def nv (a : Nat → Int) (b : Nat) : Nat → Int
  | 0 => 0
  | j + 1 => 10 * nv a b j + a (b + j) - 48
theorem nv_b {a : Nat → Int} {b : Nat} : ∀ {j : Nat}, (∀ i, i < j → digi (a (b + i))) → 0 ≤ nv a b j ∧ nv a b j < 10 ^ j
  | 0, _ => by simp [nv]
  | j + 1, h => by
    obtain ⟨h1, h2⟩ := nv_b (j := j) (fun i hi => h i (by omega))
    have h3 := h j (by omega)
    unfold digi at h3
    have e : (10 : Int) ^ (j + 1) = 10 * 10 ^ j := by rw [Int.pow_succ]; omega
    simp only [nv]
    omega
/-- what stands between quotes, from a place on, with what was read before: the letters and the place of the end -/
def qt (a : Nat → Int) (n p : Nat) (l : List Int) : Option (List Int × Nat) :=
  if h : p < n then
    if a p = 34 then some (l, p) else if a p = 10 ∨ l.length = 60 then none
    else if a p = 92 then (if a (p + 1) = 110 then qt a n (p + 2) (l ++ [10]) else if a (p + 1) = 34 ∨ a (p + 1) = 92 then qt a n (p + 2) (l ++ [a (p + 1)]) else none)
    else qt a n (p + 1) (l ++ [a p])
  else none
termination_by n - p
def sgc (c : Int) : Prop := c ∈ [40, 41, 123, 125, 91, 93, 44, 59, 46, 58, 61, 60, 62, 43, 45, 42, 47, 37, 33]
/-- a sign: its kind and its length; -1 if it is none -/
def sgn (host : Int) (c d e : Int) (k : Int) (n : Nat) : Prop :=
  if d = 61 ∧ c = 61 then k = 130 ∧ n = 2 else if d = 61 ∧ c = 33 then k = 131 ∧ n = 2 else if d = 61 ∧ c = 60 then k = 132 ∧ n = 2 else if d = 61 ∧ c = 62 then k = 133 ∧ n = 2
  else if c = 38 ∧ d = 38 then k = 134 ∧ n = 2 else if c = 124 ∧ d = 124 then k = 135 ∧ n = 2 else if ¬ host = 0 ∧ c = 46 ∧ d = 46 ∧ e = 46 then k = 136 ∧ n = 3
  else (sgc c ∧ k = c ∧ n = 1) ∨ (¬ sgc c ∧ k = -1)
/-- the token that begins at a place -/
def tokE (a : Nat → Int) (n : Nat) (host : Int) (q : Nat) (k : Int) (to : Nat) (num : Int) (held : List Int) : Prop :=
  (n ≤ q ∧ k = 0 ∧ to = q) ∨
  (q < n ∧ lett (a q) ∧ ∃ r, endOf ld a q r ∧ r ≤ n ∧ ((r - q ≤ 30 ∧ k = 1 ∧ to = r) ∨ (30 < r - q ∧ k = -1))) ∨
  (q < n ∧ digi (a q) ∧ ∃ r, endOf digi a q r ∧ r ≤ n ∧ ((r - q ≤ 10 ∧ nv a q (r - q) ≤ 2147483647 ∧ k = 2 ∧ to = r ∧ num = nv a q (r - q)) ∨ (¬ (r - q ≤ 10 ∧ nv a q (r - q) ≤ 2147483647) ∧ k = -1))) ∨
  (q < n ∧ a q = 34 ∧ ((qt a n (q + 1) [] = some (held, to - 1) ∧ q + 1 ≤ to - 1 ∧ 1 ≤ to ∧ to ≤ n ∧ k = 3) ∨ (qt a n (q + 1) [] = none ∧ k = -1))) ∨
  (q < n ∧ ¬ lett (a q) ∧ ¬ digi (a q) ∧ ¬ a q = 34 ∧ ∃ m, sgn host (a q) (a (q + 1)) (a (q + 2)) k m ∧ to = q + m)
/-! the scanner -/
def SCN (h : ah) (s x n : Nat) : Prop := hK h s = k_Scanner ∧ hR h f_Scanner_text s = x ∧ hI h f_Scanner_size s = (n : Int) ∧ hK h x = 3 ∧ n ≤ hl h x ∧ n ≤ 70000
section
variable {ρ : Nat → Nat} {d : Nat} {h : ah} {F : Int → ah → Prop} {E : Nat → ah → Prop} {Q : QT} {s x n : Nat}
theorem c_at (H : SCN h s x n) (k : Nat) (q : F (ta (hA h x) n k) h) : wpB PGm ρ d m_Scanner_at 0 [(0, vR s), (1, vI (k : Int))] [] h (cI F E) := by
  obtain ⟨h1, h2, h3, h4, h5, h6⟩ := H
  refine b_Scanner_at_0 ⟨h1, fun c => ?_, fun c => ⟨⟨by rw [h2, h4]; decide, by omega, by rw [h2]; omega⟩, ?_⟩⟩
  · rw [ta_out (by omega)] at q; exact q
  · rw [ta_in (by omega)] at q; rw [h2]; exact q
theorem c_let (c : Int) (q1 : lett c → F 1 h) (q0 : ¬ lett c → F 0 h) : wpB PGm ρ d m_Scanner_isLetter 0 [(0, vI c)] [] h (cI F E) := by
  unfold lett at q1 q0
  have k3 : ¬ (97 ≤ c ∧ c ≤ 122) → ¬ (65 ≤ c ∧ c ≤ 90) → wpB PGm ρ d m_Scanner_isLetter 24 [(0, vI c)] [] h (cI F E) := fun n1 n2 => b_Scanner_isLetter_24 ⟨fun z => q0 (by omega), fun z => q1 (by omega)⟩
  have k2 : ¬ (97 ≤ c ∧ c ≤ 122) → wpB PGm ρ d m_Scanner_isLetter 12 [(0, vI c)] [] h (cI F E) := fun n1 => b_Scanner_isLetter_12 ⟨fun z => k3 n1 (by omega), fun z => ⟨fun y => q1 (by omega), fun y => k3 n1 (by omega)⟩⟩
  exact b_Scanner_isLetter_0 ⟨fun z => k2 (by omega), fun z => ⟨fun y => q1 (by omega), fun y => k2 (by omega)⟩⟩
theorem c_dig (c : Int) (q1 : digi c → F 1 h) (q0 : ¬ digi c → F 0 h) : wpB PGm ρ d m_Scanner_isDigit 0 [(0, vI c)] [] h (cI F E) := by
  unfold digi at q1 q0
  exact b_Scanner_isDigit_0 ⟨fun z => q0 (by omega), fun z => ⟨fun y => q0 (by omega), fun y => q1 (by omega)⟩⟩
/-- a fault: what is told of it -/
theorem c_fail {E : Nat → ah → Prop} {G : ah → Prop} {fa : Nat} {why fr : Int} (h1 : hK h s = k_Scanner) (h2 : hR h f_Scanner_fault s = fa) (h3 : hK h fa = k_Fault) (h4 : hI h f_Scanner_from s = fr) (b1 : 0 ≤ why ∧ why ≤ 20) (b2 : 0 ≤ fr ∧ fr ≤ 70000) (q : E fa (sI h f_Fault_told fa (why + 16 * fr))) : wpB PGm ρ (d + 1) m_Scanner_fail 0 [(0, vR s), (1, vI why)] [] h (cV G E) := by
  have e1 : w32 (16 * fr) = 16 * fr := w32_of (by omega) (by omega)
  have e2 : w32 (why + 16 * fr) = why + 16 * fr := w32_of (by omega) (by omega)
  refine b_Scanner_fail_0 ⟨h1, b_Scanner_fail_2_0 ⟨h1, by rw [h2]; exact h3, ?_⟩⟩
  rw [h2, h4, e1, e2]
  intro g
  have e3 : hR g f_Scanner_fault s = fa := h2
  have e4 : hK g fa ≠ 0 := by rw [show hK g fa = hK h fa from rfl, h3]; decide
  rw [e3]
  exact ⟨e4, e4, q⟩
/-- a comment ends -/
theorem c_eol (H : SCN h s x n) : ∀ m p, n - p ≤ m → p ≤ n → wpB PGm ρ (d + 1) m_Scanner_next 7 [(0, vR s), (1, vI (eol (ta (hA h x) n) n p : Nat)), (2, vI 1)] [] h Q → wpB PGm ρ (d + 1) m_Scanner_next 73 [(0, vR s), (1, vI (p : Int)), (2, vI 1)] [] h Q := by
  intro m
  induction m with
  | zero =>
    intro p hp hn q
    rw [eol_n (by omega)] at q
    have := H.2.2.1
    exact b_Scanner_next_73 ⟨fun z => by omega, fun _ => ⟨H.1, fun _ => q, fun z => by omega⟩⟩
  | succ m ih =>
    intro p hp hn q
    have hs := H.2.2.1
    refine b_Scanner_next_73 ⟨fun z => by omega, fun _ => ⟨H.1, fun z => ?_, fun z => c_at H p ⟨fun e10 => ?_, fun n10 => ?_⟩⟩⟩
    · rw [eol_n (by omega)] at q; exact q
    · rw [eol_n (Or.inr e10)] at q; exact q
    · rw [eol_s (by omega) n10] at q
      rw [w32_s (by have := H.2.2.2.2.2; omega)]
      exact ih (p + 1) (by omega) (by omega) q
/-- what stands ahead of a token -/
theorem c_skip (H : SCN h s x n) : ∀ m p, n - p ≤ m → p ≤ n → wpB PGm ρ (d + 1) m_Scanner_next 7 [(0, vR s), (1, vI (skp (ta (hA h x) n) n p : Nat)), (2, vI 0)] [] h Q → wpB PGm ρ (d + 1) m_Scanner_next 11 [(0, vR s), (1, vI (p : Int))] [] h Q := by
  intro m
  induction m with
  | zero =>
    intro p hp hn q
    have hs := H.2.2.1
    rw [skp_n (Or.inl (by omega))] at q
    have e0 : ta (hA h x) n p = 0 := ta_out (by omega)
    refine b_Scanner_next_11 ⟨H.1, fun _ => b_Scanner_next_45 ⟨H.1, c_at H p ⟨fun _ => b_Scanner_next_73 ⟨fun _ => q, fun z => by omega⟩, fun z => by omega⟩⟩, fun z => by omega⟩
  | succ m ih =>
    intro p hp hn q
    have hs := H.2.2.1
    have hb := H.2.2.2.2.2
    have lp : p < n → (ta (hA h x) n p = 32 ∨ ta (hA h x) n p = 10) → wpB PGm ρ (d + 1) m_Scanner_next 11 [(0, vR s), (1, vI (w32 ((p : Int) + 1)))] [] h Q := by
      intro h1 h2
      rw [skp_b h1 h2] at q
      rw [w32_s (by omega)]
      exact ih (p + 1) (by omega) (by omega) q
    have out : (n ≤ p ∨ ¬ (ta (hA h x) n p = 32 ∨ ta (hA h x) n p = 10)) → wpB PGm ρ (d + 1) m_Scanner_next 45 [(0, vR s), (1, vI (p : Int))] [] h Q := by
      intro h1
      have fin : ¬ (ta (hA h x) n p = 47 ∧ ta (hA h x) n (p + 1) = 47) → wpB PGm ρ (d + 1) m_Scanner_next 73 [(0, vR s), (1, vI (p : Int)), (2, vI 0)] [] h Q := by
        intro h2
        rw [skp_n (h1.imp_right fun z => ⟨z, h2⟩)] at q
        exact b_Scanner_next_73 ⟨fun _ => q, fun z => by omega⟩
      refine b_Scanner_next_45 ⟨H.1, c_at H p ⟨fun z => fin (fun y => z y.1), fun e1 => ⟨H.1, ?_⟩⟩⟩
      rw [w32_s (by omega)]
      refine c_at H (p + 1) ⟨fun z => fin (fun y => z y.2), fun e2 => ?_⟩
      have hlt : p < n := Classical.byContradiction fun z => by rw [ta_out (by omega)] at e1; omega
      have hlt2 : p + 1 < n := Classical.byContradiction fun z => by rw [ta_out (by omega)] at e2; omega
      rw [skp_c hlt e1 e2] at q
      have g1 := eol_ge (ta (hA h x) n) n _ (p + 1) (Nat.le_refl _)
      have g2 := eol_le (ta (hA h x) n) n _ (p + 1) (Nat.le_refl _) (by omega)
      refine c_eol H _ p (Nat.le_refl _) (by omega) ?_
      rw [eol_s hlt (by omega)]
      refine b_Scanner_next_7 ⟨fun z => by omega, fun _ => ih _ (by omega) g2 q⟩
    refine b_Scanner_next_11 ⟨H.1, fun z => out (Or.inl (by omega)), fun z => c_at H p ⟨fun e => lp (by omega) (Or.inl e), fun n32 => ⟨H.1, c_at H p ⟨fun n10 => out (Or.inr (by omega)), fun e => lp (by omega) (Or.inr e)⟩⟩⟩⟩
end
