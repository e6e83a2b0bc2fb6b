/-! the code of both -/
set_option maxRecDepth 20000
def goN (Γ : GH) : Nat → Nat → Nat
  | 0, f => f
  | j + 1, f => gou Γ (goN Γ j f)
/-- the next instruction, with so many values more and less, tries more and less -/
def NXT (Γ : GH) (S : SS) (f j p m p2 m2 : Nat) : Prop := ((j + 1 : Nat) : Int) < S f_Md_codeSize f ∧ ghs Γ f (j + 1) + m = ghs Γ f j + p ∧ gtd Γ f (j + 1) + m2 = gtd Γ f j + p2 ∧ gtd Γ f (j + 1) ≤ 50
def JMP (Γ : GH) (S : SS) (f : Nat) (a : Int) (H D : Nat) : Prop := 0 ≤ a ∧ a < S f_Md_codeSize f ∧ ghs Γ f a.toNat = H ∧ gtd Γ f a.toNat = D ∧ gtd Γ f a.toNat ≤ 50
def VAR (Γ : GH) (S : SS) (f : Nat) (a b : Int) : Prop := 0 ≤ a ∧ a ≤ 60 ∧ 0 ≤ b ∧ b < S f_Md_variablesOf (goN Γ a.toNat f) ∧ ∀ j, j ≤ a.toNat → gou Γ (goN Γ j f) ≠ goN Γ j f
/-- how many values a site takes besides -/
def esS (S : SS) (s : Nat) : Nat := if S f_Md_siteKind s = 0 then 0 else if S f_Md_siteKind s = 3 then 2 else if S f_Md_siteKind s < 4 then 1 else (S f_Md_siteMany s).toNat
def bwN (a : Int) : Nat := if a = 3 ∨ a = 4 ∨ a = 5 then 2 else 1
def OPT (Γ : GH) (S : SS) (f j : Nat) (op a b : Int) : Prop := (0 ≤ op ∧ op ≤ 33) ∧
  (op = 0 → NXT Γ S f j 1 0 0 0 ∧ 0 ≤ a ∧ a ≤ 4 ∧ (a = 3 → -2147483648 ≤ b ∧ b < 2147483648) ∧ (a = 4 → 0 ≤ b ∧ b < S f_Md_sourceTexts 0)) ∧
  (op = 1 → NXT Γ S f j 1 0 0 0 ∧ VAR Γ S f a b) ∧ (op = 2 → 1 ≤ ghs Γ f j ∧ NXT Γ S f j 0 0 0 0 ∧ VAR Γ S f a b) ∧
  (op = 3 → NXT Γ S f j 1 0 0 0 ∧ 0 ≤ a ∧ a < S f_Md_names 0) ∧ (op = 4 → 1 ≤ ghs Γ f j ∧ NXT Γ S f j 0 0 0 0 ∧ 0 ≤ a ∧ a < S f_Md_names 0) ∧
  (op = 5 → 1 ≤ ghs Γ f j ∧ NXT Γ S f j 0 1 0 0) ∧ (op = 6 → 1 ≤ ghs Γ f j ∧ NXT Γ S f j 1 0 0 0) ∧
  ((7 ≤ op ∧ op ≤ 11) ∨ (14 ≤ op ∧ op ≤ 19) → 2 ≤ ghs Γ f j ∧ NXT Γ S f j 0 1 0 0) ∧ (op = 12 ∨ op = 13 → 1 ≤ ghs Γ f j ∧ NXT Γ S f j 0 0 0 0) ∧
  (op = 20 → JMP Γ S f a (ghs Γ f j) (gtd Γ f j)) ∧ (op = 21 → 1 ≤ ghs Γ f j ∧ NXT Γ S f j 0 1 0 0 ∧ JMP Γ S f a (ghs Γ f j - 1) (gtd Γ f j)) ∧ (op = 22 ∨ op = 23 → 1 ≤ ghs Γ f j ∧ NXT Γ S f j 0 1 0 0 ∧ JMP Γ S f a (ghs Γ f j) (gtd Γ f j)) ∧
  (op = 24 → NXT Γ S f j 1 0 0 0 ∧ 0 ≤ a ∧ a < S f_Md_functions 0 ∧ gou Γ a.toNat = f ∧ a.toNat ≠ f) ∧ (op = 25 → 0 ≤ a ∧ a ≤ (ghs Γ f j : Int) ∧ NXT Γ S f j 1 a.toNat 0 0) ∧ (op = 26 → NXT Γ S f j 1 0 0 0) ∧
  (op = 27 → 0 ≤ a ∧ a < S f_Md_sites 0 ∧ esS S a.toNat + 1 ≤ ghs Γ f j ∧ NXT Γ S f j 0 (esS S a.toNat) 0 0) ∧ (op = 28 → 0 ≤ a ∧ a ≤ 7 ∧ bwN a ≤ ghs Γ f j ∧ NXT Γ S f j 1 (bwN a) 0 0) ∧
  (op = 29 ∨ op = 30 → 1 ≤ ghs Γ f j) ∧ (op = 31 → ghs Γ f j = 0 ∧ gtd Γ f j < 50 ∧ NXT Γ S f j 0 0 1 0 ∧ JMP Γ S f a 1 (gtd Γ f j)) ∧ (op = 32 → 1 ≤ gtd Γ f j ∧ NXT Γ S f j 0 0 0 1) ∧ (op = 33 → NXT Γ S f j 1 0 0 0)
/-- a function: k its first row, z how many rows it has -/
def FN1 (Γ : GH) (h : ah) (S : SS) (i a : Nat) : Prop := (hK h a = k_Code ∧ a < hz h ∧ a ≠ 0) ∧ hI h f_Code_number a = (i : Int) ∧ hI h f_Code_unit a = S f_Md_unitOf i ∧ hI h f_Code_parameters a = S f_Md_parametersOf i ∧ hI h f_Code_variables a = S f_Md_variablesOf i ∧ hI h f_Code_size a = S f_Md_codeSize i ∧ hI h f_Code_firstSite a = S f_Md_siteFrom i ∧ hI h f_Code_sites a = S f_Md_siteCount i ∧ (0 ≤ S f_Md_parametersOf i ∧ S f_Md_parametersOf i ≤ S f_Md_variablesOf i ∧ S f_Md_variablesOf i ≤ 60) ∧ (gou Γ i ≤ i ∧ (gou Γ i = i → S f_Md_variablesOf i = 0)) ∧
  (hR h f_Code_rows a ≠ 0 ∧ hK h (hR h f_Code_rows a) = 1) ∧ ∃ k z : Nat, S f_Md_codeFrom i = (k : Int) ∧ S f_Md_codeSize i = (z : Int) ∧ 1 ≤ z ∧ k + z ≤ 20000 ∧ 3 * z ≤ hl h (hR h f_Code_rows a) ∧ ghs Γ i 0 = 0 ∧ gtd Γ i 0 = 0 ∧ ∀ j, j < z → hA h (hR h f_Code_rows a) (3 * j) = S f_Md_codeOp (k + j) ∧ hA h (hR h f_Code_rows a) (3 * j + 1) = S f_Md_codeA (k + j) ∧ hA h (hR h f_Code_rows a) (3 * j + 2) = S f_Md_codeB (k + j) ∧ OPT Γ S i j (S f_Md_codeOp (k + j)) (S f_Md_codeA (k + j)) (S f_Md_codeB (k + j))
def FNC (Γ : GH) (h : ah) (C : Nat) (S : SS) : Prop := ∃ fn : Nat, S f_Md_functions 0 = (fn : Int) ∧ fn ≤ 400 ∧ hl h (C + 56) = fn ∧ ∀ i, i < fn → FN1 Γ h S i (hB h (C + 56) i)
/-- the rows that a run leaves as they are -/
def LFN : List Nat := [f_Md_functions, f_Md_unitOf, f_Md_parametersOf, f_Md_variablesOf, f_Md_codeFrom, f_Md_codeSize, f_Md_siteFrom, f_Md_siteCount, f_Md_codeOp, f_Md_codeA, f_Md_codeB, f_Md_siteKind, f_Md_siteMany, f_Md_sites, f_Md_sourceTexts]
section
variable {Γ Γ' : GH} {h h' : ah} {C : Nat} {X X' : X3} {Y Y' : Y3} {S S' : SS} {N t o n c r f i j k m : Nat} {op a b ty v x y : Int}
/-- what is at hand in the top call -/
theorem CT.top (H : CT Γ h C X Y S N t o n c r) (hc : 1 ≤ c) (K : FNC Γ h C S) : ∃ k : Nat, fsS S t (c - 1) < 400 ∧ k + psS S t (c - 1) < 20000 ∧ S f_Md_codeFrom (fsS S t (c - 1)) = (k : Int) ∧ (n = bsS S t (c - 1) + ghs Γ (fsS S t (c - 1)) (psS S t (c - 1)) ∧ r = qsS S t (c - 1) + gtd Γ (fsS S t (c - 1)) (psS S t (c - 1))) ∧ FR1 Γ h C X Y S N o t (c - 1) ∧ FN1 Γ h S (fsS S t (c - 1)) (hB h (C + 56) (fsS S t (c - 1))) ∧ OPT Γ S (fsS S t (c - 1)) (psS S t (c - 1)) (S f_Md_codeOp (k + psS S t (c - 1))) (S f_Md_codeA (k + psS S t (c - 1))) (S f_Md_codeB (k + psS S t (c - 1))) ∧
    (hK h (hR h f_Code_rows (hB h (C + 56) (fsS S t (c - 1)))) = 1 ∧ 3 * psS S t (c - 1) + 2 < hl h (hR h f_Code_rows (hB h (C + 56) (fsS S t (c - 1)))) ∧ hA h (hR h f_Code_rows (hB h (C + 56) (fsS S t (c - 1)))) (3 * psS S t (c - 1)) = S f_Md_codeOp (k + psS S t (c - 1)) ∧ hA h (hR h f_Code_rows (hB h (C + 56) (fsS S t (c - 1)))) (3 * psS S t (c - 1) + 1) = S f_Md_codeA (k + psS S t (c - 1)) ∧ hA h (hR h f_Code_rows (hB h (C + 56) (fsS S t (c - 1)))) (3 * psS S t (c - 1) + 2) = S f_Md_codeB (k + psS S t (c - 1))) := by
  obtain ⟨a0, -, -, ⟨c1, c2, c3⟩, -, -, e6, ⟨g1, g2, g3⟩, -⟩ := H
  obtain ⟨fn, k1, k2, k3, k4⟩ := K
  have F := e6 (c - 1) (by omega)
  have fl : fsS S t (c - 1) < fn := by have := F.1.2.1; omega
  have F1 := k4 _ fl
  obtain ⟨-, -, -, -, -, -, -, -, -, -, ⟨-, j0⟩, k, z, j1, j2, j3, j4, j5, j6, j7, j8⟩ := F1
  have pl : psS S t (c - 1) < z := by have := F.2.1.2.2; omega
  obtain ⟨q1, q2, q3, q4⟩ := j8 _ pl
  refine ⟨k, by omega, by omega, j1, ?_, F, k4 _ fl, q4, j0, by omega, q1, q2, q3⟩
  obtain ⟨s1, s2, s3⟩ := g1 (c - 1) (by omega)
  rw [if_pos (by omega)] at s1 s2
  exact ⟨s1, s2⟩
end
