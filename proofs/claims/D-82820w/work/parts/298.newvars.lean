/-! C: variables of a new call -/
set_option maxRecDepth 20000
/-- new variables at a = hz H0, j of them given -/
def NV (H0 H : ah) (ar nv j : Nat) (tg wd : Nat → Int) : Prop := Fr [] [] 3 (3 + nv + nv) H0 H ∧ hz H = hz H0 + 3 ∧ hK H (hz H0) = k_Variables ∧ hR H f_Variables_around (hz H0) = ar ∧ hR H f_Variables_words (hz H0) = hz H0 + 1 ∧ hR H f_Variables_tags (hz H0) = hz H0 + 2 ∧ (hK H (hz H0 + 1) = 2 ∧ hK H (hz H0 + 2) = 3 ∧ hl H (hz H0 + 1) = nv ∧ hl H (hz H0 + 2) = nv) ∧ (∀ i, hA H (hz H0 + 1) i = if i < j then wd i else 0) ∧ (∀ i, hA H (hz H0 + 2) i = if i < j then tg i else 0)
section
variable {ρ : Nat → Nat} {d : Nat} {Q : QT} {H0 H : ah} {k n sl x y w ar nv j : Nat} {num : Int} {tg wd : Nat → Int}
theorem nv_init (ij : INJ H0) (hd : 10 ≤ d) (hn' : nv ≤ 60000) (q : ∀ H, NV H0 H ar nv 0 tg wd → Q (Sum.inl none) H) : wpB PGm ρ d m_Variables_init 0 [(0, vR (hz H0)), (1, vR ar), (2, vI (nv : Int))] [] (hn H0 k_Variables 3 0) Q := by
  have b1 : (0 ≤ (nv : Int) ∧ (nv : Int) ≤ 67108864) := by omega
  refine b_Variables_init_0 hd ⟨?_, ?_, b1, ?_, b1, ?_, ?_⟩
  · show (if hz H0 = hz H0 then k_Variables else _) ≠ 0
    rw [if_pos rfl]; decide
  · show (if hz H0 = hz H0 then k_Variables else _) = _
    rw [if_pos rfl]
  · show (if hz H0 = hz H0 + 1 then 2 else if hz H0 = hz H0 then k_Variables else _) = _
    rw [if_neg (by omega), if_pos rfl]
  · show (if hz H0 = hz H0 + 1 + 1 then 3 else if hz H0 = hz H0 + 1 then 2 else if hz H0 = hz H0 then k_Variables else _) = _
    rw [if_neg (by omega), if_neg (by omega), if_pos rfl]
  · rw [Int.toNat_natCast]
    have f1 : Fr [] [] 1 3 H0 (hn H0 k_Variables 3 0) := (Fr.r0.new (k := k_Variables) (n := 3) (m := 0)).le (by omega) (by omega)
    have f2 : Fr [] [] 1 3 H0 (sR (hn H0 k_Variables 3 0) f_Variables_around (hz H0) ar) := Fr.nR (Nat.le_refl _) (by unfold own; decide) f1
    have f3 : Fr [] [] (1 + 1) (3 + nv) H0 (hn (sR (hn H0 k_Variables 3 0) f_Variables_around (hz H0) ar) 2 nv nv) := f2.new
    have f4 : Fr [] [] (1 + 1) (3 + nv) H0 (sR (hn (sR (hn H0 k_Variables 3 0) f_Variables_around (hz H0) ar) 2 nv nv) f_Variables_words (hz H0) (hz (sR (hn H0 k_Variables 3 0) f_Variables_around (hz H0) ar))) := by
      refine f3.wO (Or.inr (Nat.le_refl _)) ?_ ?_ ?_
      · show hz H0 ≤ hz H0 + 1; omega
      · show hz H0 + 1 < hz H0 + 1 + 1; omega
      · exact INJ.new (h := sR (hn H0 k_Variables 3 0) f_Variables_around (hz H0) ar) (f2.inj ij)
    have f5 : Fr [] [] (1 + 1 + 1) (3 + nv + nv) H0 (hn (sR (hn (sR (hn H0 k_Variables 3 0) f_Variables_around (hz H0) ar) 2 nv nv) f_Variables_words (hz H0) (hz (sR (hn H0 k_Variables 3 0) f_Variables_around (hz H0) ar))) 3 nv nv) := f4.new
    have f6 := f5.wO (f := f_Variables_tags) (x := hz H0) (v := hz (sR (hn (sR (hn H0 k_Variables 3 0) f_Variables_around (hz H0) ar) 2 nv nv) f_Variables_words (hz H0) (hz (sR (hn H0 k_Variables 3 0) f_Variables_around (hz H0) ar)))) (Or.inr (Nat.le_refl _)) (by show hz H0 ≤ hz H0 + 1 + 1; omega) (by show hz H0 + 1 + 1 < hz H0 + 1 + 1 + 1; omega) (INJ.new (h := sR (hn (sR (hn H0 k_Variables 3 0) f_Variables_around (hz H0) ar) 2 nv nv) f_Variables_words (hz H0) (hz (sR (hn H0 k_Variables 3 0) f_Variables_around (hz H0) ar))) (f4.inj ij))
    refine q _ ⟨f6.le (by omega) (by omega), rfl, ?_, ?_, ?_, ?_, ⟨?_, ?_, ?_, ?_⟩, fun i => ?_, fun i => ?_⟩
    · show (if hz H0 = hz H0 + 1 + 1 then 3 else if hz H0 = hz H0 + 1 then 2 else if hz H0 = hz H0 then k_Variables else _) = k_Variables
      rw [if_neg (by omega), if_neg (by omega), if_pos rfl]
    · show (if f_Variables_around = f_Variables_tags ∧ hz H0 = hz H0 then hz H0 + 1 + 1 else if hz H0 = hz H0 + 1 + 1 then 0 else if f_Variables_around = f_Variables_words ∧ hz H0 = hz H0 then hz H0 + 1 else if hz H0 = hz H0 + 1 then 0 else if f_Variables_around = f_Variables_around ∧ hz H0 = hz H0 then ar else _) = _
      rw [if_neg (fun c => absurd c.1 (by decide)), if_neg (by omega), if_neg (fun c => absurd c.1 (by decide)), if_neg (by omega), if_pos ⟨rfl, rfl⟩]
    · show (if f_Variables_words = f_Variables_tags ∧ hz H0 = hz H0 then hz H0 + 1 + 1 else if hz H0 = hz H0 + 1 + 1 then 0 else if f_Variables_words = f_Variables_words ∧ hz H0 = hz H0 then hz H0 + 1 else _) = _
      rw [if_neg (fun c => absurd c.1 (by decide)), if_neg (by omega), if_pos ⟨rfl, rfl⟩]
    · show (if f_Variables_tags = f_Variables_tags ∧ hz H0 = hz H0 then hz H0 + 1 + 1 else _) = _
      rw [if_pos ⟨rfl, rfl⟩]
    · show (if hz H0 + 1 = hz H0 + 1 + 1 then 3 else if hz H0 + 1 = hz H0 + 1 then 2 else _) = 2
      rw [if_neg (by omega), if_pos rfl]
    · show (if hz H0 + 2 = hz H0 + 1 + 1 then 3 else _) = 3
      rw [if_pos (by omega)]
    · show (if hz H0 + 1 = hz H0 + 1 + 1 then nv else if hz H0 + 1 = hz H0 + 1 then nv else _) = nv
      rw [if_neg (by omega), if_pos rfl]
    · show (if hz H0 + 2 = hz H0 + 1 + 1 then nv else _) = nv
      rw [if_pos (by omega)]
    · show (if hz H0 + 1 = hz H0 + 1 + 1 then 0 else if hz H0 + 1 = hz H0 + 1 then 0 else _) = _
      rw [if_neg (by omega), if_pos rfl, if_neg (by omega)]
    · show (if hz H0 + 2 = hz H0 + 1 + 1 then 0 else _) = _
      rw [if_pos (by omega), if_neg (by omega)]
/-- a variable is given -/
theorem NV.put (A : NV H0 H ar nv j tg wd) : NV H0 (sA (sA H (hz H0 + 2) j (tg j)) (hz H0 + 1) j (wd j)) ar nv (j + 1) tg wd := by
  obtain ⟨a1, a2, a3, a4, a5, a6, a7, a8, a9⟩ := A
  refine ⟨Fr.wA (Or.inl (by omega)) (Fr.wA (Or.inl (by omega)) a1), a2, a3, a4, a5, a6, a7, fun i => ?_, fun i => ?_⟩
  · by_cases q : i = j
    · subst q
      rw [A_A, if_pos (by omega)]
    · rw [A_Ane' q, A_Ane (by omega), a8 i]
      by_cases w : i < j
      · rw [if_pos w, if_pos (by omega)]
      · rw [if_neg w, if_neg (by omega)]
  · rw [A_Ane (by omega)]
    by_cases q : i = j
    · subst q
      rw [A_A, if_pos (by omega)]
    · rw [A_Ane' q, a9 i]
      by_cases w : i < j
      · rw [if_pos w, if_pos (by omega)]
      · rw [if_neg w, if_neg (by omega)]
end
