/-! C: a thing is made -/
set_option maxRecDepth 20000
/-- a new thing at a = hz H0, with room for n -/
def NT (H0 H : ah) (k : Nat) (num : Int) (n : Nat) : Prop := Fr [] [] 3 (20 + n + n) H0 H ∧ hz H = hz H0 + 3 ∧ (INJ H0 → INJ H) ∧ hK H (hz H0) = k ∧ hI H f_Thing_number (hz H0) = num ∧ hI H f_Thing_size (hz H0) = 0 ∧ hR H f_Thing_words (hz H0) = hz H0 + 1 ∧ hR H f_Thing_tags (hz H0) = hz H0 + 2 ∧ hK H (hz H0 + 1) = 2 ∧ hK H (hz H0 + 2) = 3 ∧ hl H (hz H0 + 1) = n ∧ hl H (hz H0 + 2) = n ∧ hI H f_Obj_epoch (hz H0) = 0 ∧ hI H f_Obj_changedAt (hz H0) = 0 ∧ hR H f_Obj_root (hz H0) = 0
section
variable {ρ : Nat → Nat} {d : Nat} {Q : QT} {H0 H : ah} {k n sl x y w : Nat} {num : Int}
theorem nt_init (ij : INJ H0) (hk : k ∈ [244, 245, 246, 249]) (hsl : sl ≤ 20) (hd : 10 ≤ d) (hn' : n ≤ 60000) (q : ∀ H, NT H0 H k num n → Q (Sum.inl none) H) : wpB PGm ρ d m_Thing_init 0 [(0, vR (hz H0)), (1, vI num), (2, vI (n : Int))] [] (hn H0 k sl 0) Q := by
  have k0 : k ≠ 0 := by rintro rfl; revert hk; decide
  have b1 : (0 ≤ (n : Int) ∧ (n : Int) ≤ 67108864) := by omega
  have zz : ∀ {hh : ah} {a b c : Nat}, hz (hn hh a b c) = hz hh + 1 := rfl
  refine b_Thing_init_0 hd ⟨?_, ?_, b1, ?_, b1, ?_, ?_⟩
  · show (if hz H0 = hz H0 then k else _) ≠ 0
    rw [if_pos rfl]; exact k0
  · show (if hz H0 = hz H0 then k else _) ∈ _
    rw [if_pos rfl]; exact hk
  · show (if hz H0 = hz H0 + 1 then 2 else if hz H0 = hz H0 then k else _) ∈ _
    rw [if_neg (by omega), if_pos rfl]; exact hk
  · show (if hz H0 = hz H0 + 1 + 1 then 3 else if hz H0 = hz H0 + 1 then 2 else if hz H0 = hz H0 then k else _) ∈ _
    rw [if_neg (by omega), if_neg (by omega), if_pos rfl]; exact hk
  · rw [Int.toNat_natCast]
    have f1 : Fr [] [] 1 sl H0 (hn H0 k sl 0) := (Fr.r0.new (k := k) (n := sl) (m := 0)).le (by omega) (by omega)
    have f2 : Fr [] [] 1 sl H0 (sI (hn H0 k sl 0) f_Thing_number (hz H0) num) := Fr.nI (Nat.le_refl _) f1
    have f3 : Fr [] [] (1 + 1) (sl + n) H0 (hn (sI (hn H0 k sl 0) f_Thing_number (hz H0) num) 2 n n) := f2.new
    have f4 : Fr [] [] (1 + 1) (sl + n) H0 (sR (hn (sI (hn H0 k sl 0) f_Thing_number (hz H0) num) 2 n n) f_Thing_words (hz H0) (hz (sI (hn H0 k sl 0) f_Thing_number (hz H0) num))) := by
      refine f3.wO (Or.inr (Nat.le_refl _)) ?_ ?_ ?_
      · show hz H0 ≤ hz H0 + 1; omega
      · show hz H0 + 1 < hz H0 + 1 + 1; omega
      · exact INJ.new (h := sI (hn H0 k sl 0) f_Thing_number (hz H0) num) (f2.inj ij)
    have f5 : Fr [] [] (1 + 1 + 1) (sl + n + n) H0 (hn (sR (hn (sI (hn H0 k sl 0) f_Thing_number (hz H0) num) 2 n n) f_Thing_words (hz H0) (hz (sI (hn H0 k sl 0) f_Thing_number (hz H0) num))) 3 n n) := f4.new
    have f6 := f5.wO (f := f_Thing_tags) (x := hz H0) (v := hz (sR (hn (sI (hn H0 k sl 0) f_Thing_number (hz H0) num) 2 n n) f_Thing_words (hz H0) (hz (sI (hn H0 k sl 0) f_Thing_number (hz H0) num)))) (Or.inr (Nat.le_refl _)) (by show hz H0 ≤ hz H0 + 1 + 1; omega) (by show hz H0 + 1 + 1 < hz H0 + 1 + 1 + 1; omega) (INJ.new (h := sR (hn (sI (hn H0 k sl 0) f_Thing_number (hz H0) num) 2 n n) f_Thing_words (hz H0) (hz (sI (hn H0 k sl 0) f_Thing_number (hz H0) num))) (f4.inj ij))
    refine q _ ⟨f6.le (by omega) (by omega), rfl, fun _ => f6.inj ij, ?_, ?_, ?_, ?_, ?_, ?_, ?_, ?_, ?_, ?_, ?_, ?_⟩
    · show (if hz H0 = hz H0 + 1 + 1 then 3 else if hz H0 = hz H0 + 1 then 2 else if hz H0 = hz H0 then k else _) = k
      rw [if_neg (by omega), if_neg (by omega), if_pos rfl]
    · show (if hz H0 = hz H0 + 1 + 1 then 0 else if hz H0 = hz H0 + 1 then 0 else if f_Thing_number = f_Thing_number ∧ hz H0 = hz H0 then num else _) = num
      rw [if_neg (by omega), if_neg (by omega), if_pos ⟨rfl, rfl⟩]
    · show (if hz H0 = hz H0 + 1 + 1 then 0 else if hz H0 = hz H0 + 1 then 0 else if f_Thing_size = f_Thing_number ∧ hz H0 = hz H0 then num else if hz H0 = hz H0 then 0 else _) = 0
      rw [if_neg (by omega), if_neg (by omega), if_neg (fun c => absurd c.1 (by decide)), if_pos rfl]
    · show (if f_Thing_words = f_Thing_tags ∧ hz H0 = hz H0 then hz H0 + 1 + 1 else if hz H0 = hz H0 + 1 + 1 then 0 else if f_Thing_words = f_Thing_words ∧ hz H0 = hz H0 then hz H0 + 1 else _) = _
      rw [if_neg (fun c => absurd c.1 (by decide)), if_neg (by omega), if_pos ⟨rfl, rfl⟩]
    · show (if f_Thing_tags = f_Thing_tags ∧ hz H0 = hz H0 then hz H0 + 1 + 1 else _) = _
      rw [if_pos ⟨rfl, rfl⟩]
    · show (if hz H0 + 1 = hz H0 + 1 + 1 then 3 else if hz H0 + 1 = hz H0 + 1 then 2 else _) = 2
      rw [if_neg (by omega), if_pos rfl]
    · show (if hz H0 + 2 = hz H0 + 1 + 1 then 3 else _) = 3
      rw [if_pos (by omega)]
    · show (if hz H0 + 1 = hz H0 + 1 + 1 then n else if hz H0 + 1 = hz H0 + 1 then n else _) = n
      rw [if_neg (by omega), if_pos rfl]
    · show (if hz H0 + 2 = hz H0 + 1 + 1 then n else _) = n
      rw [if_pos (by omega)]
    · show (if hz H0 = hz H0 + 1 + 1 then 0 else if hz H0 = hz H0 + 1 then 0 else if f_Obj_epoch = f_Thing_number ∧ hz H0 = hz H0 then num else if hz H0 = hz H0 then 0 else _) = 0
      rw [if_neg (by omega), if_neg (by omega), if_neg (fun c => absurd c.1 (by decide)), if_pos rfl]
    · show (if hz H0 = hz H0 + 1 + 1 then 0 else if hz H0 = hz H0 + 1 then 0 else if f_Obj_changedAt = f_Thing_number ∧ hz H0 = hz H0 then num else if hz H0 = hz H0 then 0 else _) = 0
      rw [if_neg (by omega), if_neg (by omega), if_neg (fun c => absurd c.1 (by decide)), if_pos rfl]
    · show (if f_Obj_root = f_Thing_tags ∧ hz H0 = hz H0 then hz H0 + 1 + 1 else if hz H0 = hz H0 + 1 + 1 then 0 else if f_Obj_root = f_Thing_words ∧ hz H0 = hz H0 then hz H0 + 1 else if hz H0 = hz H0 + 1 then 0 else if hz H0 = hz H0 then 0 else _) = 0
      rw [if_neg (fun c => absurd c.1 (by decide)), if_neg (by omega), if_neg (fun c => absurd c.1 (by decide)), if_neg (by omega), if_pos rfl]
/-- a new object -/
def NTO (H0 H : ah) (k : Nat) (num : Int) (sh : Nat) : Prop := ∃ H1, NT H0 H1 k num 0 ∧ H = sR (sI H1 f_Obj_epoch (hz H0) (-1)) f_Obj_shape (hz H0) sh
theorem nto_init (ij : INJ H0) (hk : k ∈ [244, 245]) (hsl : sl ≤ 20) (hd : 10 ≤ d) (q : ∀ H, NTO H0 H k num x → Q (Sum.inl none) H) : wpB PGm ρ (d + 1) m_Obj_init 0 [(0, vR (hz H0)), (1, vI num), (2, vR x)] [] (hn H0 k sl 0) Q := by
  have hk4 : k ∈ [244, 245, 246, 249] := by
    have : k = 244 ∨ k = 245 := by simpa using hk
    rcases this with rfl | rfl <;> decide
  have k0 : k ≠ 0 := by rintro rfl; revert hk; decide
  refine b_Obj_init_0 ⟨?_, nt_init (n := 0) ij hk4 hsl hd (by omega) (fun H1 N1 => ⟨?_, q _ ⟨H1, N1, rfl⟩⟩)⟩
  · show (if hz H0 = hz H0 then k else _) ≠ 0
    rw [if_pos rfl]; exact k0
  · rw [N1.2.2.2.1]; exact hk
theorem NTO.f (N1 : NTO H0 H k num x) : Fr [] [] 3 20 H0 H := by
  obtain ⟨H1, a, rfl⟩ := N1
  exact Fr.nR (Nat.le_refl _) (by unfold own; decide) (Fr.nI (Nat.le_refl _) a.1)
theorem NTO.g (N1 : NTO H0 H k num x) : hz H = hz H0 + 3 ∧ hK H (hz H0) = k ∧ hI H f_Thing_number (hz H0) = num ∧ hI H f_Thing_size (hz H0) = 0 ∧ hR H f_Thing_words (hz H0) = hz H0 + 1 ∧ hR H f_Thing_tags (hz H0) = hz H0 + 2 ∧ hK H (hz H0 + 1) = 2 ∧ hK H (hz H0 + 2) = 3 ∧ hl H (hz H0 + 1) = 0 ∧ hl H (hz H0 + 2) = 0 ∧ hI H f_Obj_epoch (hz H0) = -1 ∧ hI H f_Obj_changedAt (hz H0) = 0 ∧ hR H f_Obj_root (hz H0) = 0 ∧ hR H f_Obj_shape (hz H0) = x := by
  obtain ⟨H1, ⟨-, a1, -, a2, a3, a4, a5, a6, a7, a8, a9, a10, a11, a12, a13⟩, rfl⟩ := N1
  refine ⟨a1, a2, ?_, ?_, ?_, ?_, a7, a8, a9, a10, ?_, ?_, ?_, ?_⟩
  · show hI (sI H1 f_Obj_epoch (hz H0) (-1)) f_Thing_number (hz H0) = num
    rw [I_Ine (by decide)]; exact a3
  · show hI (sI H1 f_Obj_epoch (hz H0) (-1)) f_Thing_size (hz H0) = 0
    rw [I_Ine (by decide)]; exact a4
  · rw [R_Rne (by decide)]; exact a5
  · rw [R_Rne (by decide)]; exact a6
  · show hI (sI H1 f_Obj_epoch (hz H0) (-1)) f_Obj_epoch (hz H0) = -1
    rw [I_I]
  · show hI (sI H1 f_Obj_epoch (hz H0) (-1)) f_Obj_changedAt (hz H0) = 0
    rw [I_Ine (by decide)]; exact a12
  · rw [R_Rne (by decide)]; exact a13
  · rw [R_R]
end
