/-! an object with a root, by both: C's object -/
set_option maxRecDepth 20000
def objB (h : ah) (a : Nat) (num : Int) (x : Nat) : ah := sR (sI (sR (hn (sR (hn (sI h f_Thing_number a num) 2 0 0) f_Thing_words a (hz h)) 3 0 0) f_Thing_tags a (hz h + 1)) f_Obj_epoch a (-1)) f_Obj_shape a x
def PO (a : Nat) : List (Nat × Nat) := [(f_Thing_number, a), (f_Thing_words, a), (f_Thing_tags, a), (f_Obj_epoch, a), (f_Obj_shape, a)]
section
variable {ρ : Nat → Nat} {d : Nat} {Q : QT} {h h1 h' H : ah} {C k n m o c x y z s f i j a sn sm tn : Nat} {X X' : X3} {Y : Y3} {L : List Nat} {P : List (Nat × Nat)} {v w num : Int}
theorem objB_f (ij : INJ h) (ha : a < hz h) : Fr [] (PO a) 2 0 h (objB h a num x) ∧ hz (objB h a num x) = hz h + 2 ∧ hs (objB h a num x) = hs h := by
  refine ⟨?_, rfl, rfl⟩
  have f1 : Fr [] (PO a) 0 0 h (sI h f_Thing_number a num) := Fr.wI (by decide) (Or.inr (by unfold PO; simp)) Fr.r0
  have f2 : Fr [] (PO a) (0 + 1) (0 + 0) h (hn (sI h f_Thing_number a num) 2 0 0) := f1.new
  have f3 : Fr [] (PO a) (0 + 1) (0 + 0) h (sR (hn (sI h f_Thing_number a num) 2 0 0) f_Thing_words a (hz h)) := by
    refine f2.wO (Or.inl (Or.inr (by unfold PO; simp))) (Nat.le_refl _) ?_ ?_
    · show hz h < hz h + 1; omega
    · exact INJ.new (h := sI h f_Thing_number a num) (f1.inj ij)
  have f4 : Fr [] (PO a) (0 + 1 + 1) (0 + 0 + 0) h (hn (sR (hn (sI h f_Thing_number a num) 2 0 0) f_Thing_words a (hz h)) 3 0 0) := f3.new
  have f5 : Fr [] (PO a) (0 + 1 + 1) (0 + 0 + 0) h (sR (hn (sR (hn (sI h f_Thing_number a num) 2 0 0) f_Thing_words a (hz h)) 3 0 0) f_Thing_tags a (hz h + 1)) := by
    refine f4.wO (Or.inl (Or.inr (by unfold PO; simp))) (by omega) ?_ ?_
    · show hz h + 1 < hz h + 1 + 1; omega
    · exact INJ.new (h := sR (hn (sI h f_Thing_number a num) 2 0 0) f_Thing_words a (hz h)) (f3.inj ij)
  exact (Fr.wR (Or.inr (by unfold PO; simp)) (by unfold own; decide) (Fr.wI (by decide) (Or.inr (by unfold PO; simp)) f5)).le (by omega) (by omega)
theorem objB_g (ha : a < hz h) : hI (objB h a num x) f_Thing_number a = num ∧ hI (objB h a num x) f_Obj_epoch a = -1 ∧ hR (objB h a num x) f_Obj_shape a = x ∧ hR (objB h a num x) f_Thing_words a = hz h ∧ hR (objB h a num x) f_Thing_tags a = hz h + 1 ∧ hK (objB h a num x) (hz h) = 2 ∧ hK (objB h a num x) (hz h + 1) = 3 ∧ hl (objB h a num x) (hz h) = 0 ∧ hl (objB h a num x) (hz h + 1) = 0 := by
  have na : a ≠ hz h := by omega
  have na1 : a ≠ hz h + 1 := by omega
  refine ⟨?_, ?_, ?_, ?_, ?_, ?_, ?_, ?_, ?_⟩
  · show (if f_Thing_number = f_Obj_epoch ∧ a = a then (-1 : Int) else if a = hz h + 1 then 0 else if a = hz h then 0 else if f_Thing_number = f_Thing_number ∧ a = a then num else _) = num
    rw [if_neg (fun c => absurd c.1 (by decide)), if_neg na1, if_neg na, if_pos ⟨rfl, rfl⟩]
  · show (if f_Obj_epoch = f_Obj_epoch ∧ a = a then (-1 : Int) else _) = -1
    rw [if_pos ⟨rfl, rfl⟩]
  · unfold objB; rw [R_R]
  · unfold objB
    rw [R_Rne (by decide)]
    show (if f_Thing_words = f_Thing_tags ∧ a = a then hz h + 1 else if a = hz h + 1 then 0 else if f_Thing_words = f_Thing_words ∧ a = a then hz h else _) = hz h
    rw [if_neg (fun c => absurd c.1 (by decide)), if_neg na1, if_pos ⟨rfl, rfl⟩]
  · unfold objB
    rw [R_Rne (by decide)]
    show (if f_Thing_tags = f_Thing_tags ∧ a = a then hz h + 1 else _) = hz h + 1
    rw [if_pos ⟨rfl, rfl⟩]
  · show (if hz h = hz h + 1 then 3 else if hz h = hz h then 2 else _) = 2
    rw [if_neg (by omega), if_pos rfl]
  · show (if hz h + 1 = hz h + 1 then 3 else _) = 3
    rw [if_pos rfl]
  · show (if hz h = hz h + 1 then 0 else if hz h = hz h then 0 else _) = 0
    rw [if_neg (by omega), if_pos rfl]
  · show (if hz h + 1 = hz h + 1 then 0 else _) = 0
    rw [if_pos rfl]
theorem nto_a (G : AC h C) (hd : 10 ≤ d) (ha : a < hz h) (hk : hK h a ∈ [244, 245]) (q : Q (Sum.inl none) (cc (objB h a num x) C X Y)) : wpB PGm ρ (d + 1) m_Obj_init 0 [(0, vR a), (1, vI num), (2, vR x)] [] (cc h C X Y) Q := by
  have hk4 : hK h a ∈ [244, 245, 246, 249] := by
    have : hK h a = 244 ∨ hK h a = 245 := by simpa using hk
    rcases this with e | e <;> rw [e] <;> decide
  have k0 : hK h a ≠ 0 := fun c => by rw [c] at hk; revert hk; decide
  have na : a ≠ hz h := by omega
  have na1 : a ≠ hz h + 1 := by omega
  have f1 : Fr [] (PO a) 0 0 h (sI h f_Thing_number a num) := Fr.wI (by decide) (Or.inr (by unfold PO; simp)) Fr.r0
  have f3 : Fr [] (PO a) (0 + 1) (0 + 0) h (sR (hn (sI h f_Thing_number a num) 2 0 0) f_Thing_words a (hz h)) := by
    refine (f1.new (k := 2) (n := 0) (m := 0)).wO (Or.inl (Or.inr (by unfold PO; simp))) (Nat.le_refl _) ?_ ?_
    · show hz h < hz h + 1; omega
    · exact INJ.new (h := sI h f_Thing_number a num) (f1.inj G.2.1)
  have G1 : AC (sI h f_Thing_number a num) C := G.frm f1 (by unfold DJ; rfl)
  have G3 : AC (sR (hn (sI h f_Thing_number a num) 2 0 0) f_Thing_words a (hz h)) C := G.frm f3 (by unfold DJ; rfl)
  have e1 : sI (cc h C X Y) f_Thing_number a num = cc (sI h f_Thing_number a num) C X Y := cc_sIo (by decide)
  have e2 : hn (cc (sI h f_Thing_number a num) C X Y) 2 0 0 = cc (hn (sI h f_Thing_number a num) 2 0 0) C X Y := cc_hn G1
  have e3 : sR (cc (hn (sI h f_Thing_number a num) 2 0 0) C X Y) f_Thing_words a (hz h) = cc (sR (hn (sI h f_Thing_number a num) 2 0 0) f_Thing_words a (hz h)) C X Y := cc_sRo (by decide)
  have e4 : hn (cc (sR (hn (sI h f_Thing_number a num) 2 0 0) f_Thing_words a (hz h)) C X Y) 3 0 0 = cc (hn (sR (hn (sI h f_Thing_number a num) 2 0 0) f_Thing_words a (hz h)) 3 0 0) C X Y := cc_hn G3
  have e5 : sR (cc (hn (sR (hn (sI h f_Thing_number a num) 2 0 0) f_Thing_words a (hz h)) 3 0 0) C X Y) f_Thing_tags a (hz h + 1) = cc (sR (hn (sR (hn (sI h f_Thing_number a num) 2 0 0) f_Thing_words a (hz h)) 3 0 0) f_Thing_tags a (hz h + 1)) C X Y := cc_sRo (by decide)
  have e6 : ∀ H, sI (cc H C X Y) f_Obj_epoch a (-1) = cc (sI H f_Obj_epoch a (-1)) C X Y := fun H => cc_sIo (by decide)
  have e7 : ∀ H, sR (cc H C X Y) f_Obj_shape a x = cc (sR H f_Obj_shape a x) C X Y := fun H => cc_sRo (by decide)
  have kk2 : hK (hn (sI h f_Thing_number a num) 2 0 0) a = hK h a := if_neg na
  have kk3 : hK (hn (sR (hn (sI h f_Thing_number a num) 2 0 0) f_Thing_words a (hz h)) 3 0 0) a = hK h a := (if_neg na1).trans (if_neg na)
  have z1 : hz (cc (sI h f_Thing_number a num) C X Y) = hz h := rfl
  have z3 : hz (cc (sR (hn (sI h f_Thing_number a num) 2 0 0) f_Thing_words a (hz h)) C X Y) = hz h + 1 := rfl
  have tn0 : (0 : Int).toNat = 0 := rfl
  refine b_Obj_init_0 ⟨k0, b_Thing_init_0 hd ⟨k0, hk4, ?_⟩⟩
  show (0 ≤ (0 : Int) ∧ (0 : Int) ≤ 67108864) ∧ _
  simp only [tn0, e1, e2, z1, e3, z3, e4, e5]
  refine ⟨by decide, by rw [ccK, kk2]; exact hk4, by decide, by rw [ccK, kk3]; exact hk4, ?_⟩
  show hK (cc (sR (hn (sR (hn (sI h f_Thing_number a num) 2 0 0) f_Thing_words a (hz h)) 3 0 0) f_Thing_tags a (hz h + 1)) C X Y) a ∈ [244, 245] ∧ _
  refine ⟨by rw [ccK]; show hK (hn (sR (hn (sI h f_Thing_number a num) 2 0 0) f_Thing_words a (hz h)) 3 0 0) a ∈ _; rw [kk3]; exact hk, ?_⟩
  rw [e6, e7]
  exact q
/-- only new cells -/
theorem CORE.al {Γ : GH} {ho N : Nat} {S : SS} (H : CORE Γ h C ho X Y S N) (fr : Fr [] [] z s h h') : (CORE Γ h' C ho X Y S N ∧ ∀ {t o n c r : Nat}, CT Γ h C X Y S N t o n c r → CT Γ h' C X Y S N t o n c r) ∧ GRO Γ Γ h h' C S S ∧ BND h C S h' S z s := by
  have H0 := H
  obtain ⟨⟨G, F⟩, -, -, -, q2, q3, q4, q5, q6, q7, q8⟩ := H0
  have g : GRO Γ Γ h h' C S S := GRO.fr EXS.rf G F fr (by unfold DJ; decide) (by simp)
  exact ⟨H.mv (S' := S) (X' := X) fr g EXS.rf EXX.rf (by simp) (by unfold DJ; decide) (by unfold DJ; decide) (by unfold DJ; decide) (by unfold DJ; decide) EXS.rf (Int.le_refl _) (q2.ext g EXS.rf EXX.rf (ac_len G fr (by decide) (by unfold DJ; decide)) (ac_len G fr (by decide) (by unfold DJ; decide)) (ac_len G fr (by decide) (by unfold DJ; decide))) (q3.ext (C := C) G.2.1 g EXS.rf fr (by unfold DJ; decide) (by unfold DJ; decide) (by simp)) (q4.ext g EXS.rf EXX.rf (ac_len G fr (by decide) (by unfold DJ; decide)) (ac_len G fr (by decide) (by unfold DJ; decide)) (ac_len G fr (by decide) (by unfold DJ; decide))) (q5.ext EXS.rf EXX.rf (ac_len G fr (by decide) (by unfold DJ; decide)) (ac_len G fr (by decide) (by unfold DJ; decide)) (ac_len G fr (by decide) (by unfold DJ; decide))) q6 (q7.ext G F g EXS.rf fr (by unfold DJ; decide) (by unfold DJ; decide) (by simp) (fun i _ => q8.eq G.2.1 fr (by unfold DJ; decide) (by simp) i)) (by unfold DJ; decide), g, BND.fr G F (q7.thk G) EXS.rf fr (by unfold DJ; decide) (by unfold DJ; decide) (by simp)⟩
end
