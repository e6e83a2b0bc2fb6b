/-! T: which members values fit -/
set_option maxRecDepth 20000
def unB (g : HG) (a b : Int) : Bool := decide (¬ a = 0 ∧ ¬ b = 0 ∧ (a = b ∨ (a = 1 ∧ b = 2) ∨ (4 ≤ a ∧ 4 ≤ b ∧ (b = 8 ∨ (9 ≤ a ∧ 9 ≤ b ∧ ¬ g.1 (100 + (a - 9).toNat) (b - 9).toNat = 0)))))
def stB (g : HG) (es p : Int) : Bool := decide (3 < p) && (decide (es = 0) || unB g es p)
def loB (g : HG) (es p : Int) : Bool := stB g es p || ((decide (es = 4) && (decide (p = 1) || decide (p = 2))) || ((decide (es = 5) && decide (p = 2)) || (decide (es = 6) && decide (p = 3))))
def parG (g : HG) (m k : Nat) : Int := (g.2 2 m).getD (if k < (g.2 2 m).length then k else (g.2 2 m).length - 1) 0
def goB (g : HG) (ph : Nat) (es p : Int) : Bool := if ph = 1 then stB g es p else loB g es p
def fitB (g : HG) (ph : Nat) (ts : List Int) (m : Nat) : Bool := decide (g.1 9 m = if ph = 3 then 1 else 0) && (decide (if ph < 3 then (g.2 2 m).length = ts.length else (g.2 2 m).length ≤ ts.length + 1) && (List.range ts.length).all (fun k => goB g ph (ts.getD k 0) (parG g m k)))
def mrN (g : HG) (ph : Nat) (ts : List Int) (a b : Nat) : Nat := if ph < 3 then ts.length else if (g.2 2 a).length < (g.2 2 b).length then (g.2 2 b).length else (g.2 2 a).length
def morB (g : HG) (ph : Nat) (ts : List Int) (a b : Nat) : Bool := (List.range (mrN g ph ts a b)).all (fun k => unB g (parG g a k) (parG g b k))
/-- parameters are types -/
def HPW (g : HG) (N M : Nat) : Prop := ∀ m, m < M → (g.2 2 m).length ≤ 8 ∧ (g.1 9 m = 0 ∨ g.1 9 m = 1) ∧ (g.1 9 m = 1 → 1 ≤ (g.2 2 m).length) ∧ ∀ k, k < (g.2 2 m).length → 1 ≤ (g.2 2 m).getD k 0 ∧ (g.2 2 m).getD k 0 < 9 + (N : Int)
/-- types of values -/
def TYS (S : SS) (N : Nat) (ts : List Int) : Prop := S f_Md_many 0 = (ts.length : Int) ∧ ts.length ≤ 8 ∧ ∀ i, i < ts.length → S f_Md_types i = ts.getD i 0 ∧ 0 ≤ ts.getD i 0 ∧ ts.getD i 0 < 9 + (N : Int)
section
variable {ρ : Nat → Nat} {P : ah → Nat → Prop} {d : Nat} {Q : QT} {h h0 : ah} {T k n m f i j c N M b r a ph : Nat} {S S' S1 S2 : SS} {g : HG} {tp l o bs pf L ts : List Int} {v st p x y : Int} {ls cs : List Nat} {w : Nat → Bool}
theorem unB_iff : unB g x y = true ↔ unF g x y := by unfold unB unF; exact decide_eq_true_iff
theorem THO.cn (O : TOK h0 T) (H : THO h0 k g n m tp) : THO (cn h0 T S) k g n m tp := by
  obtain ⟨a1, a2, a3, a4, a5, a6, S1, b1, b2⟩ := H
  refine ⟨a1, ?_, ?_, a4, a5, a6, S1, fun f e i => ?_, b2⟩
  · rw [cnIo (by decide)]; exact a2
  · rw [cnIo (by decide)]; exact a3
  · cases w : lkA tabH f with
    | none => rw [w] at e; cases e
    | some p => rw [cnR, cnH O a1 w]; exact b1 f e i
theorem s_isSub (K : PTO ρ g N M h0 T) (ha : x < 9 + (N : Int)) (hb : y < 9 + (N : Int)) (q1 : unB g x y = true → Q (Sum.inl (some (vI 1))) (cn h0 T S)) (q0 : ¬ unB g x y = true → Q (Sum.inl (some (vI 0))) (cn h0 T S)) : wpB PGm ρ d m_MdHost_isSub 0 [(0, vR (hR h0 f_Md_host T)), (1, vI x), (2, vI y)] [] (cn h0 T S) Q := by
  obtain ⟨tp, H⟩ := K.2.1
  exact wpB_mon (fun o h' z => by
    cases o with
    | inl r => cases r with
      | none => exact absurd z id
      | some v => cases v with
        | inl u => exact z
        | inr u => exact absurd z id
    | inr u => exact absurd z id) (t_isSub (F := fun x h' => Q (Sum.inl (some (vI x))) h') (E := fun _ _ => False) (H.cn K.1.1 (S := S)) ha hb (fun z => q1 (unB_iff.mpr z)) (fun z => q0 (fun c => z (unB_iff.mp c))))
theorem s_strict (K : PTO ρ g N M h0 T) (ha : x < 9 + (N : Int)) (hb : y < 9 + (N : Int)) (q1 : stB g x y = true → Q (Sum.inl (some (vI 1))) (cn h0 T S)) (q0 : ¬ stB g x y = true → Q (Sum.inl (some (vI 0))) (cn h0 T S)) : wpB PGm ρ (d + 1) m_Md_strict 0 [(0, vR T), (1, vI x), (2, vI y)] [] (cn h0 T S) Q := by
  refine b_Md_strict_0 ⟨fun c => q0 (by unfold stB; rw [decide_eq_false (by omega)]; simp), fun c => ⟨fun e => q1 (by unfold stB; rw [decide_eq_true c, decide_eq_true e]; rfl), fun e => ⟨K.1.1.1, K.pth.2.2.1.2, ?_⟩⟩⟩
  rw [cnR]
  refine s_isSub K ha hb (fun z => ⟨fun e => absurd e (by decide), fun _ => q1 (by unfold stB; rw [decide_eq_true c, z]; simp)⟩) (fun z => ⟨fun _ => q0 (by unfold stB; rw [decide_eq_true c, decide_eq_false e]; simpa using z), fun e => absurd rfl e⟩)
theorem s_loose (K : PTO ρ g N M h0 T) (ha : x < 9 + (N : Int)) (hb : y < 9 + (N : Int)) (q1 : loB g x y = true → Q (Sum.inl (some (vI 1))) (cn h0 T S)) (q0 : ¬ loB g x y = true → Q (Sum.inl (some (vI 0))) (cn h0 T S)) : wpB PGm ρ (d + 2) m_Md_loose 0 [(0, vR T), (1, vI x), (2, vI y)] [] (cn h0 T S) Q := by
  refine b_Md_loose_0 ⟨K.1.1.1, s_strict K ha hb (fun z => ⟨fun _ => q1 (by unfold loB; rw [z]; rfl), fun e => absurd e (by decide)⟩) (fun z => ⟨fun e => absurd rfl e, fun _ => ?_⟩)⟩
  have z' : stB g x y = false := by simpa using z
  have l34 : ¬ (x = 4 ∧ (y = 1 ∨ y = 2)) → ¬ (x = 5 ∧ y = 2) → wpB PGm ρ (d + 2) m_Md_loose 34 [(1, vI x), (2, vI y)] [] (cn h0 T S) Q := fun c1 c2 => b_Md_loose_34 ⟨fun e => q0 (by unfold loB; rw [z']; simp [e]; exact ⟨fun a => ⟨fun b => c1 ⟨a, Or.inl b⟩, fun b => c1 ⟨a, Or.inr b⟩⟩, fun a b => c2 ⟨a, b⟩⟩), fun e => ⟨fun e2 => q0 (by unfold loB; rw [z']; simp [e, e2]), fun e2 => q1 (by unfold loB; rw [z']; simp [e, e2])⟩⟩
  have l24 : ¬ (x = 4 ∧ (y = 1 ∨ y = 2)) → wpB PGm ρ (d + 2) m_Md_loose 24 [(1, vI x), (2, vI y)] [] (cn h0 T S) Q := fun c1 => b_Md_loose_24 ⟨fun e => l34 c1 (fun c => e c.1), fun e => ⟨fun e2 => q1 (by unfold loB; rw [z']; simp [e, e2]), fun e2 => l34 c1 (fun c => e2 c.2)⟩⟩
  exact ⟨fun e => l24 (fun c => e c.1), fun e => ⟨fun e2 => q1 (by unfold loB; rw [z']; simp [e, e2]), fun e2 => ⟨fun e3 => q1 (by unfold loB; rw [z']; simp [e, e3]), fun e3 => l24 (fun c => c.2.elim e2 e3)⟩⟩⟩
theorem s_parAt (K : PTO ρ g N M h0 T) (hm : m < M) (h1 : 1 ≤ (g.2 2 m).length) (hj : j ≤ 1000) (q : Q (Sum.inl (some (vI (parG g m j)))) (cn h0 T S)) : wpB PGm ρ d m_Md_parameterAt 0 [(0, vR T), (1, vI (m : Int)), (2, vI (j : Int))] [] (cn h0 T S) Q := by
  have O := K.1.1
  have kT := O.1
  have R := K.pth.2
  have ⟨a1, a2, a3, a4, a5, a6, a7, a8⟩ := R
  obtain ⟨-, -, -, -, -, p1, p2, p3, -⟩ := a8 m hm
  have tA := tAH (S := S) O a2
  have tK := tKH a2.1
  have tL := tLH a2.1
  have kk := a2.2
  have m4 : 0 ≤ (m : Int) ∧ (m : Int) < ((400 : Nat) : Int) := by omega
  have m1 : (8 * (m : Int)) = ((8 * m : Nat) : Int) := by omega
  have m6 : (-2147483648 ≤ ((8 * m : Nat) : Int) ∧ ((8 * m : Nat) : Int) < 2147483648) := by omega
  by_cases w : j < (g.2 2 m).length
  · have e1 := p3 j w
    have b1 : 0 ≤ ((8 * m + j : Nat) : Int) ∧ ((8 * m + j : Nat) : Int) < ((3200 : Nat) : Int) := by omega
    have n1 : ¬ ((g.2 2 m).length : Int) ≤ (j : Int) := by omega
    have n2 : (j : Int) < ((g.2 2 m).length : Int) := by omega
    have m2 : 8 * m + j ≤ 2000000000 := by omega
    have y0 : w32 (8 * (m : Int)) = ((8 * m : Nat) : Int) := by rw [m1]; exact w32_of m6.1 m6.2
    have y1 : w32 (((8 * m : Nat) : Int) + (j : Int)) = ((8 * m + j : Nat) : Int) := w32_aa m2
    unfold parG at q
    rw [if_pos w] at q
    refine b_Md_parameterAt_0 ?_
    clear a7 a8 R p3
    simp (decide := true) (disch := first | decide | omega) only [cnI, cnR, cnK, cnl, kT, kk, tA, tK, tL, p1, e1, y0, y1, n1, n2, Int.toNat_natCast, true_and, and_true, false_implies, forall_const]
    exact ⟨m4, b1, q⟩
  · have e1 := p3 ((g.2 2 m).length - 1) (by omega)
    have b1 : 0 ≤ ((8 * m + ((g.2 2 m).length - 1) : Nat) : Int) ∧ ((8 * m + ((g.2 2 m).length - 1) : Nat) : Int) < ((3200 : Nat) : Int) := by omega
    have n1 : ((g.2 2 m).length : Int) ≤ (j : Int) := by omega
    have n2 : ¬ (j : Int) < ((g.2 2 m).length : Int) := by omega
    have m2 : 8 * m + ((g.2 2 m).length - 1) ≤ 2000000000 := by omega
    have m3 : 1 ≤ (g.2 2 m).length ∧ (g.2 2 m).length ≤ 2000000000 := by omega
    have y0 : w32 (8 * (m : Int)) = ((8 * m : Nat) : Int) := by rw [m1]; exact w32_of m6.1 m6.2
    have y1 : w32 (((8 * m : Nat) : Int) + (((g.2 2 m).length - 1 : Nat) : Int)) = ((8 * m + ((g.2 2 m).length - 1) : Nat) : Int) := w32_aa m2
    have y2 : w32 (((g.2 2 m).length : Int) - 1) = (((g.2 2 m).length - 1 : Nat) : Int) := w32_m1 m3
    unfold parG at q
    rw [if_neg w] at q
    refine b_Md_parameterAt_0 ?_
    clear a7 a8 R p3
    simp (decide := true) (disch := first | decide | omega) only [cnI, cnR, cnK, cnl, kT, kk, tA, tK, tL, p1, e1, y0, y1, y2, n1, n2, Int.toNat_natCast, true_and, and_true, false_implies, forall_const]
    exact ⟨m4, b1, q⟩
theorem parG_b (W : HPW g N M) (hm : m < M) (h1 : 1 ≤ (g.2 2 m).length) : parG g m j < 9 + (N : Int) := by
  unfold parG
  exact ((W m hm).2.2.2 _ (by split <;> omega)).2
theorem all_take {n : Nat} {f : Nat → Bool} (h : ∀ i, i < n → f i = true) : (List.range n).all f = true := by
  rw [List.all_eq_true]
  exact fun x hx => h x (List.mem_range.mp hx)
theorem all_get {n : Nat} {f : Nat → Bool} (h : (List.range n).all f = true) (hi : i < n) : f i = true := List.all_eq_true.mp h i (List.mem_range.mpr hi)
theorem s_fitsIn (K : PTO ρ g N M h0 T) (W : HPW g N M) (hm : m < M) (Y : TYS S N ts) (hp : 1 ≤ ph ∧ ph ≤ 3) (q1 : fitB g ph ts m = true → Q (Sum.inl (some (vI 1))) (cn h0 T S)) (q0 : ¬ fitB g ph ts m = true → Q (Sum.inl (some (vI 0))) (cn h0 T S)) : wpB PGm ρ (d + 3) m_Md_fitsIn 0 [(0, vR T), (1, vI (m : Int)), (2, vI (ph : Int))] [] (cn h0 T S) Q := by
  have O := K.1.1
  have kT := O.1
  have G := O.2.1
  have R := K.pth.2
  have ⟨a1, a2, a3, a4, a5, a6, a7, a8⟩ := R
  obtain ⟨-, -, -, -, v1, p1, p2, p3, -⟩ := a8 m hm
  obtain ⟨W1, W2, W3, W4⟩ := W m hm
  obtain ⟨t1, t2, t3⟩ := Y
  have tA := tAH (S := S) O a2
  have tK := tKH a2.1
  have tL := tLH a2.1
  have kk := a2.2
  have m4 : 0 ≤ (m : Int) ∧ (m : Int) < ((400 : Nat) : Int) := by omega
  -- the loop over values
  have lp : (g.1 9 m = if ph = 3 then 1 else 0) → (if ph < 3 then (g.2 2 m).length = ts.length else (g.2 2 m).length ≤ ts.length + 1) → ∀ mm j, j + mm = ts.length → (∀ i, i < j → goB g ph (ts.getD i 0) (parG g m i) = true) → wpB PGm ρ (d + 3) m_Md_fitsIn 68 [(0, vR T), (1, vI (m : Int)), (2, vI (ph : Int)), (4, vI 1), (5, vI (j : Int))] [] (cn h0 T S) Q := fun c1 c2 mm => by
    induction mm with
    | zero =>
      intro j hj hi
      refine b_Md_fitsIn_68 ⟨kT, ?_⟩
      rw [cnI (by decide), t1]
      refine ⟨fun _ => ⟨Or.inr rfl, q1 ?_⟩, fun z => absurd z (by omega)⟩
      unfold fitB
      rw [decide_eq_true c1, decide_eq_true c2, all_take (fun i h => hi i (by omega))]; rfl
    | succ mm ih =>
      intro j hj hi
      have jl : j < ts.length := by omega
      obtain ⟨e1, e2, e3⟩ := t3 j jl
      have l1 : 1 ≤ (g.2 2 m).length := by
        by_cases w : ph = 3
        · rw [if_pos w] at c1; exact W3 c1
        · rw [if_pos (by omega)] at c2; omega
      have pb := parG_b (j := j) W hm l1
      have b1 : 0 ≤ (j : Int) ∧ (j : Int) < ((8 : Nat) : Int) := by omega
      have m5 : j ≤ 2000000000 := by omega
      have z1 : goB g ph (ts.getD j 0) (parG g m j) = true → wpB PGm ρ (d + 3) m_Md_fitsIn 126 [(0, vR T), (1, vI (m : Int)), (2, vI (ph : Int)), (5, vI (j : Int))] [vI 1] (cn h0 T S) Q := fun e => b_Md_fitsIn_126 (by
        rw [w32_p1 m5]
        exact ih (j + 1) (by omega) (fun i h => by
          by_cases w : i = j
          · rw [w]; exact e
          · exact hi i (by omega)))
      have z0 : ¬ goB g ph (ts.getD j 0) (parG g m j) = true → wpB PGm ρ (d + 3) m_Md_fitsIn 126 [(0, vR T), (1, vI (m : Int)), (2, vI (ph : Int)), (5, vI (j : Int))] [vI 0] (cn h0 T S) Q := fun e => by
        have nf := q0 (fun c => by
          unfold fitB at c
          simp only [Bool.and_eq_true] at c
          exact e (all_get c.2.2 jl))
        exact b_Md_fitsIn_126 (b_Md_fitsIn_68 ⟨kT, fun _ => ⟨Or.inl rfl, nf⟩, fun _ => ⟨fun _ => ⟨Or.inl rfl, nf⟩, fun z => absurd rfl z⟩⟩)
      have gS : ph = 1 → wpB PGm ρ (d + 2) m_Md_parameterAt 0 [(0, vR T), (1, vI (m : Int)), (2, vI (j : Int))] [] (cn h0 T S) (cI (fun x38 h33 => hK h33 T = k_Md ∧ wpB PGm ρ (d + 2) m_Md_strict 0 [(0, vR T), (1, vI (ts.getD j 0)), (2, vI x38)] [] h33 (cI (fun x46 h41 => wpB PGm ρ (d + 3) m_Md_fitsIn 126 [(0, vR T), (1, vI (m : Int)), (2, vI (ph : Int)), (5, vI (j : Int))] [vI x46] h41 Q) (fun e44 h43 => hK h43 e44 ≠ 0 ∧ Q (Sum.inr e44) h43))) (fun e36 h35 => hK h35 e36 ≠ 0 ∧ Q (Sum.inr e36) h35)) := fun e => s_parAt K hm l1 (by omega) ⟨kT, s_strict (d := d + 1) K e3 pb (fun z => z1 (by unfold goB; rw [if_pos e]; exact z)) (fun z => z0 (by unfold goB; rw [if_pos e]; exact z))⟩
      have gL : ¬ ph = 1 → wpB PGm ρ (d + 2) m_Md_parameterAt 0 [(0, vR T), (1, vI (m : Int)), (2, vI (j : Int))] [] (cn h0 T S) (cI (fun x38 h33 => hK h33 T = k_Md ∧ wpB PGm ρ (d + 2) m_Md_loose 0 [(0, vR T), (1, vI (ts.getD j 0)), (2, vI x38)] [] h33 (cI (fun x46 h41 => wpB PGm ρ (d + 3) m_Md_fitsIn 126 [(0, vR T), (1, vI (m : Int)), (2, vI (ph : Int)), (5, vI (j : Int))] [vI x46] h41 Q) (fun e44 h43 => hK h43 e44 ≠ 0 ∧ Q (Sum.inr e44) h43))) (fun e36 h35 => hK h35 e36 ≠ 0 ∧ Q (Sum.inr e36) h35)) := fun e => s_parAt K hm l1 (by omega) ⟨kT, s_loose (d := d) K e3 pb (fun z => z1 (by unfold goB; rw [if_neg e]; exact z)) (fun z => z0 (by unfold goB; rw [if_neg e]; exact z))⟩
      have n1 : ¬ (ts.length : Int) ≤ (j : Int) := by omega
      have n2 : (j : Int) < (ts.length : Int) := by omega
      have n3 : (ph : Int) = 1 → ph = 1 := fun z => by omega
      refine b_Md_fitsIn_68 ?_
      clear ih z1 z0 hi t3 a7 a8 R W W4 p3 q1 q0 K c2 c1
      simp (decide := true) (disch := first | decide | omega) only [cnI, cnR, cnK, cnl, cnA' G, kT, KN G, LN G, t1, e1, n1, n2, Int.toNat_natCast, true_and, and_true, false_implies, forall_const]
      exact ⟨fun z => ⟨b1, gL (fun c => z (by omega))⟩, fun z => ⟨b1, gS (n3 z)⟩⟩
  -- the front
  have f29 : ∀ s0 : Int, (s0 = if ph = 3 then 1 else 0) → wpB PGm ρ (d + 3) m_Md_fitsIn 29 [(0, vR T), (1, vI (m : Int)), (2, vI (ph : Int)), (3, vI ((g.2 2 m).length : Int))] [vI s0, vI (g.1 9 m)] (cn h0 T S) Q := fun s0 hs => by
    refine b_Md_fitsIn_29 ⟨fun e => ⟨fun z => ⟨kT, ?_⟩, fun z => ⟨kT, ?_⟩⟩, fun e => q0 (fun c => ?_)⟩
    · rw [cnI (by decide), t1]
      have ep : ph = 3 := by omega
      have lg : 1 ≤ (g.2 2 m).length := W3 (by rw [e, hs, if_pos ep])
      rw [w32_m1 ⟨lg, by omega⟩]
      refine ⟨fun c => b_Md_fitsIn_62 (lp (e.trans hs) (by rw [if_neg (by omega)]; omega) ts.length 0 (by omega) (fun i h => absurd h (by omega))), fun c => q0 (fun c' => ?_)⟩
      unfold fitB at c'
      simp only [Bool.and_eq_true, decide_eq_true_eq] at c'
      have := c'.2.1
      rw [if_neg (by omega)] at this
      omega
    · rw [cnI (by decide), t1]
      refine ⟨fun c => b_Md_fitsIn_62 (lp (e.trans hs) (by rw [if_pos (by omega)]; omega) ts.length 0 (by omega) (fun i h => absurd h (by omega))), fun c => q0 (fun c' => ?_)⟩
      unfold fitB at c'
      simp only [Bool.and_eq_true, decide_eq_true_eq] at c'
      have := c'.2.1
      rw [if_pos (by omega)] at this
      omega
    · unfold fitB at c
      simp only [Bool.and_eq_true, decide_eq_true_eq] at c
      exact e (c.1.trans hs.symm)
  have g1 := f29 1
  have g0 := f29 0
  have n3 : (ph : Int) = 3 → ph = 3 := fun z => by omega
  refine b_Md_fitsIn_0 ?_
  clear lp f29 a7 a8 R p3 q1 q0 K W W4 t3
  simp (decide := true) (disch := first | decide | omega) only [cnI, cnR, cnK, cnl, kT, kk, tA, tK, tL, v1, p1, Int.toNat_natCast, true_and, and_true]
  exact ⟨m4, m4, fun z => g0 (by rw [if_neg (fun c => z (by omega))]), fun z => g1 (by rw [if_pos (n3 z)])⟩
theorem s_more (K : PTO ρ g N M h0 T) (W : HPW g N M) (ha : a < M) (hb : b < M) (Y : TYS S N ts) (hp : 1 ≤ ph ∧ ph ≤ 3) (fa : fitB g ph ts a = true) (fb : fitB g ph ts b = true) (hd : 10 ≤ d) (q1 : morB g ph ts a b = true → Q (Sum.inl (some (vI 1))) (cn h0 T S)) (q0 : ¬ morB g ph ts a b = true → Q (Sum.inl (some (vI 0))) (cn h0 T S)) : wpB PGm ρ (d + 1) m_Md_isMoreSpecific 0 [(0, vR T), (1, vI (a : Int)), (2, vI (b : Int)), (3, vI (ph : Int))] [] (cn h0 T S) Q := by
  have O := K.1.1
  have kT := O.1
  have R := K.pth.2
  have ⟨a1, a2, a3, a4, a5, a6, a7, a8⟩ := R
  obtain ⟨-, -, -, -, v1, p1, p2, p3, -⟩ := a8 a ha
  obtain ⟨-, -, -, -, u1, r1, r2, r3, -⟩ := a8 b hb
  obtain ⟨t1, t2, t3⟩ := Y
  have tA := tAH (S := S) O a2
  have tK := tKH a2.1
  have tL := tLH a2.1
  have kk := a2.2
  have wa := W a ha
  have wb := W b hb
  unfold fitB at fa fb
  simp only [Bool.and_eq_true, decide_eq_true_eq] at fa fb
  have la : 0 < mrN g ph ts a b → 1 ≤ (g.2 2 a).length := fun z => by
    unfold mrN at z
    by_cases w : ph = 3
    · have := fa.1; rw [if_pos w] at this; exact wa.2.2.1 this
    · have := fa.2.1; rw [if_pos (by omega)] at this z; omega
  have lb : 0 < mrN g ph ts a b → 1 ≤ (g.2 2 b).length := fun z => by
    unfold mrN at z
    by_cases w : ph = 3
    · have := fb.1; rw [if_pos w] at this; exact wb.2.2.1 this
    · have := fb.2.1; rw [if_pos (by omega)] at this z; omega
  have ln : mrN g ph ts a b ≤ 8 := by
    unfold mrN
    split
    · exact t2
    · split
      · exact r2
      · exact p2
  have lp : ∀ mm j, j + mm = mrN g ph ts a b → (∀ i, i < j → unB g (parG g a i) (parG g b i) = true) → wpB PGm ρ (d + 1) m_Md_isMoreSpecific 41 [(0, vR T), (1, vI (a : Int)), (2, vI (b : Int)), (4, vI (mrN g ph ts a b : Int)), (5, vI 1), (6, vI (j : Int))] [] (cn h0 T S) Q := fun mm => by
    induction mm with
    | zero =>
      intro j hj hi
      refine b_Md_isMoreSpecific_41 ⟨fun _ => ⟨Or.inr rfl, q1 (all_take (fun i h => hi i (by omega)))⟩, fun z => absurd z (by omega)⟩
    | succ mm ih =>
      intro j hj hi
      have l1 := la (by omega)
      have l2 := lb (by omega)
      refine b_Md_isMoreSpecific_41 ⟨fun z => absurd z (by omega), fun _ => ⟨fun z => absurd z (by decide), fun _ => ⟨kT, s_parAt K ha l1 (by omega) ⟨kT, s_parAt K hb l2 (by omega) ⟨kk, s_isSub K (parG_b W ha l1) (parG_b W hb l2) (fun z => ?_) (fun z => ?_)⟩⟩⟩⟩⟩
      · rw [w32_p1 (by omega)]
        exact ih (j + 1) (by omega) (fun i h => by
          by_cases w : i = j
          · rw [w]; exact z
          · exact hi i (by omega))
      · have nf := q0 (fun c => z (all_get c (by omega)))
        exact b_Md_isMoreSpecific_41 ⟨fun _ => ⟨Or.inl rfl, nf⟩, fun _ => ⟨fun _ => ⟨Or.inl rfl, nf⟩, fun z => absurd rfl z⟩⟩
  have g0 := lp (mrN g ph ts a b) 0 (by omega) (fun i h => absurd h (by omega))
  have i4 : 0 ≤ (a : Int) ∧ (a : Int) < ((400 : Nat) : Int) := by omega
  have j4 : 0 ≤ (b : Int) ∧ (b : Int) < ((400 : Nat) : Int) := by omega
  refine b_Md_isMoreSpecific_0 (by omega) ⟨fun z => ?_, fun z => ⟨kT, b_Md_isMoreSpecific_33 ?_⟩⟩
  · have e : (mrN g ph ts a b : Int) = if ((g.2 2 a).length : Int) < ((g.2 2 b).length : Int) then ((g.2 2 b).length : Int) else ((g.2 2 a).length : Int) := by
      unfold mrN; rw [if_neg (by omega)]; split <;> split <;> omega
    rw [e] at g0
    clear lp a7 a8 R p3 r3 q1 q0 K W t3 la lb fa fb wa wb
    simp (decide := true) (disch := first | decide | omega) only [cnI, cnR, cnK, cnl, kT, kk, tA, tK, tL, p1, r1, Int.toNat_natCast, true_and, and_true]
    exact ⟨i4, j4, b_Md_isMoreSpecific_33 g0⟩
  · have e : mrN g ph ts a b = ts.length := by unfold mrN; rw [if_pos (by omega)]
    rw [cnI (by decide), t1]; rw [e] at g0; exact g0
end
