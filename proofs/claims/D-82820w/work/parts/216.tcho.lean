/-! T: choices that are kept -/
set_option maxRecDepth 20000
def LCH3 : List Nat := [f_Md_choiceClass, f_Md_choiceMode, f_Md_choiceName, f_Md_choiceMany, f_Md_choiceTypes, f_Md_choiceFound, f_Md_choices, f_Md_allChoices, f_Md_workedOut]
/-- row k of the choices is such a one -/
def CHM (S : SS) (k : Nat) (c md nm : Int) (ts : List Int) : Prop := S f_Md_choiceClass k = c ∧ S f_Md_choiceMode k = md ∧ S f_Md_choiceName k = nm ∧ S f_Md_choiceMany k = (ts.length : Int) ∧ ∀ i, i < ts.length → S f_Md_choiceTypes (8 * k + i) = ts.getD i 0
def ct1 (S : SS) (k : Nat) (ts : List Int) : SS := fun f i => if f = f_Md_choiceTypes ∧ 8 * k ≤ i ∧ i < 8 * k + ts.length then ts.getD (i - 8 * k) 0 else S f i
def chA (S : SS) (k : Nat) (c md nm : Int) (n : Int) : SS := u2 (u2 (u2 (u2 (u2 S f_Md_workedOut 0 (w32 (S f_Md_workedOut 0 + 1))) f_Md_choiceClass k c) f_Md_choiceMode k md) f_Md_choiceName k nm) f_Md_choiceMany k n
/-- a choice more -/
def chS (S : SS) (k ac : Nat) (c md nm : Int) (ts : List Int) (v : Int) : SS := u2 (u2 (u2 (ct1 (chA S k c md nm (ts.length : Int)) k ts) f_Md_choiceFound k v) f_Md_choices 0 ((k + 1 : Nat) : Int)) f_Md_allChoices 0 ((ac + 1 : Nat) : Int)
section
variable {ρ : Nat → Nat} {P : ah → Nat → Prop} {d : Nat} {Q : QT} {h h0 : ah} {T k n m f i j N M b r a ph kn ac : Nat} {S S' S1 S2 : SS} {g : HG} {tp l o bs pf L ts : List Int} {v st p x y c md nm : Int} {ls cs : List Nat} {w : Nat → Bool}
theorem ct1_o (hf : f ≠ f_Md_choiceTypes) : ct1 S k ts f i = S f i := if_neg (fun c => hf c.1)
theorem ct1_0 : ct1 S k [] = S := by
  funext f i
  unfold ct1
  exact if_neg (fun c => by have := c.2; simp at this; omega)
theorem ct1_u (hj : j < ts.length) : u2 (ct1 S k (ts.take j)) f_Md_choiceTypes (8 * k + j) (ts.getD j 0) = ct1 S k (ts.take (j + 1)) := by
  funext f i
  have e1 : (ts.take j).length = j := by rw [List.length_take]; omega
  have e2 : (ts.take (j + 1)).length = j + 1 := by rw [List.length_take]; omega
  unfold ct1
  simp only [u2_e, e1, e2]
  by_cases w2 : f = f_Md_choiceTypes
  · subst w2
    simp only [true_and]
    by_cases w3 : i = 8 * k + j
    · subst w3
      rw [if_pos rfl, if_pos (by omega)]
      simp [List.getD_eq_getElem?_getD, List.getElem?_take]
    · rw [if_neg w3]
      by_cases w4 : 8 * k ≤ i ∧ i < 8 * k + j
      · rw [if_pos w4, if_pos (by omega)]
        have e3 : i - 8 * k < j := by omega
        simp [List.getD_eq_getElem?_getD, List.getElem?_take, e3, show i - 8 * k < j + 1 by omega]
      · rw [if_neg w4, if_neg (by omega)]
  · rw [if_neg (fun c => w2 c.1), if_neg (fun c => w2 c.1), if_neg (fun c => w2 c.1)]
theorem chA_o (hf : LCH3.elem f = false) : chA S k c md nm v f i = S f i := by
  have n : ∀ x, LCH3.elem x = true → f ≠ x := fun x hx e => by subst e; rw [hx] at hf; cases hf
  unfold chA
  rw [u2_f (n _ (by decide)), u2_f (n _ (by decide)), u2_f (n _ (by decide)), u2_f (n _ (by decide)), u2_f (n _ (by decide))]
theorem chS_o (hf : LCH3.elem f = false) : chS S k ac c md nm ts v f i = S f i := by
  have n : ∀ x, LCH3.elem x = true → f ≠ x := fun x hx e => by subst e; rw [hx] at hf; cases hf
  unfold chS
  rw [u2_f (n _ (by decide)), u2_f (n _ (by decide)), u2_f (n _ (by decide)), ct1_o (n _ (by decide)), chA_o hf]
theorem chS_k (hk : j < k) : (∀ f, [f_Md_choiceClass, f_Md_choiceMode, f_Md_choiceName, f_Md_choiceMany, f_Md_choiceFound].elem f = true → chS S k ac c md nm ts v f j = S f j) ∧ ∀ i, i < 8 → chS S k ac c md nm ts v f_Md_choiceTypes (8 * j + i) = S f_Md_choiceTypes (8 * j + i) := by
  refine ⟨fun f hf => ?_, fun i hi => ?_⟩
  · have : f = f_Md_choiceClass ∨ f = f_Md_choiceMode ∨ f = f_Md_choiceName ∨ f = f_Md_choiceMany ∨ f = f_Md_choiceFound := by simpa using hf
    have ne : ¬ j = k := by omega
    rcases this with rfl | rfl | rfl | rfl | rfl <;> simp (decide := true) [chS, ct1, chA, u2_e, ne]
  · have : ¬ (8 * k ≤ 8 * j + i) := by omega
    unfold chS
    rw [u2_f (by decide), u2_f (by decide), u2_f (by decide)]
    unfold ct1
    rw [if_neg (fun c => this c.2.1)]
    unfold chA
    rw [u2_f (by decide), u2_f (by decide), u2_f (by decide), u2_f (by decide), u2_f (by decide)]
theorem chS_n : CHM (chS S k ac c md nm ts v) k c md nm ts ∧ chS S k ac c md nm ts v f_Md_choiceFound k = v ∧ chS S k ac c md nm ts v f_Md_choices 0 = ((k + 1 : Nat) : Int) ∧ chS S k ac c md nm ts v f_Md_allChoices 0 = ((ac + 1 : Nat) : Int) ∧ chS S k ac c md nm ts v f_Md_workedOut 0 = w32 (S f_Md_workedOut 0 + 1) := by
  refine ⟨⟨by simp (decide := true) [chS, ct1, chA, u2_e], by simp (decide := true) [chS, ct1, chA, u2_e], by simp (decide := true) [chS, ct1, chA, u2_e], by simp (decide := true) [chS, ct1, chA, u2_e], fun i hi => ?_⟩, by simp (decide := true) [chS, ct1, chA, u2_e], by simp (decide := true) [chS, ct1, chA, u2_e], by simp (decide := true) [chS, ct1, chA, u2_e], by simp (decide := true) [chS, ct1, chA, u2_e]⟩
  unfold chS
  rw [u2_f (by decide), u2_f (by decide), u2_f (by decide)]
  unfold ct1
  rw [if_pos ⟨rfl, by omega, by omega⟩, show 8 * k + i - 8 * k = i by omega]
theorem TYS.ex (Y : TYS S N ts) (e : EXS [f_Md_many, f_Md_types] S S1) : TYS S1 N ts := ⟨by rw [e _ (by decide)]; exact Y.1, Y.2.1, fun i hi => by rw [e _ (by decide)]; exact Y.2.2 i hi⟩
/-- one row is held against what is asked -/
theorem s_chrow (O : TOK h0 T) (Y : TYS S N ts) (hk : k < kn) (h2 : kn ≤ 2000) (ec : S f_Md_choices 0 = (kn : Int)) (q1 : CHM S k c md nm ts → Q (Sum.inl (some (vI (S f_Md_choiceFound k)))) (cn h0 T S)) (q0 : ¬ CHM S k c md nm ts → wpB PGm ρ (d + 1) m_Md_chosen 3 [(0, vR T), (1, vI c), (2, vI md), (3, vI nm), (4, vI ((k + 1 : Nat) : Int))] [] (cn h0 T S) Q) : wpB PGm ρ (d + 1) m_Md_chosen 3 [(0, vR T), (1, vI c), (2, vI md), (3, vI nm), (4, vI (k : Int))] [] (cn h0 T S) Q := by
  have kT := O.1
  have G := O.2.1
  obtain ⟨t1, t2, t3⟩ := Y
  have b1 : 0 ≤ (k : Int) ∧ (k : Int) < ((2000 : Nat) : Int) := by omega
  have m1 : k ≤ 2000000000 := by omega
  have r0 : ¬ CHM S k c md nm ts → wpB PGm ρ (d + 1) m_Md_chosen 119 [(0, vR T), (1, vI c), (2, vI md), (3, vI nm), (4, vI (k : Int)), (5, vI 0)] [] (cn h0 T S) Q := fun z => b_Md_chosen_119 ⟨fun _ => by rw [w32_p1 m1]; exact q0 z, fun e => absurd rfl e⟩
  have r69 : ¬ CHM S k c md nm ts → ∀ j : Int, wpB PGm ρ (d + 1) m_Md_chosen 69 [(0, vR T), (1, vI c), (2, vI md), (3, vI nm), (4, vI (k : Int)), (5, vI 0), (6, vI j)] [] (cn h0 T S) Q := fun z j => b_Md_chosen_69 ⟨kT, fun _ => r0 z, fun _ => ⟨fun _ => r0 z, fun e => absurd rfl e⟩⟩
  have r1 : CHM S k c md nm ts → wpB PGm ρ (d + 1) m_Md_chosen 119 [(0, vR T), (1, vI c), (2, vI md), (3, vI nm), (4, vI (k : Int)), (5, vI 1)] [] (cn h0 T S) Q := fun z => by
    have g1 := q1 z
    refine b_Md_chosen_119 ⟨fun e => absurd e (by decide), fun _ => ?_⟩
    clear q0 r0 r69 q1 z t3
    simp (decide := true) (disch := first | decide | omega) only [cnI, cnR, cnK, cnl, cnA' G, kT, KN G, LN G, Int.toNat_natCast, true_and, and_true]
    exact ⟨b1, g1⟩
  have lp : S f_Md_choiceClass k = c → S f_Md_choiceMode k = md → S f_Md_choiceName k = nm → S f_Md_choiceMany k = (ts.length : Int) → ∀ mm j, j + mm = ts.length → (∀ i, i < j → S f_Md_choiceTypes (8 * k + i) = ts.getD i 0) → wpB PGm ρ (d + 1) m_Md_chosen 69 [(0, vR T), (1, vI c), (2, vI md), (3, vI nm), (4, vI (k : Int)), (5, vI 1), (6, vI (j : Int))] [] (cn h0 T S) Q := fun c1 c2 c3 c4 mm => by
    induction mm with
    | zero =>
      intro j hj hi
      refine b_Md_chosen_69 ⟨kT, ?_⟩
      rw [cnI (by decide), t1]
      exact ⟨fun _ => r1 ⟨c1, c2, c3, c4, fun i h => hi i (by omega)⟩, fun z => absurd z (by omega)⟩
    | succ mm ih =>
      intro j hj hi
      have jl : j < ts.length := by omega
      obtain ⟨e1, -⟩ := t3 j jl
      have z1 : S f_Md_choiceTypes (8 * k + j) = ts.getD j 0 → wpB PGm ρ (d + 1) m_Md_chosen 69 [(0, vR T), (1, vI c), (2, vI md), (3, vI nm), (4, vI (k : Int)), (5, vI 1), (6, vI ((j + 1 : Nat) : Int))] [] (cn h0 T S) Q := fun e => ih (j + 1) (by omega) (fun i h => by
        by_cases w : i = j
        · rw [w]; exact e
        · exact hi i (by omega))
      have z0 : ¬ S f_Md_choiceTypes (8 * k + j) = ts.getD j 0 → wpB PGm ρ (d + 1) m_Md_chosen 69 [(0, vR T), (1, vI c), (2, vI md), (3, vI nm), (4, vI (k : Int)), (5, vI 0), (6, vI ((j + 1 : Nat) : Int))] [] (cn h0 T S) Q := fun e => r69 (fun c => e (c.2.2.2.2 j jl)) _
      have b2 : 0 ≤ ((8 * k + j : Nat) : Int) ∧ ((8 * k + j : Nat) : Int) < ((16000 : Nat) : Int) := by omega
      have b3 : 0 ≤ (j : Int) ∧ (j : Int) < ((8 : Nat) : Int) := by omega
      have n1 : ¬ (ts.length : Int) ≤ (j : Int) := by omega
      have n2 : (j : Int) < (ts.length : Int) := by omega
      have m2 : (8 * (k : Int)) = ((8 * k : Nat) : Int) := by omega
      have m3 : 8 * k + j ≤ 2000000000 := by omega
      have m4 : (-2147483648 ≤ ((8 * k : Nat) : Int) ∧ ((8 * k : Nat) : Int) < 2147483648) := by omega
      have m5 : j ≤ 2000000000 := by omega
      have y0 : w32 (8 * (k : Int)) = ((8 * k : Nat) : Int) := by rw [m2]; exact w32_of m4.1 m4.2
      have y1 : w32 (((8 * k : Nat) : Int) + (j : Int)) = ((8 * k + j : Nat) : Int) := w32_aa m3
      have y2 : w32 ((j : Int) + 1) = ((j + 1 : Nat) : Int) := w32_p1 m5
      refine b_Md_chosen_69 ?_
      clear ih r0 r1 r69 q0 q1 hi t3
      simp (decide := true) (disch := first | decide | omega) only [cnI, cnR, cnK, cnl, cnA' G, kT, KN G, LN G, t1, e1, n1, n2, y0, y1, Int.toNat_natCast, true_and, and_true, false_implies, forall_const]
      exact ⟨b2, b3, fun z => b_Md_chosen_111 (by rw [y2]; exact z0 z), fun z => b_Md_chosen_111 (by rw [y2]; exact z1 z)⟩
  have n1 : ¬ (kn : Int) ≤ (k : Int) := by omega
  have n2 : (k : Int) < (kn : Int) := by omega
  have l0 : ¬ CHM S k c md nm ts → wpB PGm ρ (d + 1) m_Md_chosen 64 [(0, vR T), (1, vI c), (2, vI md), (3, vI nm), (4, vI (k : Int))] [vI 0] (cn h0 T S) Q := fun z => b_Md_chosen_64 (r69 z 0)
  have l1 := fun c1 c2 c3 c4 => lp c1 c2 c3 c4 ts.length 0 (by omega) (fun i h => absurd h (by omega))
  have x1 : ¬ S f_Md_choiceClass k = c → wpB PGm ρ (d + 1) m_Md_chosen 64 [(0, vR T), (1, vI c), (2, vI md), (3, vI nm), (4, vI (k : Int))] [vI 0] (cn h0 T S) Q := fun z => l0 (fun c => z c.1)
  have x2 : ¬ S f_Md_choiceMode k = md → wpB PGm ρ (d + 1) m_Md_chosen 64 [(0, vR T), (1, vI c), (2, vI md), (3, vI nm), (4, vI (k : Int))] [vI 0] (cn h0 T S) Q := fun z => l0 (fun c => z c.2.1)
  have x3 : ¬ S f_Md_choiceName k = nm → wpB PGm ρ (d + 1) m_Md_chosen 64 [(0, vR T), (1, vI c), (2, vI md), (3, vI nm), (4, vI (k : Int))] [vI 0] (cn h0 T S) Q := fun z => l0 (fun c => z c.2.2.1)
  have x4 : ¬ S f_Md_choiceMany k = (ts.length : Int) → wpB PGm ρ (d + 1) m_Md_chosen 64 [(0, vR T), (1, vI c), (2, vI md), (3, vI nm), (4, vI (k : Int))] [vI 0] (cn h0 T S) Q := fun z => l0 (fun c => z c.2.2.2.1)
  refine b_Md_chosen_3 ?_
  clear lp r0 r1 r69 q0 q1 l0 t3
  simp (decide := true) (disch := first | decide | omega) only [cnI, cnR, cnK, cnl, cnA' G, kT, KN G, LN G, t1, ec, n1, n2, Int.toNat_natCast, true_and, and_true, false_implies, forall_const]
  exact ⟨b1, x1, fun c1 => ⟨b1, x2, fun c2 => ⟨b1, x3, fun c3 => ⟨b1, x4, fun c4 => b_Md_chosen_64 (l1 c1 c2 c3 c4)⟩⟩⟩⟩
theorem s_chosen_hit (O : TOK h0 T) (Y : TYS S N ts) (hk : k < kn) (h2 : kn ≤ 2000) (ec : S f_Md_choices 0 = (kn : Int)) (m1 : CHM S k c md nm ts) (m0 : ∀ j, j < k → ¬ CHM S j c md nm ts) (q : Q (Sum.inl (some (vI (S f_Md_choiceFound k)))) (cn h0 T S)) : wpB PGm ρ (d + 1) m_Md_chosen 0 [(0, vR T), (1, vI c), (2, vI md), (3, vI nm)] [] (cn h0 T S) Q := by
  refine b_Md_chosen_0 ?_
  have lp : ∀ mm j, j + mm = k → wpB PGm ρ (d + 1) m_Md_chosen 3 [(0, vR T), (1, vI c), (2, vI md), (3, vI nm), (4, vI (j : Int))] [] (cn h0 T S) Q := fun mm => by
    induction mm with
    | zero =>
      intro j hj
      have e : j = k := by omega
      subst e
      exact s_chrow O Y hk h2 ec (fun _ => q) (fun z => absurd m1 z)
    | succ mm ih =>
      intro j hj
      exact s_chrow O Y (by omega) h2 ec (fun z => absurd z (m0 j (by omega))) (fun _ => ih (j + 1) (by omega))
  exact lp k 0 (by omega)
theorem s_chosen_new (K : PTO ρ g N M h0 T) (W : HPW g N M) (Y : TYS S N ts) (C1 : CND S cs) (OK : OKL M cs) (h2 : kn ≤ ac) (h3 : ac ≤ 2000) (ec : S f_Md_choices 0 = (kn : Int)) (ea : S f_Md_allChoices 0 = (ac : Int)) (m0 : ∀ j, j < kn → ¬ CHM S j c md nm ts) (q1 : ac < 2000 → Q (Sum.inl (some (vI (sglG g ts cs)))) (cn h0 T (chS S kn ac c md nm ts (sglG g ts cs)))) (q0 : ¬ ac < 2000 → Q (Sum.inl (some (vI (sglG g ts cs)))) (cn h0 T (u2 S f_Md_workedOut 0 (w32 (S f_Md_workedOut 0 + 1))))) : wpB PGm ρ (d + 15) m_Md_chosen 0 [(0, vR T), (1, vI c), (2, vI md), (3, vI nm)] [] (cn h0 T S) Q := by
  have O := K.1.1
  have kT := O.1
  have G := O.2.1
  refine b_Md_chosen_0 ?_
  have lp : ∀ mm j, j + mm = kn → wpB PGm ρ (d + 15) m_Md_chosen 3 [(0, vR T), (1, vI c), (2, vI md), (3, vI nm), (4, vI (j : Int))] [] (cn h0 T S) Q := fun mm => by
    induction mm with
    | zero =>
      intro j hj
      refine b_Md_chosen_3 ⟨kT, ?_⟩
      rw [cnI (by decide), ec]
      refine ⟨fun _ => s_single (d := d) K W Y C1 OK ⟨kT, ?_⟩, fun z => absurd z (by omega)⟩
      have t2 := Y.2.1
      have Y1 : TYS (chA S kn c md nm (ts.length : Int)) N ts := Y.ex (fun f hf i => by
        have : f = f_Md_many ∨ f = f_Md_types := by simpa using hf
        rcases this with rfl | rfl <;> exact chA_o (by decide))
      have e3 : chA S kn c md nm (ts.length : Int) f_Md_choices 0 = (kn : Int) := by unfold chA; rw [u2_f (by decide), u2_f (by decide), u2_f (by decide), u2_f (by decide), u2_f (by decide)]; exact ec
      have e4 : chA S kn c md nm (ts.length : Int) f_Md_allChoices 0 = (ac : Int) := by unfold chA; rw [u2_f (by decide), u2_f (by decide), u2_f (by decide), u2_f (by decide), u2_f (by decide)]; exact ea
      -- the loop that keeps the types
      have l2 : ac < 2000 → ∀ mm j, j + mm = ts.length → wpB PGm ρ (d + 15) m_Md_chosen 210 [(0, vR T), (4, vI (sglG g ts cs)), (5, vI (j : Int))] [] (cn h0 T (ct1 (chA S kn c md nm (ts.length : Int)) kn (ts.take j))) Q := fun la mm => by
        have b1 : 0 ≤ (kn : Int) ∧ (kn : Int) < ((2000 : Nat) : Int) := by omega
        induction mm with
        | zero =>
          intro j hj
          rw [List.take_of_length_le (by omega)]
          have g1 := q1 la
          unfold chS at g1
          have n1 : (ts.length : Int) ≤ (j : Int) := by omega
          have n2 : ¬ (j : Int) < (ts.length : Int) := by omega
          have f1 : ct1 (chA S kn c md nm (ts.length : Int)) kn ts f_Md_many 0 = (ts.length : Int) := by rw [ct1_o (by decide)]; exact Y1.1
          have f2 : ct1 (chA S kn c md nm (ts.length : Int)) kn ts f_Md_choices 0 = (kn : Int) := by rw [ct1_o (by decide)]; exact e3
          have f3 : ct1 (chA S kn c md nm (ts.length : Int)) kn ts f_Md_allChoices 0 = (ac : Int) := by rw [ct1_o (by decide)]; exact e4
          have y1 : w32 ((kn : Int) + 1) = ((kn + 1 : Nat) : Int) := w32_p1 (by omega)
          have y2 : w32 ((ac : Int) + 1) = ((ac + 1 : Nat) : Int) := w32_p1 (by omega)
          generalize ct1 (chA S kn c md nm (ts.length : Int)) kn ts = SX at *
          refine b_Md_chosen_210 ?_
          clear q1 q0 m0 W K Y Y1 C1 OK e3 e4
          simp (decide := true) (disch := first | decide | omega) only [cnI, cnR, cnK, cnl, cnA' G, cn_sA' G, cn_sI, kT, KN G, LN G, f1, f2, f3, n1, n2, y1, y2, u2_f, Int.toNat_natCast, true_and, and_true, false_implies, forall_const]
          exact ⟨b1, g1⟩
        | succ mm ih =>
          intro j hj
          have jl : j < ts.length := by omega
          have g1 := ih (j + 1) (by omega)
          have u := ct1_u (S := chA S kn c md nm (ts.length : Int)) (k := kn) jl
          obtain ⟨e1, -⟩ := Y1.2.2 j jl
          have f1 : ct1 (chA S kn c md nm (ts.length : Int)) kn (ts.take j) f_Md_many 0 = (ts.length : Int) := by rw [ct1_o (by decide)]; exact Y1.1
          have f2 : ct1 (chA S kn c md nm (ts.length : Int)) kn (ts.take j) f_Md_choices 0 = (kn : Int) := by rw [ct1_o (by decide)]; exact e3
          have f3 : ct1 (chA S kn c md nm (ts.length : Int)) kn (ts.take j) f_Md_types j = ts.getD j 0 := by rw [ct1_o (by decide)]; exact e1
          have b2 : 0 ≤ ((8 * kn + j : Nat) : Int) ∧ ((8 * kn + j : Nat) : Int) < ((16000 : Nat) : Int) := by omega
          have b3 : 0 ≤ (j : Int) ∧ (j : Int) < ((8 : Nat) : Int) := by omega
          have n1 : ¬ (ts.length : Int) ≤ (j : Int) := by omega
          have n2 : (j : Int) < (ts.length : Int) := by omega
          have m2 : (8 * (kn : Int)) = ((8 * kn : Nat) : Int) := by omega
          have m3 : 8 * kn + j ≤ 2000000000 := by omega
          have m4 : (-2147483648 ≤ ((8 * kn : Nat) : Int) ∧ ((8 * kn : Nat) : Int) < 2147483648) := by omega
          have m5 : j ≤ 2000000000 := by omega
          have y0 : w32 (8 * (kn : Int)) = ((8 * kn : Nat) : Int) := by rw [m2]; exact w32_of m4.1 m4.2
          have y1 : w32 (((8 * kn : Nat) : Int) + (j : Int)) = ((8 * kn + j : Nat) : Int) := w32_aa m3
          have y2 : w32 ((j : Int) + 1) = ((j + 1 : Nat) : Int) := w32_p1 m5
          generalize ct1 (chA S kn c md nm (ts.length : Int)) kn (ts.take j) = SX at *
          generalize ct1 (chA S kn c md nm (ts.length : Int)) kn (ts.take (j + 1)) = SY at *
          refine b_Md_chosen_210 ?_
          clear q1 q0 m0 W K Y Y1 C1 OK e3 e4 ih
          simp (decide := true) (disch := first | decide | omega) only [cnI, cnR, cnK, cnl, cnA' G, cn_sA' G, cn_sI, kT, KN G, LN G, f1, f2, f3, u, n1, n2, y0, y1, y2, u2_f, Int.toNat_natCast, true_and, and_true, false_implies, forall_const]
          exact ⟨b3, b2, g1⟩
      have b1 : ac < 2000 → 0 ≤ (kn : Int) ∧ (kn : Int) < ((2000 : Nat) : Int) := fun la => by omega
      have l3 : ac < 2000 → wpB PGm ρ (d + 15) m_Md_chosen 210 [(0, vR T), (4, vI (sglG g ts cs)), (5, vI 0)] [] (cn h0 T (chA S kn c md nm (ts.length : Int))) Q := fun la => by
        have := l2 la ts.length 0 (by omega)
        rw [List.take_zero, ct1_0] at this
        exact this
      have t1 := Y.1
      have x1 : (2000 : Int) ≤ (ac : Int) → ¬ ac < 2000 := fun z => by omega
      have x2 : (ac : Int) < (2000 : Int) → ac < 2000 := fun z => by omega
      unfold chA at l3
      clear l2 q1 m0 W K Y Y1 C1 OK e3 e4 hj
      generalize sglG g ts cs = sv at *
      simp (decide := true) (disch := first | decide | omega) only [cnI, cnR, cnK, cnl, cnA' G, cn_sA' G, cn_sI, kT, KN G, LN G, ec, ea, t1, u2_f, Int.toNat_natCast, true_and, and_true]
      exact ⟨fun z => q0 (x1 z), fun z => ⟨b1 (x2 z), b1 (x2 z), b1 (x2 z), b1 (x2 z), l3 (x2 z)⟩⟩
    | succ mm ih =>
      intro j hj
      exact s_chrow (d := d + 14) O Y (by omega) (by omega) ec (fun z => absurd z (m0 j (by omega))) (fun _ => ih (j + 1) (by omega))
  exact lp kn 0 (by omega)
end
