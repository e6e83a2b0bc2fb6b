/-! T: names of elements -/
set_option maxRecDepth 20000
def na1 (S : SS) (n : Nat) (l : List Int) : SS := fun f i => if f = f_Md_nameSigns ∧ 60 * n ≤ i ∧ i < 60 * n + l.length then l.getD (i - 60 * n) 0 else S f i
/-- a name more -/
def naS (S : SS) (n : Nat) (l : List Int) : SS := u2 (u2 (na1 S n l) f_Md_nameSize n (l.length : Int)) f_Md_names 0 ((n + 1 : Nat) : Int)
def LNA : List Nat := [f_Md_nameSigns, f_Md_nameSize, f_Md_names]
section
variable {ρ : Nat → Nat} {P : ah → Nat → Prop} {d : Nat} {Q : QT} {h h0 : ah} {C ho T k n m f i j N M b r a s rr mn sn tn row at_ : Nat} {S S' S1 S2 SX : SS} {X : X3} {Y : Y3} {g : HG} {l L bs : List Int} {ws : List (List Int)} {v p x y nm ty cnt κ hd w La bv el : Int}
theorem na1_o (hf : f ≠ f_Md_nameSigns) : na1 S n l f i = S f i := if_neg (fun c => hf c.1)
theorem na1_0 : na1 S n [] = S := by
  funext f i
  unfold na1
  exact if_neg (fun c => by have := c.2; simp at this; omega)
theorem na1_u (hj : j < l.length) : u2 (na1 S n (l.take j)) f_Md_nameSigns (60 * n + j) (l.getD j 0) = na1 S n (l.take (j + 1)) := by
  funext f i
  have e1 : (l.take j).length = j := by rw [List.length_take]; omega
  have e2 : (l.take (j + 1)).length = j + 1 := by rw [List.length_take]; omega
  unfold na1
  simp only [u2_e, e1, e2]
  by_cases w2 : f = f_Md_nameSigns
  · subst w2
    simp only [true_and]
    by_cases w3 : i = 60 * n + j
    · subst w3
      rw [if_pos rfl, if_pos (by omega)]
      simp [List.getD_eq_getElem?_getD, List.getElem?_take]
    · rw [if_neg w3]
      by_cases w4 : 60 * n ≤ i ∧ i < 60 * n + j
      · rw [if_pos w4, if_pos (by omega)]
        have e3 : i - 60 * n < j := by omega
        simp [List.getD_eq_getElem?_getD, List.getElem?_take, e3, show i - 60 * n < j + 1 by omega]
      · rw [if_neg w4, if_neg (by omega)]
  · rw [if_neg (fun c => w2 c.1), if_neg (fun c => w2 c.1), if_neg (fun c => w2 c.1)]
theorem naS_off : OFF LNA S (naS S n l) := fun f i hf => by
  have n : ∀ x, LNA.elem x = true → f ≠ x := fun x hx e => by subst e; rw [hx] at hf; cases hf
  unfold naS
  rw [u2_f (n _ (by decide)), u2_f (n _ (by decide)), na1_o (n _ (by decide))]
theorem s_addName (O : TOK h0 T) (hn : n < 4000) (en : S f_Md_names 0 = (n : Int)) (hk : hK h0 r ∈ [3, 4, 13]) (R : ∀ j, RW (cn h0 T (na1 S n (l.take j))) r at_ l) (hb : at_ + l.length ≤ 1000000) (hl6 : l.length ≤ 60) (rg : ∀ i, i < l.length → -128 ≤ l.getD i 0 ∧ l.getD i 0 ≤ 127) (q : Q (Sum.inl (some (vI (n : Int)))) (cn h0 T (naS S n l))) : wpB PGm ρ d m_Md_addName 0 [(0, vR T), (1, vR r), (2, vI (at_ : Int)), (3, vI (l.length : Int))] [] (cn h0 T S) Q := by
  have kT := O.1
  have G := O.2.1
  refine b_Md_addName_0 ?_
  have lp : ∀ mm j, j + mm = l.length → wpB PGm ρ d m_Md_addName 3 [(0, vR T), (1, vR r), (2, vI (at_ : Int)), (3, vI (l.length : Int)), (4, vI (j : Int))] [] (cn h0 T (na1 S n (l.take j))) Q := fun mm => by
    induction mm with
    | zero =>
      intro j hj
      rw [List.take_of_length_le (by omega)]
      have e1 : na1 S n l f_Md_names 0 = (n : Int) := by rw [na1_o (by decide)]; exact en
      have b1 : 0 ≤ (n : Int) ∧ (n : Int) < ((4000 : Nat) : Int) := by omega
      have n1 : (l.length : Int) ≤ (j : Int) := by omega
      have n2 : ¬ (j : Int) < (l.length : Int) := by omega
      have y1 : w32 ((n : Int) + 1) = ((n + 1 : Nat) : Int) := w32_p1 (by omega)
      have y2 : w32 (((n + 1 : Nat) : Int) - 1) = (n : Int) := by have := w32_m1 (a := n + 1) (by omega); rw [this]; rfl
      unfold naS at q
      refine b_Md_addName_3 ?_
      clear R rg
      simp (decide := true) (disch := first | decide | omega) only [cnI, cnR, cnK, cnl, cnA' G, cn_sA' G, cn_sI, kT, KN G, LN G, e1, y1, y2, n1, n2, u2_s, u2_f, Int.toNat_natCast, true_and, and_true, forall_const, false_implies]
      exact ⟨b1, q⟩
    | succ mm ih =>
      intro j hj
      have jl : j < l.length := by omega
      have g1 := ih (j + 1) (by omega)
      have u := na1_u (S := S) (n := n) jl
      have e1 : na1 S n (l.take j) f_Md_names 0 = (n : Int) := by rw [na1_o (by decide)]; exact en
      obtain ⟨r1, r2⟩ := R j
      have e2 := r2 j jl
      have rl : at_ + l.length ≤ hl h0 r := r1
      have b1 : 0 ≤ ((at_ + j : Nat) : Int) ∧ ((at_ + j : Nat) : Int) < (hl h0 r : Int) := by omega
      have b2 : 0 ≤ ((60 * n + j : Nat) : Int) ∧ ((60 * n + j : Nat) : Int) < ((240000 : Nat) : Int) := by omega
      have n1 : ¬ (l.length : Int) ≤ (j : Int) := by omega
      have n2 : (j : Int) < (l.length : Int) := by omega
      have m1 : (60 * (n : Int)) = ((60 * n : Nat) : Int) := by omega
      have m2 : 60 * n + j ≤ 2000000000 := by omega
      have m4 : -2147483648 ≤ ((60 * n : Nat) : Int) ∧ ((60 * n : Nat) : Int) < 2147483648 := by omega
      have m5 : at_ + j ≤ 2000000000 := by omega
      have m6 : j ≤ 2000000000 := by omega
      have rj := rg j jl
      generalize l.getD j 0 = lv at *
      generalize na1 S n (l.take j) = SX at *
      generalize na1 S n (l.take (j + 1)) = SY at *
      have y0 : w32 (60 * (n : Int)) = ((60 * n : Nat) : Int) := by rw [m1]; exact w32_of m4.1 m4.2
      have y1 : w32 (((60 * n : Nat) : Int) + (j : Int)) = ((60 * n + j : Nat) : Int) := w32_aa m2
      have y2 : w32 ((at_ : Int) + (j : Int)) = ((at_ + j : Nat) : Int) := w32_aa m5
      have y3 : w32 ((j : Int) + 1) = ((j + 1 : Nat) : Int) := w32_p1 m6
      refine b_Md_addName_3 ?_
      clear R rg ih r2
      simp (decide := true) (disch := first | decide | omega) only [cnI, cnR, cnK, cnl, cn_sA' G, kT, hk, KN G, LN G, e1, e2, u, y0, y1, y2, y3, n1, n2, Int.toNat_natCast, true_and, and_true, forall_const, false_implies, or_false, false_and]
      exact ⟨b1, ⟨rj, b2⟩, g1⟩
  have := lp l.length 0 (by omega)
  rw [List.take_zero, na1_0] at this
  exact this
/-- how the name of an element comes out: -1 none; v one that is known; a new one; none for want of room -/
def NEL (S : SS) (ws : List (List Int)) (rr : Nat) (el : Int) (S' : SS) : Prop := (¬ (S f_Md_pileType (rr + 1) = 3 ∧ ∃ (m : Nat) (l : List Int), S f_Md_pileValue (rr + 1) = (m : Int) ∧ TTX S m l ∧ 1 ≤ l.length ∧ l.length ≤ 60) ∧ (S f_Md_pileType (rr + 1) = 3 → ∃ (m : Nat) (l : List Int), S f_Md_pileValue (rr + 1) = (m : Int) ∧ TTX S m l) ∧ el = -1 ∧ S' = S) ∨ (S f_Md_pileType (rr + 1) = 3 ∧ ∃ (m : Nat) (l : List Int), S f_Md_pileValue (rr + 1) = (m : Int) ∧ TTX S m l ∧ 1 ≤ l.length ∧ l.length ≤ 60 ∧ (∀ i, i < l.length → -128 ≤ l.getD i 0 ∧ l.getD i 0 ≤ 127) ∧ ∃ v, FWI ws l v ∧ ((0 ≤ v ∧ el = v ∧ S' = S) ∨ (v < 0 ∧ ws.length < 4000 ∧ el = (ws.length : Int) ∧ S' = naS S ws.length l)))
def NEM (S : SS) (ws : List (List Int)) (rr : Nat) : Prop := S f_Md_pileType (rr + 1) = 3 ∧ ∃ (m : Nat) (l : List Int), S f_Md_pileValue (rr + 1) = (m : Int) ∧ TTX S m l ∧ 1 ≤ l.length ∧ l.length ≤ 60 ∧ FWI ws l (-1) ∧ ws.length = 4000
theorem TTX.ex (H : TTX S m l) (e : EXS [f_Md_textFrom, f_Md_textLength, f_Md_textSigns] S S1) : TTX S1 m l := by
  obtain ⟨a, h1, h2, h3, h4, h5⟩ := H
  exact ⟨a, h1, by rw [e _ (by decide)]; exact h2, by rw [e _ (by decide)]; exact h3, h4, fun i hi => by rw [e _ (by decide)]; exact h5 i hi⟩
theorem s_namesEl (O : TOK h0 T) (NM : NMR h C S ws) (er : S f_Md_r 0 = (rr : Int)) (hr : rr + 1 < 4200) (e0 : S f_Md_elementName 0 = -1) (gl : ∀ i : Nat, ws.length ≤ i → i < 4000 → S f_Md_isGlobal i = 0) (E : NEL S ws rr el S') (q : Q (Sum.inl none) (cn h0 T (u2 S' f_Md_elementName 0 el))) : wpB PGm ρ (d + 2) m_Md_namesElement 0 [(0, vR T)] [] (cn h0 T S) Q := by
  have kT := O.1
  have G := O.2.1
  have b1 : 0 ≤ ((rr + 1 : Nat) : Int) ∧ ((rr + 1 : Nat) : Int) < ((4200 : Nat) : Int) := by omega
  have y1 : w32 ((rr : Int) + 1) = ((rr + 1 : Nat) : Int) := w32_p1 (by omega)
  rcases E with ⟨E1, E2, eel, eS⟩ | ⟨E1, m, l, em, tx, l1, l6, rg, v, fw, E2⟩
  · rw [eel, eS, u2_id e0] at q
    by_cases w : S f_Md_pileType (rr + 1) = 3
    · obtain ⟨m, l, em, tx⟩ := E2 w
      have nl : ¬ (1 ≤ l.length ∧ l.length ≤ 60) := fun c => E1 ⟨w, m, l, em, tx, c.1, c.2⟩
      obtain ⟨a, m16, t1, t2, -, -⟩ := tx
      have b2 : 0 ≤ (m : Int) ∧ (m : Int) < ((16000 : Nat) : Int) := by omega
      have y2 : w32 (m : Int) = (m : Int) := w32_of (by omega) (by omega)
      refine b_Md_namesElement_0 ?_
      clear E1 E2 NM gl
      simp (decide := true) (disch := first | decide | omega) only [cnI, cnR, cnK, cnl, cnA' G, kT, KN G, LN G, er, y1, y2, w, em, t2, Int.toNat_natCast, true_and, and_true, forall_const, false_implies, not_true_eq_false]
      exact ⟨b1, b1, b2, s_in (fun c => absurd ⟨by omega, by omega⟩ nl) (fun _ => ⟨fun c => absurd rfl c, fun _ => q⟩)⟩
    · refine b_Md_namesElement_0 ?_
      clear E1 E2 NM gl
      simp (decide := true) (disch := first | decide | omega) only [cnI, cnR, cnK, cnl, cnA' G, kT, KN G, LN G, er, y1, w, Int.toNat_natCast, true_and, and_true, forall_const, false_implies]
      exact ⟨b1, b1, q⟩
  · have tx' := tx
    obtain ⟨a, m16, t1, t2, t3, t4⟩ := tx
    have b2 : 0 ≤ (m : Int) ∧ (m : Int) < ((16000 : Nat) : Int) := by omega
    obtain ⟨a', t1', t2', rw0, ab, ks⟩ := tx'.rw O
    have ea : a' = a := by omega
    subst ea
    have y2 : w32 (m : Int) = (m : Int) := w32_of (by omega) (by omega)
    have nlen := NM.2.2.1
    -- behind the search
    have beh : hK (cn h0 T S) T = k_Md ∧ (((hI (sI (cn h0 T S) f_Md_elementName T v) f_Md_elementName T) < 0 → ((4000 ≤ (hI (sI (cn h0 T S) f_Md_elementName T v) f_Md_names T) → wpB PGm ρ (d + 2) m_Md_namesElement 94 [(0, vR T), (1, vI (m : Int))] [vI 0, vR T] (sI (cn h0 T S) f_Md_elementName T v) Q) ∧ ((hI (sI (cn h0 T S) f_Md_elementName T v) f_Md_names T) < 4000 → wpB PGm ρ (d + 2) m_Md_namesElement 94 [(0, vR T), (1, vI (m : Int))] [vI 1, vR T] (sI (cn h0 T S) f_Md_elementName T v) Q))) ∧ (0 ≤ (hI (sI (cn h0 T S) f_Md_elementName T v) f_Md_elementName T) → Q (Sum.inl none) (sI (cn h0 T S) f_Md_elementName T v))) := by
      rw [cn_sI (by decide), cnI (by decide), cnI (by decide), u2_s, u2_f (by decide), nlen]
      refine ⟨kT, fun z => ⟨fun z2 => ?_, fun z2 => ?_⟩, fun z => ?_⟩
      · rcases E2 with ⟨c, -⟩ | ⟨-, c, -⟩
        · omega
        · omega
      · rcases E2 with ⟨c, -⟩ | ⟨-, c, e1, e2⟩
        · omega
        · have v1 : v = -1 := by
            rcases fw with ⟨k, e, -⟩ | ⟨e, -⟩
            · omega
            · exact e
          subst v1
          rw [u2_id e0]
          rw [e1, e2] at q
          refine b_Md_namesElement_94 ⟨kT, s_room (d := d) O (fun _ => ?_) (fun c => absurd c (by decide))⟩
          have R : ∀ j, RW (cn h0 T (na1 S ws.length (l.take j))) (hR h0 f_Md_textSigns T) a' l := fun j => ⟨rw0.1, fun i hi => by
            rw [cnA' G (by decide), na1_o (by decide)]
            have := rw0.2 i hi
            rw [cnA' G (by decide)] at this
            exact this⟩
          have gA : wpB PGm ρ (d + 1) m_Md_addName 0 [(0, vR T), (1, vR (hR h0 f_Md_textSigns T)), (2, vI (a' : Int)), (3, vI (l.length : Int))] [] (cn h0 T S) (cI (fun x17 h12 => hK h12 T = k_Md ∧ ((hK (sI h12 f_Md_elementName T x17) (hR (sI h12 f_Md_elementName T x17) f_Md_isGlobal T) = 3 ∨ hK (sI h12 f_Md_elementName T x17) (hR (sI h12 f_Md_elementName T x17) f_Md_isGlobal T) = 4) ∧ 0 ≤ (hI (sI h12 f_Md_elementName T x17) f_Md_elementName T) ∧ (hI (sI h12 f_Md_elementName T x17) f_Md_elementName T) < (hl (sI h12 f_Md_elementName T x17) (hR (sI h12 f_Md_elementName T x17) f_Md_isGlobal T) : Int)) ∧ Q (Sum.inl none) (sA (sI h12 f_Md_elementName T x17) (hR (sI h12 f_Md_elementName T x17) f_Md_isGlobal T) (hI (sI h12 f_Md_elementName T x17) f_Md_elementName T).toNat 0)) (fun e15 h14 => hK h14 e15 ≠ 0 ∧ Q (Sum.inr e15) h14)) := by
            refine s_addName O c nlen ks R ab l6 rg ⟨kT, ?_⟩
            have b3 : 0 ≤ (ws.length : Int) ∧ (ws.length : Int) < ((4000 : Nat) : Int) := by omega
            have gz : u2 (naS S ws.length l) f_Md_elementName 0 (ws.length : Int) f_Md_isGlobal ws.length = 0 := by
              rw [u2_f (by decide), naS_off _ _ (by decide)]; exact gl _ (Nat.le_refl _) c
            have ui := u2_id gz
            clear R gl rg fw E1 NM t4 rw0
            simp (decide := true) (disch := first | decide | omega) only [cnI, cnR, cnK, cnl, cnA' G, cn_sI, cn_sA' G, kT, KN G, LN G, u2_s, ui, Int.toNat_natCast, true_and, and_true, false_and, or_true, false_or, true_or]
            exact ⟨b3, q⟩
          clear R gl rg fw E1 NM t4 rw0
          refine ⟨kT, ?_⟩
          simp (decide := true) (disch := first | decide | omega) only [cnI, cnR, cnK, cnl, cnA' G, kT, KN G, LN G, t1, t2, Int.toNat_natCast, true_and, and_true]
          exact ⟨b2, b2, gA⟩
      · rcases E2 with ⟨-, e1, e2⟩ | ⟨c, -⟩
        · rw [e1, e2] at q; exact q
        · omega
    have gF : wpB PGm ρ (d + 1) m_Md_findName 0 [(0, vR T), (1, vR (hR h0 f_Md_textSigns T)), (2, vI (a' : Int)), (3, vI (l.length : Int))] [] (cn h0 T S) (cI (fun x26 h21 => hK h21 T = k_Md ∧ (((hI (sI h21 f_Md_elementName T x26) f_Md_elementName T) < 0 → ((4000 ≤ (hI (sI h21 f_Md_elementName T x26) f_Md_names T) → wpB PGm ρ (d + 2) m_Md_namesElement 94 [(0, vR T), (1, vI (m : Int))] [vI 0, vR T] (sI h21 f_Md_elementName T x26) Q) ∧ ((hI (sI h21 f_Md_elementName T x26) f_Md_names T) < 4000 → wpB PGm ρ (d + 2) m_Md_namesElement 94 [(0, vR T), (1, vI (m : Int))] [vI 1, vR T] (sI h21 f_Md_elementName T x26) Q))) ∧ (0 ≤ (hI (sI h21 f_Md_elementName T x26) f_Md_elementName T) → Q (Sum.inl none) (sI h21 f_Md_elementName T x26)))) (fun e24 h23 => hK h23 e24 ≠ 0 ∧ Q (Sum.inr e24) h23)) := s_findName O NM ks rw0 ab fw beh
    refine b_Md_namesElement_0 ?_
    clear gl rg fw NM t4 rw0 E2 beh
    simp (decide := true) (disch := first | decide | omega) only [cnI, cnR, cnK, cnl, cnA' G, kT, KN G, LN G, er, y1, y2, E1, em, t2, Int.toNat_natCast, true_and, and_true, forall_const, false_implies, not_true_eq_false]
    refine ⟨b1, b1, b2, s_in (fun _ => ⟨fun _ => ⟨kT, ?_⟩, fun c => absurd c (by decide)⟩) (fun c => absurd ⟨by omega, by omega⟩ c)⟩
    simp (decide := true) (disch := first | decide | omega) only [cnI, cnR, cnK, cnl, cnA' G, kT, KN G, LN G, t1, t2, Int.toNat_natCast, true_and, and_true]
    exact ⟨b2, b2, gF⟩
theorem s_namesElM (O : TOK h0 T) (NM : NMR h C S ws) (er : S f_Md_r 0 = (rr : Int)) (hr : rr + 1 < 4200) (e0 : S f_Md_elementName 0 = -1) (E : NEM S ws rr) (q : Q (Sum.inr (hR h0 f_Md_halt T)) (cn h0 T (erS S 99))) : wpB PGm ρ (d + 2) m_Md_namesElement 0 [(0, vR T)] [] (cn h0 T S) Q := by
  have kT := O.1
  have G := O.2.1
  have b1 : 0 ≤ ((rr + 1 : Nat) : Int) ∧ ((rr + 1 : Nat) : Int) < ((4200 : Nat) : Int) := by omega
  have y1 : w32 ((rr : Int) + 1) = ((rr + 1 : Nat) : Int) := w32_p1 (by omega)
  obtain ⟨E1, m, l, em, tx, l1, l6, fw, wl⟩ := E
  have tx' := tx
  obtain ⟨a, m16, t1, t2, t3, t4⟩ := tx
  have b2 : 0 ≤ (m : Int) ∧ (m : Int) < ((16000 : Nat) : Int) := by omega
  obtain ⟨a', t1', t2', rw0, ab, ks⟩ := tx'.rw O
  have ea : a' = a := by omega
  subst ea
  have y2 : w32 (m : Int) = (m : Int) := w32_of (by omega) (by omega)
  have nlen := NM.2.2.1
  have gF : wpB PGm ρ (d + 1) m_Md_findName 0 [(0, vR T), (1, vR (hR h0 f_Md_textSigns T)), (2, vI (a' : Int)), (3, vI (l.length : Int))] [] (cn h0 T S) (cI (fun x26 h21 => hK h21 T = k_Md ∧ (((hI (sI h21 f_Md_elementName T x26) f_Md_elementName T) < 0 → ((4000 ≤ (hI (sI h21 f_Md_elementName T x26) f_Md_names T) → wpB PGm ρ (d + 2) m_Md_namesElement 94 [(0, vR T), (1, vI (m : Int))] [vI 0, vR T] (sI h21 f_Md_elementName T x26) Q) ∧ ((hI (sI h21 f_Md_elementName T x26) f_Md_names T) < 4000 → wpB PGm ρ (d + 2) m_Md_namesElement 94 [(0, vR T), (1, vI (m : Int))] [vI 1, vR T] (sI h21 f_Md_elementName T x26) Q))) ∧ (0 ≤ (hI (sI h21 f_Md_elementName T x26) f_Md_elementName T) → Q (Sum.inl none) (sI h21 f_Md_elementName T x26)))) (fun e24 h23 => hK h23 e24 ≠ 0 ∧ Q (Sum.inr e24) h23)) := by
    refine s_findName O NM ks rw0 ab fw ?_
    rw [cn_sI (by decide), cnI (by decide), cnI (by decide), u2_s, u2_f (by decide), nlen, u2_id e0]
    refine ⟨kT, fun _ => ⟨fun _ => b_Md_namesElement_94 ⟨kT, s_room (d := d) O (fun c => absurd rfl c) (fun _ => ⟨O.kh, q⟩)⟩, fun c => absurd c (by omega)⟩, fun c => absurd c (by decide)⟩
  refine b_Md_namesElement_0 ?_
  clear fw NM t4 rw0
  simp (decide := true) (disch := first | decide | omega) only [cnI, cnR, cnK, cnl, cnA' G, kT, KN G, LN G, er, y1, y2, E1, em, t2, Int.toNat_natCast, true_and, and_true, forall_const, false_implies, not_true_eq_false]
  refine ⟨b1, b1, b2, s_in (fun _ => ⟨fun _ => ⟨kT, ?_⟩, fun c => absurd c (by decide)⟩) (fun c => absurd ⟨by omega, by omega⟩ c)⟩
  simp (decide := true) (disch := first | decide | omega) only [cnI, cnR, cnK, cnl, cnA' G, kT, KN G, LN G, t1, t2, Int.toNat_natCast, true_and, and_true]
  exact ⟨b2, b2, gF⟩
end
