/-! T: what name is wanted; parameters that are alike -/
set_option maxRecDepth 20000
def capL : List Int → List Int
  | [] => []
  | c :: r => (if 97 ≤ c ∧ c ≤ 122 then c - 32 else c) :: r
/-- a word ahead of a name -/
def wtL (pf L : List Int) : List Int := if pf = [] then L else pf ++ capL L
def wn1 (S : SS) (bs : List Int) : SS := fun f i => if f = f_Md_want ∧ i < bs.length then bs.getD i 0 else S f i
def wnS (S : SS) (bs : List Int) : SS := u2 (wn1 S bs) f_Md_wantSize 0 (bs.length : Int)
def LWN : List Nat := [f_Md_want, f_Md_wantSize]
/-- a name of T -/
def NMT (S : SS) (n : Nat) (L : List Int) : Prop := n < 4000 ∧ S f_Md_nameSize n = (L.length : Int) ∧ L.length ≤ 60 ∧ (∀ i, i < L.length → S f_Md_nameSigns (60 * n + i) = L.getD i 0) ∧ ∀ i, i < L.length → 0 ≤ L.getD i 0 ∧ L.getD i 0 ≤ 127
section
variable {ρ : Nat → Nat} {P : ah → Nat → Prop} {d : Nat} {Q : QT} {h h0 : ah} {T k n m f i j c N M b r : Nat} {S S' S1 S2 : SS} {g : HG} {tp l o bs pf L : List Int} {v : Int} {ls : List Nat}
theorem capL_len : ∀ L : List Int, (capL L).length = L.length
  | [] => rfl
  | _ :: _ => rfl
theorem capL_get (hi : i < L.length) : (capL L).getD i 0 = if i = 0 ∧ 97 ≤ L.getD i 0 ∧ L.getD i 0 ≤ 122 then L.getD i 0 - 32 else L.getD i 0 := by
  cases L with
  | nil => simp at hi
  | cons c r =>
    cases i with
    | zero => simp [capL]
    | succ i => simp [capL]
theorem wn1_o (hf : f ≠ f_Md_want) : wn1 S bs f i = S f i := if_neg (fun c => hf c.1)
theorem wnS_o (hf : LWN.elem f = false) : wnS S bs f i = S f i := by
  unfold wnS
  rw [u2_f (by rintro rfl; exact absurd hf (by decide)), wn1_o (by rintro rfl; exact absurd hf (by decide))]
theorem wnS_off : OFF LWN S (wnS S bs) := fun _ _ h => wnS_o h
theorem wnS_w (h : bs.length ≤ 72) : WNT (wnS S bs) bs := ⟨u2_s, h, fun i hi => by unfold wnS wn1; rw [u2_f (by decide), if_pos ⟨rfl, hi⟩]⟩
theorem wnS_0 : u2 S f_Md_wantSize 0 0 = wnS S [] := by
  funext f i
  unfold wnS wn1
  simp [u2_e]
theorem wnS_u (hj : j < bs.length) : u2 (u2 (wnS S (bs.take j)) f_Md_want j (bs.getD j 0)) f_Md_wantSize 0 ((j + 1 : Nat) : Int) = wnS S (bs.take (j + 1)) := by
  funext f i
  have e1 : (bs.take j).length = j := by rw [List.length_take]; omega
  have e2 : (bs.take (j + 1)).length = j + 1 := by rw [List.length_take]; omega
  unfold wnS wn1
  simp only [u2_e, e1, e2]
  by_cases w : f = f_Md_wantSize ∧ i = 0
  · rw [if_pos w, if_pos w]
  · rw [if_neg w, if_neg w, if_neg w]
    by_cases w2 : f = f_Md_want
    · subst w2
      simp only [true_and]
      by_cases w3 : i = j
      · subst w3
        rw [if_pos rfl, if_pos (by omega)]
        simp [List.getD_eq_getElem?_getD, List.getElem?_take]
      · rw [if_neg w3]
        by_cases w4 : i < j
        · rw [if_pos w4, if_pos (by omega)]
          simp [List.getD_eq_getElem?_getD, List.getElem?_take, w4, show i < j + 1 by omega]
        · rw [if_neg w4, if_neg (by omega)]
    · rw [if_neg (fun c => w2 c.1), if_neg (fun c => w2 c.1), if_neg (fun c => w2 c.1)]
theorem wtL_len (hp : pf.length ≤ 3) (hL : L.length ≤ 60) : (wtL pf L).length = pf.length + L.length ∧ (wtL pf L).length ≤ 72 := by
  unfold wtL
  split
  · rename_i e; subst e; simp; omega
  · rw [List.length_append, capL_len]; omega
theorem wtL_p (hp : pf.length ≤ 3) (hj : j < pf.length) : (wtL pf L).getD j 0 = pf.getD j 0 := by
  unfold wtL
  rw [if_neg (by rintro rfl; simp at hj), List.getD_eq_getElem?_getD, List.getElem?_append_left hj, ← List.getD_eq_getElem?_getD]
theorem wtL_q (hj : j < L.length) : (wtL pf L).getD (pf.length + j) 0 = if j = 0 ∧ 0 < pf.length ∧ 97 ≤ L.getD j 0 ∧ L.getD j 0 ≤ 122 then L.getD j 0 - 32 else L.getD j 0 := by
  unfold wtL
  by_cases w : pf = []
  · subst w; rw [if_pos rfl, if_neg (by simp)]; simp
  · have : 0 < pf.length := List.length_pos_iff.mpr w
    rw [if_neg w, List.getD_eq_getElem?_getD, List.getElem?_append_right (by omega), ← List.getD_eq_getElem?_getD, show pf.length + j - pf.length = j by omega, capL_get hj]
    simp only [this, true_and]
theorem s_wants (K : TKS ρ h0 T) (sk : SOK h0 r pf) (hp : pf.length ≤ 3) (hb : ∀ i, i < pf.length → 0 ≤ pf.getD i 0 ∧ pf.getD i 0 ≤ 127) (nt : NMT S n L) (q : Q (Sum.inl none) (cn h0 T (wnS S (wtL pf L)))) : wpB PGm ρ (d + 12) m_Md_wants 0 [(0, vR T), (1, vR r), (2, vI (n : Int))] [] (cn h0 T S) Q := by
  obtain ⟨⟨kT, G, kH⟩, -, hT⟩ := K
  obtain ⟨n1, n2, n3, n4, n5⟩ := nt
  obtain ⟨w1, w2⟩ := wtL_len (L := L) hp n3
  have nn : 0 ≤ (n : Int) ∧ (n : Int) < ((4000 : Nat) : Int) := by omega
  have nr := fun j (hj : j < L.length) => wtL_q (pf := pf) (L := L) hj
  generalize eb : wtL pf L = bs at *
  have wl : ∀ j, j < bs.length → (bs.take j).length = j := fun j hj => by rw [List.length_take]; omega
  -- the letters of the name
  have lp2 : ∀ mm j, j + mm = L.length → wpB PGm ρ (d + 12) m_Md_wants 45 [(0, vR T), (1, vR r), (2, vI (n : Int)), (3, vI (j : Int))] [] (cn h0 T (wnS S (bs.take (pf.length + j)))) Q := fun mm => by
    induction mm with
    | zero =>
      intro j hj
      have e0 : wnS S (bs.take (pf.length + j)) f_Md_nameSize n = (L.length : Int) := by rw [wnS_o (by decide)]; exact n2
      have e : pf.length + j = bs.length := by omega
      rw [e, List.take_length] at e0 ⊢
      have g1 : (L.length : Int) ≤ (j : Int) := by omega
      have g2 : ¬ (j : Int) < (L.length : Int) := by omega
      refine b_Md_wants_45 (by omega) ?_
      clear w1 w2 nr wl n4 n5 sk hb eb
      simp (decide := true) (disch := first | decide | omega) only [cnI, cnR, cnK, cnl, cnA' G, kT, KN G, LN G, e0, g1, g2, Int.toNat_natCast, true_and, and_true, false_implies, forall_const]
      exact ⟨nn, q⟩
    | succ mm ih =>
      intro j hj
      have hj' : j < L.length := by omega
      have g0 := ih (j + 1) (by omega)
      have u := wnS_u (S := S) (bs := bs) (j := pf.length + j) (by omega)
      have wlj := wl (pf.length + j) (by omega)
      have e0 : wnS S (bs.take (pf.length + j)) f_Md_nameSize n = (L.length : Int) := by rw [wnS_o (by decide)]; exact n2
      have e1 : wnS S (bs.take (pf.length + j)) f_Md_nameSigns (60 * n + j) = L.getD j 0 := by rw [wnS_o (by decide)]; exact n4 j hj'
      have e2 : wnS S (bs.take (pf.length + j)) f_Md_wantSize 0 = ((pf.length + j : Nat) : Int) := by unfold wnS; rw [u2_s, wlj]
      have rg := n5 j hj'
      have nj := nr j hj'
      obtain ⟨s1, s2, -⟩ := cnS (S := wnS S (bs.take (pf.length + j))) sk hT tabO
      have b1 : 0 ≤ ((60 * n + j : Nat) : Int) ∧ ((60 * n + j : Nat) : Int) < ((240000 : Nat) : Int) := by omega
      have b2 : 0 ≤ ((pf.length + j : Nat) : Int) ∧ ((pf.length + j : Nat) : Int) < ((72 : Nat) : Int) := by omega
      have g1 : ¬ (L.length : Int) ≤ (j : Int) := by omega
      have g2 : (j : Int) < (L.length : Int) := by omega
      have m1 : (60 * (n : Int)) = ((60 * n : Nat) : Int) := by omega
      have m2 : 60 * n + j ≤ 2000000000 := by omega
      have m4 : -2147483648 ≤ ((60 * n : Nat) : Int) ∧ ((60 * n : Nat) : Int) < 2147483648 := by omega
      have m5 : (pf.length + j) ≤ 2000000000 := by omega
      have m6 : j ≤ 2000000000 := by omega
      have vr : -128 ≤ bs.getD (pf.length + j) 0 ∧ bs.getD (pf.length + j) 0 ≤ 127 := by
        rw [nj]; split <;> omega
      have z1 : j = 0 ∧ 0 < pf.length ∧ 97 ≤ L.getD j 0 ∧ L.getD j 0 ≤ 122 → bs.getD (pf.length + j) 0 = L.getD j 0 - 32 := fun c => by rw [nj, if_pos c]
      have z0 : ¬ (j = 0 ∧ 0 < pf.length ∧ 97 ≤ L.getD j 0 ∧ L.getD j 0 ≤ 122) → bs.getD (pf.length + j) 0 = L.getD j 0 := fun c => by rw [nj, if_neg c]
      generalize bs.getD (pf.length + j) 0 = bv at *
      generalize L.getD j 0 = cv at *
      -- a letter is put
      have put : wpB PGm ρ (d + 12) m_Md_wants 112 [(0, vR T), (1, vR r), (2, vI (n : Int)), (3, vI (j : Int))] [vI bv, vI ((pf.length + j : Nat) : Int), vR (hR h0 f_Md_want T)] (cn h0 T (wnS S (bs.take (pf.length + j)))) Q := by
        have w8v : w8 bv = bv := w8_of vr.1 (by omega)
        have y1 : w32 (((pf.length + j : Nat) : Int) + 1) = ((pf.length + j + 1 : Nat) : Int) := w32_p1 m5
        have y2 : w32 ((j : Int) + 1) = ((j + 1 : Nat) : Int) := w32_p1 m6
        rw [show pf.length + (j + 1) = pf.length + j + 1 by omega] at g0
        refine b_Md_wants_112 ?_
        clear ih nr wl n4 n5 sk hb eb z1 z0 nj s1 s2 rg
        simp (decide := true) (disch := first | decide | omega) only [cnI, cnR, cnK, cnl, cnA' G, cn_sA' G, cn_sI, kT, KN G, LN G, w8v, y1, y2, e2, u2_f, u, Int.toNat_natCast, true_and, and_true, or_false, false_and]
        exact ⟨⟨vr, b2⟩, g0⟩
      have k0 : ¬ (j : Int) = 0 → bv = cv := fun z => z0 (fun c => z (by omega))
      have k1 : (pf.length : Int) ≤ 0 → bv = cv := fun z => z0 (fun c => by omega)
      have k2 : (j : Int) = 0 → 0 < (pf.length : Int) → 97 ≤ cv ∧ cv ≤ 122 → w32 (cv - 32) = bv := fun x1 x2 x3 => by
        have := z1 ⟨by omega, by omega, x3.1, x3.2⟩
        rw [this]; exact w32_of (by omega) (by omega)
      have k3 : ¬ (97 ≤ cv ∧ cv ≤ 122) → bv = cv := fun z => z0 (fun c => z ⟨c.2.2.1, c.2.2.2⟩)
      have y0 : w32 (60 * (n : Int)) = ((60 * n : Nat) : Int) := by rw [m1]; exact w32_of m4.1 m4.2
      have y1 : w32 (((60 * n : Nat) : Int) + (j : Int)) = ((60 * n + j : Nat) : Int) := w32_aa m2
      refine b_Md_wants_45 (d := d + 11) (by omega) ?_
      clear ih nr wl n4 n5 hb eb nj g0
      simp (decide := true) (disch := first | decide | omega) only [cnI, cnR, cnK, cnl, cnA' G, kT, KN G, LN G, e0, e1, e2, g1, g2, y0, y1, Int.toNat_natCast, true_and, and_true, false_implies, forall_const]
      refine ⟨nn, b1, fun z => ?_, fun z => ⟨s1, s1, fun w => ?_, fun w => s_in (fun c => ⟨fun e => absurd e (by decide), fun _ => ?_⟩) (fun c => ⟨fun _ => ?_, fun e => absurd rfl e⟩)⟩⟩
      · rw [← k0 z]; exact put
      · rw [← k1 (by rw [← cnl (h0 := h0) (T := T) (S := wnS S (bs.take (pf.length + j))), s2] at w; exact w)]; exact put
      · rw [k2 z (by rw [← cnl (h0 := h0) (T := T) (S := wnS S (bs.take (pf.length + j))), s2] at w; exact w) c]; exact put
      · rw [← k3 c]; exact put
  -- the word ahead
  have lp1 : ∀ mm j, j + mm = pf.length → wpB PGm ρ (d + 12) m_Md_wants 7 [(0, vR T), (1, vR r), (2, vI (n : Int)), (3, vI (j : Int))] [] (cn h0 T (wnS S (bs.take j))) Q := fun mm => by
    induction mm with
    | zero =>
      intro j hj
      obtain ⟨s1, s2, -⟩ := cnS (S := wnS S (bs.take j)) sk hT tabO
      have g := lp2 L.length 0 (by omega)
      have e : j = pf.length := by omega
      subst e
      refine b_Md_wants_7 (by omega) ⟨s1, s1, fun _ => g, fun w => by rw [s2] at w; omega⟩
    | succ mm ih =>
      intro j hj
      have hj' : j < pf.length := by omega
      have g0 := ih (j + 1) (by omega)
      have u := wnS_u (S := S) (bs := bs) (j := j) (by omega)
      have wlj := wl j (by omega)
      obtain ⟨s1, s2, s3⟩ := cnS (S := wnS S (bs.take j)) sk hT tabO
      have rg := hb j hj'
      have s4 := s3 j hj'
      have eq : bs.getD j 0 = pf.getD j 0 := by rw [← eb]; exact wtL_p hp hj'
      rw [← eq] at s4 rg
      have e2 : wnS S (bs.take j) f_Md_wantSize 0 = (j : Int) := by unfold wnS; rw [u2_s, wlj]
      have b2 : 0 ≤ (j : Int) ∧ (j : Int) < ((72 : Nat) : Int) := by omega
      have b3 : 0 ≤ (j : Int) ∧ (j : Int) < (pf.length : Int) := by omega
      have m6 : j ≤ 2000000000 := by omega
      generalize bs.getD j 0 = bv at *
      have w8v : w8 bv = bv := w8_of (by omega) (by omega)
      have rr : -128 ≤ bv ∧ bv ≤ 127 := by omega
      have nf : ¬ (pf.length : Int) ≤ (j : Int) := by omega
      have y2 : w32 ((j : Int) + 1) = ((j + 1 : Nat) : Int) := w32_p1 m6
      refine b_Md_wants_7 (by omega) ⟨s1, s1, fun w => by rw [s2] at w; exact absurd w nf, fun _ => ⟨kT, s1, ⟨s1, b3.1, by rw [s2]; exact b3.2⟩, ?_⟩⟩
      rw [Int.toNat_natCast, s4, w8v, y2]
      clear ih nr wl n4 n5 sk hb eb s1 s2 s3 s4 lp2 w8v
      simp (decide := true) (disch := first | decide | omega) only [cnI, cnR, cnK, cnl, cnA' G, cn_sA' G, cn_sI, kT, KN G, LN G, y2, e2, u2_f, u, Int.toNat_natCast, true_and, and_true, or_false, false_and]
      exact ⟨⟨rr, b2⟩, g0⟩
  have g := lp1 pf.length 0 (by omega)
  rw [List.take_zero] at g
  refine b_Md_wants_0 ⟨kT, ?_⟩
  show wpB PGm ρ (d + 12) m_Md_wants 7 [(0, vR T), (1, vR r), (2, vI (n : Int)), (3, vI 0)] [] (sI (cn h0 T S) f_Md_wantSize T 0) Q
  rw [cn_sI (by decide), wnS_0]; exact g
theorem s_same (O : TOK h0 T) (H : HRW h0 T k g N M) (hi : i < M) (hj : j < M) (q1 : g.2 2 i = g.2 2 j → Q (Sum.inl (some (vI 1))) (cn h0 T S)) (q0 : ¬ g.2 2 i = g.2 2 j → Q (Sum.inl (some (vI 0))) (cn h0 T S)) : wpB PGm ρ d m_MdHost_haveSameTypes 0 [(0, vR k), (1, vI (i : Int)), (2, vI (j : Int))] [] (cn h0 T S) Q := by
  have ⟨a1, a2, a3, a4, a5, a6, a7, a8⟩ := H
  subst a1
  obtain ⟨-, -, -, -, -, p1, p2, p3, -⟩ := a8 i hi
  obtain ⟨-, -, -, -, -, r1, r2, r3, -⟩ := a8 j hj
  have tA := tAH (S := S) O a2
  have tK := tKH a2.1
  have tL := tLH a2.1
  have kk := a2.2
  have i4 : 0 ≤ (i : Int) ∧ (i : Int) < ((400 : Nat) : Int) := by omega
  have j4 : 0 ≤ (j : Int) ∧ (j : Int) < ((400 : Nat) : Int) := by omega
  have lp : (g.2 2 i).length = (g.2 2 j).length → ∀ mm x, x + mm = (g.2 2 i).length → (∀ y, y < x → (g.2 2 i).getD y 0 = (g.2 2 j).getD y 0) → wpB PGm ρ d m_MdHost_haveSameTypes 24 [(0, vR (hR h0 f_Md_host T)), (1, vI (i : Int)), (2, vI (j : Int)), (3, vI 1), (4, vI (x : Int))] [] (cn h0 T S) Q := fun le mm => by
    induction mm with
    | zero =>
      intro x hx hp
      have g1 := q1 (list_ext0 le (fun y hy => hp y (by omega)))
      have c1 : ((g.2 2 i).length : Int) ≤ (x : Int) := by omega
      have c2 : ¬ (x : Int) < ((g.2 2 i).length : Int) := by omega
      refine b_MdHost_haveSameTypes_24 ?_
      clear q1 q0 a8 a7 p3 r3 hp
      simp (decide := true) (disch := first | decide | omega) only [cnI, cnR, cnK, cnl, kk, tA, tK, tL, p1, c1, c2, Int.toNat_natCast, true_and, and_true, false_implies, forall_const, or_true]
      exact ⟨i4, g1⟩
    | succ mm ih =>
      intro x hx hp
      have xl : x < (g.2 2 i).length := by omega
      have s1 := p3 x xl
      have s2 := r3 x (by omega)
      have g1 := ih (x + 1) (by omega)
      have c1 : ¬ ((g.2 2 i).length : Int) ≤ (x : Int) := by omega
      have c2 : (x : Int) < ((g.2 2 i).length : Int) := by omega
      have b1 : 0 ≤ ((8 * i + x : Nat) : Int) ∧ ((8 * i + x : Nat) : Int) < ((3200 : Nat) : Int) := by omega
      have b2 : 0 ≤ ((8 * j + x : Nat) : Int) ∧ ((8 * j + x : Nat) : Int) < ((3200 : Nat) : Int) := by omega
      have z0 : ¬ (g.2 2 i).getD x 0 = (g.2 2 j).getD x 0 → wpB PGm ρ d m_MdHost_haveSameTypes 24 [(0, vR (hR h0 f_Md_host T)), (1, vI (i : Int)), (2, vI (j : Int)), (3, vI 0), (4, vI ((x + 1 : Nat) : Int))] [] (cn h0 T S) Q := fun ne => by
        have nq := q0 (fun c => ne (by rw [c]))
        refine b_MdHost_haveSameTypes_24 ?_
        clear q1 q0 a8 a7 p3 r3 hp ih g1
        simp (decide := true) (disch := first | decide | omega) only [cnI, cnR, cnK, cnl, kk, tA, tK, tL, p1, Int.toNat_natCast, true_and, and_true, false_implies, forall_const, or_true, true_or]
        exact ⟨i4, fun _ => nq, fun _ => nq⟩
      have z1 : (g.2 2 i).getD x 0 = (g.2 2 j).getD x 0 → wpB PGm ρ d m_MdHost_haveSameTypes 24 [(0, vR (hR h0 f_Md_host T)), (1, vI (i : Int)), (2, vI (j : Int)), (3, vI 1), (4, vI ((x + 1 : Nat) : Int))] [] (cn h0 T S) Q := fun e => g1 (fun y hy => by
        by_cases w : y = x
        · rw [w]; exact e
        · exact hp y (by omega))
      have m1 : (8 * (i : Int)) = ((8 * i : Nat) : Int) := by omega
      have m2 : (8 * (j : Int)) = ((8 * j : Nat) : Int) := by omega
      have m3 : 8 * i + x ≤ 2000000000 := by omega
      have m4 : 8 * j + x ≤ 2000000000 := by omega
      have m5 : x ≤ 2000000000 := by omega
      have m6 : (-2147483648 ≤ ((8 * i : Nat) : Int) ∧ ((8 * i : Nat) : Int) < 2147483648) ∧ (-2147483648 ≤ ((8 * j : Nat) : Int) ∧ ((8 * j : Nat) : Int) < 2147483648) := by omega
      have y0 : w32 (8 * (i : Int)) = ((8 * i : Nat) : Int) := by rw [m1]; exact w32_of m6.1.1 m6.1.2
      have y1 : w32 (8 * (j : Int)) = ((8 * j : Nat) : Int) := by rw [m2]; exact w32_of m6.2.1 m6.2.2
      have y2 : w32 (((8 * i : Nat) : Int) + (x : Int)) = ((8 * i + x : Nat) : Int) := w32_aa m3
      have y3 : w32 (((8 * j : Nat) : Int) + (x : Int)) = ((8 * j + x : Nat) : Int) := w32_aa m4
      have y4 : w32 ((x : Int) + 1) = ((x + 1 : Nat) : Int) := w32_p1 m5
      refine b_MdHost_haveSameTypes_24 ?_
      clear q1 q0 a8 a7 p3 r3 hp ih g1
      simp (decide := true) (disch := first | decide | omega) only [cnI, cnR, cnK, cnl, kk, tA, tK, tL, p1, c1, c2, y0, y1, y2, y3, s1, s2, Int.toNat_natCast, true_and, and_true, false_implies, forall_const]
      refine ⟨i4, b1, b2, fun z => b_MdHost_haveSameTypes_71 ?_, fun z => b_MdHost_haveSameTypes_71 ?_⟩
      · rw [y4]; exact z0 z
      · rw [y4]; exact z1 z
  have zz : ¬ (g.2 2 i).length = (g.2 2 j).length → wpB PGm ρ d m_MdHost_haveSameTypes 24 [(0, vR (hR h0 f_Md_host T)), (1, vI (i : Int)), (2, vI (j : Int)), (3, vI 0), (4, vI 0)] [] (cn h0 T S) Q := fun ne => by
    have nq := q0 (fun c => ne (by rw [c]))
    refine b_MdHost_haveSameTypes_24 ?_
    clear q1 q0 a8 a7 p3 r3 lp
    simp (decide := true) (disch := first | decide | omega) only [cnI, cnR, cnK, cnl, kk, tA, tK, tL, p1, Int.toNat_natCast, true_and, and_true, false_implies, forall_const, or_true, true_or]
    exact ⟨i4, fun _ => nq, fun _ => nq⟩
  have zy : (g.2 2 i).length = (g.2 2 j).length → wpB PGm ρ d m_MdHost_haveSameTypes 24 [(0, vR (hR h0 f_Md_host T)), (1, vI (i : Int)), (2, vI (j : Int)), (3, vI 1), (4, vI 0)] [] (cn h0 T S) Q := fun e => lp e (g.2 2 i).length 0 (by omega) (fun y hy => absurd hy (by omega))
  refine b_MdHost_haveSameTypes_0 ?_
  clear q1 q0 a8 a7 p3 r3 lp
  simp (decide := true) (disch := first | decide | omega) only [cnI, cnR, cnK, cnl, kk, tA, tK, tL, p1, r1, Int.toNat_natCast, true_and, and_true, Int.natCast_inj]
  exact ⟨i4, j4, fun z => b_MdHost_haveSameTypes_20 (zz z), fun z => b_MdHost_haveSameTypes_20 (zy z)⟩
end
