/-! C: the field that a method tells of, the run -/
set_option maxRecDepth 20000
/-- letters in C's row for small names -/
def smX (X : X3) (bs : List Int) : X3 := fun o f i => if o = 32 ∧ f = f_Machine_small ∧ i < bs.length then bs.getD i 0 else X o f i
/-- the field that a method with a word ahead tells of -/
def toG (g : HG) (m : Nat) (pf : List Int) (ty : Int) : Option Nat := if pfxB pf (g.2 3 m) = true then (match fldG g (-1) (smL pf.length (g.2 3 m)) 61 (g.1 5 m) with | none => none | some f => if g.1 8 f = ty ∧ g.1 7 f = g.1 7 m then some f else none) else none
section
variable {ρ : Nat → Nat} {d : Nat} {Q : QT} {h h1 h' : ah} {C ho N M k n m r i j nm nw o f : Nat} {g : HG} {pf L bs : List Int} {hw : List (List Int)} {F : Int → ah → Prop} {E : Nat → ah → Prop} {FR : Nat → ah → Prop} {ty c x : Int} {X : X3} {Y : Y3}
theorem smX_0 : smX X [] = X := by
  funext o f i
  unfold smX
  exact if_neg (fun c => absurd c.2.2 (Nat.not_lt_zero _))
theorem smX_s : u3 (smX X bs) 32 f_Machine_small bs.length x = smX X (bs ++ [x]) := by
  funext o f i
  rw [u3_e]
  unfold smX
  by_cases c : o = 32 ∧ f = f_Machine_small
  · obtain ⟨c1, c2⟩ := c
    subst c1; subst c2
    simp only [true_and, List.length_append, List.length_singleton]
    by_cases e : i = bs.length
    · rw [if_pos e, if_pos (by omega), e]
      simp [List.getD]
    · rw [if_neg e]
      by_cases l : i < bs.length
      · rw [if_pos l, if_pos (by omega)]
        simp only [List.getD]
        rw [List.getElem?_append_left l]
      · rw [if_neg l, if_neg (by omega)]
  · rw [if_neg (fun z => c ⟨z.1, z.2.1⟩), if_neg (fun z => c ⟨z.1, z.2.1⟩), if_neg (fun z => c ⟨z.1, z.2.1⟩)]
theorem smX_g (hi : i < bs.length) : smX X bs 32 f_Machine_small i = bs.getD i 0 := if_pos ⟨rfl, rfl, hi⟩
theorem smX_o (hf : f ≠ f_Machine_small) : smX X bs o f i = X o f i := if_neg (fun c => hf c.2.1)
theorem smX_c {a b : Int} {t : List Int} : u3 (smX X (a :: t)) 32 f_Machine_small 0 b = smX X (b :: t) := by
  funext o f i
  rw [u3_e]
  unfold smX
  by_cases w : o = 32 ∧ f = f_Machine_small
  · obtain ⟨w1, w2⟩ := w
    subst w1; subst w2
    simp only [true_and, List.length_cons]
    match i with
    | 0 => rw [if_pos rfl, if_pos (by omega)]; rfl
    | i + 1 => rw [if_neg (by omega)]; rfl
  · rw [if_neg (fun z => w ⟨z.1, z.2.1⟩), if_neg (fun z => w ⟨z.1, z.2.1⟩), if_neg (fun z => w ⟨z.1, z.2.1⟩)]
theorem r_told (G : AC h C) (F0 : FC h C) (HX : HCX ρ h ho g N M hw) (W : HGW g N) (W2 : HMW g N M) (yh : Y 32 f_Machine_host 0 = ho) (sk : SOK h r pf) (hpf : pf.length ≤ 3) (hm : m < M) (k6 : ¬ g.1 6 m = 2) (L30 : (g.2 3 m).length ≤ 32) (lr : ∀ i, i < (g.2 3 m).length → 0 ≤ (g.2 3 m).getD i 0 ∧ (g.2 3 m).getD i 0 ≤ 127) (q : ∀ bs, FR (adO h ho (toG g m pf ty)) (cc h C (smX X bs) Y)) : wpB PGm ρ (d + 13) m_Machine_told 0 [(0, vR (C + 32)), (1, vR (hB h (ho + 3) m)), (2, vR r), (3, vI ty)] [] (cc h C X Y) (cR FR E) := by
  obtain ⟨⟨m1, m2, m3⟩, m4, -, -, -, -, ⟨mo1, mo2, mo3⟩, ms, -, mn, -⟩ := HX.me hm
  have hh := HX.hh
  obtain ⟨nm, n1, n2, n3⟩ : NMO hw (g.2 3 m) (hI h f_Member_name (hB h (ho + 3) m)) := by
    rcases mn with z | z
    · exact absurd z.1 k6
    · exact z.2
  have kM : ∀ {X' : X3}, hK (cc h C X' Y) (C + 32) = k_Machine := F0.1.1
  have eh : ∀ {X' : X3}, hR (cc h C X' Y) f_Machine_host (C + 32) = ho := fun {X'} => by rw [ccR (by decide)]; exact yh
  have ew : ∀ {X' : X3}, hR (cc h C X' Y) f_Host_words ho = ho + 4 := fun {X'} => by rw [ccRo (by decide)]; exact hh.2.2.2.2.1
  have es : ∀ {X' : X3}, hR (cc h C X' Y) f_Machine_small (C + 32) = hR h f_Machine_small (C + 32) := fun {X'} => ccRo (by decide)
  have en : ∀ {X' : X3}, hI (cc h C X' Y) f_Member_name (hB h (ho + 3) m) = (nm : Int) := fun {X'} => by rw [ccIo (by decide)]; exact n3
  have kw : hK h (hR h f_Machine_small (C + 32)) = 3 := (KC G).2.2.2.2.2.2.2.2.1
  have lw : hl h (hR h f_Machine_small (C + 32)) = 32 := F0.2.2.2.2.2.2.1.2.2.2.2.2.1
  have HXc : ∀ {X' : X3}, HCX ρ (cc h C X' Y) ho g N M hw := fun {X'} => HX.ccx G
  have kWd : hK h (ho + 4) = k_Words := by
    obtain ⟨by_, fr, sz, nx, W⟩ := HX.wd
    exact W.1.1
  have kH : hK h ho = k_Host := hh.1
  have fin : ∀ bs, FR (adO h ho (toG g m pf ty)) (cc h C (smX X bs) Y) := q
  clear q
  obtain ⟨s1, s2, s3⟩ := sk.cc (X := X) (Y := Y) G
  generalize hLL : g.2 3 m = L at *
  -- the field
  have g130 : ∀ bs (x : Option Nat), pfxB pf L = true → fldG g (-1) (smL pf.length L) 61 (g.1 5 m) = x → (∀ f, x = some f → f < M) → wpB PGm ρ (d + 13) m_Machine_told 130 [(1, vR (hB h (ho + 3) m)), (3, vI ty)] [vR (adO h ho x)] (cc h C (smX X bs) Y) (cR FR E) := fun bs x p1 ex lx => by
    have f0 := fin bs
    unfold toG at f0
    rw [hLL, if_pos p1, ex] at f0
    match x, f0, lx with
    | none, f0, _ => exact b_Machine_told_130 ⟨fun _ => f0, fun z => absurd rfl z⟩
    | some f, f0, lx =>
      have fM := lx f rfl
      obtain ⟨⟨a1, a2, a3⟩, -, -, -, a4, -, -, a5, -⟩ := HX.me fM
      refine b_Machine_told_130 ⟨fun z => absurd z a3, fun _ => ⟨a1, ?_⟩⟩
      show (¬ hI (cc h C (smX X bs) Y) f_Member_type (hB h (ho + 3) f) = ty → _) ∧ (hI (cc h C (smX X bs) Y) f_Member_type (hB h (ho + 3) f) = ty → hK h (hB h (ho + 3) m) = k_Member ∧ ((¬ hI (cc h C (smX X bs) Y) f_Member_isStatic (hB h (ho + 3) f) = hI (cc h C (smX X bs) Y) f_Member_isStatic (hB h (ho + 3) m) → _) ∧ (hI (cc h C (smX X bs) Y) f_Member_isStatic (hB h (ho + 3) f) = hI (cc h C (smX X bs) Y) f_Member_isStatic (hB h (ho + 3) m) → _)))
      rw [ccIo (by decide), ccIo (by decide), ccIo (by decide), a4, a5, ms]
      refine ⟨fun z => ?_, fun z => ⟨m1, fun z2 => ?_, fun z2 => ?_⟩⟩
      · simp only [z, false_and, if_false] at f0; exact f0
      · simp only [z2, and_false, if_false] at f0; exact f0
      · simp only [z, z2, and_self, if_true] at f0; exact f0
  -- the word is looked for
  have g39 : pfxB pf L = true → ∀ t, pf.length < L.length → (L.drop pf.length) = L.getD pf.length 0 :: t → wpB PGm ρ (d + 13) m_Machine_told 39 [(0, vR (C + 32)), (1, vR (hB h (ho + 3) m)), (2, vR r), (3, vI ty), (4, vI ((L.length - pf.length : Nat) : Int)), (5, vI ((L.length - pf.length : Nat) : Int))] [] (cc h C (smX X (L.drop pf.length)) Y) (cR FR E) := fun p1 t lt et => by
    have cp := (pfx_len p1).2
    have bq : 0 ≤ (0 : Int) ∧ (0 : Int) < ((32 : Nat) : Int) := by decide
    have sL : (L.getD pf.length 0 + 32) :: t = smL pf.length L := by
      apply List.ext_getElem
      · rw [smL_len]
        have := congrArg List.length et
        rw [List.length_drop] at this
        exact this.symm
      · intro i h1 h2
        rw [smL_len] at h2
        have e1 := smL_get (k := pf.length) (i := i) (L := L) (by omega)
        have e2 : (smL pf.length L)[i]'(by rw [smL_len]; exact h2) = (smL pf.length L).getD i 0 := by
          rw [List.getD_eq_getElem?_getD, List.getElem?_eq_getElem (by rw [smL_len]; exact h2)]; rfl
        rw [e2, e1]
        match i with
        | 0 => rfl
        | i + 1 =>
          rw [if_neg (by omega), List.getElem_cons_succ]
          have := congrArg (fun l => l.getD (i + 1) 0) et
          simp only [List.getD_cons_succ] at this
          rw [List.getD_eq_getElem?_getD, List.getElem?_drop, ← List.getD_eq_getElem?_getD] at this
          rw [this, List.getD_eq_getElem?_getD, List.getElem?_eq_getElem]; rfl
    have rd : hA (cc h C (smX X (L.drop pf.length)) Y) (hR h f_Machine_small (C + 32)) 0 = L.getD pf.length 0 := by
      rw [ccA G (by decide), et, smX_g (by simp)]; rfl
    have kk : hK (cc h C (smX X (L.drop pf.length)) Y) (hR h f_Machine_small (C + 32)) ∈ [3, 4, 13] := by rw [ccK, kw]; decide
    have ll : (0 : Int) < (hl (cc h C (smX X (L.drop pf.length)) Y) (hR h f_Machine_small (C + 32)) : Int) := by rw [ccl, lw]; decide
    generalize hcv : L.getD pf.length 0 = cv at *
    have z3 : -2147483648 ≤ cv + 32 ∧ cv + 32 < 2147483648 ∧ -128 ≤ cv + 32 ∧ cv + 32 < 128 ∧ cv + 32 ≤ 127 := by omega
    have z4 : ¬ ((L.length - pf.length : Nat) : Int) < ((L.length - pf.length : Nat) : Int) := by omega
    have lsm : ((L.length - pf.length : Nat) : Int) = ((smL pf.length L).length : Int) := by rw [smL_len]
    have z5 : 0 + (smL pf.length L).length ≤ 1000000 ∧ (smL pf.length L).length ≤ 32 := by rw [smL_len]; omega
    have eX : u3 (smX X (L.drop pf.length)) 32 f_Machine_small 0 (cv + 32) = smX X (smL pf.length L) := by rw [et, smX_c, sL]
    have ef : (5 : Int) = 5 := rfl
    refine b_Machine_told_39 (d := d + 12) (by omega) ⟨fun _ => ⟨kM, ?_⟩, fun z => absurd z z4⟩
    rw [es, rd, w32_of z3.1 z3.2.1, w8_of z3.2.2.1 z3.2.2.2.1]
    refine ⟨⟨kk, Int.le_refl _, ll⟩, ⟨Or.inl ⟨kw, z3.2.2.1, z3.2.2.2.2⟩, Int.le_refl _, ll⟩, ?_⟩
    show hK (sA (cc h C (smX X (L.drop pf.length)) Y) (hR h f_Machine_small (C + 32)) 0 (cv + 32)) _ = k_Host ∧ _
    rw [cc_sA G (by decide), eX, eh, ew, es, lsm]
    refine ⟨kH, kWd, ?_⟩
    obtain ⟨by_, fr, sz, nx, WW⟩ := (HXc (X' := smX X (smL pf.length L))).wd
    have rw' : RW (cc h C (smX X (smL pf.length L)) Y) (hR h f_Machine_small (C + 32)) 0 (smL pf.length L) := ⟨by rw [ccl, lw]; omega, fun i hi => by rw [ccA G (by decide), Nat.zero_add]; exact smX_g hi⟩
    have eo : hR (cc h C (smX X (smL pf.length L)) Y) f_Member_owner (hB h (ho + 3) m) = hB h (ho + 2) (g.1 5 m).toNat := by rw [ccRo (by decide)]; exact mo3
    have eB := (HX.ccB (X := smX X (smL pf.length L)) (Y := Y) G)
    have e5 : ((g.1 5 m).toNat : Int) = g.1 5 m := Int.toNat_of_nonneg mo1
    have kT := (HX.tp (i := (g.1 5 m).toNat) (by omega)).1
    refine c_find (d := d + 11) (at_ := 0) WW (by rw [ccK, kw]; decide) rw' z5.1 (fun j h1 h2 => ⟨fun _ => ⟨m1, ?_⟩, fun z => absurd z (by omega)⟩) (fun h1 => ⟨fun z => absurd z (by decide), fun _ => ?_⟩)
    · rw [eo]
      refine ⟨kT.1, ?_⟩
      have := c_near (ρ := ρ) (d := d + 1) (k := (g.1 5 m).toNat) (E := fun e29 h28 => hK h28 e29 ≠ 0 ∧ cR FR E (Sum.inr e29) h28) (FR := fun x31 h26 => wpB PGm ρ (d + 13) m_Machine_told 130 [(1, vR (hB h (ho + 3) m)), (3, vI ty)] [vR x31] h26 (cR FR E)) W W2 (HXc (X' := smX X (smL pf.length L))) h1 h2 (by omega) (fun f hf fM => ?_) (fun hf => ?_)
      · rw [eB.1] at this; exact this
      · rw [e5] at hf
        rw [eB.2]
        exact g130 _ (some f) p1 hf (fun f' e => by cases e; exact fM)
      · rw [e5] at hf
        exact g130 _ none p1 hf (fun f' e => by cases e)
    · have hf := fld_none (st := -1) (b := 61) W W2 HX (c := (g.1 5 m).toNat) (by omega) h1
      rw [e5] at hf
      exact g130 _ none p1 hf (fun f' e => by cases e)
  -- the letters
  have lp : pfxB pf L = true → pf.length < L.length → ∀ mm j, j + mm = L.length - pf.length → wpB PGm ρ (d + 13) m_Machine_told 39 [(0, vR (C + 32)), (1, vR (hB h (ho + 3) m)), (2, vR r), (3, vI ty), (4, vI ((L.length - pf.length : Nat) : Int)), (5, vI (j : Int))] [] (cc h C (smX X ((L.drop pf.length).take j)) Y) (cR FR E) := fun p1 lt mm => by
    induction mm with
    | zero =>
      intro j hj
      have ej : j = L.length - pf.length := by omega
      subst ej
      have : (L.drop pf.length).take (L.length - pf.length) = L.drop pf.length := List.take_of_length_le (by rw [List.length_drop]; omega)
      rw [this]
      refine g39 p1 (L.drop (pf.length + 1)) lt ?_
      rw [List.getD_eq_getElem?_getD, List.getElem?_eq_getElem lt]
      exact List.drop_eq_getElem_cons lt
    | succ mm ih =>
      intro j hj
      have jl : pf.length + j < L.length := by omega
      obtain ⟨by_, fr, sz, nx, WW⟩ := (HXc (X' := smX X ((L.drop pf.length).take j))).wd
      obtain ⟨t1, t2, t3⟩ := sk.cc (X := smX X ((L.drop pf.length).take j)) (Y := Y) G
      have lj := lr (pf.length + j) jl
      have ll : ((L.drop pf.length).take j).length = j := by rw [List.length_take, List.length_drop]; omega
      have gj : (L.drop pf.length).getD j 0 = L.getD (pf.length + j) 0 := by
        rw [List.getD_eq_getElem?_getD, List.getElem?_drop, ← List.getD_eq_getElem?_getD]
      have eX : u3 (smX X ((L.drop pf.length).take j)) 32 f_Machine_small j (L.getD (pf.length + j) 0) = smX X ((L.drop pf.length).take (j + 1)) := by
        have := smX_s (X := X) (bs := (L.drop pf.length).take j) (x := L.getD (pf.length + j) 0)
        rw [ll, ← gj, ← take_s (by rw [List.length_drop]; omega)] at this
        rw [← gj]; exact this
      have z1 : ¬ ((L.length - pf.length : Nat) : Int) ≤ (j : Int) ∧ pf.length + j ≤ 2000000000 ∧ j ≤ 2000000000 ∧ 0 ≤ (j : Int) ∧ (j : Int) < ((32 : Nat) : Int) := by omega
      have w8e : w8 (L.getD (pf.length + j) 0) = L.getD (pf.length + j) 0 := w8_of (by omega) (by omega)
      have lj2 : -128 ≤ L.getD (pf.length + j) 0 ∧ L.getD (pf.length + j) 0 ≤ 127 := by omega
      refine b_Machine_told_39 (d := d + 12) (by omega) ⟨fun z => absurd z z1.1, fun _ => ⟨kM, ?_⟩⟩
      rw [eh, ew, es, en, t2, w32_aa z1.2.1, w32_p1 z1.2.2.1]
      refine ⟨kH, m1, t1, t1, kWd, c_byteAt WW n1 (by rw [n2]; exact jl) ?_⟩
      rw [n2]
      show (((hK (cc h C (smX X ((L.drop pf.length).take j)) Y) (hR h f_Machine_small (C + 32)) = 3 ∧ -128 ≤ w8 (L.getD (pf.length + j) 0) ∧ w8 (L.getD (pf.length + j) 0) ≤ 127) ∨ _) ∧ _) ∧ _
      rw [w8e]
      refine ⟨⟨Or.inl ⟨kw, lj2.1, lj2.2⟩, z1.2.2.2.1, by rw [ccl, lw]; exact z1.2.2.2.2⟩, ?_⟩
      rw [Int.toNat_natCast, cc_sA G (by decide), eX]
      exact ih (j + 1) (by omega)
  have none' : ¬ pfxB pf L = true → toG g m pf ty = none := fun z => by unfold toG; rw [hLL, if_neg z]
  refine b_Machine_told_0 (d := d + 12) (by omega) ⟨m1, kM, ?_⟩
  rw [en]
  refine r_beg (d := d + 1) HXc kM eh s1 s2 s3 n1 n2 (by omega) (fun p1 => ⟨fun _ => ⟨kM, ?_⟩, fun z => absurd z (by decide)⟩) (fun p0 => ⟨fun z => absurd rfl z, fun _ => ?_⟩)
  · have lt := (pfx_len p1).1
    obtain ⟨by_, fr, sz, nx, WW⟩ := (HXc (X' := X)).wd
    obtain ⟨x1, x2, -⟩ := WW.2.2.2.2.2.2.1 nm n1
    have hl1 : hl (cc h C X Y) sz = hl (cc h C X Y) fr := WW.2.2.2.2.1.1
    have hl2 : hw.length ≤ hl (cc h C X Y) fr := WW.2.2.2.2.1.2.2.1
    rw [n2] at x2
    have := lp p1 lt (L.length - pf.length) 0 (by omega)
    rw [List.take_zero, smX_0] at this
    have z1 : pf.length ≤ L.length ∧ L.length ≤ 2000000000 ∧ 0 ≤ (nm : Int) ∧ (nm : Int) < (hl (cc h C X Y) sz : Int) := by omega
    rw [eh, ew, en, WW.2.1.2.2.1, Int.toNat_natCast, x2, s2, w32_ss ⟨z1.1, z1.2.1⟩]
    exact ⟨kH, kWd, m1, ⟨by rw [WW.2.2.1.2.2.1]; decide, z1.2.2.1, z1.2.2.2⟩, s1, s1, this⟩
  · have f0 := fin []
    rw [none' p0, smX_0] at f0
    exact f0
end
