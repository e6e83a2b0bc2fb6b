/-! what a method tells of, and what C keeps of it -/
set_option maxRecDepth 20000
def kwO (g : HG) (m : Nat) : Option Nat := if (g.2 2 m).length = 0 ∧ ¬ g.1 8 m = 0 then (match toG g m xGET (g.1 8 m) with | some f => some f | none => if g.1 8 m = 3 then toG g m xIS 3 else none) else if (g.2 2 m).length = 1 ∧ g.1 9 m = 0 ∧ g.1 8 m = 0 then toG g m xSET ((g.2 2 m).getD 0 0) else none
def kwS (g : HG) (m : Nat) : Int := if (g.2 2 m).length = 1 ∧ g.1 9 m = 0 ∧ g.1 8 m = 0 then 1 else 0
/-- what C keeps of methods -/
def MMO (h : ah) (ho : Nat) (g : HG) (M : Nat) : Prop := ∀ m, m < M → (hI h f_Member_isKnown (hB h (ho + 3) m) = 0 ∧ hR h f_Member_field (hB h (ho + 3) m) = 0 ∧ hI h f_Member_sets (hB h (ho + 3) m) = 0) ∨ (hI h f_Member_isKnown (hB h (ho + 3) m) = 1 ∧ hR h f_Member_field (hB h (ho + 3) m) = adO h ho (kwO g m) ∧ hI h f_Member_sets (hB h (ho + 3) m) = kwS g m)
section
variable {ρ : Nat → Nat} {d : Nat} {Q : QT} {h h1 h' : ah} {C ho N M k n m r i j nm nw o f z s : Nat} {g : HG} {pf L bs : List Int} {hw : List (List Int)} {F : Int → ah → Prop} {E : Nat → ah → Prop} {FR : Nat → ah → Prop} {ty c x : Int} {X : X3} {Y : Y3} {LL : List Nat} {Pp : List (Nat × Nat)}
theorem pfx_at (h : pfxB pf L = true) (hi : i < pf.length) : L.getD i 0 = pf.getD i 0 := by
  unfold pfxB at h
  rw [Bool.and_eq_true, Bool.and_eq_true] at h
  exact of_decide_eq_true h.2.1 i hi
theorem pfx_gi (a : pfxB xGET L = true) : ¬ pfxB xIS L = true := fun b => by
  have a1 := pfx_at a (i := 0) (by decide)
  have b1 := pfx_at b (i := 0) (by decide)
  rw [a1] at b1
  exact absurd b1 (by decide)
theorem pfx_si (a : pfxB xSET L = true) : ¬ pfxB xIS L = true := fun b => by
  have a1 := pfx_at a (i := 0) (by decide)
  have b1 := pfx_at b (i := 0) (by decide)
  rw [a1] at b1
  exact absurd b1 (by decide)
theorem toG_n (a : ¬ pfxB pf (g.2 3 m) = true) : toG g m pf ty = none := by unfold toG; rw [if_neg a]
theorem kw_ff (W : HWF g N M) (hm : m < M) (hc : g.1 5 m < (N : Int)) (tn : ∀ f, f < M → g.1 6 f = 0 → ¬ g.1 8 f = 0) : ffG g m = match kwO g m with | none => -1 | some f => (f : Int) := by
  have e3 : xGET.length = 3 := rfl
  have e4 : xSET.length = 3 := rfl
  have e2 : xIS.length = 2 := rfl
  have gt : ∀ pf ty, pfxB pf (g.2 3 m) = true → (match toG g m pf ty with | none => (-1 : Int) | some f => (f : Int)) = (match fldG g (-1) (smL pf.length (g.2 3 m)) 61 (g.1 5 m) with | none => -1 | some f => if g.1 7 f = g.1 7 m ∧ g.1 8 f = ty then (f : Int) else -1) := fun pf ty p => by
    unfold toG
    rw [if_pos p]
    cases fldG g (-1) (smL pf.length (g.2 3 m)) 61 (g.1 5 m) with
    | none => rfl
    | some f =>
      show (match (if g.1 8 f = ty ∧ g.1 7 f = g.1 7 m then some f else none) with | none => (-1 : Int) | some f => (f : Int)) = if g.1 7 f = g.1 7 m ∧ g.1 8 f = ty then (f : Int) else -1
      by_cases w : g.1 8 f = ty ∧ g.1 7 f = g.1 7 m
      · rw [if_pos w, if_pos ⟨w.2, w.1⟩]
      · rw [if_neg w, if_neg (fun c => w ⟨c.2, c.1⟩)]
  have sb : setB g m = true ↔ (pfxB xSET (g.2 3 m) = true ∧ g.1 8 m = 0 ∧ (g.2 2 m).length = 1 ∧ g.1 9 m = 0) := by
    unfold setB; simp only [Bool.and_eq_true, decide_eq_true_eq]
  have gb : getB g m = true ↔ ((g.2 2 m).length = 0 ∧ (pfxB xGET (g.2 3 m) = true ∨ (pfxB xIS (g.2 3 m) = true ∧ g.1 8 m = 3))) := by
    unfold getB; simp only [Bool.and_eq_true, Bool.or_eq_true, decide_eq_true_eq]
  have k3 : ¬ pfxB xIS (g.2 3 m) = true → skG (g.2 3 m) = 3 := fun w => by unfold skG; rw [if_neg (fun c => w c.1)]
  unfold ffG kwO
  by_cases c1 : (g.2 2 m).length = 0 ∧ ¬ g.1 8 m = 0
  · have ns : ¬ setB g m = true := fun c => c1.2 (sb.mp c).2.1
    rw [if_pos c1]
    by_cases c2 : pfxB xGET (g.2 3 m) = true
    · rw [if_pos (Or.inr (gb.mpr ⟨c1.1, Or.inl c2⟩)), k3 (pfx_gi c2), if_neg ns]
      have A := gt xGET (g.1 8 m) c2
      rw [e3] at A
      refine Eq.trans A.symm ?_
      cases toG g m xGET (g.1 8 m) with
      | some f => rfl
      | none =>
        show (-1 : Int) = match (if g.1 8 m = 3 then toG g m xIS 3 else none) with | none => (-1 : Int) | some f => (f : Int)
        rw [toG_n (pfx_gi c2)]
        split <;> simp_all
    · rw [toG_n c2]
      by_cases c3 : pfxB xIS (g.2 3 m) = true ∧ g.1 8 m = 3
      · have k2 : skG (g.2 3 m) = 2 := by
          unfold skG
          rw [if_pos ⟨c3.1, fun c => pfx_si c c3.1, c2⟩]
        rw [if_pos (Or.inr (gb.mpr ⟨c1.1, Or.inr c3⟩)), k2, if_neg ns]
        have A := gt xIS (g.1 8 m) c3.1
        rw [e2] at A
        refine Eq.trans A.symm ?_
        show _ = match (if g.1 8 m = 3 then toG g m xIS 3 else none) with | none => (-1 : Int) | some f => (f : Int)
        rw [if_pos c3.2, c3.2]
      · rw [if_neg (fun c => by
          rcases c with c | c
          · exact ns c
          · rcases (gb.mp c).2 with z | z
            · exact c2 z
            · exact c3 z)]
        show (-1 : Int) = match (if g.1 8 m = 3 then toG g m xIS 3 else none) with | none => (-1 : Int) | some f => (f : Int)
        by_cases c4 : g.1 8 m = 3
        · rw [if_pos c4, toG_n (fun c => c3 ⟨c, c4⟩)]
        · rw [if_neg c4]
  · rw [if_neg c1]
    by_cases c5 : (g.2 2 m).length = 1 ∧ g.1 9 m = 0 ∧ g.1 8 m = 0
    · rw [if_pos c5]
      have ng : ¬ getB g m = true := fun c => by have := (gb.mp c).1; omega
      by_cases c2 : pfxB xSET (g.2 3 m) = true
      · have ss := sb.mpr ⟨c2, c5.2.2, c5.1, c5.2.1⟩
        rw [if_pos (Or.inl ss), k3 (pfx_si c2), if_pos ss]
        have A := gt xSET ((g.2 2 m).getD 0 0) c2
        rw [e4] at A
        exact A.symm
      · rw [toG_n c2, if_neg (fun c => by
          rcases c with c | c
          · exact c2 (sb.mp c).1
          · exact ng c)]
    · rw [if_neg c5]
      by_cases c6 : setB g m = true ∨ getB g m = true
      · rw [if_pos c6]
        have ns : ¬ setB g m = true := fun c => c5 ⟨(sb.mp c).2.2.1, (sb.mp c).2.2.2, (sb.mp c).2.1⟩
        have gg := gb.mp (c6.resolve_left ns)
        have t0 : g.1 8 m = 0 := Decidable.byContradiction (fun w => c1 ⟨gg.1, w⟩)
        rw [if_neg ns, t0]
        cases ef : fldG g (-1) (smL (skG (g.2 3 m)) (g.2 3 m)) 61 (g.1 5 m) with
        | none => rfl
        | some f =>
          obtain ⟨f1, f2⟩ := fld_lt W hc ef
          show (if g.1 7 f = g.1 7 m ∧ g.1 8 f = 0 then (f : Int) else -1) = -1
          have k0 : g.1 6 f = 0 := by
            unfold fbB at f2
            simp only [Bool.and_eq_true, decide_eq_true_eq] at f2
            exact f2.1
          rw [if_neg (fun c => tn f f1 k0 c.2)]
      · rw [if_neg c6]
theorem MMO.fr (H : MMO h ho g M) (HX : HCX ρ h ho g N M hw) (fr : Fr LL Pp z s h h') (ij : INJ h) (n1 : ∀ a, ¬ okW LL Pp f_Member_isKnown a ∧ ¬ okW LL Pp f_Member_field a ∧ ¬ okW LL Pp f_Member_sets a) (eb : ∀ j, j < M → hB h' (ho + 3) j = hB h (ho + 3) j) (ka : ∀ m f, m < M → kwO g m = some f → f < M) : MMO h' ho g M := fun m hm => by
  have a := (HX.me hm).1.2.1
  have ea : adO h' ho (kwO g m) = adO h ho (kwO g m) := by
    cases ek : kwO g m with
    | none => rfl
    | some f => exact eb f (ka m f hm ek)
  rw [eb m hm, ea, fr.I a (by decide) (n1 _).1, fr.R a (by decide) (n1 _).2.1, fr.I a (by decide) (n1 _).2.2]
  exact H m hm
end
