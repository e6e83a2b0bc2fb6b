/-! C's host: the one that is called -/
set_option maxRecDepth 20000
/-- those that may be chosen: setters have one parameter -/
def fsB (g : HG) (sb : Int) (m : Nat) : Bool := decide (sb = 0) || decide (((g.2 2 m).length : Int) = 1)
section
variable {ρ : Nat → Nat} {d : Nat} {Q : QT} {h h' h1 h2 : ah} {ho k n m i j N M a b z s x y ca ph : Nat} {g : HG} {v p es lo sb : Int} {hw : List (List Int)} {L ts : List Int} {cs o : List Nat} {w : Nat → Bool} {F : Int → ah → Prop} {E : Nat → ah → Prop} {FR : Nat → ah → Prop}
theorem more_eq (fa : fitB g ph ts a = true) (fb : fitB g ph ts b = true) (hp : 1 ≤ ph ∧ ph ≤ 3) (W : HPW g N M) (ha : a < M) (hb : b < M) : ((g.2 2 a).length = (g.2 2 b).length ∨ (1 ≤ (g.2 2 a).length ∧ 1 ≤ (g.2 2 b).length)) ∧ (List.range (if (g.2 2 a).length < (g.2 2 b).length then (g.2 2 b).length else (g.2 2 a).length)).all (fun k => unB g (parG g a k) (parG g b k)) = morB g ph ts a b := by
  unfold fitB at fa fb
  simp only [Bool.and_eq_true, decide_eq_true_eq] at fa fb
  obtain ⟨a1, a2, -⟩ := fa
  obtain ⟨b1, b2, -⟩ := fb
  unfold morB mrN
  by_cases c : ph < 3
  · rw [if_pos c] at a2 b2
    refine ⟨Or.inl (by omega), ?_⟩
    rw [if_pos c, if_neg (by omega), a2]
  · have c3 : ph = 3 := by omega
    rw [if_pos c3] at a1 b1
    refine ⟨Or.inr ⟨(W a ha).2.2.1 a1, (W b hb).2.2.1 b1⟩, ?_⟩
    rw [if_neg c]
theorem c_most (H : HCX ρ h ho g N M hw) (W : HPW g N M) (hd : 12 ≤ d) (A : MNT h ho M cs) (hm : m < M) (fm : fitB g ph ts m = true) (hp : 1 ≤ ph ∧ ph ≤ 3) (CR : CLR h ca ts) (ht : ts.length ≤ 8) (hts : ∀ i, i < ts.length → 0 ≤ ts.getD i 0 ∧ ts.getD i 0 < 9 + (N : Int)) (q1 : (cs.filter (fsB g sb)).all (fun o => decide (o = m) || (!(fitB g ph ts o) || morB g ph ts m o)) = true → F 1 h) (q0 : ¬ (cs.filter (fsB g sb)).all (fun o => decide (o = m) || (!(fitB g ph ts o) || morB g ph ts m o)) = true → F 0 h) : wpB PGm ρ (d + 2) m_Host_isMostSpecific 0 [(0, vR ho), (1, vR (hB h (ho + 3) m)), (2, vI (ph : Int)), (3, vI sb), (4, vR ca), (5, vI (ts.length : Int))] [] h (cI F E) := by
  obtain ⟨t1, t2, t3, t4, t5, t6⟩ := H.mt
  obtain ⟨x1, x2, x3, x4, x5, x6, x7, x8, x9, x10, x11⟩ := H.hh
  have k11 : hK h (ho + 11) = k_ArrayList := t2.1.1
  have len := A.len x11
  have lp : ∀ mm j, j + mm = cs.length → (∀ i, i < j → fsB g sb (cs.getD i 0) = true → (decide (cs.getD i 0 = m) || (!(fitB g ph ts (cs.getD i 0)) || morB g ph ts m (cs.getD i 0))) = true) → wpB PGm ρ (d + 2) m_Host_isMostSpecific 3 [(0, vR ho), (1, vR (hB h (ho + 3) m)), (2, vI (ph : Int)), (3, vI sb), (4, vR ca), (5, vI (ts.length : Int)), (6, vI (j : Int))] [] h (cI F E) := fun mm => by
    induction mm with
    | zero =>
      intro j hj hp'
      have ln : (hl h (ho + 11) : Int) ≤ (j : Int) ∧ ¬ (j : Int) < (hl h (ho + 11) : Int) := by rw [A.1]; omega
      refine b_Host_isMostSpecific_3 (by omega) ⟨x1, ?_⟩
      rw [t1]
      refine ⟨k11, t2.1, fun _ => q1 (List.all_eq_true.mpr (fun o ho' => ?_)), fun c => absurd c ln.2⟩
      obtain ⟨h1, h2⟩ := List.mem_filter.mp ho'
      obtain ⟨i, hi, rfl⟩ := List.mem_iff_getElem.mp h1
      have := hp' i (by omega)
      rw [List.getD_eq_getElem?_getD, List.getElem?_eq_getElem hi] at this
      exact this h2
    | succ mm ih =>
      intro j hj hp'
      have jl : j < cs.length := by omega
      have ln : ¬ (hl h (ho + 11) : Int) ≤ (j : Int) ∧ (j : Int) < (hl h (ho + 11) : Int) ∧ 0 ≤ (j : Int) ∧ j ≤ 2000000000 := by rw [A.1]; omega
      have oM : cs.getD j 0 < M := A.2.2.1 _ (gtD_m jl)
      obtain ⟨⟨a1, -⟩, -, -, -, -, -, -, -, -, -, -, -, p1, p2, p3, p4, p5, p6, p7⟩ := H.me oM
      have nxt : (fsB g sb (cs.getD j 0) = true → (decide (cs.getD j 0 = m) || (!(fitB g ph ts (cs.getD j 0)) || morB g ph ts m (cs.getD j 0))) = true) → wpB PGm ρ (d + 2) m_Host_isMostSpecific 3 [(0, vR ho), (1, vR (hB h (ho + 3) m)), (2, vI (ph : Int)), (3, vI sb), (4, vR ca), (5, vI (ts.length : Int)), (6, vI (w32 ((j : Int) + 1)))] [] h (cI F E) := fun ok => by
        rw [w32_p1 ln.2.2.2]
        exact ih (j + 1) (by omega) (fun i hi => by
          by_cases c : i = j
          · rw [c]; exact ok
          · exact hp' i (by omega))
      refine b_Host_isMostSpecific_3 (by omega) ⟨x1, ?_⟩
      rw [t1]
      refine ⟨k11, t2.1, fun c => absurd c ln.1, fun _ => ⟨k11, ⟨t2.1, ln.2.2.1, ln.2.1⟩, ?_⟩⟩
      rw [Int.toNat_natCast, A.2.1 j jl]
      refine ⟨Or.inr (by rw [a1]; decide), fun e => nxt (fun _ => ?_), fun e => ?_⟩
      · rw [decide_eq_true (H.mad _ _ oM hm e)]; rfl
      · have ne : ¬ cs.getD j 0 = m := fun c => e (by rw [c])
        have g49 : fsB g sb (cs.getD j 0) = true → wpB PGm ρ (d + 2) m_Host_isMostSpecific 49 [(0, vR ho), (1, vR (hB h (ho + 3) m)), (2, vI (ph : Int)), (3, vI sb), (4, vR ca), (5, vI (ts.length : Int)), (6, vI (j : Int)), (7, vR (hB h (ho + 3) (cs.getD j 0)))] [] h (cI F E) := fun fs => by
          refine b_Host_isMostSpecific_49 (d := d + 1) ⟨x1, ?_⟩
          refine c_fits (d := d) H W hd oM hp CR ht hts (fun fo => ⟨fun _ => ⟨x1, ?_⟩, fun c => absurd c (by decide)⟩) (fun nf => ⟨fun c => absurd rfl c, fun _ => nxt (fun _ => ?_)⟩)
          · obtain ⟨m1, m2⟩ := more_eq fm fo hp W hm oM
            refine wp_d (show d - 1 + 2 = d + 1 by omega) (c_more (d := d - 1) H W (by omega) hm oM m1 (fun z => ⟨fun _ => nxt (fun _ => ?_), fun c => absurd c (by decide)⟩) (fun z => ⟨fun c => absurd rfl c, fun _ => q0 (fun c => ?_)⟩))
            · rw [m2] at z; rw [z]; simp
            · rw [m2] at z
              have := List.all_eq_true.mp c (cs.getD j 0) (List.mem_filter.mpr ⟨gtD_m jl, fs⟩)
              rw [decide_eq_false ne, fo] at this
              simp only [Bool.not_true, Bool.false_or] at this
              exact z this
          · have : fitB g ph ts (cs.getD j 0) = false := by simpa using nf
            rw [this]; simp
        refine ⟨fun s0 => g49 (by unfold fsB; rw [decide_eq_true s0]; rfl), fun s0 => ⟨a1, by rw [p4]; decide, ?_⟩⟩
        rw [p5]
        refine ⟨fun c => nxt (fun fs => ?_), fun c => g49 (by unfold fsB; rw [decide_eq_true c]; simp)⟩
        exfalso
        unfold fsB at fs
        rw [decide_eq_false s0, decide_eq_false c] at fs
        exact absurd fs (by decide)
  exact b_Host_isMostSpecific_0 (lp cs.length 0 (by omega) (fun i hi => absurd hi (Nat.not_lt_zero _)))
/-- the end of a phase, of all of them -/
theorem c_cho34 (H : HCX ρ h ho g N M hw) (W : HPW g N M) (hd : 12 ≤ d) (A : MNT h ho M cs) (CR : CLR h ca ts) (ht : ts.length ≤ 8) (hts : ∀ i, i < ts.length → 0 ≤ ts.getD i 0 ∧ ts.getD i 0 < 9 + (N : Int)) (q1 : ∀ v : Nat, sglG g ts (cs.filter (fsB g sb)) = (v : Int) → v < M → FR (hB h (ho + 3) v) h) (q0 : ∀ x : Int, (x = 8 ∨ x = 9) → sglG g ts (cs.filter (fsB g sb)) = -x → FR 0 (sI h f_Host_why ho x)) : ∀ mm ph, ph + mm = 4 → 1 ≤ ph → (∀ p, 1 ≤ p → p < ph → phG g ts (cs.filter (fsB g sb)) p = none) → wpB PGm ρ (d + 3) m_Host_choose 34 [(0, vR ho), (5, vI sb), (6, vR ca), (7, vI (ts.length : Int)), (8, vI (ph : Int))] [] h (cR FR E) := fun mm => by
  obtain ⟨t1, t2, t3, t4, t5, t6⟩ := H.mt
  obtain ⟨x1, x2, x3, x4, x5, x6, x7, x8, x9, x10, x11⟩ := H.hh
  have k11 : hK h (ho + 11) = k_ArrayList := t2.1.1
  have len := A.len x11
  obtain ⟨cf, ecf⟩ : ∃ cf, cf = cs.filter (fsB g sb) := ⟨_, rfl⟩
  induction mm with
  | zero =>
    intro ph hph h1 no
    have e4 : ph = 4 := by omega
    subst e4
    refine b_Host_choose_34 ⟨fun _ => ⟨x1, q0 9 (Or.inr rfl) ?_⟩, fun c => absurd c (by decide)⟩
    unfold sglG
    rw [no 1 (by omega) (by omega), no 2 (by omega) (by omega), no 3 (by omega) (by omega)]
    rfl
  | succ mm ih =>
    intro ph hph h1 no
    have hp : 1 ≤ ph ∧ ph ≤ 3 := by omega
    -- how the phase says
    have sg : ∀ v, phG g ts cf ph = some v → sglG g ts cf = v := fun v e => by
      rw [← ecf] at no
      unfold sglG
      have : ph = 1 ∨ ph = 2 ∨ ph = 3 := by omega
      rcases this with c | c | c
      · subst c; rw [e]; rfl
      · subst c; rw [no 1 (by omega) (by omega), e]; rfl
      · subst c; rw [no 1 (by omega) (by omega), no 2 (by omega) (by omega), e]; rfl
    have lp : ∀ nn j, j + nn = cs.length → ∀ (best : Nat) (an mo : Int) (mst : List Nat), mst = ((cs.take j).filter (fsB g sb)).filter (mstB g ph ts cf) → mo = (mst.length : Int) → (mst ≠ [] → best = hB h (ho + 3) (mst.getLastD 0)) → (an = 1 ∧ ((cs.take j).filter (fsB g sb)).any (fitB g ph ts) = true ∨ an = 0 ∧ ¬ ((cs.take j).filter (fsB g sb)).any (fitB g ph ts) = true) → wpB PGm ρ (d + 3) m_Host_choose 52 [(0, vR ho), (5, vI sb), (6, vR ca), (7, vI (ts.length : Int)), (8, vI (ph : Int)), (9, vR best), (10, vI an), (11, vI mo), (12, vI (j : Int))] [] h (cR FR E) := fun nn => by
      induction nn with
      | zero =>
        intro j hj best an mo mst em eo eb ea
        have ej : j = cs.length := by omega
        rw [ej, List.take_length, ← ecf] at em ea
        have ln : (hl h (ho + 11) : Int) ≤ (j : Int) ∧ ¬ (j : Int) < (hl h (ho + 11) : Int) := by rw [A.1]; omega
        have z0 : ph ≤ 2000000000 := by omega
        refine b_Host_choose_52 (by omega) ⟨x1, ?_⟩
        rw [t1]
        refine ⟨k11, t2.1, fun _ => ⟨fun n1 => ⟨fun a0 => ?_, fun a0 => q0 8 (Or.inl rfl) ?_⟩, fun n1 => ?_⟩, fun c => absurd c ln.2⟩
        · rw [w32_p1 z0]
          refine ih (ph + 1) (by omega) (by omega) (fun p h1 h2 => ?_)
          by_cases c : p = ph
          · rw [c, ← ecf]
            unfold phG
            rcases ea with ⟨z, -⟩ | ⟨-, z⟩
            · omega
            · rw [if_neg z]
          · exact no p h1 (by omega)
        · rw [← ecf]
          refine sg (-8) ?_
          unfold phG
          rcases ea with ⟨-, z⟩ | ⟨z, -⟩
          · rw [if_pos z, if_neg]
            rw [← em]; omega
          · exact absurd z a0
        · have l1 : mst.length = 1 := by omega
          have nn : mst ≠ [] := fun c => by rw [c] at l1; cases l1
          rw [eb nn]
          have mm1 : mst.getLastD 0 ∈ mst := by
            match mst, l1 with
            | [y], _ => simp
          have mc : mst.getLastD 0 ∈ cf := by rw [em] at mm1 ⊢; exact (List.mem_filter.mp mm1).1
          have ft : fitB g ph ts (mst.getLastD 0) = true := by
            rw [em] at mm1 ⊢
            have := (List.mem_filter.mp mm1).2
            unfold mstB at this
            simp only [Bool.and_eq_true] at this
            exact this.1
          have mM : mst.getLastD 0 < M := by rw [ecf] at mc; exact A.2.2.1 _ (List.mem_filter.mp mc).1
          refine q1 (mst.getLastD 0) ?_ mM
          rw [← ecf]
          refine sg _ ?_
          unfold phG
          rw [if_pos (List.any_eq_true.mpr ⟨_, mc, ft⟩), ← em, if_pos l1]
      | succ nn ihn =>
        intro j hj best an mo mst em eo eb ea
        have jl : j < cs.length := by omega
        have ln : ¬ (hl h (ho + 11) : Int) ≤ (j : Int) ∧ (j : Int) < (hl h (ho + 11) : Int) ∧ 0 ≤ (j : Int) ∧ j ≤ 2000000000 := by rw [A.1]; omega
        have oM : cs.getD j 0 < M := A.2.2.1 _ (gtD_m jl)
        obtain ⟨⟨a1, -⟩, -, -, -, -, -, -, -, -, -, -, -, p1, p2, p3, p4, p5, p6, p7⟩ := H.me oM
        have tk : (cs.take (j + 1)).filter (fsB g sb) = (cs.take j).filter (fsB g sb) ++ (if fsB g sb (cs.getD j 0) = true then [cs.getD j 0] else []) := take_last jl _
        have mlen : mst.length ≤ cs.length := by
          rw [em]
          have h1 := List.length_filter_le (mstB g ph ts cf) ((cs.take j).filter (fsB g sb))
          have h2 := List.length_filter_le (fsB g sb) (cs.take j)
          rw [List.length_take] at h2
          omega
        -- it does not go in
        have skip : fsB g sb (cs.getD j 0) = false ∨ fitB g ph ts (cs.getD j 0) = false → wpB PGm ρ (d + 3) m_Host_choose 52 [(0, vR ho), (5, vI sb), (6, vR ca), (7, vI (ts.length : Int)), (8, vI (ph : Int)), (9, vR best), (10, vI an), (11, vI mo), (12, vI (w32 ((j : Int) + 1)))] [] h (cR FR E) := fun c => by
          rw [w32_p1 ln.2.2.2]
          refine ihn (j + 1) (by omega) best an mo mst ?_ eo eb ?_
          · rw [tk, List.filter_append, ← em]
            rcases c with c | c
            · rw [c]; simp
            · have : mstB g ph ts cf (cs.getD j 0) = false := by unfold mstB; rw [c]; rfl
              split
              · rw [List.filter_cons_of_neg (by rw [this]; decide)]; simp
              · simp
          · rw [tk, List.any_append]
            have : (if fsB g sb (cs.getD j 0) = true then [cs.getD j 0] else []).any (fitB g ph ts) = false := by
              rcases c with c | c
              · rw [c]; rfl
              · split
                · simp only [List.any_cons, List.any_nil, c, Bool.or_false]
                · rfl
            rw [this, Bool.or_false]
            exact ea
        have g93 : fsB g sb (cs.getD j 0) = true → wpB PGm ρ (d + 3) m_Host_choose 93 [(0, vR ho), (5, vI sb), (6, vR ca), (7, vI (ts.length : Int)), (8, vI (ph : Int)), (9, vR best), (10, vI an), (11, vI mo), (12, vI (j : Int)), (13, vR (hB h (ho + 3) (cs.getD j 0)))] [] h (cR FR E) := fun fs => by
          rw [fs] at tk
          simp only [if_true] at tk
          refine b_Host_choose_93 (d := d + 2) ⟨x1, ?_⟩
          refine c_fits (d := d + 1) H W (by omega) oM hp CR ht hts (fun fo => ⟨fun _ => ⟨x1, ?_⟩, fun c => absurd c (by decide)⟩) (fun nf => ⟨fun c => absurd rfl c, fun _ => skip (Or.inr (by simpa using nf))⟩)
          have any1 : ((cs.take (j + 1)).filter (fsB g sb)).any (fitB g ph ts) = true := by
            rw [tk, List.any_append]
            simp only [List.any_cons, List.any_nil, fo, Bool.or_false, Bool.or_true]
          refine c_most (d := d) (sb := sb) H W hd A oM fo hp CR ht hts (fun z => ⟨fun _ => ?_, fun c => absurd c (by decide)⟩) (fun z => ⟨fun c => absurd rfl c, fun _ => ?_⟩)
          · have mt : mstB g ph ts cf (cs.getD j 0) = true := by
              unfold mstB
              rw [fo, Bool.true_and, ecf]; exact z
            have z1 : mst.length ≤ 2000000000 := by omega
            rw [eo, w32_p1 z1, w32_p1 ln.2.2.2]
            refine ihn (j + 1) (by omega) _ 1 _ (mst ++ [cs.getD j 0]) ?_ (by simp) (fun _ => by simp [List.getLastD_concat]) (Or.inl ⟨rfl, any1⟩)
            rw [tk, List.filter_append, ← em, List.filter_cons_of_pos mt]; rfl
          · have mt : mstB g ph ts cf (cs.getD j 0) = false := by
              unfold mstB
              rw [fo, Bool.true_and, ecf]; simpa using z
            rw [w32_p1 ln.2.2.2]
            refine ihn (j + 1) (by omega) best 1 mo mst ?_ eo eb (Or.inl ⟨rfl, any1⟩)
            rw [tk, List.filter_append, ← em, List.filter_cons_of_neg (by rw [mt]; decide)]; simp
        refine b_Host_choose_52 (by omega) ⟨x1, ?_⟩
        rw [t1]
        refine ⟨k11, t2.1, fun c => absurd c ln.1, fun _ => ⟨k11, ⟨t2.1, ln.2.2.1, ln.2.1⟩, ?_⟩⟩
        rw [Int.toNat_natCast, A.2.1 j jl]
        refine ⟨Or.inr (by rw [a1]; decide), fun s0 => g93 (by unfold fsB; rw [decide_eq_true s0]; rfl), fun s0 => ⟨a1, by rw [p4]; decide, ?_⟩⟩
        rw [p5]
        refine ⟨fun c => skip (Or.inl ?_), fun c => g93 (by unfold fsB; rw [decide_eq_true c]; simp)⟩
        unfold fsB
        rw [decide_eq_false s0, decide_eq_false c]; rfl
    refine b_Host_choose_34 ⟨fun c => by omega, fun _ => lp cs.length 0 (by omega) 0 0 0 [] (by simp) rfl (fun c => absurd rfl c) (Or.inr ⟨rfl, by simp⟩)⟩
end
