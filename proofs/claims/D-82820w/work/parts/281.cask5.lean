/-! C's host: what it is asked for -/
set_option maxRecDepth 20000
section
variable {ρ : Nat → Nat} {d : Nat} {Q : QT} {h h' h1 h2 : ah} {ho k n m i j N M a b z s x y ca ph c nw : Nat} {g : HG} {v p es lo sb st : Int} {hw : List (List Int)} {L ts : List Int} {cs o : List Nat} {w : Nat → Bool} {F : Int → ah → Prop} {E : Nat → ah → Prop} {FR : Nat → ah → Prop}
theorem MFR.why (a : MFR h ho h1) (v : Int) : MFR h ho (sI h1 f_Host_why ho v) := by
  obtain ⟨⟨z, s, f⟩, a1, a2⟩ := a
  refine ⟨⟨z, s, f.wI (by decide) (Or.inr (by simp [PMN]))⟩, ?_, ?_⟩
  · rw [I_Ine (show 2 ≠ f_Host_why by decide)]; exact a1
  · rw [I_Ine (show 2 ≠ f_Host_why by decide)]; exact a2
theorem MFR.ar' (a : MFR h ho h1) (H : INJ h) {f y : Nat} (hf : own f) (hy : y < hz h) (e : hR h f y = ca) (n0 : ca ≠ 0) (dj : ¬ okC [] (PMN ho) f y) : sameArr h h1 ca := by
  obtain ⟨⟨z, s, fr⟩, -⟩ := a
  exact fr.ar H hf hy e n0 dj (PMN0 _)
/-- all makers of a class -/
theorem c_makers (W2 : HMW g N M) (WX : HWX g N M) (hc : c < N) (H : HCX ρ h ho g N M hw) (q : ∀ h1, MFR h ho h1 → MNT h1 ho M (mkrG g c) → Q (Sum.inl none) h1) : wpB PGm ρ (d + 10) m_Host_mean 0 [(0, vR ho), (1, vR (hB h (ho + 2) c)), (2, vI 2), (3, vI 0), (4, vI (-1))] [] (sN h (ho + 11) 0) Q := by
  obtain ⟨t1, t2, t3, t4, t5, t6⟩ := H.mt
  obtain ⟨x1, x2, x3, x4, x5, x6, x7, x8, x9, x10, x11⟩ := H.hh
  have fN : MFR h ho (sN h (ho + 11) 0) := ⟨⟨0, 0, Fr.wN (Or.inr (Or.inr (Or.inr ⟨f_Host_meant, ho, x2, by unfold own; decide, t1, Or.inr (Or.inr (by simp [PMN]))⟩))) (Or.inr (by rw [t2.1.1]; decide)) Fr.r0⟩, Int.le_refl _, Int.le_refl _⟩
  have A0 : MNT (sN h (ho + 11) 0) ho M [] := ⟨if_pos rfl, fun i hi => absurd hi (Nat.not_lt_zero _), fun m hm => absurd hm List.not_mem_nil, List.nodup_nil⟩
  exact c_mean (d := d) W2 hc (mkr_w WX) (fN.hcx H) A0 (fun h1 f1 a1 => q h1 (fN.tr f1.1) (by rw [mkr_col WX hc] at a1; exact a1))
theorem c_hasMaker (W2 : HMW g N M) (WX : HWX g N M) (hc : c < N) (H : HCX ρ h ho g N M hw) (q1 : ∀ h1, MFR h ho h1 → ¬ mkrG g c = [] → F 1 h1) (q0 : ∀ h1, MFR h ho h1 → mkrG g c = [] → F 0 h1) : wpB PGm ρ (d + 11) m_Host_hasMaker 0 [(0, vR ho), (1, vR (hB h (ho + 2) c))] [] h (cI F E) := by
  obtain ⟨t1, t2, t3, t4, t5, t6⟩ := H.mt
  refine b_Host_hasMaker_0 (d := d + 10) (by omega) ⟨H.hh.1, ?_⟩
  rw [t1]
  refine ⟨t2.1.1, t2.1, c_makers (d := d) W2 WX hc H (fun h1 f1 a1 => ?_)⟩
  have H1 := f1.hcx H
  obtain ⟨u1, u2, -⟩ := H1.mt
  refine ⟨H1.hh.1, ?_⟩
  rw [u1, a1.1]
  refine ⟨u2.1.1, u2.1, fun c => q0 h1 f1 (List.eq_nil_of_length_eq_zero (by omega)), fun c => q1 h1 f1 (fun z => by rw [z] at c; exact absurd c (by decide))⟩
/-- the methods of a name -/
theorem c_methods (W : HGW g N) (W2 : HMW g N M) (WX : HWX g N M) (hc : c < N) (hs : st = 0 ∨ st = 1) (hst : st = 0 → g.1 1 c = 0) (h1' : nw < hw.length) (h2' : hw.getD nw [] = L) (H : HCX ρ h ho g N M hw) (q : ∀ h1, MFR h ho h1 → MNT h1 ho M (colG g (wtB g st L (-1)) (ordG g c)) → Q (Sum.inl none) h1) : wpB PGm ρ (d + 71) m_Host_findMethods 0 [(0, vR ho), (1, vR (hB h (ho + 2) c)), (2, vI st), (3, vI (nw : Int))] [] h Q :=
  c_findM (d := d) W W2 WX hc hst (wtB_w H.mt.2.2.2.2.2 h1' h2') H (fun h1 f1 a1 => q h1 f1 (by rw [colG_st W WX hc hs] at a1; exact a1))
theorem c_hasMethods (W : HGW g N) (W2 : HMW g N M) (WX : HWX g N M) (hc : c < N) (hs : st = 0 ∨ st = 1) (hst : st = 0 → g.1 1 c = 0) (h1' : nw < hw.length) (h2' : hw.getD nw [] = L) (H : HCX ρ h ho g N M hw) (q1 : ∀ h1, MFR h ho h1 → ¬ colG g (wtB g st L (-1)) (ordG g c) = [] → F 1 h1) (q0 : ∀ h1, MFR h ho h1 → colG g (wtB g st L (-1)) (ordG g c) = [] → F 0 h1) : wpB PGm ρ (d + 72) m_Host_hasMethods 0 [(0, vR ho), (1, vR (hB h (ho + 2) c)), (2, vI st), (3, vI (nw : Int))] [] h (cI F E) := by
  refine b_Host_hasMethods_0 (d := d + 71) (by omega) ⟨H.hh.1, c_methods (d := d) W W2 WX hc hs hst h1' h2' H (fun h1 f1 a1 => ?_)⟩
  have H1 := f1.hcx H
  obtain ⟨u1, u2, -⟩ := H1.mt
  refine ⟨H1.hh.1, ?_⟩
  rw [u1, a1.1]
  refine ⟨u2.1.1, u2.1, fun c => q0 h1 f1 (List.eq_nil_of_length_eq_zero (by omega)), fun c => q1 h1 f1 (fun z => by rw [z] at c; exact absurd c (by decide))⟩
theorem flt_nil (f : Nat → Bool) : cs.filter f = [] ↔ ∀ i, i < cs.length → f (cs.getD i 0) = false := by
  rw [List.filter_eq_nil_iff]
  constructor
  · intro H i hi
    have := H _ (gtD_m hi)
    simpa using this
  · intro H x hx
    obtain ⟨i, hi, rfl⟩ := List.mem_iff_getElem.mp hx
    have := H i hi
    rw [List.getD_eq_getElem?_getD, List.getElem?_eq_getElem hi] at this
    simpa using this
theorem c_hasSetter (W : HGW g N) (W2 : HMW g N M) (WX : HWX g N M) (hc : c < N) (hs : st = 0 ∨ st = 1) (hst : st = 0 → g.1 1 c = 0) (h1' : nw < hw.length) (h2' : hw.getD nw [] = L) (H : HCX ρ h ho g N M hw) (q1 : ∀ h1, MFR h ho h1 → ¬ colG g (wtB g st L 1) (ordG g c) = [] → F 1 h1) (q0 : ∀ h1, MFR h ho h1 → colG g (wtB g st L 1) (ordG g c) = [] → F 0 h1) : wpB PGm ρ (d + 72) m_Host_hasSetter 0 [(0, vR ho), (1, vR (hB h (ho + 2) c)), (2, vI st), (3, vI (nw : Int))] [] h (cI F E) := by
  refine b_Host_hasSetter_0 (d := d + 71) ⟨H.hh.1, c_methods (d := d) W W2 WX hc hs hst h1' h2' H (fun h1 f1 a1 => ?_)⟩
  have H1 := f1.hcx H
  obtain ⟨u1, u2, -⟩ := H1.mt
  have M4 := H1.hh.2.2.2.2.2.2.2.2.2.2
  rw [colG_p (by decide)] at q1 q0
  obtain ⟨cs, ecs⟩ : ∃ cs, cs = colG g (wtB g st L (-1)) (ordG g c) := ⟨_, rfl⟩
  rw [← ecs] at q1 q0 a1
  have len := a1.len M4
  have lp : ∀ mm j, j + mm = cs.length → (∀ i, i < j → decide (((g.2 2 (cs.getD i 0)).length : Int) = 1) = false) → wpB PGm ρ (d + 72) m_Host_hasSetter 10 [(0, vR ho), (4, vI (j : Int))] [] h1 (cI F E) := fun mm => by
    induction mm with
    | zero =>
      intro j hj hp'
      have ln : (hl h1 (ho + 11) : Int) ≤ (j : Int) ∧ ¬ (j : Int) < (hl h1 (ho + 11) : Int) := by rw [a1.1]; omega
      refine b_Host_hasSetter_10 (by omega) ⟨H1.hh.1, ?_⟩
      rw [u1]
      exact ⟨u2.1.1, u2.1, fun _ => q0 h1 f1 ((flt_nil _).mpr (fun i hi => hp' i (by omega))), fun c => absurd c ln.2⟩
    | succ mm ih =>
      intro j hj hp'
      have jl : j < cs.length := by omega
      have ln : ¬ (hl h1 (ho + 11) : Int) ≤ (j : Int) ∧ (j : Int) < (hl h1 (ho + 11) : Int) ∧ 0 ≤ (j : Int) ∧ j ≤ 2000000000 := by rw [a1.1]; omega
      have oM : cs.getD j 0 < M := a1.2.2.1 _ (gtD_m jl)
      obtain ⟨⟨b1, -⟩, -, -, -, -, -, -, -, -, -, -, -, p1, p2, p3, p4, p5, p6, p7⟩ := H1.me oM
      refine b_Host_hasSetter_10 (by omega) ⟨H1.hh.1, ?_⟩
      rw [u1]
      refine ⟨u2.1.1, u2.1, fun c => absurd c ln.1, fun _ => ⟨u2.1.1, ⟨u2.1, ln.2.2.1, ln.2.1⟩, ?_⟩⟩
      rw [Int.toNat_natCast, a1.2.1 j jl]
      refine ⟨Or.inr (by rw [b1]; decide), b1, by rw [p4]; decide, ?_⟩
      rw [p5]
      refine ⟨fun c => ?_, fun c => q1 h1 f1 (fun z => ?_)⟩
      · rw [w32_p1 ln.2.2.2]
        exact ih (j + 1) (by omega) (fun i hi => by
          by_cases e : i = j
          · rw [e]; exact decide_eq_false c
          · exact hp' i (by omega))
      · have := (flt_nil _).mp z j jl
        rw [decide_eq_true c] at this; exact absurd this (by decide)
  exact lp cs.length 0 (by omega) (fun i hi => absurd hi (Nat.not_lt_zero _))
/-- the getter of a name -/
theorem c_getter (W : HGW g N) (W2 : HMW g N M) (WX : HWX g N M) (hc : c < N) (hs : st = 0 ∨ st = 1) (hst : st = 0 → g.1 1 c = 0) (h1' : nw < hw.length) (h2' : hw.getD nw [] = L) (H : HCX ρ h ho g N M hw) (q1 : ∀ h1 m r, MFR h ho h1 → colG g (wtB g st L 0) (ordG g c) = m :: r → m < M → FR (hB h1 (ho + 3) m) h1) (q0 : ∀ h1, MFR h ho h1 → colG g (wtB g st L 0) (ordG g c) = [] → FR 0 h1) : wpB PGm ρ (d + 72) m_Host_getter 0 [(0, vR ho), (1, vR (hB h (ho + 2) c)), (2, vI st), (3, vI (nw : Int))] [] h (cR FR E) := by
  refine b_Host_getter_0 (d := d + 71) ⟨H.hh.1, c_methods (d := d) W W2 WX hc hs hst h1' h2' H (fun h1 f1 a1 => ?_)⟩
  have H1 := f1.hcx H
  obtain ⟨u1, u2, -⟩ := H1.mt
  have M4 := H1.hh.2.2.2.2.2.2.2.2.2.2
  rw [colG_p (by decide)] at q1 q0
  obtain ⟨cs, ecs⟩ : ∃ cs, cs = colG g (wtB g st L (-1)) (ordG g c) := ⟨_, rfl⟩
  rw [← ecs] at q1 q0 a1
  have len := a1.len M4
  have lp : ∀ mm j, j + mm = cs.length → (∀ i, i < j → decide (((g.2 2 (cs.getD i 0)).length : Int) = 0) = false) → wpB PGm ρ (d + 72) m_Host_getter 10 [(0, vR ho), (4, vI (j : Int))] [] h1 (cR FR E) := fun mm => by
    induction mm with
    | zero =>
      intro j hj hp'
      have ln : (hl h1 (ho + 11) : Int) ≤ (j : Int) ∧ ¬ (j : Int) < (hl h1 (ho + 11) : Int) := by rw [a1.1]; omega
      refine b_Host_getter_10 (by omega) ⟨H1.hh.1, ?_⟩
      rw [u1]
      exact ⟨u2.1.1, u2.1, fun _ => q0 h1 f1 ((flt_nil _).mpr (fun i hi => hp' i (by omega))), fun c => absurd c ln.2⟩
    | succ mm ih =>
      intro j hj hp'
      have jl : j < cs.length := by omega
      have ln : ¬ (hl h1 (ho + 11) : Int) ≤ (j : Int) ∧ (j : Int) < (hl h1 (ho + 11) : Int) ∧ 0 ≤ (j : Int) ∧ j ≤ 2000000000 := by rw [a1.1]; omega
      have oM : cs.getD j 0 < M := a1.2.2.1 _ (gtD_m jl)
      obtain ⟨⟨b1, -⟩, -, -, -, -, -, -, -, -, -, -, -, p1, p2, p3, p4, p5, p6, p7⟩ := H1.me oM
      refine b_Host_getter_10 (by omega) ⟨H1.hh.1, ?_⟩
      rw [u1]
      refine ⟨u2.1.1, u2.1, fun c => absurd c ln.1, fun _ => ⟨u2.1.1, ⟨u2.1, ln.2.2.1, ln.2.1⟩, ?_⟩⟩
      rw [Int.toNat_natCast, a1.2.1 j jl]
      refine ⟨Or.inr (by rw [b1]; decide), b1, by rw [p4]; decide, ?_⟩
      rw [p5]
      refine ⟨fun c => ?_, fun c => ⟨u2.1.1, ⟨u2.1, ln.2.2.1, ln.2.1⟩, Or.inr (by rw [b1]; decide), ?_⟩⟩
      · rw [w32_p1 ln.2.2.2]
        exact ih (j + 1) (by omega) (fun i hi => by
          by_cases e : i = j
          · rw [e]; exact decide_eq_false c
          · exact hp' i (by omega))
      · have e1 : cs = cs.take j ++ cs.getD j 0 :: cs.drop (j + 1) := by
          have := List.take_append_drop j cs
          rw [List.drop_eq_getElem_cons jl] at this
          rw [List.getD_eq_getElem?_getD, List.getElem?_eq_getElem jl]
          exact this.symm
        have e2 : (cs.take j).filter (fun m => decide (((g.2 2 m).length : Int) = 0)) = [] := (flt_nil _).mpr (fun i hi => by
          rw [List.length_take] at hi
          have : (cs.take j).getD i 0 = cs.getD i 0 := by
            rw [List.getD_eq_getElem?_getD, List.getD_eq_getElem?_getD, List.getElem?_take, if_pos (by omega)]
          rw [this]; exact hp' i (by omega))
        refine q1 h1 (cs.getD j 0) ((cs.drop (j + 1)).filter (fun m => decide (((g.2 2 m).length : Int) = 0))) f1 ?_ oM
        have e3 : cs.filter (fun m => decide (((g.2 2 m).length : Int) = 0)) = (cs.take j ++ cs.getD j 0 :: cs.drop (j + 1)).filter (fun m => decide (((g.2 2 m).length : Int) = 0)) := congrArg (List.filter _) e1
        rw [e3, List.filter_append, e2, List.nil_append, List.filter_cons, if_pos (decide_eq_true c)]
  exact lp cs.length 0 (by omega) (fun i hi => absurd hi (Nat.not_lt_zero _))
/-- the method or maker that is called -/
theorem c_choose {kd : Int} (W : HGW g N) (W2 : HMW g N M) (W3 : HPW g N M) (WX : HWX g N M) (hc : c < N) (hs : st = 0 ∨ st = 1) (hst : kd = 1 → st = 0 → g.1 1 c = 0) (hkd : kd = 1 ∨ kd = 2) (hn : kd = 1 → nw < hw.length ∧ hw.getD nw [] = L ∧ v = (nw : Int)) (H : HCX ρ h ho g N M hw) (CR : ∀ h1, MFR h ho h1 → CLR h1 ca ts) (ht : ts.length ≤ 8) (hts : ∀ i, i < ts.length → 0 ≤ ts.getD i 0 ∧ ts.getD i 0 < 9 + (N : Int)) (ecs : cs = ((if kd = 1 then colG g (wtB g st L (-1)) (ordG g c) else mkrG g c).filter (fsB g sb))) (q1 : ∀ h1 (m : Nat), MFR h ho h1 → sglG g ts cs = (m : Int) → m < M → FR (hB h1 (ho + 3) m) h1) (q0 : ∀ h1 (x : Int), MFR h ho h1 → (x = 8 ∨ x = 9) → sglG g ts cs = -x → FR 0 (sI h1 f_Host_why ho x)) : wpB PGm ρ (d + 72) m_Host_choose 0 [(0, vR ho), (1, vR (hB h (ho + 2) c)), (2, vI kd), (3, vI st), (4, vI v), (5, vI sb), (6, vR ca), (7, vI (ts.length : Int))] [] h (cR FR E) := by
  obtain ⟨t1, t2, t3, t4, t5, t6⟩ := H.mt
  have fin : ∀ h1, MFR h ho h1 → MNT h1 ho M (if kd = 1 then colG g (wtB g st L (-1)) (ordG g c) else mkrG g c) → wpB PGm ρ (d + 72) m_Host_choose 34 [(0, vR ho), (5, vI sb), (6, vR ca), (7, vI (ts.length : Int)), (8, vI 1)] [] h1 (cR FR E) := fun h1 f1 a1 => by
    refine wp_d (show d + 69 + 3 = d + 72 by omega) (c_cho34 (d := d + 69) (sb := sb) (f1.hcx H) W3 (by omega) a1 (CR h1 f1) ht hts (fun m e mM => q1 h1 m f1 (by rw [ecs]; exact e) mM) (fun x hx e => q0 h1 x f1 hx (by rw [ecs]; exact e)) 3 1 (by omega) (by omega) (fun p h1 h2 => by omega))
  refine b_Host_choose_0 (d := d + 71) (by omega) ⟨fun n2 => ⟨H.hh.1, ?_⟩, fun e2 => ⟨H.hh.1, ?_⟩⟩
  · have k1 : kd = 1 := by omega
    obtain ⟨n1, n2', n3⟩ := hn k1
    rw [n3]
    refine c_methods (d := d) W W2 WX hc hs (hst k1) n1 n2' H (fun h1 f1 a1 => fin h1 f1 (by rw [if_pos k1]; exact a1))
  · rw [t1]
    refine ⟨t2.1.1, t2.1, wp_d (show d + 61 + 10 = d + 71 by omega) (c_makers (d := d + 61) W2 WX hc H (fun h1 f1 a1 => fin h1 f1 (by rw [if_neg (by omega)]; exact a1)))⟩
end
