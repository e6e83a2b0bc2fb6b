/-! C's host: which members values fit -/
set_option maxRecDepth 20000
/-- classes of values, as C has them -/
def CLR (h : ah) (ca : Nat) (ts : List Int) : Prop := hK h ca = 1 ∧ ts.length ≤ hl h ca ∧ ∀ i, i < ts.length → hA h ca i = clA (ts.getD i 0)
section
variable {ρ : Nat → Nat} {d : Nat} {Q : QT} {h h' h1 h2 : ah} {ho k n m i j N M a b z s x y ca ph : Nat} {g : HG} {v p es lo : Int} {hw : List (List Int)} {L ts : List Int} {cs o : List Nat} {w : Nat → Bool} {F : Int → ah → Prop} {E : Nat → ah → Prop}
theorem unF_eq {g' : HG} (e : GEQ g g') (x y : Int) : unF g' x y ↔ unF g x y := by
  unfold unF
  rw [e.1 (100 + (x - 9).toNat) (y - 9).toNat (by omega) (by omega)]
theorem c_under {x y : Int} (H : HCX ρ h ho g N M hw) (hd : 10 ≤ d) (hx : x < 9 + (N : Int)) (hy : y < 9 + (N : Int)) (q1 : unB g x y = true → F 1 h) (q0 : ¬ unB g x y = true → F 0 h) : wpB PGm ρ (d + 1) m_Host_isUnder 0 [(0, vR ho), (1, vI x), (2, vI y)] [] h (cI F E) := by
  obtain ⟨g', e, b1, b2, b3, b4, A⟩ := H
  exact c_isUnder A hd hx hy (fun z => q1 (unB_iff.mpr ((unF_eq e x y).mp z))) (fun z => q0 (fun c => z ((unF_eq e x y).mpr (unB_iff.mp c))))
theorem c_goes (H : HCX ρ h ho g N M hw) (hd : 10 ≤ d) (he : 0 ≤ es ∧ es < 9 + (N : Int)) (hp : 1 ≤ p ∧ p < 9 + (N : Int)) (q1 : (if lo = 0 then stB g es p else loB g es p) = true → F 1 h) (q0 : ¬ (if lo = 0 then stB g es p else loB g es p) = true → F 0 h) : wpB PGm ρ (d + 2) m_Host_goes 0 [(0, vR ho), (1, vI (clA es)), (2, vI p), (3, vI lo)] [] h (cI F E) := by
  have c1 : es = 0 → clA es = -1 := fun c => by unfold clA; rw [if_pos c]
  have c2 : ¬ es = 0 → clA es = es := fun c => by unfold clA; rw [if_neg c]
  have st3 : p < 4 → stB g es p = false := fun c => by
    unfold stB
    rw [decide_eq_false (show ¬ 3 < p by omega)]; rfl
  have st4 : 4 ≤ p → (stB g es p = true ↔ (es = 0 ∨ unB g es p = true)) := fun c => by
    unfold stB
    simp only [Bool.and_eq_true, Bool.or_eq_true, decide_eq_true_eq]
    exact ⟨fun z => z.2, fun z => ⟨by omega, z⟩⟩
  have lo3 : p < 4 → (loB g es p = true ↔ ((es = 4 ∧ (p = 1 ∨ p = 2)) ∨ (es = 5 ∧ p = 2) ∨ (es = 6 ∧ p = 3))) := fun c => by
    unfold loB
    rw [st3 c]
    simp only [Bool.and_eq_true, Bool.or_eq_true, decide_eq_true_eq, Bool.false_or]
  have lo4 : 4 ≤ p → (loB g es p = true ↔ stB g es p = true) := fun c => by
    unfold loB
    simp only [Bool.and_eq_true, Bool.or_eq_true, decide_eq_true_eq]
    constructor
    · rintro (z | ⟨-, z | z⟩ | ⟨-, z⟩ | ⟨-, z⟩)
      · exact z
      all_goals omega
    · exact Or.inl
  by_cases p4 : p < 4
  · have key : (if lo = 0 then stB g es p else loB g es p) = true ↔ ¬ lo = 0 ∧ ((es = 4 ∧ (p = 1 ∨ p = 2)) ∨ (es = 5 ∧ p = 2) ∨ (es = 6 ∧ p = 3)) := by
      by_cases l0 : lo = 0
      · rw [if_pos l0, st3 p4]
        exact ⟨fun c => absurd c (by decide), fun c => absurd l0 c.1⟩
      · rw [if_neg l0, lo3 p4]
        exact ⟨fun c => ⟨l0, c⟩, fun c => c.2⟩
    rw [key] at q1 q0
    have g87 : F 0 h → wpB PGm ρ (d + 1 + 1) m_Host_goes 87 [] [] h (cI F E) := fun f => b_Host_goes_87 f
    refine b_Host_goes_0 (d := d + 1) ⟨fun _ => ⟨fun l0 => q0 (fun c => c.1 l0), fun l0 => ⟨fun n1 => ?_, fun n1 => q0 (fun c => ?_)⟩⟩, fun c => by omega⟩
    · have e0 : ¬ es = 0 := fun c => n1 (c1 c)
      rw [c2 e0]
      refine ⟨fun n4 => ⟨fun n5 => ⟨fun n6 => g87 (q0 (fun c => by omega)), fun n6 => ⟨fun n3 => g87 (q0 (fun c => by omega)), fun n3 => q1 ⟨l0, by omega⟩⟩⟩, fun n5 => ⟨fun n2 => q0 (fun c => by omega), fun n2 => q1 ⟨l0, by omega⟩⟩⟩, fun n4 => ⟨fun n3 => q0 (fun c => by omega), fun n3 => q1 ⟨l0, by omega⟩⟩⟩
    · have e0 : es = 0 := by
        by_cases z : es = 0
        · exact z
        · rw [c2 z] at n1; omega
      omega
  · have key : (if lo = 0 then stB g es p else loB g es p) = true ↔ (es = 0 ∨ unB g es p = true) := by
      by_cases l0 : lo = 0
      · rw [if_pos l0]; exact st4 (by omega)
      · rw [if_neg l0, lo4 (by omega)]; exact st4 (by omega)
    rw [key] at q1 q0
    refine b_Host_goes_0 (d := d + 1) ⟨fun c => by omega, fun _ => ⟨fun n1 => q1 (Or.inl ?_), fun n1 => ⟨H.hh.1, ?_⟩⟩⟩
    · by_cases z : es = 0
      · exact z
      · rw [c2 z] at n1; omega
    · have e0 : ¬ es = 0 := fun c => n1 (c1 c)
      rw [c2 e0]
      exact c_under (d := d) H hd he.2 hp.2 (fun z => ⟨fun c => absurd c (by decide), fun _ => q1 (Or.inr z)⟩) (fun z => ⟨fun _ => q0 (fun c => c.elim e0 z), fun c => absurd rfl c⟩)
theorem par_i (hk : k < (g.2 2 m).length ∨ 1 ≤ (g.2 2 m).length) (l8 : (g.2 2 m).length ≤ 8) : ∃ t : Nat, t < (g.2 2 m).length ∧ (if w32 (((g.2 2 m).length : Int) - 1) < (k : Int) then w32 (((g.2 2 m).length : Int) - 1) else (k : Int)) = (t : Int) ∧ (g.2 2 m).getD t 0 = parG g m k := by
  have z0 : 1 ≤ (g.2 2 m).length ∧ (g.2 2 m).length ≤ 2000000000 := by omega
  have z1 : (((g.2 2 m).length - 1 : Nat) : Int) < (k : Int) ↔ ¬ k < (g.2 2 m).length := by omega
  have z2 : (g.2 2 m).length - 1 < (g.2 2 m).length := by omega
  have z3 : ¬ ¬ k < (g.2 2 m).length → k < (g.2 2 m).length := by omega
  rw [w32_m1 z0]
  by_cases c : ¬ k < (g.2 2 m).length
  · refine ⟨(g.2 2 m).length - 1, z2, by rw [if_pos (z1.mpr c)], ?_⟩
    unfold parG
    rw [if_neg c]
  · refine ⟨k, z3 c, by rw [if_neg (fun z => c (z1.mp z))], ?_⟩
    unfold parG
    rw [if_pos (z3 c)]
theorem c_fits (H : HCX ρ h ho g N M hw) (W : HPW g N M) (hd : 12 ≤ d) (hm : m < M) (hp : 1 ≤ ph ∧ ph ≤ 3) (CR : CLR h ca ts) (ht : ts.length ≤ 8) (hts : ∀ i, i < ts.length → 0 ≤ ts.getD i 0 ∧ ts.getD i 0 < 9 + (N : Int)) (q1 : fitB g ph ts m = true → F 1 h) (q0 : ¬ fitB g ph ts m = true → F 0 h) : wpB PGm ρ (d + 1) m_Host_fits 0 [(0, vR ho), (1, vR (hB h (ho + 3) m)), (2, vI (ph : Int)), (3, vR ca), (4, vI (ts.length : Int))] [] h (cI F E) := by
  obtain ⟨⟨a1, -⟩, -, -, -, -, -, -, -, -, -, a9, a10, p1, p2, p3, p4, p5, p6, p7⟩ := H.me hm
  obtain ⟨w1, w2, w3, w4⟩ := W m hm
  have bad : ¬ (g.1 9 m = if ph = 3 then 1 else 0) → ¬ fitB g ph ts m = true := fun c z => by
    unfold fitB at z
    simp only [Bool.and_eq_true, decide_eq_true_eq] at z
    exact c z.1
  have bad2 : ¬ (if ph < 3 then (g.2 2 m).length = ts.length else (g.2 2 m).length ≤ ts.length + 1) → ¬ fitB g ph ts m = true := fun c z => by
    unfold fitB at z
    simp only [Bool.and_eq_true, decide_eq_true_eq] at z
    exact c z.2.1
  have lp : (g.1 9 m = if ph = 3 then 1 else 0) → (if ph < 3 then (g.2 2 m).length = ts.length else (g.2 2 m).length ≤ ts.length + 1) → ∀ mm j, j + mm = ts.length → (∀ i, i < j → goB g ph (ts.getD i 0) (parG g m i) = true) → wpB PGm ρ (d + 1) m_Host_fits 53 [(0, vR ho), (1, vR (hB h (ho + 3) m)), (2, vI (ph : Int)), (3, vR ca), (4, vI (ts.length : Int)), (5, vI ((g.2 2 m).length : Int)), (6, vI (j : Int))] [] h (cI F E) := fun v1 v2 mm => by
    induction mm with
    | zero =>
      intro j hj hp'
      refine b_Host_fits_53 (by omega) ⟨fun _ => q1 ?_, fun c => by omega⟩
      unfold fitB
      simp only [Bool.and_eq_true, decide_eq_true_eq]
      exact ⟨v1, v2, List.all_eq_true.mpr (fun i hi => hp' i (by rw [List.mem_range] at hi; omega))⟩
    | succ mm ih =>
      intro j hj hp'
      have jl : j < ts.length := by omega
      have jc : j < (g.2 2 m).length ∨ 1 ≤ (g.2 2 m).length := by
        by_cases c : ph < 3
        · rw [if_pos c] at v2; exact Or.inl (by omega)
        · rw [if_pos (by omega)] at v1; exact Or.inr (w3 v1)
      have tj := hts j jl
      have z0 : j ≤ 2000000000 ∧ ¬ (ts.length : Int) ≤ (j : Int) ∧ 0 ≤ (j : Int) ∧ (j : Int) < (hl h ca : Int) := by have := CR.2.1; omega
      obtain ⟨t, t1, t2, t3⟩ := par_i jc w1
      have z1 : 0 ≤ (t : Int) ∧ (t : Int) < ((g.2 2 m).length : Int) := by omega
      have pt := w4 t t1
      refine b_Host_fits_53 (by omega) ⟨fun c => absurd c z0.2.1, fun _ => ⟨⟨by rw [CR.1]; decide, z0.2.2.1, z0.2.2.2⟩, a1, ?_⟩⟩
      rw [t2, Int.toNat_natCast, Int.toNat_natCast, p7 t t1, t3, CR.2.2 j jl]
      rw [t3] at pt
      refine ⟨⟨by rw [p4]; decide, z1.1, by rw [p5]; exact z1.2⟩, ?_⟩
      have go : ∀ lo : Int, (lo = if ph = 1 then 0 else 1) → wpB PGm ρ (d + 1) m_Host_fits 89 [(0, vR ho), (1, vR (hB h (ho + 3) m)), (2, vI (ph : Int)), (3, vR ca), (4, vI (ts.length : Int)), (5, vI ((g.2 2 m).length : Int)), (6, vI (j : Int))] [vI lo, vI (parG g m j), vI (clA (ts.getD j 0)), vR ho] h (cI F E) := fun lo el => by
        have eg : (if lo = 0 then stB g (ts.getD j 0) (parG g m j) else loB g (ts.getD j 0) (parG g m j)) = goB g ph (ts.getD j 0) (parG g m j) := by
          unfold goB
          rw [el]
          by_cases c : ph = 1
          · rw [if_pos c, if_pos c, if_pos rfl]
          · rw [if_neg c, if_neg c, if_neg (by decide)]
        refine b_Host_fits_89 (d := d) ⟨H.hh.1, ?_⟩
        refine wp_d (show d - 2 + 2 = d by omega) (c_goes (d := d - 2) (lo := lo) H (by omega) tj pt (fun z => ⟨fun _ => ?_, fun c => absurd c (by decide)⟩) (fun z => ⟨fun c => absurd rfl c, fun _ => q0 (fun c => ?_)⟩))
        · rw [w32_p1 z0.1]
          rw [eg] at z
          exact ih (j + 1) (by omega) (fun i hi => by
            by_cases c : i = j
            · rw [c]; exact z
            · exact hp' i (by omega))
        · rw [eg] at z
          unfold fitB at c
          simp only [Bool.and_eq_true, decide_eq_true_eq] at c
          exact z (List.all_eq_true.mp c.2.2 j (List.mem_range.mpr jl))
      exact ⟨fun c => go 0 (by rw [if_pos (by omega)]), fun c => go 1 (by rw [if_neg (by omega)])⟩
  have f21 : ∀ s0 : Int, (s0 = if ph = 3 then 1 else 0) → wpB PGm ρ (d + 1) m_Host_fits 21 [(0, vR ho), (1, vR (hB h (ho + 3) m)), (2, vI (ph : Int)), (3, vR ca), (4, vI (ts.length : Int)), (5, vI ((g.2 2 m).length : Int))] [vI s0, vI (g.1 9 m)] h (cI F E) := fun s0 es => by
    refine b_Host_fits_21 ⟨fun c => q0 (bad (by rw [← es]; exact c)), fun c => ⟨fun c3 => ?_, fun c3 => ⟨fun ce => lp (by rw [← es]; exact c) (by rw [if_pos (by omega)]; omega) ts.length 0 (by omega) (fun i hi => absurd hi (Nat.not_lt_zero _)), fun ce => q0 (bad2 (by rw [if_pos (by omega)]; omega))⟩⟩⟩
    have v1 : g.1 9 m = 1 := by rw [c, es, if_pos (by omega)]
    have l1 := w3 v1
    have z0 : 1 ≤ (g.2 2 m).length ∧ (g.2 2 m).length ≤ 2000000000 := by omega
    have n3 : ¬ ph < 3 := by omega
    have k1 : (((g.2 2 m).length - 1 : Nat) : Int) ≤ (ts.length : Int) → (if ph < 3 then (g.2 2 m).length = ts.length else (g.2 2 m).length ≤ ts.length + 1) := fun z => by rw [if_neg n3]; omega
    have k2 : (ts.length : Int) < (((g.2 2 m).length - 1 : Nat) : Int) → ¬ (if ph < 3 then (g.2 2 m).length = ts.length else (g.2 2 m).length ≤ ts.length + 1) := fun z => by rw [if_neg n3]; omega
    have lp0 := fun v2 => lp (by rw [← es]; exact c) v2 ts.length 0 (by omega) (fun i hi => absurd hi (Nat.not_lt_zero _))
    rw [w32_m1 z0]
    exact ⟨fun z => lp0 (k1 z), fun z => q0 (bad2 (k2 z))⟩
  refine b_Host_fits_0 ⟨a1, by rw [p4]; decide, ?_⟩
  rw [p5, a9]
  exact ⟨fun c => f21 0 (by rw [if_neg (by omega)]), fun c => f21 1 (by rw [if_pos (by omega)])⟩
/-- one is at least as narrow as another one -/
theorem c_more (H : HCX ρ h ho g N M hw) (W : HPW g N M) (hd : 10 ≤ d) (ha : a < M) (hb : b < M) (hl' : (g.2 2 a).length = (g.2 2 b).length ∨ (1 ≤ (g.2 2 a).length ∧ 1 ≤ (g.2 2 b).length)) {l3 : Int} (q1 : (List.range (if (g.2 2 a).length < (g.2 2 b).length then (g.2 2 b).length else (g.2 2 a).length)).all (fun k => unB g (parG g a k) (parG g b k)) = true → F 1 h) (q0 : ¬ (List.range (if (g.2 2 a).length < (g.2 2 b).length then (g.2 2 b).length else (g.2 2 a).length)).all (fun k => unB g (parG g a k) (parG g b k)) = true → F 0 h) : wpB PGm ρ (d + 2) m_Host_isMoreSpecific 0 [(0, vR ho), (1, vR (hB h (ho + 3) a)), (2, vR (hB h (ho + 3) b)), (3, vI l3)] [] h (cI F E) := by
  obtain ⟨⟨a1, -⟩, -, -, -, -, -, -, -, -, -, -, -, p1, p2, p3, p4, p5, p6, p7⟩ := H.me ha
  obtain ⟨⟨b1, -⟩, -, -, -, -, -, -, -, -, -, -, -, r1, r2, r3, r4, r5, r6, r7⟩ := H.me hb
  have wa := W a ha
  have wb := W b hb
  obtain ⟨K, eK⟩ : ∃ K, K = if (g.2 2 a).length < (g.2 2 b).length then (g.2 2 b).length else (g.2 2 a).length := ⟨_, rfl⟩
  rw [← eK] at q1 q0
  have K8 : K ≤ 8 := by rw [eK]; split <;> omega
  have eKi : (if ((g.2 2 a).length : Int) < ((g.2 2 b).length : Int) then ((g.2 2 b).length : Int) else ((g.2 2 a).length : Int)) = (K : Int) := by
    rw [eK]
    by_cases c : (g.2 2 a).length < (g.2 2 b).length
    · rw [if_pos c, if_pos (by omega)]
    · rw [if_neg c, if_neg (by omega)]
  have ka : ∀ j, j < K → j < (g.2 2 a).length ∨ 1 ≤ (g.2 2 a).length := fun j hj => by
    by_cases c : (g.2 2 a).length < (g.2 2 b).length
    · exact Or.inr (by omega)
    · rw [if_neg c] at eK; exact Or.inl (by omega)
  have kb : ∀ j, j < K → j < (g.2 2 b).length ∨ 1 ≤ (g.2 2 b).length := fun j hj => by
    by_cases c : (g.2 2 a).length < (g.2 2 b).length
    · rw [if_pos c] at eK; exact Or.inl (by omega)
    · rw [if_neg c] at eK; omega
  have lp : ∀ mm j, j + mm = K → (∀ i, i < j → unB g (parG g a i) (parG g b i) = true) → wpB PGm ρ (d + 2) m_Host_isMoreSpecific 26 [(0, vR ho), (1, vR (hB h (ho + 3) a)), (2, vR (hB h (ho + 3) b)), (4, vI ((g.2 2 a).length : Int)), (5, vI ((g.2 2 b).length : Int)), (6, vI (K : Int)), (7, vI (j : Int))] [] h (cI F E) := fun mm => by
    induction mm with
    | zero =>
      intro j hj hp'
      exact b_Host_isMoreSpecific_26 (d := d + 1) (by omega) ⟨fun _ => q1 (List.all_eq_true.mpr (fun i hi => hp' i (by rw [List.mem_range] at hi; omega))), fun c => by omega⟩
    | succ mm ih =>
      intro j hj hp'
      have jl : j < K := by omega
      have z0 : j ≤ 2000000000 ∧ ¬ (K : Int) ≤ (j : Int) := by omega
      obtain ⟨t, t1, t2, t3⟩ := par_i (ka j jl) wa.1
      obtain ⟨u, u1, u2, u3⟩ := par_i (kb j jl) wb.1
      have z1 : (0 ≤ (t : Int) ∧ (t : Int) < ((g.2 2 a).length : Int)) ∧ (0 ≤ (u : Int) ∧ (u : Int) < ((g.2 2 b).length : Int)) := by omega
      have pt := wa.2.2.2 t t1
      have pu := wb.2.2.2 u u1
      rw [t3] at pt
      rw [u3] at pu
      refine b_Host_isMoreSpecific_26 (d := d + 1) (by omega) ⟨fun c => absurd c z0.2, fun _ => ⟨a1, ?_⟩⟩
      rw [t2, u2, Int.toNat_natCast, Int.toNat_natCast, p7 t t1, r7 u u1, t3, u3]
      refine ⟨⟨by rw [p4]; decide, z1.1.1, by rw [p5]; exact z1.1.2⟩, b1, ⟨by rw [r4]; decide, z1.2.1, by rw [r5]; exact z1.2.2⟩, H.hh.1, ?_⟩
      refine c_under (d := d) H hd pt.2 pu.2 (fun z => ⟨fun _ => ?_, fun c => absurd c (by decide)⟩) (fun z => ⟨fun c => absurd rfl c, fun _ => q0 (fun c => z (List.all_eq_true.mp c j (List.mem_range.mpr jl)))⟩)
      rw [w32_p1 z0.1]
      exact ih (j + 1) (by omega) (fun i hi => by
        by_cases c : i = j
        · rw [c]; exact z
        · exact hp' i (by omega))
  refine b_Host_isMoreSpecific_0 (by omega) ⟨a1, by rw [p4]; decide, b1, by rw [r4]; decide, ?_⟩
  rw [p5, r5, eKi]
  exact lp K 0 (by omega) (fun i hi => absurd hi (Nat.not_lt_zero _))
end
