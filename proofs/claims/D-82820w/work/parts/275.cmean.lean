/-! C's host: members that may be meant -/
set_option maxRecDepth 20000
/-- what the search for members changes -/
def PMN (ho : Nat) : List (Nat × Nat) := [(f_Host_meant + 1, ho), (f_Host_met + 1, ho), (f_Host_why, ho)]
def MFR (h : ah) (ho : Nat) (h' : ah) : Prop := (∃ z s, Fr [] (PMN ho) z s h h') ∧ (hz h' : Int) + hI h 2 (ho + 11) ≤ (hz h : Int) + hI h' 2 (ho + 11) ∧ (hs h' : Int) + 4 * hI h 2 (ho + 11) ≤ (hs h : Int) + 4 * hI h' 2 (ho + 11)
/-- the same, and what was met stays -/
def MFA (h : ah) (ho : Nat) (h' : ah) : Prop := MFR h ho h' ∧ ∀ i, hA h' (ho + 12) i = hA h (ho + 12) i
/-- the members that are meant so far -/
def MNT (h : ah) (ho : Nat) (M : Nat) (cs : List Nat) : Prop := hl h (ho + 11) = cs.length ∧ (∀ i, i < cs.length → hB h (ho + 11) i = hB h (ho + 3) (cs.getD i 0)) ∧ (∀ m, m ∈ cs → m < M) ∧ cs.Nodup
section
variable {ρ : Nat → Nat} {d : Nat} {Q : QT} {F : Int → ah → Prop} {E : Nat → ah → Prop} {h h' h1 h2 : ah} {ho k n m i j N M b a z s c x y : Nat} {g : HG} {v p st kd nmw : Int} {hw : List (List Int)} {L : List Int} {cs : List Nat} {w : Nat → Bool}
theorem PMN0 : ∀ y, (0, y) ∉ PMN ho := fun y c => by
  have : (0 = f_Host_meant + 1 ∧ y = ho) ∨ (0 = f_Host_met + 1 ∧ y = ho) ∨ (0 = f_Host_why ∧ y = ho) := by simpa [PMN] using c
  rcases this with ⟨c, -⟩ | ⟨c, -⟩ | ⟨c, -⟩ <;> exact absurd c (by decide)
theorem djPM {K : List Nat} (e : K.all (fun f => !([f_Host_meant + 1, f_Host_met + 1, f_Host_why].elem f)) = true) : DJ K [] (PMN ho) := List.all_eq_true.mpr fun f hf => by
  have := List.all_eq_true.mp e f hf
  show (!(([] : List Nat).elem f) && !(([f_Host_meant + 1, f_Host_met + 1, f_Host_why] : List Nat).elem f)) = true
  rw [this]; rfl
theorem MFR.rf : MFR h ho h := ⟨⟨0, 0, Fr.r0⟩, by omega, by omega⟩
theorem MFR.tr (a : MFR h ho h1) (b : MFR h1 ho h2) : MFR h ho h2 := by
  obtain ⟨⟨z1, s1, f1⟩, a1, a2⟩ := a
  obtain ⟨⟨z2, s2, f2⟩, b1, b2⟩ := b
  exact ⟨⟨_, _, f1.trans f2⟩, by omega, by omega⟩
theorem MFA.rf : MFA h ho h := ⟨MFR.rf, fun _ => rfl⟩
theorem MFA.tr (a : MFA h ho h1) (b : MFA h1 ho h2) : MFA h ho h2 := ⟨a.1.tr b.1, fun i => (b.2 i).trans (a.2 i)⟩
theorem MFR.hcx (a : MFR h ho h1) (H : HCX ρ h ho g N M hw) : HCX ρ h1 ho g N M hw := by
  obtain ⟨⟨z1, s1, f1⟩, -⟩ := a
  exact H.fr f1 (djPM (by decide)) PMN0
theorem HCX.inj (H : HCX ρ h ho g N M hw) : INJ h := by
  obtain ⟨g', -, b1, b2, b3, b4, ⟨-, -, a3, -⟩, -⟩ := H
  exact a3
theorem HCX.mt (H : HCX ρ h ho g N M hw) : hR h f_Host_meant ho = ho + 11 ∧ LSt h (ho + 11) ∧ hR h f_Host_met ho = ho + 12 ∧ hK h (ho + 12) = 4 ∧ hl h (ho + 12) = 60 ∧ hw.Nodup := by
  obtain ⟨g', -, b1, b2, b3, b4, ⟨-, -, -, -, -, -, -, -, -, -, a1, a2⟩, -, -, -, -, -, -, W⟩ := H
  exact ⟨a1.1, a1.2, a2.1, a2.2.1, a2.2.2, W.2.2.2.2.2.2.2.2⟩
/-- members' cells stay -/
theorem MFR.b3 (a : MFR h ho h1) (H : HCX ρ h ho g N M hw) : ∀ i, hB h1 (ho + 3) i = hB h (ho + 3) i := by
  obtain ⟨⟨z1, s1, f1⟩, -⟩ := a
  obtain ⟨x1, x2, x3, x4, -⟩ := H.hh
  have d : DJ [f_Host_members, f_Host_members + 1] [] (PMN ho) := djPM (by decide)
  exact (f1.ar H.inj (f := f_Host_members) (by unfold own; decide) x2 x4 (by omega) (fun c => c.elim (d.w (by decide)) (d.w (by decide))) (PMN0 _)).2.2
theorem MFR.b2 (a : MFR h ho h1) (H : HCX ρ h ho g N M hw) : ∀ i, hB h1 (ho + 2) i = hB h (ho + 2) i := by
  obtain ⟨⟨z1, s1, f1⟩, -⟩ := a
  obtain ⟨x1, x2, x3, x4, -⟩ := H.hh
  have d : DJ [f_Host_types, f_Host_types + 1] [] (PMN ho) := djPM (by decide)
  exact (f1.ar H.inj (f := f_Host_types) (by unfold own; decide) x2 x3 (by omega) (fun c => c.elim (d.w (by decide)) (d.w (by decide))) (PMN0 _)).2.2
/-- members have the same types -/
theorem c_types (H : HCX ρ h ho g N M hw) (h1 : i < M) (h2 : j < M) (q1 : g.2 2 i = g.2 2 j → Q (Sum.inl (some (vI 1))) h) (q0 : ¬ g.2 2 i = g.2 2 j → Q (Sum.inl (some (vI 0))) h) : wpB PGm ρ d m_Member_hasTypes 0 [(0, vR (hB h (ho + 3) i)), (1, vR (hR h f_Member_parameters (hB h (ho + 3) j))), (2, vI ((g.2 2 j).length : Int))] [] h Q := by
  obtain ⟨⟨a1, -⟩, -, -, -, -, -, -, -, -, -, -, -, p1, p2, p3, p4, p5, p6, p7⟩ := H.me h1
  obtain ⟨-, -, -, -, -, -, -, -, -, -, -, -, r1, r2, r3, r4, r5, r6, r7⟩ := H.me h2
  have z18 : ¬ g.2 2 i = g.2 2 j → ∀ x : Int, wpB PGm ρ d m_Member_hasTypes 18 [(0, vR (hB h (ho + 3) i)), (1, vR (hR h f_Member_parameters (hB h (ho + 3) j))), (2, vI ((g.2 2 j).length : Int)), (3, vI 0), (4, vI x)] [] h Q := fun ne x => b_Member_hasTypes_18 ⟨fun _ => ⟨Or.inl rfl, q0 ne⟩, fun _ => ⟨fun _ => ⟨Or.inl rfl, q0 ne⟩, fun c => absurd rfl c⟩⟩
  have lp : (g.2 2 i).length = (g.2 2 j).length → ∀ mm x, x + mm = (g.2 2 j).length → (∀ y, y < x → (g.2 2 i).getD y 0 = (g.2 2 j).getD y 0) → wpB PGm ρ d m_Member_hasTypes 18 [(0, vR (hB h (ho + 3) i)), (1, vR (hR h f_Member_parameters (hB h (ho + 3) j))), (2, vI ((g.2 2 j).length : Int)), (3, vI 1), (4, vI (x : Int))] [] h Q := fun le mm => by
    induction mm with
    | zero =>
      intro x hx hp
      exact b_Member_hasTypes_18 ⟨fun _ => ⟨Or.inr rfl, q1 (list_ext0 le (fun y hy => hp y (by omega)))⟩, fun c => by omega⟩
    | succ mm ih =>
      intro x hx hp
      have z0 : x ≤ 2000000000 ∧ ¬ ((g.2 2 j).length : Int) ≤ (x : Int) ∧ 0 ≤ (x : Int) ∧ (x : Int) < ((g.2 2 i).length : Int) ∧ (x : Int) < ((g.2 2 j).length : Int) := by omega
      refine b_Member_hasTypes_18 ⟨fun c => absurd c z0.2.1, fun _ => ⟨fun c => absurd c (by decide), fun _ => ⟨a1, ⟨by rw [p4]; decide, z0.2.2.1, by rw [p5]; exact z0.2.2.2.1⟩, ⟨by rw [r4]; decide, z0.2.2.1, by rw [r5]; exact z0.2.2.2.2⟩, ?_⟩⟩⟩
      rw [Int.toNat_natCast, p7 x (by omega), r7 x (by omega)]
      refine ⟨fun ne => b_Member_hasTypes_47 (z18 (fun c => ne (by rw [c])) _), fun eq => b_Member_hasTypes_47 ?_⟩
      rw [w32_p1 z0.1]
      exact ih (x + 1) (by omega) (fun y hy => by
        by_cases c : y = x
        · rw [c]; exact eq
        · exact hp y (by omega))
  refine b_Member_hasTypes_0 ⟨a1, by rw [p4]; decide, ?_⟩
  rw [p5]
  exact ⟨fun ne => b_Member_hasTypes_14 (z18 (fun c => ne (by rw [c])) _), fun eq => b_Member_hasTypes_14 (lp (by omega) (g.2 2 j).length 0 (by omega) (fun y hy => absurd hy (Nat.not_lt_zero _)))⟩
/-- a member more is meant -/
theorem MNT.add (H : HCX ρ h ho g N M hw) (A : MNT h ho M cs) (hm : m < M) (nm' : m ∉ cs) : MFA h ho (ladd h (ho + 11) (hB h (ho + 3) m)) ∧ MNT (ladd h (ho + 11) (hB h (ho + 3) m)) ho M (cs ++ [m]) := by
  obtain ⟨t1, t2, t3, t4, t5, t6⟩ := H.mt
  obtain ⟨x1, x2, x3, x4, x5, x6, x7, x8, x9, x10, x11⟩ := H.hh
  have ok : okA [] (PMN ho) h (ho + 11) := Or.inr (Or.inr (Or.inr ⟨f_Host_meant, ho, x2, by unfold own; decide, t1, Or.inr (Or.inr (by simp [PMN]))⟩))
  have fr := Fr.lad (x := hB h (ho + 3) m) ok (Or.inr (by rw [t2.1.1]; decide)) (Fr.r0 (L := []) (P := PMN ho) (h := h))
  have pot : (hz (ladd h (ho + 11) (hB h (ho + 3) m)) : Int) + hI h 2 (ho + 11) ≤ (hz h : Int) + hI (ladd h (ho + 11) (hB h (ho + 3) m)) 2 (ho + 11) := by
    unfold ladd
    by_cases c : (hl h (ho + 11) : Int) = hI h 2 (ho + 11)
    · rw [if_pos c]
      have e1 : hz (lput (lroom h (ho + 11) (lcap (hI h 2 (ho + 11)))) (ho + 11) (hB h (ho + 3) m)) = hz h + 1 := rfl
      have e2 : hI (lput (lroom h (ho + 11) (lcap (hI h 2 (ho + 11)))) (ho + 11) (hB h (ho + 3) m)) 2 (ho + 11) = (lcap (hI h 2 (ho + 11)) : Int) := by
        show (if 2 = 2 ∧ ho + 11 = ho + 11 then ((lcap (hI h 2 (ho + 11)) : Nat) : Int) else _) = _
        rw [if_pos ⟨rfl, rfl⟩]
      rw [e1, e2, ← c]
      unfold lcap
      by_cases q : (hl h (ho + 11) : Int) = 0
      · rw [if_pos q]; omega
      · rw [if_neg q, Int.toNat_natCast]; omega
    · rw [if_neg c]
      have e1 : hz (lput h (ho + 11) (hB h (ho + 3) m)) = hz h := rfl
      have e2 : hI (lput h (ho + 11) (hB h (ho + 3) m)) 2 (ho + 11) = hI h 2 (ho + 11) := rfl
      rw [e1, e2]; omega
  have pots := (lad_s (H := h) (x := hB h (ho + 3) m) (a := ho + 11)).2
  have MF : MFR h ho (ladd h (ho + 11) (hB h (ho + 3) m)) := ⟨⟨_, _, fr⟩, pot, by omega⟩
  have z12 : ho + 12 < hz h := by have := H.inj.1 f_Host_met ho x2 (by unfold own; decide); rw [t3] at this; exact this
  refine ⟨⟨MF, fun i => A_ladd z12⟩, ?_, fun i hi => ?_, fun m' hm' => ?_, ?_⟩
  · rw [l_ladd t2.2.2 t2.2.2, if_pos rfl, A.1]; simp
  · rw [B_ladd t2.2.2 t2.2.2, MF.b3 H]
    rw [List.length_append, List.length_singleton] at hi
    by_cases e : i = cs.length
    · subst e
      rw [if_pos ⟨rfl, A.1.symm⟩]
      simp [List.getD]
    · rw [if_neg (fun c => e (by rw [c.2, A.1])), A.2.1 i (by omega)]
      simp only [List.getD]
      rw [List.getElem?_append_left (by omega)]
  · rcases List.mem_append.mp hm' with c | c
    · exact A.2.2.1 m' c
    · rw [List.mem_singleton] at c; rw [c]; exact hm
  · exact List.nodup_append.mpr ⟨A.2.2.2, by simp, fun a ha b hb c => nm' (by rw [List.mem_singleton] at hb; rw [← hb, ← c]; exact ha)⟩
/-- whether a member is hidden; it is meant if it is not -/
theorem c_mean66 {l1 : Nat} {l2 l3 l4 l5 : Int} (H : HCX ρ h ho g N M hw) (A : MNT h ho M cs) (hm : m < M) (hM : cs.length ≤ 400) (q1 : cs.all (fun q => !(decide (g.2 2 q = g.2 2 m))) = true → ∀ h1, MFA h ho h1 → MNT h1 ho M (cs ++ [m]) → wpB PGm ρ (d + 10) m_Host_mean 3 [(0, vR ho), (1, vR l1), (2, vI l2), (3, vI l3), (4, vI l4), (5, vI (w32 (l5 + 1)))] [] h1 Q) (q0 : ¬ cs.all (fun q => !(decide (g.2 2 q = g.2 2 m))) = true → wpB PGm ρ (d + 10) m_Host_mean 3 [(0, vR ho), (1, vR l1), (2, vI l2), (3, vI l3), (4, vI l4), (5, vI (w32 (l5 + 1)))] [] h Q) : ∀ mm j, j + mm = cs.length → ∀ b : Int, (b = 0 ∧ (∀ i, i < j → ¬ g.2 2 (cs.getD i 0) = g.2 2 m) ∨ b = 1 ∧ ¬ cs.all (fun q => !(decide (g.2 2 q = g.2 2 m))) = true) → wpB PGm ρ (d + 10) m_Host_mean 66 [(0, vR ho), (1, vR l1), (2, vI l2), (3, vI l3), (4, vI l4), (5, vI l5), (6, vR (hB h (ho + 3) m)), (7, vI b), (8, vI (j : Int))] [] h Q := fun mm => by
  obtain ⟨t1, t2, t3, t4, t5, t6⟩ := H.mt
  obtain ⟨x1, x2, x3, x4, x5, x6, x7, x8, x9, x10, x11⟩ := H.hh
  have MM := H.me hm
  obtain ⟨r1, r2, r3, r4, r5, r6, r7⟩ := MM.2.2.2.2.2.2.2.2.2.2.2.2
  have k11 : hK h (ho + 11) = k_ArrayList := t2.1.1
  have km6 : 190 ≤ hK h (hB h (ho + 3) m) := by rw [MM.1.1]; decide
  induction mm with
  | zero =>
    intro j hj b hb
    have ln : (hl h (ho + 11) : Int) ≤ (j : Int) ∧ ¬ (j : Int) < (hl h (ho + 11) : Int) ∧ hl h (ho + 11) < 1000000 := by rw [A.1]; omega
    refine b_Host_mean_66 (d := d + 9) (by omega) ⟨x1, ?_⟩
    rw [t1]
    refine ⟨k11, t2.1, fun _ => ⟨fun bn => ?_, fun b0 => ⟨k11, ⟨t2.1, ln.2.2, Or.inr km6⟩, ?_⟩⟩, fun c => absurd c ln.2.1⟩
    · rcases hb with ⟨c, -⟩ | ⟨-, c⟩
      · exact absurd c bn
      · exact q0 c
    · rcases hb with ⟨-, c⟩ | ⟨c, -⟩
      · have al : cs.all (fun q => !(decide (g.2 2 q = g.2 2 m))) = true := List.all_eq_true.mpr (fun q hq => by
          obtain ⟨i, hi, rfl⟩ := List.mem_iff_getElem.mp hq
          have := c i (by omega)
          rw [List.getD_eq_getElem?_getD, List.getElem?_eq_getElem hi] at this
          simpa using this)
        have nm' : m ∉ cs := fun c => by
          have := List.all_eq_true.mp al m c
          rw [decide_eq_true rfl] at this
          exact absurd this (by decide)
        have B := A.add H hm nm'
        exact q1 al _ B.1 B.2
      · omega
  | succ mm ih =>
    intro j hj b hb
    have jl : j < cs.length := by omega
    have ln : ¬ (hl h (ho + 11) : Int) ≤ (j : Int) ∧ (j : Int) < (hl h (ho + 11) : Int) ∧ 0 ≤ (j : Int) ∧ j ≤ 2000000000 := by rw [A.1]; omega
    have cm : cs.getD j 0 < M := A.2.2.1 _ (gtD_m jl)
    have MC := H.me cm
    refine b_Host_mean_66 (d := d + 9) (by omega) ⟨x1, ?_⟩
    rw [t1]
    refine ⟨k11, t2.1, fun c => absurd c ln.1, fun _ => ⟨fun bn => b_Host_mean_117 ?_, fun b0 => ⟨k11, ⟨t2.1, ln.2.2.1, ln.2.1⟩, ?_⟩⟩⟩
    · rw [w32_p1 ln.2.2.2]
      refine ih (j + 1) (by omega) 1 (Or.inr ⟨rfl, ?_⟩)
      rcases hb with ⟨c, -⟩ | ⟨-, c⟩
      · exact absurd c bn
      · exact c
    · rw [Int.toNat_natCast, A.2.1 j jl, r5]
      refine ⟨Or.inr (by rw [MC.1.1]; decide), MM.1.1, by rw [r4]; decide, MC.1.1, ?_⟩
      have hb' : ∀ i, i < j → ¬ g.2 2 (cs.getD i 0) = g.2 2 m := by
        rcases hb with ⟨-, c⟩ | ⟨c, -⟩
        · exact c
        · omega
      refine c_types H cm hm (fun eq => ⟨fun c => absurd c (by decide), fun _ => b_Host_mean_117 ?_⟩) (fun ne => ⟨fun _ => b_Host_mean_117 ?_, fun c => absurd rfl c⟩)
      · rw [w32_p1 ln.2.2.2]
        refine ih (j + 1) (by omega) 1 (Or.inr ⟨rfl, fun c => ?_⟩)
        have := List.all_eq_true.mp c (cs.getD j 0) (gtD_m jl)
        rw [decide_eq_true eq] at this
        exact absurd this (by decide)
      · rw [w32_p1 ln.2.2.2]
        exact ih (j + 1) (by omega) 0 (Or.inl ⟨rfl, fun i hi => by
          by_cases c : i = j
          · rw [c]; exact ne
          · exact hb' i (by omega)⟩)
end
