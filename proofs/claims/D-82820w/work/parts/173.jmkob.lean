/-! an object with a root, by both: the run -/
set_option maxRecDepth 20000
/-- from one state to the next, where an object is made -/
def MOB (Γ : GH) (h : ah) (C ho : Nat) (X : X3) (Y : Y3) (S : SS) (N : Nat) (h' : ah) (X' : X3) (S' : SS) : Prop := (CORE Γ h' C ho X' Y S' N ∧ ∀ {t o n c r : Nat}, CT Γ h C X Y S N t o n c r → CT Γ h' C X' Y S' N t o n c r) ∧ GRO Γ Γ h h' C S S' ∧ BND h C S h' S' 1 8 ∧ (∃ z s, Fr LHc [] z s h h') ∧ (∀ f i, (LSH ++ LNT).elem f = false → S' f i = S f i) ∧ (∀ o f i, [f_Heap_shapesMade, f_Heap_made].elem f = false → X' o f i = X o f i)
section
variable {ρ : Nat → Nat} {P : ah → Nat → Prop} {d : Nat} {Q : QT} {Γ Γ' : GH} {h h1 h' : ah} {C ho : Nat} {X X' X1 : X3} {Y Y' : Y3} {S S' S1 : SS} {N t o n c r f i j k m z s b sm sn k0 l6 mk tn a : Nat} {ty v x y op p nm cnt pT : Int} {L : List Nat} {Pp : List (Nat × Nat)} {T' : Nat} {K : ah → Prop} {E1 E2 E3 : Nat → ah → Prop}
theorem s_made0 (O : TOK h T') (q : Q (Sum.inl (some (vI 0))) (cn h T' S)) : wpB PGm ρ (d + 2) m_Md_madeShape 0 [(0, vR T'), (1, vI (-1)), (2, vI (-1)), (3, vI (-1))] [] (cn h T' S) Q := by
  obtain ⟨kT, G, kH⟩ := O
  exact b_Md_madeShape_0 ⟨kT, s_find0 ⟨fun z => absurd z (by decide), fun _ => q⟩⟩
/-- after the root was found: the object is laid out and kept -/
theorem j_mk2 (HC : CORE Γ h C ho X Y S N) (H1 : SHR Γ (hn h k_Obj 8 0) C ho X Y S N h1 X1 S1) (hr : (r : Int) < S1 f_Md_shapes 0) (cr : S1 f_Md_shapeCount r = 0) (et : S f_Md_things 0 = (tn : Int)) (e1 : X 50 f_Heap_made 0 = (mk : Int)) (hm : mk + 1 ≤ 8000) (hd : 12 ≤ d) (q1 : ∀ h' X', MOB Γ h C ho X Y S N h' X' (mobS S1 tn mk r) → VR Γ (mobS S1 tn mk r) N 4 (tn : Int) 4 (tn : Int) → hI h' f_Thing_number (hz h) = (tn : Int) → hK h' (hz h) = k_Obj → K (cc h' C X' Y)) : hK (cc h1 C X1 Y) (hz h) ≠ 0 ∧ wpB PGm ρ (d + 1) m_Obj_init 0 [(0, vR (hz h)), (1, vI (tn : Int)), (2, vR (hB h1 (C + 52) r))] [] (cc h1 C X1 Y) (cV (fun h25 => hK h25 (C + 32) = k_Machine ∧ hK h25 (hR h25 f_Machine_heap (C + 32)) = k_Heap ∧ wpB PGm ρ (d + 1) m_Heap_keep 0 [(0, vR (hR h25 f_Machine_heap (C + 32))), (1, vR (hz h))] [] h25 (cR (fun x39 h34 => K h34) E3)) E2) := by
  have H10 := H1
  obtain ⟨⟨c1, c1'⟩, g1, bd1, ⟨z1, s1, f1⟩, o1, x1, le1, sh1, kp1, rt1⟩ := H1
  have fr0 : Fr [] [] 1 8 h (hn h k_Obj 8 0) := (Fr.r0.new (k := k_Obj) (n := 8) (m := 0)).le (by omega) (by omega)
  obtain ⟨⟨c0, c0'⟩, g0, bd0⟩ := HC.al fr0
  have ⟨G1, F1⟩ := c1.1
  have zb : hz (hn h k_Obj 8 0) = hz h + 1 := rfl
  have ab : hz h < hz (hn h k_Obj 8 0) := by omega
  have a1 : hz h < hz h1 := f1.lt ab
  have ka : hK h1 (hz h) = k_Obj := by rw [f1.K ab]; exact if_pos rfl
  have gz := HC.1.1.1
  have T0 := HC.2.2.2.2.2.2.2.2.2.1
  have T1 := c1.2.2.2.2.2.2.2.2.2.1
  have M1 := c1.2.2.2.2.2.2.2.2.1
  obtain ⟨tn0, sn0, u1, u2, u3', u4, u5, u6, u6', u7, u8, -⟩ := T0
  obtain ⟨tn1, sn1, w1, w2, w3, w4, w5, w6, w6', w7, w8, -⟩ := T1
  have tS : S1 f_Md_things 0 = S f_Md_things 0 := o1 _ _ (by decide)
  have t1 : tn1 = tn := by omega
  subst t1
  have adr : ∀ k : Nat, k < tn1 → hB h1 (C + 51) k = hB h (C + 51) k ∧ hB h (C + 51) k < hz h := fun k hk => ⟨by rw [(g1.2.2.1.2 k (by omega)).2, (g0.2.2.1.2 k (by omega)).2], (u7 k (by omega)).p.1.2.1.2.1⟩
  have nT : ∀ k : Nat, (k : Int) < S1 f_Md_things 0 → hB h1 (C + 51) k ≠ hz h := fun k hk => by
    have := adr k (by omega)
    omega
  have nS : ∀ s : Nat, (s : Int) < S1 f_Md_shapes 0 → hB h1 (C + 52) s ≠ hz h := fun s hs c => by
    have x := (w8 s (by omega)).1.1
    rw [c, ka] at x; exact absurd x (by decide)
  obtain ⟨fo, zo, so⟩ := objB_f (num := (tn1 : Int)) (x := hB h1 (C + 52) r) G1.2.1 a1
  obtain ⟨b1, b2, b3, b4, b5, b6, b7, b8, b9⟩ := objB_g (num := (tn1 : Int)) (x := hB h1 (C + 52) r) a1
  obtain ⟨⟨c2, c2'⟩, g2, bd2⟩ := c1.raw fo nT nS
  refine ⟨by rw [ccK, ka]; decide, nto_a G1 (by omega) a1 (by rw [ka]; decide) ?_⟩
  have kp : ∀ f, [f_Thing_size, f_Obj_changedAt].elem f = true → hI (objB h1 (hz h) (tn1 : Int) (hB h1 (C + 52) r)) f (hz h) = 0 := fun f hf => by
    have : f = f_Thing_size ∨ f = f_Obj_changedAt := by simpa using hf
    have nw : ¬ okW [] (PO (hz h)) f (hz h) := by
      rintro (c | c)
      · cases c
      · unfold PO at c
        simp at c
        rcases this with rfl | rfl <;> (revert c; decide)
    rw [fo.I a1 (by rcases this with rfl | rfl <;> decide) nw, (kp1 f _ (by rcases this with rfl | rfl <;> decide) ab).1]
    exact if_pos rfl
  have rt : hR (objB h1 (hz h) (tn1 : Int) (hB h1 (C + 52) r)) f_Obj_root (hz h) = 0 := by
    have nw : ¬ okW [] (PO (hz h)) f_Obj_root (hz h) := by
      rintro (c | c)
      · cases c
      · unfold PO at c
        simp at c
        revert c; decide
    rw [fo.R a1 (by decide) nw, rt1 _ ab (fun k hk => by
      have := (u7 k (by omega)).p.1.2.1.2.1
      rw [(g0.2.2.1.2 k hk).2]; omega)]
    exact if_pos rfl
  have ka2 : hK (objB h1 (hz h) (tn1 : Int) (hB h1 (C + 52) r)) (hz h) = k_Obj := by rw [fo.K a1]; exact ka
  have e52 : hB (objB h1 (hz h) (tn1 : Int) (hB h1 (C + 52) r)) (C + 52) r = hB h1 (C + 52) r := by
    have := G1.1
    show (if C + 52 = hz h1 + 1 then 0 else if C + 52 = hz h1 then 0 else hB h1 (C + 52) r) = _
    rw [if_neg (by omega), if_neg (by omega)]
  have a2 : hz h < hz (objB h1 (hz h) (tn1 : Int) (hB h1 (C + 52) r)) := by rw [zo]; omega
  have T2 := c2.2.2.2.2.2.2.2.2.2.1
  obtain ⟨tn2, sn2, y1, y2, y3, -⟩ := T2
  have x0 : X1 50 f_Heap_made 0 = (mk : Int) := by rw [x1 _ _ _ (by decide)]; exact e1
  generalize objB h1 (hz h) (tn1 : Int) (hB h1 (C + 52) r) = h2 at *
  have ⟨G2, F2⟩ := c2.1
  have eH : hR (cc h2 C X1 Y) f_Machine_heap (C + 32) = C + 50 := by rw [ccRo (by decide)]; exact F2.2.1.2.2.2.2.1
  refine ⟨F2.1.1, by rw [eH]; exact F2.1.2.2.2.2.2.1, ?_⟩
  rw [eH]
  refine r_keep (tn := tn1) (mk := mk) G2 F2 (by omega) x0 (by omega) (by omega) w6 ⟨by omega, by rw [ka2]; decide⟩ (fun h3 z3 s3 G3 F3 R3 kp3 l3 b3' => ?_)
  have aR : ∀ {f : Nat}, f ∉ LCC ++ [f_Heap_things + 1] → 5 ≤ f → hR h3 f (hz h) = hR h2 f (hz h) := fun {f} w v => R3.R a2 v (fun c => c.elim w (fun q => by cases q))
  have aI : ∀ {f : Nat}, f ∉ LCC ++ [f_Heap_things + 1] → 5 ≤ f → hI h3 f (hz h) = hI h2 f (hz h) := fun {f} w v => R3.I a2 v (fun c => c.elim w (fun q => by cases q))
  have wz : hR h2 f_Thing_words (hz h) < hz h2 := G2.2.1.1 _ _ a2 (by unfold own; decide)
  have tz : hR h2 f_Thing_tags (hz h) < hz h2 := G2.2.1.1 _ _ a2 (by unfold own; decide)
  have noc : NOC C h3 tn1 (hz h) (hB h2 (C + 52) r) := by
    refine ⟨l3, by rw [b3', if_pos rfl], ⟨R3.lt a2, by omega⟩, by rw [R3.K a2]; exact ka2, by rw [aI (by decide) (by decide)]; exact b1, by rw [aI (by decide) (by decide)]; exact kp _ (by decide), ?_, by rw [aI (by decide) (by decide)]; exact b2, by rw [aI (by decide) (by decide)]; exact kp _ (by decide), by rw [aR (by decide) (by decide)]; exact rt, by rw [aR (by decide) (by decide), e52]; exact b3⟩
    rw [aR (by decide) (by decide), aR (by decide) (by decide), R3.K wz, R3.K tz, b4, b5, R3.la (by rw [← b5]; exact tz) (by rw [b7]; decide), R3.la (by rw [← b4]; exact wz) (by rw [b6]; decide)]
    exact ⟨by omega, b6, by omega, b7, b9, b8⟩
  obtain ⟨⟨c3, c3'⟩, g3, bd3, n3, V3⟩ := c2.mob (r := r) (tn := tn1) (mk := mk) hm x0 w1 hr cr R3 kp3 noc (fun i hi => by rw [b3', if_neg (by omega)])
  refine q1 h3 _ ⟨⟨c3, fun K => c3' (c2' (c1' (c0' K)))⟩, ((g0.tr g1).tr g2).tr g3, (BND.made ((bd0.tr bd1).tr bd2) bd3.1 bd3.2 (by have := bd1.2.2.1; omega) (by omega) (by omega)).le (by omega) (by omega), ⟨_, _, Fr.into (L := LHc) (P := []) (Fr.into (L := LHc) (P := []) (Fr.into (L := LHc) (P := []) (fr0.mono (fun f q => by cases q) (fun q hq => hq)) f1 (fun f hf => hf) (fun q hq => by cases hq)) fo (fun f q => by cases q) (fun q hq => Or.inr (Or.inr ?_))) R3 (fun f hf => ?_) (fun q hq => by cases hq)⟩, fun f i hf => ?_, fun o f i hf => ?_⟩ V3 (by rw [aI (by decide) (by decide)]; exact b1) (by rw [R3.K a2]; exact ka2)
  · unfold PO at hq
    simp at hq
    rcases hq with e | e | e | e | e <;> (rw [e]; exact ⟨Nat.le_of_ble_eq_true rfl, Nat.le_refl _⟩)
  · have e : (LCC ++ [f_Heap_things + 1]).all (fun f => LHc.elem f) = true := by decide
    simpa using List.all_eq_true.mp e f hf
  · have n : ∀ L : List Nat, (L.all fun f => (LSH ++ LNT).elem f) = true → L.elem f = false := fun L q => by
      cases w : L.elem f with
      | false => rfl
      | true => rw [List.all_eq_true.mp q f (by simpa using w)] at hf; cases hf
    have hne : f ≠ f_Md_thingShape := by rintro rfl; exact absurd hf (by decide)
    unfold mobS
    rw [u2_f hne, nthS_o (n _ (by decide)), o1 f i (n _ (by decide))]
  · have n : ∀ g, [f_Heap_shapesMade, f_Heap_made].elem g = true → f ≠ g := by rintro g hg rfl; rw [hg] at hf; cases hf
    rw [u3_f (n _ (by decide)), x1 _ _ _ (n _ (by decide))]
end
