/-! C: an object, a fun is made -/
set_option maxRecDepth 20000
/-- thing tn is new at a: an object or fun of shape s0 with nothing in it -/
def NOB (C : Nat) (h h' : ah) (tn a k s0 : Nat) : Prop := hl h' (C + 51) = tn + 1 ∧ (∀ i, hB h' (C + 51) i = if i = tn then a else hB h (C + 51) i) ∧ (hz h ≤ a ∧ a < hz h' ∧ a ≠ 0) ∧ hK h' a = k ∧ hI h' f_Thing_number a = (tn : Int) ∧ hI h' f_Thing_size a = 0 ∧ (hR h' f_Thing_words a ≠ 0 ∧ hK h' (hR h' f_Thing_words a) = 2 ∧ hR h' f_Thing_tags a ≠ 0 ∧ hK h' (hR h' f_Thing_tags a) = 3 ∧ hl h' (hR h' f_Thing_tags a) = 0 ∧ hl h' (hR h' f_Thing_words a) = 0) ∧ hI h' f_Obj_epoch a = -1 ∧ hI h' f_Obj_changedAt a = 0 ∧ hR h' f_Obj_root a = 0 ∧ hR h' f_Obj_shape a = s0
section
variable {ρ : Nat → Nat} {d : Nat} {Q : QT} {h H H' : ah} {C k n m o c x y z s f i j tn sn mk rm : Nat} {X X' : X3} {Y : Y3} {L : List Nat} {v a b : Int}
theorem hcK (e : x < hz h) : hK (hn (cc h C X Y) k n m) x = hK h x := hnK (H := cc h C X Y) e
theorem hcR (e : x < hz h) (e2 : noP rfC f = true) : hR (hn (cc h C X Y) k n m) f x = hR h f x := by rw [hnR (H := cc h C X Y) e, ccRo e2]
theorem hcl (e : x < hz h) : hl (hn (cc h C X Y) k n m) x = hl h x := hnl (H := cc h C X Y) e
theorem hcB (e : x < hz h) : hB (hn (cc h C X Y) k n m) x i = hB (cc h C X Y) x i := hnB (H := cc h C X Y) e
theorem hclok (e : x < hz h) : lok (hn (cc h C X Y) k n m) x = lok h x := by rw [hnlok (H := cc h C X Y) e, cclok]
/-- made and kept -/
theorem r_newobj (G : AC h C) (F : FC h C) (hd : 10 ≤ d) (e1 : X 50 f_Heap_made 0 = (mk : Int)) (hm : mk ≤ 8000) (et : hl h (C + 51) = tn) (ht' : tn ≤ 8000) (q : ∀ h' z s, AC h' C → FC h' C → Fr (LCC ++ [f_Heap_things + 1]) [] z s h h' → KEP C h h' 4 20 → NOB C h h' tn (hz h) k_Obj x → Q (Sum.inl (some (vR (hz h)))) (cc h' C (u3 X 50 f_Heap_made 0 ((mk + 1 : Nat) : Int)) Y)) {E : Nat → ah → Prop} : wpB PGm ρ (d + 1) m_Obj_init 0 [(0, vR (hz h)), (1, vI (tn : Int)), (2, vR x)] [] (hn (cc h C X Y) k_Obj 8 0) (cV (fun h292 => hK h292 (C + 50) = k_Heap ∧ wpB PGm ρ (d + 1) m_Heap_keep 0 [(0, vR (C + 50)), (1, vR (hz h))] [] h292 Q) E) := by
  have g1 := G.1
  refine nto_init (H0 := cc h C X Y) (k := k_Obj) (cc_INJ G.2.1) (by decide) (by omega) hd (fun H1 N1 => ?_)
  have fr := N1.f
  obtain ⟨n1, n2, n3, n4, n5, n6, n7, n8, n9, n10, n11, n12, n13, n14⟩ := N1.g
  have ez : hz (cc h C X Y) = hz h := rfl
  rw [ez] at n1 n2 n3 n4 n5 n6 n7 n8 n9 n10 n11 n12 n13 n14
  obtain ⟨G2, F2, E2, R2⟩ := mat G F fr (by unfold DJ; decide)
  refine ⟨F2.1.2.2.2.2.2.1, ?_⟩
  have e51 : hl H1 (C + 51) = tn ∧ ∀ i, hB H1 (C + 51) i = hB h (C + 51) i := by
    have := R2.ar G.2.1 (f := f_Heap_things) (by unfold own; decide) (x := C + 50) (by omega) F.2.2.1.2.1 (by omega) (nok (by decide) (by decide) rfl rfl) (by simp)
    exact ⟨by rw [this.1]; exact et, this.2.2⟩
  rw [← E2]
  refine r_keep G2 F2 (by omega) e1 hm e51.1 ht' ⟨by omega, by rw [n2]; decide⟩ (fun h' z s G3 F3 R3 kp m1 m2 => ?_)
  have al : hz h < hz H1 := by omega
  have rI : ∀ f, (LCC ++ [f_Heap_things + 1]).elem f = false → 5 ≤ f → hI h' f (hz h) = hI H1 f (hz h) := fun f hf h5 => R3.I al h5 (nokW hf rfl)
  have rR : ∀ f, (LCC ++ [f_Heap_things + 1]).elem f = false → 5 ≤ f → hR h' f (hz h) = hR H1 f (hz h) := fun f hf h5 => R3.R al h5 (nokW hf rfl)
  have fr2 : Fr (LCC ++ [f_Heap_things + 1]) [] _ _ h H1 := R2.mono (fun f hf => by simp at hf; exact List.mem_append_left _ hf) (fun _ q => q)
  have c51 : ∀ {H : ah}, Fr [] [] 3 20 (cc h C X Y) H → hI H 2 (C + 51) = hI h 2 (C + 51) := fun {H} fr => by
    rw [fr.arC (cc_INJ G.2.1) (f := f_Heap_things) (x := C + 50) (by unfold own; decide) (by show C + 50 < hz h; omega) (by rw [ccRo (by decide)]; exact F.2.2.1.2.1) (by omega) (nok (by decide) (by decide) rfl rfl) (by simp), ccI4 (by decide)]
  have kp2 := fr.1
  have kp3 := c51 fr
  refine q h' _ _ G3 F3 (fr2.trans R3) (by
    obtain ⟨kp1, kp4⟩ := kp
    rw [kp3] at kp4
    have e1 : hz (cc h C X Y) = hz h := rfl
    have e2 : hs (cc h C X Y) = hs h := rfl
    rw [e1, e2] at kp2
    exact ⟨by omega, by omega⟩) ⟨m1, fun i => by rw [m2, e51.2], ⟨Nat.le_refl _, by have := R3.1.1; omega, by omega⟩, by rw [R3.K al]; exact n2, by rw [rI _ (by decide) (by decide)]; exact n3, by rw [rI _ (by decide) (by decide)]; exact n4, ?_, by rw [rI _ (by decide) (by decide)]; exact n11, by rw [rI _ (by decide) (by decide)]; exact n12, by rw [rR _ (by decide) (by decide)]; exact n13, by rw [rR _ (by decide) (by decide)]; exact n14⟩
  rw [rR f_Thing_words (by decide) (by decide), rR f_Thing_tags (by decide) (by decide), n5, n6, R3.K (by omega), R3.K (by omega), R3.la (by omega) (by rw [n8]; decide), R3.la (by omega) (by rw [n7]; decide)]
  exact ⟨by omega, n7, by omega, n8, n10, n9⟩
theorem r_OBJECT (I : IX h C X Y o n c) (e1 : X 50 f_Heap_made 0 = (mk : Int)) (e2 : X 50 f_Heap_room 0 = (rm : Int)) (hm : mk ≤ 8000) (hr : rm ≤ 60000) (et : hl h (C + 51) = tn) (ht' : tn ≤ 8000) (es : hl h (C + 52) = sn) (hs : 1 ≤ sn) (ks : hK h (hB h (C + 52) 0) = k_Shape ∧ hB h (C + 52) 0 < hz h) (q1 : n < 2000 → mk + 1 ≤ 8000 → ∀ h' z s, AC h' C → FC h' C → Fr (LCC ++ [f_Heap_things + 1]) [] z s h h' → KEP C h h' 4 20 → NOB C h h' tn (hz h) k_Obj (hB h (C + 52) 0) → Q (Sum.inl none) (cc h' C (goX (pshX (u3 X 50 f_Heap_made 0 ((mk + 1 : Nat) : Int)) o n 4 (tn : Int)) o c) Y)) (q0 : n = 2000 → Q (Sum.inr (C + 33)) (cc h C (erX X 11) Y)) (q2 : n < 2000 → ¬ mk + 1 ≤ 8000 → Q (Sum.inr (C + 33)) (cc h C (erX X 0) Y)) : wpB PGm ρ (d + 40) m_Machine_instruct 0 [(0, vR (C + 32)), (1, vI 26), (2, vI a), (3, vI b)] [] (cc h C X Y) Q := by
  obtain ⟨G, F, ht, e0, hn', hc1, hc2⟩ := I
  have e0' := e0
  obtain ⟨k1, k2, k3⟩ := e0
  have nz : hK h (C + 33) ≠ 0 := by rw [F.1.2.1]; decide
  have g1 := G.1
  have l51 : C + 51 < hz h := by omega
  have l52 : C + 52 < hz h := by omega
  have l50 : C + 50 < hz h := by omega
  have l32 : C + 32 < hz h := by omega
  have eB : hB (cc h C X Y) (C + 52) 0 = hB h (C + 52) 0 := by
    have := ccBo (X := X) (Y := Y) (i := 0) (f := f_Heap_shapes) (b := C + 50) G (by decide) (by omega)
    rw [F.2.2.1.2.2.1] at this; exact this
  -- behind the check of the memory
  have gm : n < 2000 → mk + 1 ≤ 8000 → wpB PGm ρ (d + 39) m_Obj_init 0 [(0, vR (hz h)), (1, vI (tn : Int)), (2, vR (hB h (C + 52) 0))] [] (hn (cc h C X Y) k_Obj 8 0) (cV (fun h292 => hK h292 (C + 50) = k_Heap ∧ wpB PGm ρ (d + 39) m_Heap_keep 0 [(0, vR (C + 50)), (1, vR (hz h))] [] h292 (cR (fun x304 h299 => (x304 = 0 ∨ hK h299 x304 ∈ [244, 245]) ∧ hK h299 x304 ∈ [244, 245, 246, 249] ∧ hK h299 (C + 32) = k_Machine ∧ wpB PGm ρ (d + 39) m_Machine_pushed 0 [(0, vR (C + 32)), (1, vI 4), (2, vL (hI h299 f_Thing_number x304))] [] h299 (cV (fun h309 => Q (Sum.inl none) h309) (fun e h' => ¬ hK h' e = 0 ∧ Q (Sum.inr e) h'))) (fun e h' => ¬ hK h' e = 0 ∧ Q (Sum.inr e) h'))) (fun e h' => ¬ hK h' e = 0 ∧ Q (Sum.inr e) h')) := by
    intro z1 z2
    refine r_newobj (d := d + 38) G F (by omega) e1 hm et ht' (fun h' z s G3 F3 R3 K3 N3 => ?_)
    have kd := N3.2.2.2.1
    have nu : hI (cc h' C (u3 X 50 f_Heap_made 0 ((mk + 1 : Nat) : Int)) Y) f_Thing_number (hz h) = (tn : Int) := by rw [ccIo (by decide)]; exact N3.2.2.2.2.1
    refine ⟨Or.inr ?_, ?_, F3.1.1, ?_⟩
    · show hK h' (hz h) ∈ _; rw [kd]; decide
    · show hK h' (hz h) ∈ _; rw [kd]; decide
    · rw [nu]
      refine r_pushed (d := d + 37) G3 F3 ht ⟨k1, by rw [u3_f (by decide)]; exact k2, by rw [u3_f (by decide)]; exact k3⟩ hn' ⟨hc1, hc2⟩ (by decide) (fun _ => q1 z1 z2 h' z s G3 F3 R3 K3 N3) (fun w => by omega)
  have gw : n < 2000 → ¬ mk + 1 ≤ 8000 → Q (Sum.inr (C + 33)) (cc h C (erX X 0) Y) := q2
  have gr := q0
  have ks2 := ks.2
  have f51 := F.2.2.2.1.1
  have f52 := F.2.2.2.1.2.1
  have hd1 : 10 ≤ d + 39 + 1 := by omega
  have b0 : (0 : Int) < (sn : Int) := by omega
  have hn0 : n ≠ 2000 → n < 2000 := fun w => by omega
  clear q1 q0 q2
  have f1 := F.t ht
  unfold FCt at f1
  have f2 := F
  unfold FC at f2
  refine b_Machine_instruct_0 hd1 ?_
  simp (decide := true) (disch := first | decide | omega) only [ccI, ccR, ccIt ht, ccRo, ccK, ccl, ccA G, ccAt G ht, ccB G, ccBt G ht, cc_sI, cc_sR, cc_sIt ht, cc_sA G, cc_sAt G ht, cc_sB G, cc_sBt G ht, f1, f2, u3_f, u3_s, KCt G ht, KC G, w32_aa, w32_ss, w32_p1, w32_m1, Int.toNat_natCast, true_and, and_true, false_and, and_false, or_false, false_or, ne_eq, not_false_eq_true, forall_const, implies_true, not_true_eq_false, false_implies, k1, k2]
  refine r_room (d := d + 38) G F ht e0' (fun zr => ?_) (fun zr => ⟨nz, gr zr⟩)
  simp (decide := true) (disch := first | decide | omega) only [ccI, ccR, ccIt ht, ccRo, ccK, ccl, ccA G, ccAt G ht, ccB G, ccBt G ht, cc_sI, cc_sR, cc_sIt ht, cc_sA G, cc_sAt G ht, cc_sB G, cc_sBt G ht, f1, f2, u3_f, u3_s, KCt G ht, KC G, w32_aa, w32_ss, w32_p1, w32_m1, Int.toNat_natCast, true_and, and_true, false_and, and_false, or_false, false_or, ne_eq, not_false_eq_true, forall_const, implies_true, not_true_eq_false, false_implies, cV]
  refine r_want (d := d + 37) (a := 1) (b := 0) G F e1 e2 hm hr (by decide) (by decide) (fun w1 w2 => ?_) (fun w => ⟨nz, gw (hn0 zr) (fun w3 => w ⟨w3, hr⟩)⟩)
  have gm' := gm (hn0 zr) w1
  clear gm gw gr hm hr ht' hs w1 w2 hc1 hc2 hn'
  simp (decide := true) (disch := first | decide | omega) only [cV, hcK, hcR, hcl, hcB, hclok, ccz, cclok, ccK, ccl, ccRo, f2, et, es, eB, ks.1, b0, w32_aa, w32_ss, w32_p1, w32_m1, Int.toNat_natCast, true_and, and_true, false_and, and_false, or_false, false_or, ne_eq, not_false_eq_true, forall_const, implies_true, not_true_eq_false, false_implies]
  exact ⟨f51.1, f52.1, Or.inr trivial, gm'⟩
/-- a fun is made and kept -/
theorem r_newfun (G : AC h C) (F : FC h C) (hd : 10 ≤ d) (e1 : X 50 f_Heap_made 0 = (mk : Int)) (hm : mk ≤ 8000) (et : hl h (C + 51) = tn) (ht' : tn ≤ 8000) {cd ar : Nat} (q : ∀ h' z s, AC h' C → FC h' C → Fr (LCC ++ [f_Heap_things + 1]) [] z s h h' → KEP C h h' 4 20 → NOB C h h' tn (hz h) k_Fun x → hR h' f_Fun_code (hz h) = cd → hR h' f_Fun_around (hz h) = ar → Q (Sum.inl (some (vR (hz h)))) (cc h' C (u3 X 50 f_Heap_made 0 ((mk + 1 : Nat) : Int)) Y)) {E : Nat → ah → Prop} : wpB PGm ρ (d + 2) m_Fun_init 0 [(0, vR (hz h)), (1, vI (tn : Int)), (2, vR x), (3, vR cd), (4, vR ar)] [] (hn (cc h C X Y) k_Fun 10 0) (cV (fun h292 => hK h292 (C + 50) = k_Heap ∧ wpB PGm ρ (d + 2) m_Heap_keep 0 [(0, vR (C + 50)), (1, vR (hz h))] [] h292 Q) E) := by
  have g1 := G.1
  refine b_Fun_init_0 ⟨?_, nto_init (H0 := cc h C X Y) (k := k_Fun) (cc_INJ G.2.1) (by decide) (by omega) hd (fun H1 N1 => ?_)⟩
  · show (if hz h = hz h then k_Fun else _) ≠ 0
    rw [if_pos rfl]; decide
  have fr0 := N1.f
  obtain ⟨n1, n2, n3, n4, n5, n6, n7, n8, n9, n10, n11, n12, n13, n14⟩ := N1.g
  have ez : hz (cc h C X Y) = hz h := rfl
  rw [ez] at n1 n2 n3 n4 n5 n6 n7 n8 n9 n10 n11 n12 n13 n14
  refine ⟨n2, ?_⟩
  have fr : Fr [] [] 3 20 (cc h C X Y) (sR (sR H1 f_Fun_code (hz h) cd) f_Fun_around (hz h) ar) := Fr.nR (Nat.le_refl _) (by unfold own; decide) (Fr.nR (Nat.le_refl _) (by unfold own; decide) fr0)
  have w : ∀ f, f ≠ f_Fun_code → f ≠ f_Fun_around → hR (sR (sR H1 f_Fun_code (hz h) cd) f_Fun_around (hz h) ar) f (hz h) = hR H1 f (hz h) := fun f q1 q2 => by rw [R_Rne q2, R_Rne q1]
  have c1 : hR (sR (sR H1 f_Fun_code (hz h) cd) f_Fun_around (hz h) ar) f_Fun_code (hz h) = cd := by rw [R_Rne (by decide), R_R]
  have c2 : hR (sR (sR H1 f_Fun_code (hz h) cd) f_Fun_around (hz h) ar) f_Fun_around (hz h) = ar := by rw [R_R]
  have n5' := (w _ (by decide) (by decide)).trans n5
  have n6' := (w _ (by decide) (by decide)).trans n6
  have n13' := (w _ (by decide) (by decide)).trans n13
  have n14' := (w _ (by decide) (by decide)).trans n14
  have n1' : hz (sR (sR H1 f_Fun_code (hz h) cd) f_Fun_around (hz h) ar) = hz h + 3 := n1
  have n2' : hK (sR (sR H1 f_Fun_code (hz h) cd) f_Fun_around (hz h) ar) (hz h) = k_Fun := n2
  have n3' : hI (sR (sR H1 f_Fun_code (hz h) cd) f_Fun_around (hz h) ar) f_Thing_number (hz h) = (tn : Int) := n3
  have n4' : hI (sR (sR H1 f_Fun_code (hz h) cd) f_Fun_around (hz h) ar) f_Thing_size (hz h) = 0 := n4
  have n7' : hK (sR (sR H1 f_Fun_code (hz h) cd) f_Fun_around (hz h) ar) (hz h + 1) = 2 := n7
  have n8' : hK (sR (sR H1 f_Fun_code (hz h) cd) f_Fun_around (hz h) ar) (hz h + 2) = 3 := n8
  have n9' : hl (sR (sR H1 f_Fun_code (hz h) cd) f_Fun_around (hz h) ar) (hz h + 1) = 0 := n9
  have n10' : hl (sR (sR H1 f_Fun_code (hz h) cd) f_Fun_around (hz h) ar) (hz h + 2) = 0 := n10
  have n11' : hI (sR (sR H1 f_Fun_code (hz h) cd) f_Fun_around (hz h) ar) f_Obj_epoch (hz h) = -1 := n11
  have n12' : hI (sR (sR H1 f_Fun_code (hz h) cd) f_Fun_around (hz h) ar) f_Obj_changedAt (hz h) = 0 := n12
  clear n1 n2 n3 n4 n5 n6 n7 n8 n9 n10 n11 n12 n13 n14 w fr0 N1
  show hK (sR (sR H1 f_Fun_code (hz h) cd) f_Fun_around (hz h) ar) (C + 50) = k_Heap ∧ wpB PGm ρ (d + 2) m_Heap_keep 0 [(0, vR (C + 50)), (1, vR (hz h))] [] (sR (sR H1 f_Fun_code (hz h) cd) f_Fun_around (hz h) ar) Q
  generalize sR (sR H1 f_Fun_code (hz h) cd) f_Fun_around (hz h) ar = H2 at *
  obtain ⟨G2, F2, E2, R2⟩ := mat G F fr (by unfold DJ; decide)
  refine ⟨F2.1.2.2.2.2.2.1, ?_⟩
  have e51 : hl H2 (C + 51) = tn ∧ ∀ i, hB H2 (C + 51) i = hB h (C + 51) i := by
    have := R2.ar G.2.1 (f := f_Heap_things) (by unfold own; decide) (x := C + 50) (by omega) F.2.2.1.2.1 (by omega) (nok (by decide) (by decide) rfl rfl) (by simp)
    exact ⟨by rw [this.1]; exact et, this.2.2⟩
  rw [← E2]
  refine r_keep G2 F2 (by omega) e1 hm e51.1 ht' ⟨by omega, by rw [n2']; decide⟩ (fun h' z s G3 F3 R3 kp m1 m2 => ?_)
  have al : hz h < hz H2 := by omega
  have rI : ∀ f, (LCC ++ [f_Heap_things + 1]).elem f = false → 5 ≤ f → hI h' f (hz h) = hI H2 f (hz h) := fun f hf h5 => R3.I al h5 (nokW hf rfl)
  have rR : ∀ f, (LCC ++ [f_Heap_things + 1]).elem f = false → 5 ≤ f → hR h' f (hz h) = hR H2 f (hz h) := fun f hf h5 => R3.R al h5 (nokW hf rfl)
  have fr2 : Fr (LCC ++ [f_Heap_things + 1]) [] _ _ h H2 := R2.mono (fun f hf => by simp at hf; exact List.mem_append_left _ hf) (fun _ q => q)
  have c51 : ∀ {H : ah}, Fr [] [] 3 20 (cc h C X Y) H → hI H 2 (C + 51) = hI h 2 (C + 51) := fun {H} fr => by
    rw [fr.arC (cc_INJ G.2.1) (f := f_Heap_things) (x := C + 50) (by unfold own; decide) (by show C + 50 < hz h; omega) (by rw [ccRo (by decide)]; exact F.2.2.1.2.1) (by omega) (nok (by decide) (by decide) rfl rfl) (by simp), ccI4 (by decide)]
  have kp2 := fr.1
  have kp3 := c51 fr
  refine q h' _ _ G3 F3 (fr2.trans R3) (by
    obtain ⟨kp1, kp4⟩ := kp
    rw [kp3] at kp4
    have e1 : hz (cc h C X Y) = hz h := rfl
    have e2 : hs (cc h C X Y) = hs h := rfl
    rw [e1, e2] at kp2
    exact ⟨by omega, by omega⟩) ⟨m1, fun i => by rw [m2, e51.2], ⟨Nat.le_refl _, by have := R3.1.1; omega, by omega⟩, by rw [R3.K al]; exact n2', by rw [rI _ (by decide) (by decide)]; exact n3', by rw [rI _ (by decide) (by decide)]; exact n4', ?_, by rw [rI _ (by decide) (by decide)]; exact n11', by rw [rI _ (by decide) (by decide)]; exact n12', by rw [rR _ (by decide) (by decide)]; exact n13', by rw [rR _ (by decide) (by decide)]; exact n14'⟩ (by rw [rR _ (by decide) (by decide)]; exact c1) (by rw [rR _ (by decide) (by decide)]; exact c2)
  rw [rR f_Thing_words (by decide) (by decide), rR f_Thing_tags (by decide) (by decide), n5', n6', R3.K (by omega), R3.K (by omega), R3.la (by omega) (by rw [n8']; decide), R3.la (by omega) (by rw [n7']; decide)]
  exact ⟨by omega, n7', by omega, n8', n10', n9'⟩
theorem r_FUN (I : IX h C X Y o n c) (e1 : X 50 f_Heap_made 0 = (mk : Int)) (e2 : X 50 f_Heap_room 0 = (rm : Int)) (hm : mk ≤ 8000) (hr : rm ≤ 60000) (et : hl h (C + 51) = tn) (ht' : tn ≤ 8000) (es : hl h (C + 52) = sn) (hs : 1 ≤ sn) (ks : hK h (hB h (C + 52) 0) = k_Shape ∧ hB h (C + 52) 0 < hz h) {fa fn : Nat} (ef : hl h (C + 56) = fn) (hf : fa < fn) (kf : hK h (hB h (C + 56) fa) = k_Code ∧ hB h (C + 56) fa < hz h) (q1 : n < 2000 → mk + 1 ≤ 8000 → ∀ h' z s, AC h' C → FC h' C → Fr (LCC ++ [f_Heap_things + 1]) [] z s h h' → KEP C h h' 4 20 → NOB C h h' tn (hz h) k_Fun (hB h (C + 52) 0) → hR h' f_Fun_code (hz h) = hB h (C + 56) fa → hR h' f_Fun_around (hz h) = Y o f_Task_variables (c - 1) → Q (Sum.inl none) (cc h' C (goX (pshX (u3 X 50 f_Heap_made 0 ((mk + 1 : Nat) : Int)) o n 5 (tn : Int)) o c) Y)) (q0 : n = 2000 → Q (Sum.inr (C + 33)) (cc h C (erX X 11) Y)) (q2 : n < 2000 → ¬ mk + 1 ≤ 8000 → Q (Sum.inr (C + 33)) (cc h C (erX X 0) Y)) : wpB PGm ρ (d + 40) m_Machine_instruct 0 [(0, vR (C + 32)), (1, vI 24), (2, vI (fa : Int)), (3, vI b)] [] (cc h C X Y) Q := by
  obtain ⟨G, F, ht, e0, hn', hc1, hc2⟩ := I
  have e0' := e0
  obtain ⟨k1, k2, k3⟩ := e0
  have nz : hK h (C + 33) ≠ 0 := by rw [F.1.2.1]; decide
  have g1 := G.1
  have l51 : C + 51 < hz h := by omega
  have l52 : C + 52 < hz h := by omega
  have l50 : C + 50 < hz h := by omega
  have l32 : C + 32 < hz h := by omega
  have l56 : C + 56 < hz h := by omega
  have lo : C + o < hz h := by rcases ht with rfl | rfl <;> omega
  have eB : hB (cc h C X Y) (C + 52) 0 = hB h (C + 52) 0 := by
    have := ccBo (X := X) (Y := Y) (i := 0) (f := f_Heap_shapes) (b := C + 50) G (by decide) (by omega)
    rw [F.2.2.1.2.2.1] at this; exact this
  have eF : hB (cc h C X Y) (C + 56) fa = hB h (C + 56) fa := by
    have := ccBo (X := X) (Y := Y) (i := fa) (f := f_Machine_functions) (b := C + 32) G (by decide) (by omega)
    rw [F.2.1.2.2.2.2.2.2.2.1] at this; exact this
  have oV : own f_Task_variables := by unfold own; decide
  have lv : hR h f_Task_variables (C + o) < hz h := G.2.1.1 _ _ lo oV
  have eV : hB (cc h C X Y) (hR h f_Task_variables (C + o)) (c - 1) = Y o f_Task_variables (c - 1) := ccBt G ht (by decide)
  have eT : hR (hn (cc h C X Y) k_Fun 10 0) f_Machine_t (C + 32) = C + o := by rw [hnR (H := cc h C X Y) (by show C + 32 < hz h; exact l32), ccR (by decide)]; exact k1
  have eC : hI (hn (cc h C X Y) k_Fun 10 0) f_Task_calls (C + o) = (c : Int) := by rw [hnI (H := cc h C X Y) (by show C + o < hz h; exact lo), ccIt ht (by decide)]; exact k3
  have gm : n < 2000 → mk + 1 ≤ 8000 → wpB PGm ρ (d + 39) m_Fun_init 0 [(0, vR (hz h)), (1, vI (tn : Int)), (2, vR (hB h (C + 52) 0)), (3, vR (hB h (C + 56) fa)), (4, vR (Y o f_Task_variables (c - 1)))] [] (hn (cc h C X Y) k_Fun 10 0) (cV (fun h292 => hK h292 (C + 50) = k_Heap ∧ wpB PGm ρ (d + 39) m_Heap_keep 0 [(0, vR (C + 50)), (1, vR (hz h))] [] h292 (cR (fun x304 h299 => (x304 = 0 ∨ hK h299 x304 ∈ [245]) ∧ hK h299 x304 ∈ [244, 245, 246, 249] ∧ hK h299 (C + 32) = k_Machine ∧ wpB PGm ρ (d + 39) m_Machine_pushed 0 [(0, vR (C + 32)), (1, vI 5), (2, vL (hI h299 f_Thing_number x304))] [] h299 (cV (fun h309 => wpB PGm ρ (d + 40) m_Machine_instruct 609 [] [] h309 Q) (fun e h' => ¬ hK h' e = 0 ∧ Q (Sum.inr e) h'))) (fun e h' => ¬ hK h' e = 0 ∧ Q (Sum.inr e) h'))) (fun e h' => ¬ hK h' e = 0 ∧ Q (Sum.inr e) h')) := by
    intro z1 z2
    refine r_newfun (d := d + 37) G F (by omega) e1 hm et ht' (fun h' z s G3 F3 R3 K3 N3 c1 c2 => ?_)
    have kd := N3.2.2.2.1
    have nu : hI (cc h' C (u3 X 50 f_Heap_made 0 ((mk + 1 : Nat) : Int)) Y) f_Thing_number (hz h) = (tn : Int) := by rw [ccIo (by decide)]; exact N3.2.2.2.2.1
    refine ⟨Or.inr ?_, ?_, F3.1.1, ?_⟩
    · show hK h' (hz h) ∈ _; rw [kd]; decide
    · show hK h' (hz h) ∈ _; rw [kd]; decide
    · rw [nu]
      refine r_pushed (d := d + 37) G3 F3 ht ⟨k1, by rw [u3_f (by decide)]; exact k2, by rw [u3_f (by decide)]; exact k3⟩ hn' ⟨hc1, hc2⟩ (by decide) (fun _ => b_Machine_instruct_609 (q1 z1 z2 h' z s G3 F3 R3 K3 N3 c1 c2)) (fun w => by omega)
  have gw : n < 2000 → ¬ mk + 1 ≤ 8000 → Q (Sum.inr (C + 33)) (cc h C (erX X 0) Y) := q2
  have gr := q0
  have ks2 := ks.2
  have kf2 := kf.2
  have f51 := F.2.2.2.1.1
  have f52 := F.2.2.2.1.2.1
  have f56 := F.2.2.2.1.2.2.1
  have hd1 : 10 ≤ d + 39 + 1 := by omega
  have b0 : (0 : Int) < (sn : Int) := by omega
  have bf : 0 ≤ (fa : Int) ∧ (fa : Int) < (fn : Int) := by omega
  have bc : w32 ((c : Int) - 1) = ((c - 1 : Nat) : Int) := w32_m1 (by omega)
  have bc2 : 0 ≤ ((c - 1 : Nat) : Int) ∧ ((c - 1 : Nat) : Int) < ((200 : Nat) : Int) := by omega
  have hn0 : n ≠ 2000 → n < 2000 := fun w => by omega
  clear q1 q0 q2
  have f1 := F.t ht
  unfold FCt at f1
  have f2 := F
  unfold FC at f2
  have kt := KCt G ht
  refine b_Machine_instruct_0 hd1 ?_
  simp (decide := true) (disch := first | decide | omega) only [ccI, ccR, ccIt ht, ccRo, ccK, ccl, ccA G, ccAt G ht, ccB G, ccBt G ht, cc_sI, cc_sR, cc_sIt ht, cc_sA G, cc_sAt G ht, cc_sB G, cc_sBt G ht, f1, f2, u3_f, u3_s, KCt G ht, KC G, w32_aa, w32_ss, w32_p1, w32_m1, Int.toNat_natCast, true_and, and_true, false_and, and_false, or_false, false_or, ne_eq, not_false_eq_true, forall_const, implies_true, not_true_eq_false, false_implies, k1, k2]
  refine r_room (d := d + 38) G F ht e0' (fun zr => ?_) (fun zr => ⟨nz, gr zr⟩)
  simp (decide := true) (disch := first | decide | omega) only [ccI, ccR, ccIt ht, ccRo, ccK, ccl, ccA G, ccAt G ht, ccB G, ccBt G ht, cc_sI, cc_sR, cc_sIt ht, cc_sA G, cc_sAt G ht, cc_sB G, cc_sBt G ht, f1, f2, u3_f, u3_s, KCt G ht, KC G, w32_aa, w32_ss, w32_p1, w32_m1, Int.toNat_natCast, true_and, and_true, false_and, and_false, or_false, false_or, ne_eq, not_false_eq_true, forall_const, implies_true, not_true_eq_false, false_implies, cV]
  refine r_want (d := d + 37) (a := 1) (b := 0) G F e1 e2 hm hr (by decide) (by decide) (fun w1 w2 => ?_) (fun w => ⟨nz, gw (hn0 zr) (fun w3 => w ⟨w3, hr⟩)⟩)
  have gm' := gm (hn0 zr) w1
  clear gm gw gr hm hr ht' hs w1 w2 hc1 hc2 hn' hf
  simp (decide := true) (disch := first | decide | omega) only [cV, eT, eC, bc, hcK, hcR, hcl, hcB, hclok, ccz, cclok, ccK, ccl, ccRo, f2, f1, kt, et, es, ef, eB, eF, eV, ks.1, kf.1, b0, bf, bc2, w32_aa, w32_ss, w32_p1, w32_m1, Int.toNat_natCast, true_and, and_true, false_and, and_false, or_false, false_or, ne_eq, not_false_eq_true, forall_const, implies_true, not_true_eq_false, false_implies]
  exact ⟨f51.1, f52.1, Or.inr trivial, f56.1, Or.inr trivial, gm'⟩
end
