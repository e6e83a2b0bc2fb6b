/-! C: a new instance is kept -/
set_option maxRecDepth 20000
section
variable {ρ : Nat → Nat} {d : Nat} {Q : QT} {Γ Γ' : GH} {h h' h1 h2 H H1 : ah} {C ho k i j N M a z s r f o c t n m mn m0 rr l1 l2 la p E mk tn : Nat} {g : HG} {v w hd ty κ x y : Int} {S S' S1 S2 : SS} {X X' X1 X2 : X3} {Y Y' Y1 Y2 : Y3} {hw : List (List Int)} {e : Option Int} {tyv : Nat → Int} {FR : Nat → ah → Prop} {EE : Nat → ah → Prop}
theorem uno_B (G : AC h C) (un : UNO h la) : ∀ i, hB (cc h C X Y) la i = hB h la i := fun i => ccB0 (fun q m c => un q.1 (C + q.2.1) (by have := (ownB' m).2; have := G.1; omega) (ownB' m).1 c)
theorem UNO.ccu (un : UNO h la) : UNO (cc h C X Y) la := fun f x hx hf => by
  intro c
  have : hR (cc h C X Y) f x = hR h f x := by
    refine ccRo ?_
    cases w : noP rfC f with
    | true => rfl
    | false =>
      exfalso
      have : ∃ q, q ∈ rfC ∧ q.1 = f := by
        unfold noP at w
        simp only [List.all_eq_false] at w
        obtain ⟨q, hq, e⟩ := w
        exact ⟨q, hq, by simpa using e⟩
      obtain ⟨q, hq, e⟩ := this
      have k : rfC.all (fun q => !(ownF.elem q.1)) = true := by decide +kernel
      have := List.all_eq_true.mp k q hq
      unfold own at hf
      rw [e] at this
      simp only [Bool.not_eq_true', List.elem_eq_mem, decide_eq_false_iff_not] at this
      exact this (by simpa using hf)
  rw [this] at c
  exact un f x hx hf c
theorem r_newinst (G : AC h C) (F : FC h C) (hd : 10 ≤ d) (hm : n ≤ 60000) (e1 : X 50 f_Heap_made 0 = (mk : Int)) (hmk : mk ≤ 8000) (et : hl h (C + 51) = tn) (ht' : tn ≤ 8000) (lk : hK h la = 24 ∧ la ≠ 0 ∧ la < hz h ∧ UNO h la) (ln : hl h la = n) (lm : ∀ i, i < n → hB h la i < hz h ∧ hK h (hB h la i) = k_Member ∧ hI h f_Member_type (hB h la i) = tyv i) (q : ∀ h' z s, AC h' C → FC h' C → Fr (LCC ++ [f_Heap_things + 1]) [] z s h h' → KEP C h h' 4 (20 + n + n) → NRW C h h' tn (hz h) k_Instance n n → hR h' f_Instance_type (hz h) = l2 → (∀ i, i < n → hA h' (hR h' f_Thing_words (hz h)) i = 0 ∧ hA h' (hR h' f_Thing_tags (hz h)) i = firT (tyv i)) → Q (Sum.inl (some (vR (hz h)))) (cc h' C (u3 X 50 f_Heap_made 0 ((mk + 1 : Nat) : Int)) Y)) : wpB PGm ρ (d + 1) m_Instance_init 0 [(0, vR (hz h)), (1, vI (tn : Int)), (2, vR l2), (3, vR la)] [] (hn (cc h C X Y) k_Instance 5 0) (cV (fun h34 => hK h34 (C + 50) = k_Heap ∧ wpB PGm ρ (d + 1) m_Heap_keep 0 [(0, vR (C + 50)), (1, vR (hz h))] [] h34 Q) EE) := by
  have g1 := G.1
  have lz : la < hz (cc h C X Y) := lk.2.2.1
  have unc : UNO (cc h C X Y) la := UNO.ccu lk.2.2.2
  have kla : hK (hn (cc h C X Y) k_Instance 5 0) la = 24 := by rw [hnK lz, ccK]; exact lk.1
  have lla : hl (hn (cc h C X Y) k_Instance 5 0) la = n := by rw [hnl lz, ccl]; exact ln
  have ka0 : hK (hn (cc h C X Y) k_Instance 5 0) (hz h) ≠ 0 := by
    show (if hz h = hz h then k_Instance else _) ≠ 0
    rw [if_pos rfl]; decide
  refine b_Instance_init_0 (d := d) ⟨by rw [kla]; decide, ka0, ?_⟩
  rw [lla]
  refine nt_init (H0 := cc h C X Y) (k := k_Instance) (cc_INJ G.2.1) (by decide) (by omega) hd hm (fun H1 N1 => ?_)
  obtain ⟨fr, n1, -, n2, n3, n4, n5, n6, n7, n8, n9, n10, -, -, -⟩ := N1
  have ez : hz (cc h C X Y) = hz h := rfl
  rw [ez] at n1 n2 n3 n4 n5 n6 n7 n8 n9 n10
  have fr6 : Fr [] [] 3 (20 + n + n) (cc h C X Y) (sR H1 f_Instance_type (hz h) l2) := Fr.nR (Nat.le_refl _) (by unfold own; decide) fr
  have ij6 : INJ (sR H1 f_Instance_type (hz h) l2) := fr6.inj (cc_INJ G.2.1)
  refine ⟨n2, ?_⟩
  dsimp only
  have A6 : TA (sR H1 f_Instance_type (hz h) l2) (hz h) 0 n := by
    refine ⟨by show hK H1 (hz h) ∈ _; rw [n2]; decide, by show hz h < hz H1; omega, n4, ?_, ?_, Nat.zero_le _, by omega⟩
    · rw [R_Rne (by decide), n5]
      exact ⟨by omega, n7, n9⟩
    · rw [R_Rne (by decide), n6]
      exact ⟨by omega, n8, n10⟩
  have un6 : UNO (sR H1 f_Instance_type (hz h) l2) la := UNO.fr unc lz lk.2.1 fr6
  have s6 := fr6.ar0 lz lk.2.1 (by simp) unc
  have p0 : ∀ y, (0, y) ∉ PTA (hz h) := fun y => by unfold PTA; simp [f_Thing_words, f_Thing_tags, f_Thing_size]
  have LA : ∀ H, Fr [] (PTA (hz h)) 0 0 (sR H1 f_Instance_type (hz h) l2) H → (1 ≤ hK H la ∧ hK H la < 100 ∧ 20 ≤ hK H la ∧ hl H la = n) ∧ ∀ i, i < n → hK H (hB H la i) = k_Member ∧ hI H f_Member_type (hB H la i) = tyv i := fun H f => by
    have lz6 := fr6.lt lz
    have s7 := f.ar0 lz6 lk.2.1 (p0 la) un6
    have kH : hK H la = 24 := by rw [f.K lz6, fr6.K lz, ccK]; exact lk.1
    refine ⟨⟨by rw [kH]; decide, by rw [kH]; decide, by rw [kH]; decide, by rw [s7.1, s6.1, ccl]; exact ln⟩, fun i hi => ?_⟩
    obtain ⟨b1, b2, b3⟩ := lm i hi
    have b1' : hB h la i < hz (cc h C X Y) := b1
    rw [s7.2.2, s6.2.2, uno_B G lk.2.2.2]
    refine ⟨by rw [f.K (fr6.lt b1'), fr6.K b1', ccK]; exact b2, ?_⟩
    rw [f.I (fr6.lt b1') (by decide) (by
      rintro (c | c)
      · cases c
      · unfold PTA at c; simp [f_Thing_words, f_Thing_tags, f_Thing_size, f_Member_type] at c), fr6.I b1' (by decide) (nokW rfl rfl), ccIo (by decide)]
    exact b3
  refine t_ini15 (tyv := tyv) hd hm LA (fun H2 f2 zs A2 ka2 ct => ?_) n 0 _ (by omega) ij6 A6 n2 Fr.r0 ⟨rfl, rfl⟩ (fun i hi => absurd hi (by omega))
  have frA : Fr [] [] (3 + 0) (20 + n + n + 0) (cc h C X Y) H2 := fr6.into f2 (fun _ q => q) (fun q hq => by
    refine Or.inr ?_
    unfold PTA at hq
    simp only [List.mem_cons, List.not_mem_nil, or_false] at hq
    rcases hq with rfl | rfl | rfl | rfl | rfl <;> exact Or.inr ⟨by dsimp only; decide, Nat.le_refl _⟩)
  obtain ⟨G2, F2, E2, R2⟩ := mat G F frA (by unfold DJ; decide)
  have z1 : hz H2 = hz h + 3 := by rw [zs.1]; exact n1
  refine ⟨F2.1.2.2.2.2.2.1, ?_⟩
  have e51 : hl H2 (C + 51) = tn ∧ ∀ i, hB H2 (C + 51) i = hB h (C + 51) i := by
    have := R2.ar G.2.1 (f := f_Heap_things) (by unfold own; decide) (x := C + 50) (by omega) F.2.2.1.2.1 (by omega) (nok (by decide) (by decide) rfl rfl) (by simp)
    exact ⟨by rw [this.1]; exact et, this.2.2⟩
  have a6 : hz h < hz (sR H1 f_Instance_type (hz h) l2) := by show hz h < hz H1; omega
  have num2 : hI H2 f_Thing_number (hz h) = (tn : Int) := by
    rw [f2.I a6 (by decide) (by
      rintro (c | c)
      · cases c
      · unfold PTA at c; simp [f_Thing_words, f_Thing_tags, f_Thing_size, f_Thing_number] at c)]
    exact n3
  have typ2 : hR H2 f_Instance_type (hz h) = l2 := by
    rw [f2.R a6 (by decide) (by
      rintro (c | c)
      · cases c
      · unfold PTA at c; simp [f_Thing_words, f_Thing_tags, f_Thing_size, f_Instance_type] at c)]
    exact R_R _ _ _ _
  show wpB PGm ρ (d + 1) m_Heap_keep 0 [(0, vR (C + 50)), (1, vR (hz h))] [] H2 Q
  rw [← E2]
  refine r_keep G2 F2 (by omega) e1 hmk e51.1 ht' ⟨by omega, by rw [ka2]; decide⟩ (fun h' z s G3 F3 R3 kp m1 m2 => ?_)
  have al : hz h < hz H2 := by omega
  have rI : ∀ f, (LCC ++ [f_Heap_things + 1]).elem f = false → 5 ≤ f → hI h' f (hz h) = hI H2 f (hz h) := fun f hf h5 => R3.I al h5 (nokW hf rfl)
  have rR : ∀ f, (LCC ++ [f_Heap_things + 1]).elem f = false → 5 ≤ f → hR h' f (hz h) = hR H2 f (hz h) := fun f hf h5 => R3.R al h5 (nokW hf rfl)
  have fr2 : Fr (LCC ++ [f_Heap_things + 1]) [] _ _ h H2 := R2.mono (fun f hf => by simp at hf; exact List.mem_append_left _ hf) (fun _ q => q)
  have al' := R3.lt al
  have kp3 : hI H2 2 (C + 51) = hI h 2 (C + 51) := by
    rw [frA.arC (cc_INJ G.2.1) (f := f_Heap_things) (x := C + 50) (by unfold own; decide) (by show C + 50 < hz h; omega) (by rw [ccRo (by decide)]; exact F.2.2.1.2.1) (by omega) (nok (by decide) (by decide) rfl rfl) (by simp), ccI4 (by decide)]
  have kp2 := frA.1
  have ij2 : INJ H2 := G2.2.1
  obtain ⟨t1, t2, t3, ⟨t4, t5, t6⟩, ⟨t7, t8, t9⟩, t10, t11⟩ := A2
  have wz := ij2.1 _ _ al (show own f_Thing_words by unfold own; decide)
  have tz := ij2.1 _ _ al (show own f_Thing_tags by unfold own; decide)
  have sW := R3.ar ij2 (f := f_Thing_words) (by unfold own; decide) al rfl t4 (nok (by decide) (by decide) rfl rfl) (by simp)
  have sT := R3.ar ij2 (f := f_Thing_tags) (by unfold own; decide) al rfl t7 (nok (by decide) (by decide) rfl rfl) (by simp)
  refine q h' _ _ G3 F3 (fr2.trans R3) (by
    obtain ⟨kp1, kp4⟩ := kp
    rw [kp3] at kp4
    have e1 : hz (cc h C X Y) = hz h := rfl
    have e2 : hs (cc h C X Y) = hs h := rfl
    rw [e1, e2] at kp2
    exact ⟨by omega, by omega⟩) ⟨m1, fun i => by rw [m2, e51.2], ⟨Nat.le_refl _, by omega⟩, by rw [R3.K al]; exact ka2, by rw [rI _ (by decide) (by decide)]; exact num2, by rw [R3.K al, ka2]; decide, al', by rw [rI _ (by decide) (by decide)]; exact t3, ?_, ?_, by omega, by omega⟩ (by rw [rR _ (by decide) (by decide)]; exact typ2) (fun i hi => ?_)
  · rw [rR f_Thing_words (by decide) (by decide), R3.K wz, sW.1]
    exact ⟨t4, t5, t6⟩
  · rw [rR f_Thing_tags (by decide) (by decide), R3.K tz, sT.1]
    exact ⟨t7, t8, t9⟩
  · rw [rR f_Thing_words (by decide) (by decide), rR f_Thing_tags (by decide) (by decide), sW.2.1, sT.2.1]
    exact ct i hi
end
