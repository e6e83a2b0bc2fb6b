/-! C: a list is made -/
set_option maxRecDepth 20000
/-- thing tn is new at a: a thing of kind k with m values of room for l -/
def NRW (C : Nat) (h h' : ah) (tn a k m l : Nat) : Prop := hl h' (C + 51) = tn + 1 ∧ (∀ i, hB h' (C + 51) i = if i = tn then a else hB h (C + 51) i) ∧ (hz h ≤ a ∧ a ≠ 0) ∧ hK h' a = k ∧ hI h' f_Thing_number a = (tn : Int) ∧ TA h' a m l
def liX (X : X3) (o mk rm n m : Nat) : X3 := u3 (u3 (u3 X 50 f_Heap_made 0 ((mk + 1 : Nat) : Int)) 50 f_Heap_room 0 ((rm + m : Nat) : Int)) o f_Task_size 0 ((n - m : Nat) : Int)
section
variable {ρ : Nat → Nat} {d : Nat} {Q : QT} {h H H' : ah} {C k n m o c x y z s f i j tn sn mk rm a b l : Nat} {X X' : X3} {Y : Y3} {L : List Nat} {v w bb : Int}
theorem dj_PTA {K L : List Nat} (e : K.all (fun f => !(L.elem f) && !([f_Thing_words, f_Thing_tags, f_Thing_size, f_Thing_words + 1, f_Thing_tags + 1].elem f)) = true) : DJ K L (PTA a) := e
theorem r_newrow (G : AC h C) (F : FC h C) (hd : 10 ≤ d) (hm : m ≤ 60000) (e1 : X 50 f_Heap_made 0 = (mk : Int)) (hmk : mk ≤ 8000) (et : hl h (C + 51) = tn) (ht' : tn ≤ 8000) (q : ∀ h' z s, AC h' C → FC h' C → Fr (LCC ++ [f_Heap_things + 1]) [] z s h h' → KEP C h h' 4 (20 + m + m) → NRW C h h' tn (hz h) k_Row 0 m → Q (Sum.inl (some (vR (hz h)))) (cc h' C (u3 X 50 f_Heap_made 0 ((mk + 1 : Nat) : Int)) Y)) {E : Nat → ah → Prop} : wpB PGm ρ (d + 1) m_Row_init 0 [(0, vR (hz h)), (1, vI (tn : Int)), (2, vI (m : Int))] [] (hn (cc h C X Y) k_Row 4 0) (cV (fun h292 => hK h292 (C + 50) = k_Heap ∧ wpB PGm ρ (d + 1) m_Heap_keep 0 [(0, vR (C + 50)), (1, vR (hz h))] [] h292 Q) E) := by
  have g1 := G.1
  refine b_Row_init_0 ⟨?_, nt_init (H0 := cc h C X Y) (k := k_Row) (cc_INJ G.2.1) (by decide) (by omega) hd (by omega) (fun H1 N1 => ?_)⟩
  · show (if hz h = hz h then k_Row else _) ≠ 0
    rw [if_pos rfl]; decide
  obtain ⟨fr, n1, -, n2, n3, n4, n5, n6, n7, n8, n9, n10, -, -, -⟩ := N1
  have ez : hz (cc h C X Y) = hz h := rfl
  rw [ez] at n1 n2 n3 n4 n5 n6 n7 n8 n9 n10
  obtain ⟨G2, F2, E2, R2⟩ := mat G F fr (by unfold DJ; decide)
  show hK H1 (C + 50) = k_Heap ∧ wpB PGm ρ (d + 1) m_Heap_keep 0 [(0, vR (C + 50)), (1, vR (hz h))] [] H1 Q
  refine ⟨F2.1.2.2.2.2.2.1, ?_⟩
  have e51 : hl H1 (C + 51) = tn ∧ ∀ i, hB H1 (C + 51) i = hB h (C + 51) i := by
    have := R2.ar G.2.1 (f := f_Heap_things) (by unfold own; decide) (x := C + 50) (by omega) F.2.2.1.2.1 (by omega) (nok (by decide) (by decide) rfl rfl) (by simp)
    exact ⟨by rw [this.1]; exact et, this.2.2⟩
  rw [← E2]
  refine r_keep G2 F2 (by omega) e1 hmk e51.1 ht' ⟨by omega, by rw [n2]; decide⟩ (fun h' z s G3 F3 R3 kp m1 m2 => ?_)
  have al : hz h < hz H1 := by omega
  have rI : ∀ f, (LCC ++ [f_Heap_things + 1]).elem f = false → 5 ≤ f → hI h' f (hz h) = hI H1 f (hz h) := fun f hf h5 => R3.I al h5 (nokW hf rfl)
  have rR : ∀ f, (LCC ++ [f_Heap_things + 1]).elem f = false → 5 ≤ f → hR h' f (hz h) = hR H1 f (hz h) := fun f hf h5 => R3.R al h5 (nokW hf rfl)
  have fr2 : Fr (LCC ++ [f_Heap_things + 1]) [] _ _ h H1 := R2.mono (fun f hf => by simp at hf; exact List.mem_append_left _ hf) (fun _ q => q)
  have al' := R3.lt al
  have kp3 : hI H1 2 (C + 51) = hI h 2 (C + 51) := by
    rw [fr.arC (cc_INJ G.2.1) (f := f_Heap_things) (x := C + 50) (by unfold own; decide) (by show C + 50 < hz h; omega) (by rw [ccRo (by decide)]; exact F.2.2.1.2.1) (by omega) (nok (by decide) (by decide) rfl rfl) (by simp), ccI4 (by decide)]
  have kp2 := fr.1
  refine q h' _ _ G3 F3 (fr2.trans R3) (by
    obtain ⟨kp1, kp4⟩ := kp
    rw [kp3] at kp4
    have e1 : hz (cc h C X Y) = hz h := rfl
    have e2 : hs (cc h C X Y) = hs h := rfl
    rw [e1, e2] at kp2
    exact ⟨by omega, by omega⟩) ⟨m1, fun i => by rw [m2, e51.2], ⟨Nat.le_refl _, by omega⟩, by rw [R3.K al]; exact n2, by rw [rI _ (by decide) (by decide)]; exact n3, by rw [R3.K al, n2]; decide, al', by rw [rI _ (by decide) (by decide)]; exact n4, ?_, ?_, by omega, by omega⟩
  · rw [rR f_Thing_words (by decide) (by decide), n5, R3.K (by omega), R3.la (by omega) (by rw [n7]; decide)]
    exact ⟨by omega, n7, n9⟩
  · rw [rR f_Thing_tags (by decide) (by decide), n6, R3.K (by omega), R3.la (by omega) (by rw [n8]; decide)]
    exact ⟨by omega, n8, n10⟩
/-- values of the pile join a list -/
theorem r_list74 (ht : isT o) (k1 : Y 32 f_Machine_t 0 = C + o) (k2 : X o f_Task_size 0 = (b : Int)) (hb : b + m ≤ 2000) (hd : 10 ≤ d) (hv : ∀ i, i < m → -128 ≤ X o f_Task_tags (b + i) ∧ X o f_Task_tags (b + i) ≤ 127) : ∀ r j h z0 s0 h0, j + r = m → AC h C → FC h C → TA h a j m → hK h a = k_Row → Fr LCC (PTA a) z0 s0 h0 h → (hz h = hz h0 ∧ hs h = hs h0) → (∀ i, i < j → hA h (hR h f_Thing_words a) i = X o f_Task_words (b + i) ∧ hA h (hR h f_Thing_tags a) i = X o f_Task_tags (b + i)) → (∀ h' z s, AC h' C → FC h' C → Fr LCC (PTA a) z s h0 h' → (hz h' = hz h0 ∧ hs h' = hs h0) → TA h' a m m → hK h' a = k_Row → (∀ i, i < m → hA h' (hR h' f_Thing_words a) i = X o f_Task_words (b + i) ∧ hA h' (hR h' f_Thing_tags a) i = X o f_Task_tags (b + i)) → wpB PGm ρ (d + 1) m_Machine_list 74 [(0, vR (C + 32)), (1, vI (m : Int)), (2, vR a), (3, vI (m : Int))] [] (cc h' C X Y) Q) → wpB PGm ρ (d + 1) m_Machine_list 74 [(0, vR (C + 32)), (1, vI (m : Int)), (2, vR a), (3, vI (j : Int))] [] (cc h C X Y) Q := by
  intro r
  induction r with
  | zero =>
    intro j h z0 s0 h0 hj G F A ka fr zs ct q
    have : j = m := by omega
    subst this
    exact q h z0 s0 G F fr zs A ka ct
  | succ r ih =>
    intro j h z0 s0 h0 hj G F A ka fr zs ct q
    have l0 := A.2.1
    have j1 : j ≤ 60000 := by omega
    have hv' := hv j (by omega)
    have go : wpB PGm ρ d m_Thing_add 0 [(0, vR a), (1, vI (X o f_Task_tags (b + j))), (2, vL (X o f_Task_words (b + j)))] [] (cc h C X Y) (cV (fun h29 => wpB PGm ρ (d + 1) m_Machine_list 74 [(0, vR (C + 32)), (1, vI (m : Int)), (2, vR a), (3, vI ((j + 1 : Nat) : Int))] [] h29 Q) (fun e h' => ¬ hK h' e = 0 ∧ Q (Sum.inr e) h')) := by
      have A' : TA (cc h C X Y) a j m := by
        obtain ⟨a1, a2, a3, a4, a5, a6⟩ := A
        refine ⟨a1, a2, by rw [ccIo (by decide)]; exact a3, ?_, ?_, a6⟩
        · rw [ccRo (by decide)]; exact a4
        · rw [ccRo (by decide)]; exact a5
      refine t_add (cc_INJ G.2.1) A' hd j1 hv' (fun H' l' f' fz A2 el c1 c2 => ?_)
      obtain ⟨G2, F2, E2, R2⟩ := matP G F f' (dj_PTA (by decide)) (fun y => by unfold PTA; simp [f_Thing_words, f_Thing_tags, f_Thing_size])
      rw [List.append_nil] at R2
      have el1 := el (by omega)
      have el' : l' = m := el1.1
      have zs' : hz H' = hz h0 ∧ hs H' = hs h0 := by
        have e1 : hz (cc h C X Y) = hz h := rfl
        have e2 : hs (cc h C X Y) = hs h := rfl
        have := f'.1
        exact ⟨by omega, by omega⟩
      subst el'
      have ka' : hK H' a = k_Row := by rw [R2.K l0]; exact ka
      show wpB PGm ρ (d + 1) m_Machine_list 74 _ [] H' Q
      rw [← E2]
      refine ih (j + 1) H' _ _ h0 (by omega) G2 F2 A2 ka' (fr.trans R2) zs' (fun i hi => ?_) q
      rw [c1 i (by omega), c2 i (by omega)]
      by_cases w : i = j
      · subst w; rw [if_pos rfl, if_pos rfl]; exact ⟨rfl, rfl⟩
      · rw [if_neg w, if_neg w, ccRo (by decide), ccRo (by decide), ccAo G (by decide) l0, ccAo G (by decide) l0]
        exact ct i (by omega)
    have hj' : (j : Int) < (m : Int) := by omega
    have b1 : 0 ≤ ((b + j : Nat) : Int) ∧ ((b + j : Nat) : Int) < ((2000 : Nat) : Int) := by omega
    clear ih q ct A fr hv hv' zs z0 s0 h0
    have f1 := F.t ht
    unfold FCt at f1
    have f2 := F
    unfold FC at f2
    refine b_Machine_list_74 ⟨fun w => by omega, fun _ => ?_⟩
    simp (decide := true) (disch := first | decide | omega) only [ccI, ccR, ccIt ht, ccRo, ccK, ccl, ccA G, ccAt G ht, ccB G, ccBt G ht, cc_sI, cc_sR, cc_sIt ht, cc_sA G, cc_sAt G ht, cc_sB G, cc_sBt G ht, f1, f2, u3_f, u3_s, KCt G ht, KC G, w32_aa, w32_ss, w32_p1, w32_m1, Int.toNat_natCast, true_and, and_true, false_and, and_false, or_false, false_or, ne_eq, not_false_eq_true, forall_const, implies_true, not_true_eq_false, false_implies, k1, k2, ka]
    refine ⟨by omega, by omega, go⟩
theorem r_LIST (I : IX h C X Y o n c) (e1 : X 50 f_Heap_made 0 = (mk : Int)) (e2 : X 50 f_Heap_room 0 = (rm : Int)) (hmk : mk ≤ 8000) (hr : rm ≤ 60000) (et : hl h (C + 51) = tn) (ht' : tn ≤ 8000) (hm : m ≤ n) (hv : ∀ i, i < n → -128 ≤ X o f_Task_tags i ∧ X o f_Task_tags i ≤ 127) (q1 : (m = 0 → n < 2000) → mk + 1 ≤ 8000 → rm + m ≤ 60000 → ∀ h' z s, AC h' C → FC h' C → Fr (LCC ++ [f_Heap_things + 1]) [] z s h h' → KEP C h h' 4 (20 + m + m) → NRW C h h' tn (hz h) k_Row m m → (∀ i, i < m → hA h' (hR h' f_Thing_words (hz h)) i = X o f_Task_words (n - m + i) ∧ hA h' (hR h' f_Thing_tags (hz h)) i = X o f_Task_tags (n - m + i)) → Q (Sum.inl none) (cc h' C (goX (pshX (liX X o mk rm n m) o (n - m) 6 (tn : Int)) o c) Y)) (q0 : m = 0 → n = 2000 → Q (Sum.inr (C + 33)) (cc h C (erX X 11) Y)) (q2 : (m = 0 → n < 2000) → ¬ (mk + 1 ≤ 8000 ∧ rm + m ≤ 60000) → Q (Sum.inr (C + 33)) (cc h C (erX X 0) Y)) : wpB PGm ρ (d + 40) m_Machine_instruct 0 [(0, vR (C + 32)), (1, vI 25), (2, vI (m : Int)), (3, vI bb)] [] (cc h C X Y) Q := by
  obtain ⟨G, F, ht, e0, hn', hc1, hc2⟩ := I
  have e0' := e0
  obtain ⟨k1, k2, k3⟩ := e0
  have nz : hK h (C + 33) ≠ 0 := by rw [F.1.2.1]; decide
  have g1 := G.1
  have l51 : C + 51 < hz h := by omega
  have l50 : C + 50 < hz h := by omega
  have l32 : C + 32 < hz h := by omega
  let Q' : QT := cV (fun h3 => Q (Sum.inl none) h3) (fun e h' => ¬ hK h' e = 0 ∧ Q (Sum.inr e) h')
  -- behind the check of the memory
  have gm : (m = 0 → n < 2000) → mk + 1 ≤ 8000 → rm + m ≤ 60000 → wpB PGm ρ (d + 38) m_Row_init 0 [(0, vR (hz h)), (1, vI (tn : Int)), (2, vI (m : Int))] [] (hn (cc h C X Y) k_Row 4 0) (cV (fun h292 => hK h292 (C + 50) = k_Heap ∧ wpB PGm ρ (d + 38) m_Heap_keep 0 [(0, vR (C + 50)), (1, vR (hz h))] [] h292 (cR (fun x31 h26 => (x31 = 0 ∨ hK h26 x31 ∈ [246]) ∧ hK h26 (C + 32) = k_Machine ∧ hK h26 (hR h26 f_Machine_heap (C + 32)) = k_Heap ∧ let h36 := sI h26 f_Heap_room (hR h26 f_Machine_heap (C + 32)) (w32 ((hI h26 f_Heap_room (hR h26 f_Machine_heap (C + 32))) + (m : Int)))
      hK h36 (hR h36 f_Machine_t (C + 32)) = k_Task ∧ let h39 := sI h36 f_Task_size (hR h36 f_Machine_t (C + 32)) (w32 ((hI h36 f_Task_size (hR h36 f_Machine_t (C + 32))) - (m : Int)))
      wpB PGm ρ (d + 39) m_Machine_list 74 [(0, vR (C + 32)), (1, vI (m : Int)), (2, vR x31), (3, vI 0)] [] h39 Q') (fun e h' => ¬ hK h' e = 0 ∧ Q' (Sum.inr e) h'))) (fun e h' => ¬ hK h' e = 0 ∧ Q' (Sum.inr e) h')) := by
    intro z0 z1 z2
    refine r_newrow (d := d + 37) G F (by omega) (by omega) e1 hmk et ht' (fun h' z s G3 F3 R3 kp N3 => ?_)
    obtain ⟨m1, m2, m3, m4, m5, m6⟩ := N3
    have a1 : hz h < hz h' := m6.2.1
    have go : wpB PGm ρ (d + 39) m_Machine_list 74 [(0, vR (C + 32)), (1, vI (m : Int)), (2, vR (hz h)), (3, vI (0 : Nat))] [] (cc h' C (liX X o mk rm n m) Y) Q' := by
      refine r_list74 (d := d + 38) (b := n - m) ht k1 (by unfold liX; rw [u3_s]) (by omega) (by omega) (fun i hi => by unfold liX; rw [u3_f (by decide), u3_f (by decide), u3_f (by decide)]; exact hv _ (by omega)) m 0 h' 0 0 h' (by omega) G3 F3 m6 m4 Fr.r0 ⟨rfl, rfl⟩ (fun i hi => by omega) (fun h2 z' s' G4 F4 R4 zs A4 k4 c4 => ?_)
      have e51 : hl h2 (C + 51) = hl h' (C + 51) ∧ ∀ i, hB h2 (C + 51) i = hB h' (C + 51) i := by
        have g3 := G3.1
        have := R4.ar G3.2.1 (f := f_Heap_things) (by unfold own; decide) (x := C + 50) (by omega) F3.2.2.1.2.1 (by omega) (nok (by decide) (by decide) rfl rfl) (by unfold PTA; simp [f_Thing_words, f_Thing_tags, f_Thing_size])
        exact ⟨this.1, this.2.2⟩
      have nu : hI h2 f_Thing_number (hz h) = (tn : Int) := by rw [R4.I a1 (by decide) (nokW (by decide) rfl)]; exact m5
      have R5 : Fr (LCC ++ [f_Heap_things + 1]) [] (z + z') (s + s') h h2 := R3.into R4 (fun f hf => List.mem_append_left _ hf) (fun q hq => Or.inr (Or.inr (by
        unfold PTA at hq
        simp only [List.mem_cons, List.not_mem_nil, or_false] at hq
        rcases hq with rfl | rfl | rfl | rfl | rfl <;> (simp only; exact ⟨by decide, Nat.le_refl _⟩))))
      have kp2 : KEP C h h2 4 (20 + m + m) := by
        have g3 := G3.1
        have c := R4.arC G3.2.1 (f := f_Heap_things) (by unfold own; decide) (x := C + 50) (by omega) F3.2.2.1.2.1 (by omega) (nok (by decide) (by decide) rfl rfl) (by unfold PTA; simp [f_Thing_words, f_Thing_tags, f_Thing_size])
        unfold KEP at kp ⊢
        rw [zs.1, zs.2, c]; exact kp
      have g := q1 z0 z1 z2 h2 _ _ G4 F4 R5 kp2 ⟨by rw [e51.1]; exact m1, fun i => by rw [e51.2]; exact m2 i, m3, k4, nu, A4⟩ (fun i hi => by
        obtain ⟨c1, c2⟩ := c4 i hi
        rw [c1, c2]
        unfold liX
        rw [u3_f (by decide), u3_f (by decide), u3_f (by decide), u3_f (by decide), u3_f (by decide), u3_f (by decide)]
        exact ⟨rfl, rfl⟩)
      have kn : hK h2 (hz h) ∈ [244, 245, 246, 249] := by rw [k4]; decide
      have ex : XF (liX X o mk rm n m) Y C o (n - m) c := ⟨k1, by unfold liX; rw [u3_s], by unfold liX; rw [u3_f (by decide), u3_f (by decide), u3_f (by decide)]; exact k3⟩
      have fin : wpB PGm ρ (d + 38) m_Task_push 0 [(0, vR (C + o)), (1, vI 6), (2, vL (tn : Int))] [] (cc h2 C (liX X o mk rm n m) Y) (cV (fun h11 => hK h11 (C + 32) = k_Machine ∧ wpB PGm ρ (d + 38) m_Machine_go 0 [(0, vR (C + 32))] [] h11 (cV (fun h18 => Q' (Sum.inl none) h18) (fun e h' => ¬ hK h' e = 0 ∧ Q' (Sum.inr e) h'))) (fun e h' => ¬ hK h' e = 0 ∧ Q' (Sum.inr e) h')) := by
        refine r_push G4 F4 ht ex.2.1 (by omega) (by decide) ⟨F4.1.1, ?_⟩
        exact r_go G4 F4 ht ex.psh ⟨hc1, hc2⟩ g
      have l0 : hz h < hz h2 := A4.2.1
      clear q1 q0 q2 hv hm g R5 e51 m1 m2 A4 c4 R3 R4 m6 kp kp2 zs
      have f1 := F4.t ht
      unfold FCt at f1
      have f2 := F4
      unfold FC at f2
      refine b_Machine_list_74 ⟨fun _ => ?_, fun w => by omega⟩
      simp (decide := true) (disch := first | decide | omega) only [ccI, ccR, ccIt ht, ccRo, ccK, ccl, ccA G, ccAt G ht, ccB G, ccBt G ht, cc_sI, cc_sR, cc_sIt ht, cc_sA G, cc_sAt G ht, cc_sB G, cc_sBt G ht, f1, f2, u3_f, u3_s, KCt G ht, KC G, w32_aa, w32_ss, w32_p1, w32_m1, Int.toNat_natCast, true_and, and_true, false_and, and_false, or_false, false_or, ne_eq, not_false_eq_true, forall_const, implies_true, not_true_eq_false, false_implies, k1, ccIo, nu]
      exact ⟨kn, fin⟩
    have kr : hK h' (hz h) = 246 := m4
    have w1 : w32 ((rm : Int) + (m : Int)) = ((rm + m : Nat) : Int) := w32_aa (by omega)
    have w2 : w32 ((n : Int) - (m : Int)) = ((n - m : Nat) : Int) := w32_ss (by omega)
    have x1 : u3 X 50 f_Heap_made 0 ((mk + 1 : Nat) : Int) 50 f_Heap_room 0 = (rm : Int) := by rw [u3_f (by decide)]; exact e2
    have x2 : (u3 (u3 X 50 f_Heap_made 0 ((mk + 1 : Nat) : Int)) 50 f_Heap_room 0 ((rm + m : Nat) : Int)) o f_Task_size 0 = (n : Int) := by rw [u3_f (by decide), u3_f (by decide)]; exact k2
    clear q1 q0 q2 hv hm m1 m2 m3 m5 m6 R3 kp
    have f1 := F3.t ht
    unfold FCt at f1
    have f2 := F3
    unfold FC at f2
    simp (decide := true) (disch := first | decide | omega) only [cR, ccI, ccR, ccIt ht, ccRo, ccK, cc_sI, cc_sIt ht, f1, f2, k1, x1, x2, w1, w2, kr]
    exact ⟨Or.inr (by decide), by decide, trivial, trivial, go⟩
  have gr := q0
  have gw := q2
  have f51 := F.2.2.2.1.1
  have hd1 : 10 ≤ d + 38 + 1 := by omega
  have hd2 : 10 ≤ d + 39 + 1 := by omega
  have L8 : (m = 0 → n < 2000) → wpB PGm ρ (d + 39) m_Machine_list 8 [(0, vR (C + 32)), (1, vI (m : Int))] [] (cc h C X Y) Q' := by
    intro z
    have gm' := gm z
    have f2 := F
    unfold FC at f2
    have f1 := F.t ht
    unfold FCt at f1
    refine b_Machine_list_8 hd1 ?_
    simp (decide := true) (disch := first | decide | omega) only [ccI, ccR, ccIt ht, ccRo, ccK, ccl, ccA G, ccAt G ht, ccB G, ccBt G ht, cc_sI, cc_sR, cc_sIt ht, cc_sA G, cc_sAt G ht, cc_sB G, cc_sBt G ht, f1, f2, u3_f, u3_s, KCt G ht, KC G, w32_aa, w32_ss, w32_p1, w32_m1, Int.toNat_natCast, true_and, and_true, false_and, and_false, or_false, false_or, ne_eq, not_false_eq_true, forall_const, implies_true, not_true_eq_false, false_implies]
    refine r_want (d := d + 36) (a := 1) (b := m) G F e1 e2 hmk hr (by decide) (by omega) (fun w1 w2 => ?_) (fun w => ⟨nz, nz, gw z w⟩)
    have gm2 := gm' w1 w2
    clear gm gm' gw gr q1 q0 q2 hv hmk hr ht' w1 w2 hc1 hc2 hn' hm z
    simp (decide := true) (disch := first | decide | omega) only [cV, hcK, hcR, hcl, hcB, hclok, ccz, cclok, ccK, ccl, ccRo, f2, et, w32_aa, w32_ss, w32_p1, w32_m1, Int.toNat_natCast, true_and, and_true, false_and, and_false, or_false, false_or, ne_eq, not_false_eq_true, forall_const, implies_true, not_true_eq_false, false_implies]
    exact ⟨f51.1, gm2⟩
  clear q1 q0 q2 gm
  have f1 := F.t ht
  unfold FCt at f1
  have f2 := F
  unfold FC at f2
  refine b_Machine_instruct_0 hd2 ?_
  simp (decide := true) (disch := first | decide | omega) only [ccI, ccR, ccIt ht, ccRo, ccK, ccl, ccA G, ccAt G ht, ccB G, ccBt G ht, cc_sI, cc_sR, cc_sIt ht, cc_sA G, cc_sAt G ht, cc_sB G, cc_sBt G ht, f1, f2, u3_f, u3_s, KCt G ht, KC G, w32_aa, w32_ss, w32_p1, w32_m1, Int.toNat_natCast, true_and, and_true, false_and, and_false, or_false, false_or, ne_eq, not_false_eq_true, forall_const, implies_true, not_true_eq_false, false_implies, k1, k2]
  refine b_Machine_list_0 ⟨fun w => L8 (fun w2 => absurd (by omega) w), fun w => ?_⟩
  refine ⟨F.1.1, r_room (d := d + 37) G F ht e0' (fun zr => ?_) (fun zr => ⟨nz, nz, gr (by omega) zr⟩)⟩
  exact L8 (fun _ => by omega)
end
