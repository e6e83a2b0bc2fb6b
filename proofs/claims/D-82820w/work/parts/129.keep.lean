/-! C: things are kept -/
set_option maxRecDepth 20000
section
variable {ρ : Nat → Nat} {d : Nat} {Q : QT} {h H H' : ah} {C k n m o c x y z s f i j : Nat} {X X' : X3} {Y : Y3} {L : List Nat} {v : Int}
theorem hnK (e : x < hz H) : hK (hn H k n m) x = hK H x := if_neg (by omega)
theorem hnR (e : x < hz H) : hR (hn H k n m) f x = hR H f x := if_neg (by omega)
theorem hnI (e : x < hz H) : hI (hn H k n m) f x = hI H f x := if_neg (by omega)
theorem hnl (e : x < hz H) : hl (hn H k n m) x = hl H x := if_neg (by omega)
theorem hnB (e : x < hz H) : hB (hn H k n m) x i = hB H x i := if_neg (by omega)
theorem hnz : hz (hn H k n m) = hz H + 1 := rfl
theorem hnlok (e : x < hz H) : lok (hn H k n m) x = lok H x := by unfold lok; rw [hnK e, hnI e]
theorem cclok : lok (cc h C X Y) x = lok h x := by
  unfold lok
  rw [ccK, show hI (cc h C X Y) 4 x = hI h 4 x from if_neg (fun c => by
    have := List.all_eq_true.mp scF5 (4, x - C) (by simpa using c.2)
    rw [Bool.and_eq_true] at this
    have t2 : Nat.ble 5 4 = true := this.2
    exact absurd t2 (by decide))]
/-- fields that C's machine lives by -/
def LMM : List Nat := scC.map (fun q => q.1) ++ rfC.map (fun q => q.1) ++ arC.map (fun q => q.1) ++ raC.map (fun q => q.1) ++ arC.map (fun q => q.1 + 1) ++ raC.map (fun q => q.1 + 1) ++ LFC
theorem DJ.sub {K K' L : List Nat} {P : List (Nat × Nat)} (d : DJ K L P) (e : ∀ f, f ∈ K' → f ∈ K) : DJ K' L P := List.all_eq_true.mpr fun f hf => List.all_eq_true.mp d f (e f hf)
/-- a heap that comes of the machine's is its own base -/
theorem mat (G : AC h C) (F : FC h C) (fr : Fr L [] z s (cc h C X Y) H) (d : DJ LMM L []) : AC H C ∧ FC H C ∧ cc H C X Y = H ∧ Fr (LCC ++ L) [] z s h H := by
  have G1 : AC (cc h C X Y) C := cc_AC G
  have F1 : FC (cc h C X Y) C := FC_cc F G
  have m : ∀ {K : List Nat}, (∀ f, f ∈ K → f ∈ LMM) → DJ K L [] := fun e => d.sub e
  have dA : DJ (arC.map (fun q => q.1) ++ raC.map (fun q => q.1)) L [] := m (fun f hf => by unfold LMM; simp only [List.mem_append] at hf ⊢; rcases hf with q | q <;> simp [q])
  refine ⟨G1.frm fr dA, F1.frm G1 fr (m (fun f hf => by unfold LMM; simp only [List.mem_append]; simp [hf])) ⟨by simp, by simp, by simp⟩, XO.e ((cc_XO G).frm G1 fr (m (fun f hf => by unfold LMM; simp only [List.mem_append] at hf ⊢; rcases hf with q | q <;> simp [q])) dA (m (fun f hf => by unfold LMM; simp only [List.mem_append] at hf ⊢; rcases hf with q | q <;> simp [q])) (by simp)), ?_⟩
  have a : Fr (LCC ++ L) [] 0 0 h (cc h C X Y) := (cc_fr G).mono (fun f hf => List.mem_append_left _ hf) (fun _ q => q)
  have b : Fr (LCC ++ L) [] z s (cc h C X Y) H := fr.mono (fun f hf => List.mem_append_right _ hf) (fun _ q => q)
  exact (a.trans b).le (by omega) (by omega)
theorem r_full (G : AC h C) (F : FC h C) (q : Q (Sum.inl (some (vR (C + 33)))) (cc h C (erX X 0) Y)) : wpB PGm ρ (d + 1) m_Heap_full 0 [(0, vR (C + 50))] [] (cc h C X Y) Q := by
  have f2 := F
  unfold FC at f2
  have f1 := trivial
  have ht : isT 62 := Or.inl rfl
  refine b_Heap_full_0 ?_
  simp (decide := true) (disch := first | decide | omega) only [ccI, ccR, ccIt ht, ccRo, ccK, ccl, ccA G, ccAt G ht, ccB G, ccBt G ht, cc_sI, cc_sR, cc_sIt ht, cc_sA G, cc_sAt G ht, cc_sB G, cc_sBt G ht, f1, f2, u3_f, u3_s, KCt G ht, KC G, w32_aa, w32_ss, w32_p1, w32_m1, Int.toNat_natCast, true_and, and_true, false_and, and_false, or_false, false_or, ne_eq, not_false_eq_true, forall_const, implies_true, not_true_eq_false, false_implies]
  exact r_sig G F q
theorem r_want (G : AC h C) (F : FC h C) {mk rm a b : Nat} (e1 : X 50 f_Heap_made 0 = (mk : Int)) (e2 : X 50 f_Heap_room 0 = (rm : Int)) (hm : mk ≤ 8000) (hr : rm ≤ 60000) (ha : a ≤ 10) (hb : b ≤ 1000000) (q1 : mk + a ≤ 8000 → rm + b ≤ 60000 → Q (Sum.inl none) (cc h C X Y)) (q0 : ¬ (mk + a ≤ 8000 ∧ rm + b ≤ 60000) → Q (Sum.inr (C + 33)) (cc h C (erX X 0) Y)) : wpB PGm ρ (d + 2) m_Heap_want 0 [(0, vR (C + 50)), (1, vI (a : Int)), (2, vI (b : Int))] [] (cc h C X Y) Q := by
  have f2 := F
  unfold FC at f2
  have f1 := trivial
  have ht : isT 62 := Or.inl rfl
  have g23 : ¬ (mk + a ≤ 8000 ∧ rm + b ≤ 60000) → wpB PGm ρ (d + 2) m_Heap_want 23 [(0, vR (C + 50))] [] (cc h C X Y) Q := by
    intro z
    refine b_Heap_want_23 ⟨F.1.2.2.2.2.2.1, r_full G F ⟨?_, q0 z⟩⟩
    show hK h (C + 33) ≠ 0
    rw [F.1.2.1]; decide
  have g1 := q1
  clear q1 q0
  refine b_Heap_want_0 ?_
  simp (decide := true) (disch := first | decide | omega) only [ccI, ccR, ccIt ht, ccRo, ccK, ccl, ccA G, ccAt G ht, ccB G, ccBt G ht, cc_sI, cc_sR, cc_sIt ht, cc_sA G, cc_sAt G ht, cc_sB G, cc_sBt G ht, f1, f2, u3_f, u3_s, KCt G ht, KC G, w32_aa, w32_ss, w32_p1, w32_m1, Int.toNat_natCast, true_and, and_true, false_and, and_false, or_false, false_or, ne_eq, not_false_eq_true, forall_const, implies_true, not_true_eq_false, false_implies, e1, e2]
  exact ⟨fun z => g23 (by omega), fun z => ⟨fun z2 => g1 (by omega) (by omega), fun z2 => g23 (by omega)⟩⟩
/-- what it took when a thing joined the others -/
def KEP (C : Nat) (h h' : ah) (z s : Nat) : Prop := hz h' ≤ hz h + z ∧ (hs h' : Int) ≤ hs h + s + 4 * (hI h' 2 (C + 51) - hI h 2 (C + 51))
theorem lad_s {a : Nat} : hz (ladd H a x) ≤ hz H + 1 ∧ (hs (ladd H a x) : Int) ≤ hs H + 4 * (hI (ladd H a x) 2 a - hI H 2 a) := by
  refine ⟨z_ladd.2, ?_⟩
  unfold ladd
  by_cases c : (hl H a : Int) = hI H 2 a
  · rw [if_pos c]
    have e1 : hs (lput (lroom H a (lcap (hI H 2 a))) a x) = hs H + lcap (hI H 2 a) := rfl
    have e2 : hI (lput (lroom H a (lcap (hI H 2 a))) a x) 2 a = (lcap (hI H 2 a) : Int) := by
      show (if 2 = 2 ∧ a = a then ((lcap (hI H 2 a) : Nat) : Int) else _) = _
      rw [if_pos ⟨rfl, rfl⟩]
    rw [e1, e2, ← c]
    unfold lcap
    by_cases q : (hl H a : Int) = 0
    · rw [if_pos q]; omega
    · rw [if_neg q, Int.toNat_natCast]; omega
  · rw [if_neg c]
    have e1 : hs (lput H a x) = hs H := rfl
    have e2 : hI (lput H a x) 2 a = hI H 2 a := rfl
    rw [e1, e2]; omega
/-- a thing joins the others -/
theorem r_keep (G : AC h C) (F : FC h C) {mk tn : Nat} (hd : 10 ≤ d) (e1 : X 50 f_Heap_made 0 = (mk : Int)) (hm : mk ≤ 8000) (et : hl h (C + 51) = tn) (ht' : tn ≤ 8000) (hx : x ≠ 0 ∧ 190 ≤ hK h x) (q : ∀ h' z s, AC h' C → FC h' C → Fr (LCC ++ [f_Heap_things + 1]) [] z s h h' → KEP C h h' 1 0 → hl h' (C + 51) = tn + 1 → (∀ i, hB h' (C + 51) i = if i = tn then x else hB h (C + 51) i) → Q (Sum.inl (some (vR x))) (cc h' C (u3 X 50 f_Heap_made 0 ((mk + 1 : Nat) : Int)) Y)) : wpB PGm ρ d m_Heap_keep 0 [(0, vR (C + 50)), (1, vR x)] [] (cc h C X Y) Q := by
  have g1 := G.1
  have eR : hR (cc h C (u3 X 50 f_Heap_made 0 ((mk + 1 : Nat) : Int)) Y) f_Heap_things (C + 50) = C + 51 := by rw [ccRo (by decide)]; exact F.2.2.1.2.1
  have fr : Fr [f_Heap_things + 1] [] (0 + 1) (0 + (2 * hl (cc h C (u3 X 50 f_Heap_made 0 ((mk + 1 : Nat) : Int)) Y) (C + 51) + 10)) (cc h C (u3 X 50 f_Heap_made 0 ((mk + 1 : Nat) : Int)) Y) (ladd (cc h C (u3 X 50 f_Heap_made 0 ((mk + 1 : Nat) : Int)) Y) (C + 51) x) := by
    refine Fr.lad (Or.inr (Or.inr (Or.inr ⟨f_Heap_things, C + 50, by show C + 50 < hz h; omega, by unfold own; decide, eR, Or.inr (Or.inl (by simp))⟩))) (Or.inr ?_) Fr.r0
    show 100 ≤ hK h (C + 51)
    rw [F.2.2.2.1.1.1]; omega
  obtain ⟨G2, F2, E2, R2⟩ := mat G F fr (by unfold DJ; decide)
  have z1 : C + 51 < hz (cc h C (u3 X 50 f_Heap_made 0 ((mk + 1 : Nat) : Int)) Y) := by show C + 51 < hz h; omega
  have kp : KEP C h (ladd (cc h C (u3 X 50 f_Heap_made 0 ((mk + 1 : Nat) : Int)) Y) (C + 51) x) 1 0 := by
    have := lad_s (H := cc h C (u3 X 50 f_Heap_made 0 ((mk + 1 : Nat) : Int)) Y) (a := C + 51) (x := x)
    rw [ccI4 (h := h) (f := 2) (a := C + 51) (by decide)] at this
    exact ⟨this.1, by have := this.2; rw [ccs] at this; omega⟩
  have g := q _ _ _ G2 F2 R2 kp (by rw [l_ladd z1 z1, if_pos rfl]; show hl h (C + 51) + 1 = _; omega) (fun i => by
    rw [B_ladd z1 z1]
    show (if C + 51 = C + 51 ∧ i = hl h (C + 51) then x else hB (cc h C (u3 X 50 f_Heap_made 0 ((mk + 1 : Nat) : Int)) Y) (C + 51) i) = _
    have eb : hB (cc h C (u3 X 50 f_Heap_made 0 ((mk + 1 : Nat) : Int)) Y) (C + 51) i = hB h (C + 51) i := by
      have := ccBo (X := u3 X 50 f_Heap_made 0 ((mk + 1 : Nat) : Int)) (Y := Y) (i := i) (f := f_Heap_things) (b := C + 50) G (by decide) (by omega)
      rw [F.2.2.1.2.1] at this; exact this
    rw [eb, et]
    by_cases w : i = tn
    · rw [if_pos ⟨rfl, w⟩, if_pos w]
    · rw [if_neg (fun c => w c.2), if_neg w])
  rw [E2] at g
  have b1 : hl h (C + 51) < 1000000 := by omega
  have b2 : (x = 0 ∨ 190 ≤ hK h x) := Or.inr hx.2
  have f51 := F.2.2.2.1.1
  have k51 := f51.1
  have w1 : w32 ((mk : Int) + 1) = ((mk + 1 : Nat) : Int) := w32_s (by omega)
  clear q fr G2 F2 E2 R2 z1 g1 ht' hm kp
  have f2 := F
  unfold FC at f2
  have f1 := trivial
  have ht : isT 62 := Or.inl rfl
  refine b_Heap_keep_0 hd ?_
  simp (decide := true) (disch := first | decide | omega) only [ccI, ccR, ccIt ht, ccRo, ccK, ccl, ccA G, ccAt G ht, ccB G, ccBt G ht, cc_sI, cc_sR, cc_sIt ht, cc_sA G, cc_sAt G ht, cc_sB G, cc_sBt G ht, f1, f2, u3_f, u3_s, KCt G ht, KC G, w32_aa, w32_ss, w32_p1, w32_m1, Int.toNat_natCast, true_and, and_true, false_and, and_false, or_false, false_or, ne_eq, not_false_eq_true, forall_const, implies_true, not_true_eq_false, false_implies, e1, cclok, w1]
  exact ⟨k51, ⟨b1, b2⟩, g⟩
end
