/-! C: a function is entered -/
set_option maxRecDepth 20000
/-- the heap's numbers after a call was made -/
def nclX (X : X3) (mk ck rk nv : Nat) : X3 := u3 (u3 (u3 X 50 f_Heap_made 0 ((mk + 1 : Nat) : Int)) 50 f_Heap_calls 0 ((ck + 1 : Nat) : Int)) 50 f_Heap_room 0 ((rk + nv : Nat) : Int)
/-- a frame more -/
def entX (X : X3) (o c m : Nat) (x y : Int) : X3 := u3 (u3 (u3 (u3 (u3 X o f_Task_next c 0) o f_Task_base c (m : Int)) o f_Task_thisTag c x) o f_Task_thisWord c y) o f_Task_calls 0 ((c + 1 : Nat) : Int)
def entY (Y : Y3) (o c cd va ma : Nat) : Y3 := u3 (u3 (u3 Y o f_Task_code c cd) o f_Task_variables c va) o f_Task_made c ma
section
variable {ρ : Nat → Nat} {d : Nat} {Q : QT} {Γ : GH} {h h' h1 h2 H : ah} {C ho k i j N M a z s r f o c t n mn m0 rr sk rk l cd ar nv np E va ma mk ck jm : Nat} {g : HG} {v w hd ty κ nm x y x1 : Int} {S S' S1 : SS} {X X' X1 X2 : X3} {Y Y' Y1 Y2 : Y3} {b : Bool} {tg wd : Nat → Int}
theorem r_call (G : AC h C) (F : FC h C) (ht : isT o) (ec : X o f_Task_calls 0 = (c : Int)) (hc : c < 200) (es : X o f_Task_size 0 = (m0 : Int)) (kc : hK h cd = k_Code) (kv : hK h va = k_Variables) (km : ma = 0 ∨ hK h ma ∈ [244, 245]) (hv : -128 ≤ x ∧ x ≤ 127) (q : Q (Sum.inl none) (cc h C (entX X o c m0 x y) (entY Y o c cd va ma))) : wpB PGm ρ d m_Task_call 0 [(0, vR (C + o)), (1, vR cd), (2, vR va), (3, vI x), (4, vL y), (6, vR ma)] [] (cc h C X Y) Q := by
  have b1 : 0 ≤ (c : Int) ∧ (c : Int) < ((200 : Nat) : Int) := by omega
  have b2 : c ≤ 2000000000 := by omega
  have k1 : cd = 0 ∨ hK h cd ∈ [222] := Or.inr (by rw [kc]; decide)
  have k2 : va = 0 ∨ hK h va ∈ [243] := Or.inr (by rw [kv]; decide)
  have w1 : w32 ((c : Int) + 1) = ((c + 1 : Nat) : Int) := w32_p1 b2
  unfold entX entY at q
  refine b_Task_call_0 ?_
  have f1 := F.t ht
  unfold FCt at f1
  have f2 := F
  unfold FC at f2
  simp (decide := true) (disch := first | decide | omega) only [ccI, ccR, ccIt ht, ccRo, ccK, ccl, ccA G, ccAt G ht, ccB G, ccBt G ht, cc_sI, cc_sR, cc_sIt ht, cc_sA G, cc_sAt G ht, cc_sB G, cc_sBt G ht, f1, f2, u3_f, u3_s, KCt G ht, KC G, w32_aa, w32_ss, w32_p1, w32_m1, Int.toNat_natCast, true_and, and_true, false_and, and_false, or_false, false_or, ne_eq, not_false_eq_true, forall_const, implies_true, not_true_eq_false, false_implies, ec, es, w1, k1, k2, km]
  exact ⟨b1, b1, b1, b1, ⟨hv, b1⟩, b1, b1, q⟩
theorem r_ent128 (G : AC h C) (F : FC h C) (I : IX h C X Y o n c) (hc : c < 200) (u1 : X 50 f_Heap_made 0 = (mk : Int)) (u2 : X 50 f_Heap_calls 0 = (ck : Int)) (u4 : X 50 f_Heap_room 0 = (rk : Int)) (hb : mk ≤ 8000 ∧ ck ≤ 8000 ∧ rk + nv ≤ 60000) (kc : hK h cd = k_Code) (ev : hI h f_Code_variables cd = (nv : Int)) (kv : hK h va = k_Variables) (km : ma = 0 ∨ hK h ma ∈ [244, 245]) (hv : -128 ≤ x ∧ x ≤ 127) (q : Q (Sum.inl none) (cc h C (entX (u3 (goX (nclX X mk ck rk nv) o c) o f_Task_size 0 (m0 : Int)) o c m0 x y) (entY Y o c cd va ma))) : wpB PGm ρ (d + 1) m_Machine_enter 128 [(0, vR (C + 32)), (2, vI x), (3, vL y), (7, vI (m0 : Int)), (8, vR ma), (9, vR cd), (10, vR va)] [] (cc h C X Y) Q := by
  have ht := I.2.2.1
  have e1 : Y 32 f_Machine_t 0 = C + o := I.2.2.2.1.1
  have x0 : ∀ a f i, f ≠ f_Heap_made → f ≠ f_Heap_calls → f ≠ f_Heap_room → nclX X mk ck rk nv a f i = X a f i := fun a f i n1 n2 n3 => by unfold nclX; rw [u3_f n3, u3_f n2, u3_f n1]
  have XF1 : XF (nclX X mk ck rk nv) Y C o n c := ⟨e1, by rw [x0 _ _ _ (by decide) (by decide) (by decide)]; exact I.2.2.2.1.2.1, by rw [x0 _ _ _ (by decide) (by decide) (by decide)]; exact I.2.2.2.1.2.2⟩
  have c1 : u3 (goX (nclX X mk ck rk nv) o c) o f_Task_size 0 (m0 : Int) o f_Task_calls 0 = (c : Int) := by
    unfold goX
    rw [u3_f (by decide), u3_f (by decide)]; exact XF1.2.2
  have c2 : u3 (goX (nclX X mk ck rk nv) o c) o f_Task_size 0 (m0 : Int) o f_Task_size 0 = (m0 : Int) := u3_s
  have gc := r_call (ρ := ρ) (d := d) (Q := cV (fun h31 => Q (Sum.inl none) h31) (fun e34 h33 => hK h33 e34 ≠ 0 ∧ Q (Sum.inr e34) h33)) (Y := Y) G F ht c1 hc c2 kc kv km hv q
  have gg : wpB PGm ρ d m_Machine_go 0 [(0, vR (C + 32))] [] (cc h C (nclX X mk ck rk nv) Y) (cV (fun h19 => hK h19 (C + 32) = k_Machine ∧ hK h19 (hR h19 f_Machine_t (C + 32)) = k_Task ∧ hK (sI h19 f_Task_size (hR h19 f_Machine_t (C + 32)) (m0 : Int)) (hR (sI h19 f_Task_size (hR h19 f_Machine_t (C + 32)) (m0 : Int)) f_Machine_t (C + 32)) = k_Task ∧ wpB PGm ρ d m_Task_call 0 [(0, vR (hR (sI h19 f_Task_size (hR h19 f_Machine_t (C + 32)) (m0 : Int)) f_Machine_t (C + 32))), (1, vR cd), (2, vR va), (3, vI x), (4, vL y), (6, vR ma)] [] (sI h19 f_Task_size (hR h19 f_Machine_t (C + 32)) (m0 : Int)) (cV (fun h31 => Q (Sum.inl none) h31) (fun e34 h33 => hK h33 e34 ≠ 0 ∧ Q (Sum.inr e34) h33))) (fun e22 h21 => hK h21 e22 ≠ 0 ∧ Q (Sum.inr e22) h21)) := by
    refine r_go G F ht XF1 ⟨I.2.2.2.2.2.1, I.2.2.2.2.2.2⟩ ?_
    have f1 := F.t ht
    unfold FCt at f1
    have f2 := F
    unfold FC at f2
    generalize goX (nclX X mk ck rk nv) o c = X9 at *
    simp (decide := true) (disch := first | decide | omega) only [ccI, ccR, ccIt ht, ccRo, ccK, ccl, ccA G, ccAt G ht, ccB G, ccBt G ht, cc_sI, cc_sR, cc_sIt ht, cc_sA G, cc_sAt G ht, cc_sB G, cc_sBt G ht, f1, f2, u3_f, u3_s, KCt G ht, KC G, w32_aa, w32_ss, w32_p1, w32_m1, Int.toNat_natCast, true_and, and_true, false_and, and_false, or_false, false_or, ne_eq, not_false_eq_true, forall_const, implies_true, not_true_eq_false, false_implies, cV, e1]
    exact gc
  have m1 : mk ≤ 2000000000 := by omega
  have m2 : ck ≤ 2000000000 := by omega
  have m3 : rk + nv ≤ 2000000000 := by omega
  have w1 : w32 ((mk : Int) + 1) = ((mk + 1 : Nat) : Int) := w32_p1 m1
  have w2 : w32 ((ck : Int) + 1) = ((ck + 1 : Nat) : Int) := w32_p1 m2
  have w3 : w32 ((rk : Int) + (nv : Int)) = ((rk + nv : Nat) : Int) := w32_aa m3
  have y1 : ∀ {X : X3}, hI (cc h C X Y) f_Code_variables cd = (nv : Int) := by intro X; rw [ccIo (by decide)]; exact ev
  unfold nclX at gg
  clear gc q
  refine b_Machine_enter_128 ?_
  have f1 := F.t ht
  unfold FCt at f1
  have f2 := F
  unfold FC at f2
  simp (decide := true) (disch := first | decide | omega) only [ccI, ccR, ccIt ht, ccRo, ccK, ccl, ccA G, ccAt G ht, ccB G, ccBt G ht, cc_sI, cc_sR, cc_sIt ht, cc_sA G, cc_sAt G ht, cc_sB G, cc_sBt G ht, f1, f2, u3_f, u3_s, KCt G ht, KC G, w32_aa, w32_ss, w32_p1, w32_m1, Int.toNat_natCast, true_and, and_true, false_and, and_false, or_false, false_or, ne_eq, not_false_eq_true, forall_const, implies_true, not_true_eq_false, false_implies, e1]
  refine b_Heap_noteCall_0 ?_
  simp (decide := true) (disch := first | decide | omega) only [ccI, ccR, ccIt ht, ccRo, ccK, ccl, ccA G, ccAt G ht, ccB G, ccBt G ht, cc_sI, cc_sR, cc_sIt ht, cc_sA G, cc_sAt G ht, cc_sB G, cc_sBt G ht, f1, f2, u3_f, u3_s, KCt G ht, KC G, w32_aa, w32_ss, w32_p1, w32_m1, Int.toNat_natCast, true_and, and_true, false_and, and_false, or_false, false_or, ne_eq, not_false_eq_true, forall_const, implies_true, not_true_eq_false, false_implies, cV, e1, u1, u2, u4, w1, w2, w3, kc, y1]
  exact gg
/-- what is given joins the variables -/
theorem r_ent63 (G : AC h C) (F : FC h C) (I : IX h C X Y o n c) (hcd : hK h cd = k_Code ∧ cd < hz h) (ep : hI h f_Code_parameters cd = (np : Int)) (hnp : np ≤ nv) (hn : m0 + 1 + E ≤ n) (etg : ∀ i, tg i = X o f_Task_tags (m0 + 1 + i)) (ewd : ∀ i, wd i = X o f_Task_words (m0 + 1 + i)) (hv : ∀ i, i < E → -128 ≤ tg i ∧ tg i ≤ 127) (q : ∀ H', NV (cc h C X Y) H' ar nv (min E np) tg wd → wpB PGm ρ d m_Machine_enter 128 [(0, vR (C + 32)), (2, vI x), (3, vL y), (7, vI (m0 : Int)), (8, vR ma), (9, vR cd), (10, vR (hz h))] [] H' Q) : ∀ mm j H, j + mm = min E np → NV (cc h C X Y) H ar nv j tg wd → wpB PGm ρ d m_Machine_enter 63 [(0, vR (C + 32)), (2, vI x), (3, vL y), (5, vI ((m0 + 1 : Nat) : Int)), (6, vI (E : Int)), (7, vI (m0 : Int)), (8, vR ma), (9, vR cd), (10, vR (hz h)), (11, vI (j : Int))] [] H Q := by
  intro mm
  have ht := I.2.2.1
  have e1 : Y 32 f_Machine_t 0 = C + o := I.2.2.2.1.1
  have hn2 := I.2.2.2.2.1
  induction mm with
  | zero =>
    intro j H hj A
    have ej : j = min E np := by omega
    obtain ⟨G2, F2, E2, R2⟩ := mat G F A.1 (by unfold DJ; decide)
    have kcd : hK H cd = k_Code := by rw [A.1.K hcd.2]; exact hcd.1
    have ep2 : hI H f_Code_parameters cd = (np : Int) := by rw [A.1.I hcd.2 (by decide) (nokW rfl rfl), ccIo (by decide)]; exact ep
    subst ej
    have g1 := q H A
    refine b_Machine_enter_63 ⟨fun _ => g1, fun w => ⟨kcd, fun _ => g1, fun w2 => ?_⟩⟩
    rw [ep2] at w2
    omega
  | succ mm ih =>
    intro j H hj A
    have A0 := A
    obtain ⟨G2, F2, E2, R2⟩ := mat G F A.1 (by unfold DJ; decide)
    obtain ⟨a1, a2, a3, a4, a5, a6, ⟨a7, a8, a9, a10⟩, a11, a12⟩ := A
    have zc : hz (cc h C X Y) = hz h := rfl
    rw [zc] at a2 a3 a4 a5 a6 a7 a8 a9 a10 a11 a12
    have kcd : hK H cd = k_Code := by rw [a1.K hcd.2]; exact hcd.1
    have ep2 : hI H f_Code_parameters cd = (np : Int) := by rw [a1.I hcd.2 (by decide) (nokW rfl rfl), ccIo (by decide)]; exact ep
    have hj1 : j < E := by omega
    have hj2 : j < np := by omega
    have hvj := hv j hj1
    rw [etg] at hvj
    have b1 : 0 ≤ ((m0 + 1 + j : Nat) : Int) ∧ ((m0 + 1 + j : Nat) : Int) < ((2001 : Nat) : Int) := by omega
    have b3 : 0 ≤ (j : Int) ∧ (j : Int) < (nv : Int) := by omega
    have n1 : ¬ (E : Int) ≤ (j : Int) := by omega
    have n3 : ¬ (np : Int) ≤ (j : Int) := by omega
    have m1 : m0 + 1 + j ≤ 2000000000 := by omega
    have m2 : j ≤ 2000000000 := by omega
    have ff := Fr.wA (x := hz h + 2) (i := j) (v := X o f_Task_tags (m0 + 1 + j)) (Or.inl (by rw [zc]; omega)) a1
    obtain ⟨G3, F3, E3, -⟩ := mat G F ff (by unfold DJ; decide)
    have g1 := ih (j + 1) _ (by omega) A0.put
    rw [zc, etg, ewd] at g1
    clear ih q A0
    -- the first write
    have r0 : ∀ {H : ah}, hR (cc H C X Y) f_Machine_t (C + 32) = C + o := by intro H; rw [ccR (by decide)]; exact e1
    have ft := F2.t ht
    have ft3 := F3.t ht
    have w1 : w32 (((m0 + 1 : Nat) : Int) + (j : Int)) = ((m0 + 1 + j : Nat) : Int) := w32_aa m1
    have w2 : w32 ((j : Int) + 1) = ((j + 1 : Nat) : Int) := w32_p1 m2
    have x3 : hI (cc H C X Y) f_Code_parameters cd = (np : Int) := by rw [ccIo (by decide)]; exact ep2
    have x1 : hR (cc H C X Y) f_Variables_tags (hz h) = hz h + 2 := by rw [ccRo (by decide)]; exact a6
    have x4 : hA (cc H C X Y) (hR (cc H C X Y) f_Task_tags (C + o)) (m0 + 1 + j) = X o f_Task_tags (m0 + 1 + j) := by rw [ccRo (by decide), ccAt G2 ht (by decide)]
    have e17 : sA (cc H C X Y) (hz h + 2) j (X o f_Task_tags (m0 + 1 + j)) = cc (sA H (hz h + 2) j (X o f_Task_tags (m0 + 1 + j))) C X Y := by rw [E3, E2]
    have x2 : hR (cc (sA H (hz h + 2) j (X o f_Task_tags (m0 + 1 + j))) C X Y) f_Variables_words (hz h) = hz h + 1 := by rw [ccRo (by decide)]; exact a5
    have x5 : hA (cc (sA H (hz h + 2) j (X o f_Task_tags (m0 + 1 + j))) C X Y) (hR (cc (sA H (hz h + 2) j (X o f_Task_tags (m0 + 1 + j))) C X Y) f_Task_words (C + o)) (m0 + 1 + j) = X o f_Task_words (m0 + 1 + j) := by rw [ccRo (by decide), ccAt G3 ht (by decide)]
    unfold FCt at ft ft3
    rw [← E2]
    refine b_Machine_enter_63 ⟨fun w => absurd w n1, fun _ => ⟨kcd, fun w => absurd (x3 ▸ w) n3, fun _ => ⟨a3, F2.1.1, ?_⟩⟩⟩
    rw [r0, w1, Int.toNat_natCast, Int.toNat_natCast, x1, x4, w2]
    refine ⟨ft.1, ⟨?_, b1.1, ?_⟩, ⟨Or.inl ⟨a8, hvj⟩, b3.1, ?_⟩, ?_⟩
    · simp (decide := true) only [ccRo, ccK, KCt G2 ht]
    · rw [ccRo (by decide), ccl, ft.2.2.1]; exact b1.2
    · rw [ccl, a10]; exact b3.2
    · show hK (sA (cc H C X Y) (hz h + 2) j (X o f_Task_tags (m0 + 1 + j))) (hR (sA (cc H C X Y) (hz h + 2) j (X o f_Task_tags (m0 + 1 + j))) f_Machine_t (C + 32)) = k_Task ∧ (hK (sA (cc H C X Y) (hz h + 2) j (X o f_Task_tags (m0 + 1 + j))) (hR (sA (cc H C X Y) (hz h + 2) j (X o f_Task_tags (m0 + 1 + j))) f_Task_words (hR (sA (cc H C X Y) (hz h + 2) j (X o f_Task_tags (m0 + 1 + j))) f_Machine_t (C + 32))) ∈ [2] ∧ 0 ≤ ((m0 + 1 + j : Nat) : Int) ∧ ((m0 + 1 + j : Nat) : Int) < (hl (sA (cc H C X Y) (hz h + 2) j (X o f_Task_tags (m0 + 1 + j))) (hR (sA (cc H C X Y) (hz h + 2) j (X o f_Task_tags (m0 + 1 + j))) f_Task_words (hR (sA (cc H C X Y) (hz h + 2) j (X o f_Task_tags (m0 + 1 + j))) f_Machine_t (C + 32))) : Int)) ∧ (hK (sA (cc H C X Y) (hz h + 2) j (X o f_Task_tags (m0 + 1 + j))) (hR (sA (cc H C X Y) (hz h + 2) j (X o f_Task_tags (m0 + 1 + j))) f_Variables_words (hz h)) = 2 ∧ 0 ≤ (j : Int) ∧ (j : Int) < (hl (sA (cc H C X Y) (hz h + 2) j (X o f_Task_tags (m0 + 1 + j))) (hR (sA (cc H C X Y) (hz h + 2) j (X o f_Task_tags (m0 + 1 + j))) f_Variables_words (hz h)) : Int)) ∧ wpB PGm ρ d m_Machine_enter 63 [(0, vR (C + 32)), (2, vI x), (3, vL y), (5, vI ((m0 + 1 : Nat) : Int)), (6, vI (E : Int)), (7, vI (m0 : Int)), (8, vR ma), (9, vR cd), (10, vR (hz h)), (11, vI ((j + 1 : Nat) : Int))] [] (sA (sA (cc H C X Y) (hz h + 2) j (X o f_Task_tags (m0 + 1 + j))) (hR (sA (cc H C X Y) (hz h + 2) j (X o f_Task_tags (m0 + 1 + j))) f_Variables_words (hz h)) j (hA (sA (cc H C X Y) (hz h + 2) j (X o f_Task_tags (m0 + 1 + j))) (hR (sA (cc H C X Y) (hz h + 2) j (X o f_Task_tags (m0 + 1 + j))) f_Task_words (hR (sA (cc H C X Y) (hz h + 2) j (X o f_Task_tags (m0 + 1 + j))) f_Machine_t (C + 32))) (m0 + 1 + j))) Q
      rw [e17, r0, x2, x5]
      refine ⟨ft3.1, ⟨?_, b1.1, ?_⟩, ⟨?_, b3.1, ?_⟩, ?_⟩
      · simp (decide := true) only [ccRo, ccK, KCt G3 ht]
      · rw [ccRo (by decide), ccl, ft3.2.1]; exact b1.2
      · exact a7
      · rw [ccl]; show (j : Int) < (hl H (hz h + 1) : Int); rw [a9]; exact b3.2
      · rw [E3]; exact g1
/-- a function is entered -/
theorem r_enter (HC : CORE Γ h C ho X Y S N) (I : IX h C X Y o n c) (hk : (k : Int) < S f_Md_things 0) (kd : S f_Md_thingKind k = 5) (hf : S f_Md_thingFunction k = (f : Int)) (ev : S f_Md_variablesOf f = (nv : Int)) (ep : S f_Md_parametersOf f = (np : Int)) (hnE : m0 + 1 + E ≤ n) (P : ∀ i, i < E → -128 ≤ X o f_Task_tags (m0 + 1 + i) ∧ X o f_Task_tags (m0 + 1 + i) ≤ 127) (u1 : X 50 f_Heap_made 0 = (mk : Int)) (u2 : X 50 f_Heap_calls 0 = (ck : Int)) (u4 : X 50 f_Heap_room 0 = (rk : Int)) (hb : mk ≤ 8000 ∧ ck ≤ 8000 ∧ rk ≤ 60000) (km : ma = 0 ∨ (hK h ma ∈ [244, 245] ∧ ma < hz h)) (hv : -128 ≤ x ∧ x ≤ 127) (q0 : c = 200 → Q (Sum.inr (C + 33)) (cc h C (erX X 11) Y)) (q1 : c < 200 → ¬ (mk + 1 ≤ 8000 ∧ rk + nv ≤ 60000) → Q (Sum.inr (C + 33)) (cc h C (erX X 0) Y)) (q2 : c < 200 → mk + 1 ≤ 8000 → rk + nv ≤ 60000 → ∀ H, AC H C → FC H C → NV (cc h C X Y) H (hR h f_Fun_around (hB h (C + 51) k)) nv (min E np) (fun i => X o f_Task_tags (m0 + 1 + i)) (fun i => X o f_Task_words (m0 + 1 + i)) → Q (Sum.inl none) (cc H C (entX (u3 (goX (nclX X mk ck rk nv) o c) o f_Task_size 0 (m0 : Int)) o c m0 x y) (entY Y o c (hB h (C + 56) f) (hz h) ma))) : wpB PGm ρ (d + 12) m_Machine_enter 0 [(0, vR (C + 32)), (1, vR (hB h (C + 51) k)), (2, vI x), (3, vL y), (5, vI ((m0 + 1 : Nat) : Int)), (6, vI (E : Int)), (7, vI (m0 : Int)), (8, vR ma)] [] (cc h C X Y) Q := by
  have G := HC.1.1
  have F := HC.1.2
  have ht := I.2.2.1
  have e1 : Y 32 f_Machine_t 0 = C + o := I.2.2.2.1.1
  have ec : X o f_Task_calls 0 = (c : Int) := I.2.2.2.1.2.2
  have hc2 := I.2.2.2.2.2.2
  obtain ⟨tn, sn, sm', d1, d2, d5, d6', d3, d4, d6, d7, d8, U, m1, m2, m3, m4⟩ := HC.shp
  have TH := (d7 k (by omega)).p.1
  obtain ⟨ta1, ⟨ta2, ta3, ta4⟩, -, tf, -⟩ := TH
  have tf' := tf.resolve_left (fun z => z.1 kd)
  rw [hf] at tf'
  obtain ⟨-, t1, t2, t3, t4, t5, t6, t7, t8⟩ := tf'
  rw [Int.toNat_natCast] at t3
  have kF : hK h (hB h (C + 51) k) = k_Fun := by rw [ta2, kd]; rfl
  obtain ⟨fn, n1, n2, n3, n4⟩ := HC.2.2.2.1
  obtain ⟨⟨p1, p2, p3⟩, -, -, p4, p5, -, -, -, ⟨p6, p7, p8⟩, -⟩ := n4 f (by omega)
  have np' : np ≤ nv := by omega
  have nv6 : nv ≤ 60 := by omega
  have x0 : ∀ {H : ah}, hI (cc H C X Y) f_Code_variables (hB h (C + 56) f) = hI H f_Code_variables (hB h (C + 56) f) := ccIo (by decide)
  have x2 : hR (cc h C X Y) f_Fun_code (hB h (C + 51) k) = hB h (C + 56) f := by rw [ccRo (by decide)]; exact t3
  have x3 : hI (cc h C X Y) f_Task_calls (C + o) = (c : Int) := by rw [ccIt ht (by decide)]; exact ec
  have x4 : hR (cc h C X Y) f_Machine_t (C + 32) = C + o := by rw [ccR (by decide)]; exact e1
  have x5 : hR (cc h C X Y) f_Machine_heap (C + 32) = C + 50 := by rw [ccRo (by decide)]; exact F.2.1.2.2.2.2.1
  have x6 : hR (cc h C X Y) f_Machine_signal (C + 32) = C + 33 := by rw [ccRo (by decide)]; exact F.2.1.1
  have c200 : ∀ z : (c : Int) = 200, c = 200 := fun z => by omega
  have c200' : ∀ z : ¬ (c : Int) = 200, c < 200 := fun z => by omega
  have zc : hz (cc h C X Y) = hz h := rfl
  have zlt : ∀ {a}, a < hz h → ¬ a = hz h := fun z => by omega
  refine b_Machine_enter_0 (d := d + 11) ⟨F.1.1, ?_⟩
  rw [x4, x3, x2, x5, x6, x0, p5.trans ev]
  refine ⟨(F.t ht).1, fun z => ⟨kF, p1, F.1.2.2.2.2.2.1, ?_⟩, fun z => ⟨F.1.2.1, r_sigQ G F (q0 (c200 z))⟩⟩
  refine r_want (d := d + 9) (a := 1) (b := nv) (mk := mk) (rm := rk) G F u1 u4 hb.1 hb.2.2 (by omega) (by omega) (fun z1 z2 => ?_) (fun w => ⟨kSg F, q1 (c200' z) w⟩)
  show hK (hn (cc h C X Y) k_Variables 3 0) (hB h (C + 51) k) = k_Fun ∧ hK (hn (cc h C X Y) k_Variables 3 0) (hB h (C + 56) f) = k_Code ∧ wpB PGm ρ (d + 11) m_Variables_init 0 [(0, vR (hz (cc h C X Y))), (1, vR (hR (hn (cc h C X Y) k_Variables 3 0) f_Fun_around (hB h (C + 51) k))), (2, vI (hI (hn (cc h C X Y) k_Variables 3 0) f_Code_variables (hB h (C + 56) f)))] [] (hn (cc h C X Y) k_Variables 3 0) _
  have y1 : hK (hn (cc h C X Y) k_Variables 3 0) (hB h (C + 51) k) = k_Fun := by show (if _ = hz h then _ else _) = _; rw [if_neg (zlt ta3)]; exact kF
  have y2 : hK (hn (cc h C X Y) k_Variables 3 0) (hB h (C + 56) f) = k_Code := by show (if _ = hz h then _ else _) = _; rw [if_neg (zlt p2)]; exact p1
  have y3 : hR (hn (cc h C X Y) k_Variables 3 0) f_Fun_around (hB h (C + 51) k) = hR h f_Fun_around (hB h (C + 51) k) := by
    show (if _ = hz h then _ else hR (cc h C X Y) _ _) = _; rw [if_neg (zlt ta3), ccRo (by decide)]
  have y4 : hI (hn (cc h C X Y) k_Variables 3 0) f_Code_variables (hB h (C + 56) f) = (nv : Int) := by
    show (if _ = hz h then _ else hI (cc h C X Y) _ _) = _; rw [if_neg (zlt p2), x0]; exact p5.trans ev
  rw [y3, y4]
  refine ⟨y1, y2, nv_init (tg := fun i => X o f_Task_tags (m0 + 1 + i)) (wd := fun i => X o f_Task_words (m0 + 1 + i)) (cc_INJ G.2.1) (by omega) (by omega) (fun H A => ?_)⟩
  show wpB PGm ρ (d + 12) m_Machine_enter 63 [(0, vR (C + 32)), (2, vI x), (3, vL y), (5, vI ((m0 + 1 : Nat) : Int)), (6, vI (E : Int)), (7, vI (m0 : Int)), (8, vR ma), (9, vR (hB h (C + 56) f)), (10, vR (hz h)), (11, vI ((0 : Nat) : Int))] [] H Q
  refine r_ent63 (np := np) G F I ⟨p1, p2⟩ (p4.trans ep) np' hnE (fun _ => rfl) (fun _ => rfl) P (fun H' B => ?_) (min E np) 0 H (by omega) A
  obtain ⟨G2, F2, E2, R2⟩ := mat G F B.1 (by unfold DJ; decide)
  have I2 : IX H' C X Y o n c := ⟨G2, F2, I.2.2⟩
  have w1 : hI H' f_Code_variables (hB h (C + 56) f) = (nv : Int) := by rw [B.1.I p2 (by decide) (nokW rfl rfl), x0]; exact p5.trans ev
  have w2 : hK H' (hB h (C + 56) f) = k_Code := by rw [B.1.K p2]; exact p1
  have w3 : hK H' (hz h) = k_Variables := B.2.2.1
  have w4 : ma = 0 ∨ hK H' ma ∈ [244, 245] := km.imp id (fun z => by rw [B.1.K z.2]; exact z.1)
  rw [← E2]
  exact r_ent128 (d := d + 11) G2 F2 I2 (c200' z) u1 u2 u4 ⟨hb.1, hb.2.1, z2⟩ w2 w1 w3 w4 hv (q2 (c200' z) z1 z2 H' G2 F2 B)
end
