/-! the builtin make: both machines -/
set_option maxRecDepth 20000
section
variable {ρ : Nat → Nat} {P : ah → Nat → Prop} {d : Nat} {Q : QT} {Γ Γ' : GH} {h h0 h1 h' : ah} {C ho T : Nat} {X X' X1 X2 : X3} {Y Y' : Y3} {S S' S1 S2 : SS} {N t o n c r f i j k m z s n' pu po p tn w sn mk rm l6 : Nat} {ty v x y op a b p' pT : Int} {L : List Nat}
/-- C: from the place on where the room is asked for -/
theorem r_MAKE1 (HC : CORE Γ h C ho X Y S N) (I : IX h C X Y o n c) (hx : m ≤ 2000) (hl6 : (l6 = 0 ∧ pT = -1) ∨ ∃ k : Nat, l6 = hB h (C + 51) k ∧ pT = (k : Int) ∧ (k : Int) < S f_Md_things 0 ∧ (S f_Md_thingKind k = 4 ∨ S f_Md_thingKind k = 5)) (e1 : X 50 f_Heap_made 0 = (mk : Int)) (e2 : X 50 f_Heap_room 0 = (rm : Int)) (hm : mk ≤ 8000) (hr : rm ≤ 60000) (et : S f_Md_things 0 = (tn : Int)) (q1 : mk + 1 ≤ 8000 → ∀ r S1 h' X', TMD ρ S (-1) pT (-1) (some (r, S1)) → (∀ f i, LSH.elem f = false → S1 f i = S f i) → MOB Γ h C ho X Y S N h' X' (mobS S1 tn mk r) → VR Γ (mobS S1 tn mk r) N 4 (tn : Int) 4 (tn : Int) → Q (Sum.inl none) (cc h' C (ansX X' o m c 4 (tn : Int)) Y)) (q2 : mk + 1 ≤ 8000 → TMD ρ S (-1) pT (-1) none → Q (Sum.inr (C + 33)) (cc (hn h k_Obj 8 0) C (erX X 0) Y)) (q0 : ¬ mk + 1 ≤ 8000 → Q (Sum.inr (C + 33)) (cc h C (erX X 0) Y)) : wpB PGm ρ (d + 30) m_Machine_builtin 134 [(0, vR (C + 32)), (2, vI (m : Int)), (6, vR l6)] [] (cc h C X Y) Q := by
  obtain ⟨G, F, ht, ⟨f1, f2, f3⟩, hn', hc1, hc2⟩ := I
  have gz := G.1
  have kS : hK h (C + 33) ≠ 0 := by rw [F.1.2.1]; decide
  have eH : hR (cc h C X Y) f_Machine_heap (C + 32) = C + 50 := by rw [ccRo (by decide)]; exact F.2.1.2.2.2.2.1
  refine b_Machine_builtin_134 (by omega) ⟨F.1.1, by rw [eH]; exact F.1.2.2.2.2.2.1, ?_⟩
  rw [eH]
  refine r_want (d := d + 27) (mk := mk) (rm := rm) (a := 1) (b := 0) G F e1 e2 hm hr (by omega) (by omega) (fun rm1 _ => ?_) (fun z => ⟨kS, q0 (fun c => z ⟨c, by omega⟩)⟩)
  have fr0 : Fr [] [] 1 8 h (hn h k_Obj 8 0) := (Fr.r0.new (k := k_Obj) (n := 8) (m := 0)).le (by omega) (by omega)
  obtain ⟨⟨c0, c0'⟩, g0, bd0⟩ := HC.al fr0
  have ⟨G0, F0⟩ := c0.1
  have e0 : hn (cc h C X Y) k_Obj 8 0 = cc (hn h k_Obj 8 0) C X Y := cc_hn G
  have T0 := HC.2.2.2.2.2.2.2.2.2.1
  obtain ⟨tn0, sn0, u1, u2, u3', u4, u5, u6, u6', u7, u8, -⟩ := T0
  have et0 : tn0 = tn := by omega
  subst et0
  have l51 : hl (hn h k_Obj 8 0) (C + 51) = tn0 := by rw [hnl (by omega)]; exact u3'
  have r1 : ∀ x, hR (cc (hn h k_Obj 8 0) C X Y) f_Machine_heap x = hR (hn h k_Obj 8 0) f_Machine_heap x := fun x => ccRo (by decide)
  have r2 : ∀ x, hR (cc (hn h k_Obj 8 0) C X Y) f_Heap_things x = hR (hn h k_Obj 8 0) f_Heap_things x := fun x => ccRo (by decide)
  have v1 : hR (hn h k_Obj 8 0) f_Machine_heap (C + 32) = C + 50 := F0.2.1.2.2.2.2.1
  have v2 : hR (hn h k_Obj 8 0) f_Heap_things (C + 50) = C + 51 := F0.2.2.1.2.1
  have v3 : hK (hn h k_Obj 8 0) (C + 51) = k_ArrayList := F0.2.2.2.1.1.1
  have v4 : lok (hn h k_Obj 8 0) (C + 51) := F0.2.2.2.1.1
  have v5 : hK (hn h k_Obj 8 0) (C + 32) = k_Machine := F0.1.1
  have v6 : hK (hn h k_Obj 8 0) (C + 50) = k_Heap := F0.1.2.2.2.2.2.1
  have kS0 : hK (hn h k_Obj 8 0) (C + 33) ≠ 0 := by rw [F0.1.2.1]; decide
  have zz : hz (cc h C X Y) = hz h := rfl
  show let h10 := hn (cc h C X Y) k_Obj 8 0
    hK h10 (C + 32) = k_Machine ∧ _
  simp only [e0, zz, ccK, ccl, cclok, r1, r2, v1, v2, v3, v4, v5, v6, l51, true_and]
  have fin : ∀ r S1 h1 X1, TMD ρ S (-1) pT (-1) (some (r, S1)) → SHR Γ (hn h k_Obj 8 0) C ho X Y S N h1 X1 S1 → (r : Int) < S1 f_Md_shapes 0 → S1 f_Md_shapeCount r = 0 → hK (cc h1 C X1 Y) (hz h) ≠ 0 ∧ wpB PGm ρ (d + 29) m_Obj_init 0 [(0, vR (hz h)), (1, vI (tn0 : Int)), (2, vR (hB h1 (C + 52) r))] [] (cc h1 C X1 Y) (cV (fun h25 => hK h25 (C + 32) = k_Machine ∧ hK h25 (hR h25 f_Machine_heap (C + 32)) = k_Heap ∧ wpB PGm ρ (d + 29) m_Heap_keep 0 [(0, vR (hR h25 f_Machine_heap (C + 32))), (1, vR (hz h))] [] h25 (cR (fun x39 h34 => hK h34 (hz h) ∈ [244, 245, 246, 249] ∧ hK h34 (C + 32) = k_Machine ∧ wpB PGm ρ (d + 29) m_Machine_answer 0 [(0, vR (C + 32)), (1, vI (m : Int)), (2, vI 4), (3, vL (hI h34 f_Thing_number (hz h)))] [] h34 (cV (fun h44 => Q (Sum.inl none) h44) (fun e47 h46 => hK h46 e47 ≠ 0 ∧ Q (Sum.inr e47) h46))) (fun e37 h36 => hK h36 e37 ≠ 0 ∧ Q (Sum.inr e37) h36))) (fun e28 h27 => hK h27 e28 ≠ 0 ∧ Q (Sum.inr e28) h27)) := by
    intro r S1 h1 X1 tc sr hr1 cr1
    refine j_mk2 (K := fun h34 => hK h34 (hz h) ∈ [244, 245, 246, 249] ∧ hK h34 (C + 32) = k_Machine ∧ wpB PGm ρ (d + 29) m_Machine_answer 0 [(0, vR (C + 32)), (1, vI (m : Int)), (2, vI 4), (3, vL (hI h34 f_Thing_number (hz h)))] [] h34 (cV (fun h44 => Q (Sum.inl none) h44) (fun e47 h46 => hK h46 e47 ≠ 0 ∧ Q (Sum.inr e47) h46))) (d := d + 28) HC sr hr1 cr1 et e1 rm1 (by omega) (fun h' X' mo V en ek => ?_)
    have g := q1 rm1 r S1 h' X' tc sr.2.2.2.2.1 mo V
    have ⟨G', F'⟩ := mo.1.1.1
    have x3 := mo.2.2.2.2.2 o f_Task_calls 0 (by decide)
    refine ⟨by rw [ccK, ek]; decide, F'.1.1, ?_⟩
    rw [ccIo (by decide), en]
    exact r_answer (d := d + 28) (n := m) (c := c) G' F' ht f1 (by rw [x3]; exact f3) hx ⟨hc1, hc2⟩ (by decide) g
  rcases hl6 with ⟨rfl, rfl⟩ | ⟨k, rfl, rfl, hk, kd⟩
  · refine b_Heap_rootOf_0 (by omega) ⟨fun w => absurd rfl w, fun _ => ?_⟩
    have w1 : hR (hn h k_Obj 8 0) f_Heap_shapes (C + 50) = C + 52 := F0.2.2.1.2.2.1
    have w2 : ∀ x, hR (cc (hn h k_Obj 8 0) C X Y) f_Heap_shapes x = hR (hn h k_Obj 8 0) f_Heap_shapes x := fun x => ccRo (by decide)
    have l52 : hl (hn h k_Obj 8 0) (C + 52) = sn0 := by rw [hnl (by omega)]; exact u4
    have eb : hB (cc (hn h k_Obj 8 0) C X Y) (C + 52) 0 = hB (hn h k_Obj 8 0) (C + 52) 0 := by
      have := ccBo (X := X) (Y := Y) (i := 0) (f := f_Heap_shapes) (b := C + 50) G0 (by decide) (by have := G0.1; omega)
      rw [w1] at this; exact this
    rw [w2, w1, eb]
    have S0 := u8 0 (by omega)
    have eb0 : hB (hn h k_Obj 8 0) (C + 52) 0 = hB h (C + 52) 0 := hnB (by omega)
    have cz : S f_Md_shapeCount 0 = 0 := by
      rcases S0.2.2.2.1 with w | w
      · exact w.2.2.2.1
      · omega
    refine ⟨v6, F0.2.2.2.1.2.1.1, ⟨by rw [cclok]; exact F0.2.2.2.1.2.1, by decide, by rw [ccl, l52]; omega⟩, Or.inr ?_, fin 0 S _ X (fun d h0 T Q O qq => s_made0 O qq) (SHR.rf c0) (by omega) cz⟩
    rw [ccK, eb0, hnK S0.1.2.1, S0.1.1]; decide
  · have eb : hB (hn h k_Obj 8 0) (C + 51) k = hB h (C + 51) k := hnB (by omega)
    rw [← eb]
    exact j_root (d := d + 26) c0 hk kd (by omega) (fun tc => ⟨kS0, q2 rm1 tc⟩) (fun r S' h' X' tc sr hr pr cn => fin r S' h' X' tc sr hr.2 cn)
theorem r_MAKE (HC : CORE Γ h C ho X Y S N) (I : IX h C X Y o n c) (n1 : 1 ≤ n) (c3 : hl h (C + 51) = tn) (c6 : tn ≤ 8000) (VV : X o f_Task_tags (n - 1) = 4 ∨ X o f_Task_tags (n - 1) = 5 → 0 ≤ X o f_Task_words (n - 1) ∧ X o f_Task_words (n - 1) < (tn : Int) ∧ hK h (hB h (C + 51) (X o f_Task_words (n - 1)).toNat) ∈ [244, 245]) (nz : X o f_Task_tags (n - 1) = 4 ∨ X o f_Task_tags (n - 1) = 5 → hB h (C + 51) (X o f_Task_words (n - 1)).toNat ≠ 0) (q1 : X o f_Task_tags (n - 1) = 0 ∨ X o f_Task_tags (n - 1) = 4 ∨ X o f_Task_tags (n - 1) = 5 → wpB PGm ρ (d + 29 + 30) m_Machine_builtin 134 [(0, vR (C + 32)), (2, vI ((n - 1 : Nat) : Int)), (6, vR (obA h C (X o f_Task_tags (n - 1)) (X o f_Task_words (n - 1))))] [] (cc h C X Y) (cV (fun h3 => Q (Sum.inl none) h3) (fun e h' => hK h' e ≠ 0 ∧ Q (Sum.inr e) h'))) (q0 : ¬ (X o f_Task_tags (n - 1) = 0 ∨ X o f_Task_tags (n - 1) = 4 ∨ X o f_Task_tags (n - 1) = 5) → Q (Sum.inr (C + 33)) (cc h C (erX X 12) Y)) : wpB PGm ρ (d + 60) m_Machine_instruct 0 [(0, vR (C + 32)), (1, vI 28), (2, vI 1), (3, vI b)] [] (cc h C X Y) Q := by
  obtain ⟨G, F, ht, ⟨e1, e2, e3⟩, hn, hc1, hc2⟩ := I
  have kS : hK h (C + 33) ≠ 0 := by rw [F.1.2.1]; decide
  have w1 : w32 ((n : Int) - ((1 : Nat) : Int)) = ((n - 1 : Nat) : Int) := w32_m1 (by omega)
  have b1 : 0 ≤ ((n - 1 : Nat) : Int) ∧ ((n - 1 : Nat) : Int) < ((2001 : Nat) : Int) := by omega
  have es : hR (cc h C X Y) f_Machine_signal (C + 32) = C + 33 := by rw [ccRo (by decide)]; exact F.2.1.1
  refine r_BLT (w := 1) (d := d + 40) ⟨G, F, ht, ⟨e1, e2, e3⟩, hn, hc1, hc2⟩ n1 (Or.inr ⟨by decide, rfl⟩) (b_Machine_builtin_27 ?_)
  generalize hx : X o f_Task_tags (n - 1) = x at *
  generalize hy : X o f_Task_words (n - 1) = y at *
  have f1 := F.t ht
  unfold FCt at f1
  have f2 := F
  unfold FC at f2
  clear HC n1
  simp (decide := true) only [ccI, ccR, ccRo, ccK, ccl, ccA G, ccAt G ht, KC G, KCt G ht, f1, f2, e1, w1, hx, hy, Int.toNat_natCast, true_and, and_true, false_implies, forall_const]
  refine ⟨b1, b1, r_objectOf G F (by omega) c3 c6 VV ⟨fun x0 => q1 ?_, fun x0 => ⟨fun z => q1 (Or.inl z), fun z => ?_⟩⟩⟩
  · exact Or.inr (Classical.byContradiction fun c => x0 (if_neg c))
  · rw [es]
    refine ⟨F.1.1, F.1.2.1, r_sigQ G F ⟨kS, q0 (fun c => c.elim z (fun w => nz w ?_))⟩⟩
    have eo : obA h C x y = hB h (C + 51) y.toNat := if_pos w
    rw [← eo]; exact x0
end
