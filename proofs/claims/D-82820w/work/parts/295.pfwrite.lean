/-! perform: no function there; a property is written, or added -/
set_option maxRecDepth 20000
section
variable {ρ : Nat → Nat} {d : Nat} {Q : QT} {Γ : GH} {h h' h1 h2 : ah} {C ho k i j N M a b z s x y r f o c t n mn m0 rr sk rk : Nat} {g : HG} {v w hd ty κ nm : Int} {S S' S1 : SS} {X X' X1 X2 : X3} {Y Y' Y1 Y2 : Y3} {E : ENT}
/-- what is read is no function -/
theorem pf_nofun (P : PFX Γ h C ho X Y S N t o n c r s a κ mn m0 rr) (hκ : κ = 5) (eac : ¬ X 53 f_Found_action 0 = 0) (fl : S f_Md_foundLinker 0 = 0) (ew : S f_Md_foundWhich 0 = w) (eh : S f_Md_foundHolder 0 = hd) (epl : X 53 f_Found_place 0 = w) (ehd : Y 53 f_Found_holder 0 = prA h C hd) (pv : PVL S hd) (gt : S f_Md_pileType rr = 4 ∨ S f_Md_pileType rr = 5) (gv : S f_Md_pileValue rr = (k : Int)) (k8 : k < 8000) (R : RDV S k w hd ty v) (wh : w < 0 → hd < 0) (ne : ¬ ty = 5) (q : PFR ρ g N M Γ h C ho X Y S s Q) : wpB PGm ρ (d + 12) m_Machine_property 0 [(0, vR (C + 32)), (1, vR a), (2, vI (m0 : Int))] [] (cc h C X Y) (pK Q) := by
  have F := P.1.1.2
  have kS := kSg (X := erX X 4) (Y := Y) F
  refine r_prop (d := d) P epl ehd pv gt gv R wh (fun x y V => ?_)
  have T := TAC.nofun (ρ := ρ) (g := g) (N := N) (M := M) (S := S) (s := s) (k := k) ⟨P.2.2.2.2.2.1.1, P.2.2.2.2.2.1.2.1, fl, by rw [P.2.2.2.2.2.2.1.2]; exact gv, k8⟩ hκ ew eh R ne
  have x1 : hI (cc h C X Y) f_Found_action (C + 53) = X 53 f_Found_action 0 := by rw [ccI (by decide)]
  have e1 : hR (cc h C X Y) f_Machine_signal (C + 32) = C + 33 := by rw [ccRo (by decide)]; exact F.2.1.1
  refine b_Machine_property_94 (d := d + 11) (by omega) ⟨F.1.2.2.2.2.2.2.1, fun _ => ⟨fun z => absurd (V.1.symm.trans z) ne, fun _ => ⟨F.1.1, ?_⟩⟩, fun z => absurd (x1.symm.trans z) eac⟩
  rw [e1]
  refine ⟨fun z => ?_, fun z => ?_⟩
  · have z' : ¬ ty = 0 := fun c => z (V.1.trans c)
    rw [if_neg z'] at T
    exact b_Machine_property_133 ⟨F.1.2.1, r_sigQ P.1.1.1 F ⟨kSg F, q (some 5) _ h _ Y T (P.err (by decide))⟩⟩
  · have z' : ty = 0 := V.1.symm.trans z
    rw [if_pos z'] at T
    exact b_Machine_property_133 ⟨F.1.2.1, r_sigQ P.1.1.1 F ⟨kSg F, q (some 4) _ h _ Y T (P.err (by decide))⟩⟩
theorem OPH.mv {Γ' : GH} (H : OPH Γ h C X Y S N t o n c r) (M1 : CORE Γ' h1 C ho X1 Y S1 N) (K1 : CT Γ' h1 C X1 Y S1 N t o n c r) (e0 : EXS (LTK ++ [f_Md_t, f_Md_p0, f_Md_f0, f_Md_top, f_Md_after, f_Md_codeSize]) S S1) : OPH Γ' h1 C X1 Y S1 N t o n c r := by
  have w : ∀ f, (LTK ++ [f_Md_t, f_Md_p0, f_Md_f0, f_Md_top, f_Md_after, f_Md_codeSize]).elem f = true → ∀ i, S1 f i = S f i := e0
  have ep : psS S1 t (c - 1) = psS S t (c - 1) := by unfold psS; rw [w _ (by decide)]
  have aT : AT S1 t c := by
    obtain ⟨t1, t2, t3, t4, t5⟩ := H.2.2.2.2.2.2
    exact ⟨by rw [w _ (by decide)]; exact t1, by rw [w _ (by decide)]; exact t2, by rw [w _ (by decide)]; exact t3, by rw [w _ (by decide)]; exact t4, by rw [w _ (by decide), ep]; exact t5⟩
  exact M1.oph K1 H.2.2.2.1 H.2.2.2.2.2.1 aT
/-- after a change the answer comes -/
theorem PFX.ach {Γ' : GH} {x y : Int} (P : PFX Γ h C ho X Y S N t o n c r s a κ mn m0 rr) (M1 : CORE Γ' h1 C ho X1 Y S1 N) (K1 : CT Γ' h1 C X1 Y S1 N t o n c r) (g : GRO Γ Γ' h h1 C S S1) (e0 : EXS (LTK ++ [f_Md_t, f_Md_p0, f_Md_f0, f_Md_top, f_Md_after, f_Md_codeSize]) S S1) (nsc : NSc S S1) (nxc : NXc X X1) (fr : Fr LHc [] z j h h1) (bd : BND h C S h1 S1 1 8) (V : VR Γ' S1 N x y ty v) : RLC Γ h C ho X Y S N none (gvS S1 t m0 c (psS S t (c - 1)) ty v) h1 (ansX X1 o m0 c x y) Y := by
  have hm := P.2.2.2.2.1
  exact RLC.ans P.2.1 P.2.2.2.1 M1 K1 g e0 nsc nxc fr bd V (by omega) (by omega)
/-- the thing that the site works on -/
theorem PFX.obj (P : PFX Γ h C ho X Y S N t o n c r s a κ mn m0 rr) (gt : S f_Md_pileType rr = 4 ∨ S f_Md_pileType rr = 5) (gv : S f_Md_pileValue rr = (k : Int)) : (k : Int) < S f_Md_things 0 ∧ k < 8000 ∧ (S f_Md_thingKind k = 4 ∨ S f_Md_thingKind k = 5) ∧ X o f_Task_words m0 = (k : Int) ∧ X o f_Task_tags m0 = S f_Md_pileType rr ∧ (hK h (hB h (C + 51) k) = k_Obj ∨ hK h (hB h (C + 51) k) = k_Fun) ∧ hB h (C + 51) k ≠ 0 ∧ hB h (C + 51) k < hz h := by
  obtain ⟨tn, sn, sm, d1, d2, d5, d6', d3, d4, d6, d7, d8, U, m1, m2, m3, m4⟩ := P.1.shp
  have V0 := P.pl (i := 0) (by omega)
  rw [Nat.add_zero, Nat.add_zero] at V0
  obtain ⟨A1, AE⟩ := V0.obj P.1.2.2.2.2.2.2.2.2.2.1 (h := h) (C := C)
  obtain ⟨w1, w2, w3, w4, w5, w6⟩ := A1 (by rw [AE]; exact gt)
  have hkk : (k : Int) < S f_Md_things 0 := by omega
  have kk : S f_Md_thingKind k = S f_Md_pileType rr := by
    rcases V0.2.2 with z | z | z | z | z | z <;> first | omega | skip
    obtain ⟨z1, z2, z3, z4⟩ := z
    rw [gv, Int.toNat_natCast] at z4
    exact z4.2
  have T := (d7 k (by omega)).p.1
  refine ⟨hkk, by omega, by rw [kk]; exact gt, by rw [w1]; exact gv, AE, ?_, T.2.1.2.2, T.2.1.2.1⟩
  rw [T.2.1.1, kk]
  unfold kdK
  rcases gt with g4 | g4
  · rw [if_pos g4]; exact Or.inl rfl
  · rw [if_neg (by omega), if_pos g4]; exact Or.inr rfl
/-- the end of a write: the value is the answer -/
theorem r_write116 (G : AC h C) (F : FC h C) (I : IX h C X Y o n c) (hm : m0 < n) (hv : -128 ≤ X o f_Task_tags (n - 1) ∧ X o f_Task_tags (n - 1) ≤ 127) (q : Q (Sum.inl none) (cc h C (ansX X o m0 c (X o f_Task_tags (n - 1)) (X o f_Task_words (n - 1))) Y)) : wpB PGm ρ (d + 11) m_Machine_write 116 [(0, vR (C + 32)), (1, vI (m0 : Int)), (2, vI ((n - 1 : Nat) : Int))] [] (cc h C X Y) Q := by
  have ht := I.2.2.1
  have e1 : Y 32 f_Machine_t 0 = C + o := I.2.2.2.1.1
  have hn := I.2.2.2.2.1
  have b1 : 0 ≤ ((n - 1 : Nat) : Int) ∧ ((n - 1 : Nat) : Int) < ((2001 : Nat) : Int) := by omega
  have g1 := r_answer (ρ := ρ) (d := d + 9) (Q := cV (fun h7 => Q (Sum.inl none) h7) (fun e10 h9 => hK h9 e10 ≠ 0 ∧ Q (Sum.inr e10) h9)) (v := X o f_Task_tags (n - 1)) (w := X o f_Task_words (n - 1)) G F ht e1 I.2.2.2.1.2.2 (n := m0) (by omega) ⟨I.2.2.2.2.2.1, I.2.2.2.2.2.2⟩ hv q
  refine b_Machine_write_116 (d := d + 10) ?_
  have f1 := F.t ht
  unfold FCt at f1
  have f2 := F
  unfold FC at f2
  simp (decide := true) only [ccI, ccR, ccRo, ccK, ccl, ccA G, ccAt G ht, KC G, KCt G ht, f1, f2, e1, Int.toNat_natCast, true_and, and_true]
  exact ⟨b1, b1, g1⟩
/-- a write up to the thing -/
theorem r_write0 (P : PFX Γ h C ho X Y S N t o n c r s a κ mn m0 rr) (gt : S f_Md_pileType rr = 4 ∨ S f_Md_pileType rr = 5) (gv : S f_Md_pileValue rr = (k : Int)) (hm : m0 < n) (q1 : X 53 f_Found_action 0 = 1 → wpB PGm ρ (d + 10) m_Thing_set 0 [(0, vR (hB h (C + 51) k)), (1, vI (X 53 f_Found_place 0)), (2, vI (X o f_Task_tags (n - 1))), (3, vL (X o f_Task_words (n - 1)))] [] (cc h C X Y) (cV (fun h46 => wpB PGm ρ (d + 11) m_Machine_write 116 [(0, vR (C + 32)), (1, vI (m0 : Int)), (2, vI ((n - 1 : Nat) : Int))] [] h46 Q) (fun e49 h48 => hK h48 e49 ≠ 0 ∧ Q (Sum.inr e49) h48))) (q2 : ¬ X 53 f_Found_action 0 = 1 → hI h f_Thing_size (hB h (C + 51) k) = 64 → hK (cc h C (erX X 0) Y) (C + 33) ≠ 0 ∧ Q (Sum.inr (C + 33)) (cc h C (erX X 0) Y)) (q3 : ¬ X 53 f_Found_action 0 = 1 → ¬ hI h f_Thing_size (hB h (C + 51) k) = 64 → wpB PGm ρ (d + 10) m_Heap_addProperty 0 [(0, vR (C + 50)), (1, vR (hB h (C + 51) k)), (2, vR (Y 53 f_Found_to 0)), (3, vI (X o f_Task_tags (n - 1))), (4, vL (X o f_Task_words (n - 1)))] [] (cc h C X Y) (cV (fun h46 => wpB PGm ρ (d + 11) m_Machine_write 116 [(0, vR (C + 32)), (1, vI (m0 : Int)), (2, vI ((n - 1 : Nat) : Int))] [] h46 Q) (fun e49 h48 => hK h48 e49 ≠ 0 ∧ Q (Sum.inr e49) h48))) : wpB PGm ρ (d + 11) m_Machine_write 0 [(0, vR (C + 32)), (1, vI (m0 : Int)), (2, vI ((n - 1 : Nat) : Int))] [] (cc h C X Y) Q := by
  have HC := P.1
  have G := HC.1.1
  have F := HC.1.2
  have I := P.2.1.ix
  have ht := I.2.2.1
  have hn := I.2.2.2.2.1
  have e1 : Y 32 f_Machine_t 0 = C + o := I.2.2.2.1.1
  obtain ⟨hk, k8, kd, wk, tk, kk, nz, zz⟩ := P.obj gt gv
  obtain ⟨tn, sn, sm, d1, d2, d5, d6', d3, d4, d6, d7, d8, U, m1, m2, m3, m4⟩ := HC.shp
  have b1 : 0 ≤ ((n - 1 : Nat) : Int) ∧ ((n - 1 : Nat) : Int) < ((2001 : Nat) : Int) := by omega
  have b2 : 0 ≤ (m0 : Int) ∧ (m0 : Int) < ((2001 : Nat) : Int) := by omega
  have km : hK h (hB h (C + 51) k) ∈ [244, 245, 246, 249] := by rcases kk with w | w <;> rw [w] <;> decide
  have x1 : hI (cc h C X Y) f_Thing_size (hB h (C + 51) k) = hI h f_Thing_size (hB h (C + 51) k) := ccIo (by decide)
  have kb : ∀ {A : Prop}, A → (hK h (hB h (C + 51) k) = k_Obj → A) ∧ (¬ hK h (hB h (C + 51) k) = k_Obj → ((hK h (hB h (C + 51) k) = k_Fun → A) ∧ (¬ hK h (hB h (C + 51) k) = k_Fun → False))) := fun p => ⟨fun _ => p, fun z => ⟨fun _ => p, fun z2 => (kk.elim z z2).elim⟩⟩
  have q2' : ¬ X 53 f_Found_action 0 = 1 → hI h f_Thing_size (hB h (C + 51) k) = 64 → wpB PGm ρ (d + 10) m_Heap_full 0 [(0, vR (C + 50))] [] (cc h C X Y) (cR (fun x43 h38 => hK h38 x43 ≠ 0 ∧ Q (Sum.inr x43) h38) (fun e41 h40 => hK h40 e41 ≠ 0 ∧ Q (Sum.inr e41) h40)) := fun w1 w2 => r_full (d := d + 9) G F (q2 w1 w2)
  have gob : wpB PGm ρ (d + 10) m_Machine_objectOf 0 [(0, vR (C + 32)), (1, vI (X o f_Task_tags m0)), (2, vL (X o f_Task_words m0))] [] (cc h C X Y) (cR (fun x12 h7 => hK h7 (C + 32) = k_Machine ∧ hK h7 (hR h7 f_Machine_found (C + 32)) = k_Found ∧ ((¬ (hI h7 f_Found_action (hR h7 f_Machine_found (C + 32))) = 1 → hK h7 x12 ∈ [244, 245, 246, 249] ∧ ((¬ (hI h7 f_Thing_size x12) = 64 → hK h7 (hR h7 f_Machine_t (C + 32)) = k_Task ∧ (hK h7 (hR h7 f_Task_tags (hR h7 f_Machine_t (C + 32))) ∈ [3, 4, 13] ∧ 0 ≤ ((n - 1 : Nat) : Int) ∧ ((n - 1 : Nat) : Int) < (hl h7 (hR h7 f_Task_tags (hR h7 f_Machine_t (C + 32))) : Int)) ∧ (hK h7 (hR h7 f_Task_words (hR h7 f_Machine_t (C + 32))) ∈ [2] ∧ 0 ≤ ((n - 1 : Nat) : Int) ∧ ((n - 1 : Nat) : Int) < (hl h7 (hR h7 f_Task_words (hR h7 f_Machine_t (C + 32))) : Int)) ∧ hK h7 (hR h7 f_Machine_heap (C + 32)) = k_Heap ∧ wpB PGm ρ (d + 10) m_Heap_addProperty 0 [(0, vR (hR h7 f_Machine_heap (C + 32))), (1, vR x12), (2, vR (hR h7 f_Found_to (hR h7 f_Machine_found (C + 32)))), (3, vI (hA h7 (hR h7 f_Task_tags (hR h7 f_Machine_t (C + 32))) (((n - 1 : Nat) : Int)).toNat)), (4, vL (hA h7 (hR h7 f_Task_words (hR h7 f_Machine_t (C + 32))) (((n - 1 : Nat) : Int)).toNat))] [] h7 (cV (fun h31 => wpB PGm ρ (d + 10 + 1) m_Machine_write 116 [(0, vR (C + 32)), (1, vI (m0 : Int)), (2, vI ((n - 1 : Nat) : Int))] [] h31 Q) (fun e34 h33 => hK h33 e34 ≠ 0 ∧ Q (Sum.inr e34) h33))) ∧ ((hI h7 f_Thing_size x12) = 64 → hK h7 (hR h7 f_Machine_heap (C + 32)) = k_Heap ∧ wpB PGm ρ (d + 10) m_Heap_full 0 [(0, vR (hR h7 f_Machine_heap (C + 32)))] [] h7 (cR (fun x43 h38 => hK h38 x43 ≠ 0 ∧ Q (Sum.inr x43) h38) (fun e41 h40 => hK h40 e41 ≠ 0 ∧ Q (Sum.inr e41) h40))))) ∧ ((hI h7 f_Found_action (hR h7 f_Machine_found (C + 32))) = 1 → hK h7 (hR h7 f_Machine_t (C + 32)) = k_Task ∧ (hK h7 (hR h7 f_Task_tags (hR h7 f_Machine_t (C + 32))) ∈ [3, 4, 13] ∧ 0 ≤ ((n - 1 : Nat) : Int) ∧ ((n - 1 : Nat) : Int) < (hl h7 (hR h7 f_Task_tags (hR h7 f_Machine_t (C + 32))) : Int)) ∧ (hK h7 (hR h7 f_Task_words (hR h7 f_Machine_t (C + 32))) ∈ [2] ∧ 0 ≤ ((n - 1 : Nat) : Int) ∧ ((n - 1 : Nat) : Int) < (hl h7 (hR h7 f_Task_words (hR h7 f_Machine_t (C + 32))) : Int)) ∧ let K51 : QT := cV (fun h46 => wpB PGm ρ (d + 10 + 1) m_Machine_write 116 [(0, vR (C + 32)), (1, vI (m0 : Int)), (2, vI ((n - 1 : Nat) : Int))] [] h46 Q) (fun e49 h48 => hK h48 e49 ≠ 0 ∧ Q (Sum.inr e49) h48)
((hK h7 x12 = k_Obj → wpB PGm ρ (d + 10) m_Thing_set 0 [(0, vR x12), (1, vI (hI h7 f_Found_place (hR h7 f_Machine_found (C + 32)))), (2, vI (hA h7 (hR h7 f_Task_tags (hR h7 f_Machine_t (C + 32))) (((n - 1 : Nat) : Int)).toNat)), (3, vL (hA h7 (hR h7 f_Task_words (hR h7 f_Machine_t (C + 32))) (((n - 1 : Nat) : Int)).toNat))] [] h7 K51) ∧ (¬ hK h7 x12 = k_Obj → ((hK h7 x12 = k_Fun → wpB PGm ρ (d + 10) m_Thing_set 0 [(0, vR x12), (1, vI (hI h7 f_Found_place (hR h7 f_Machine_found (C + 32)))), (2, vI (hA h7 (hR h7 f_Task_tags (hR h7 f_Machine_t (C + 32))) (((n - 1 : Nat) : Int)).toNat)), (3, vL (hA h7 (hR h7 f_Task_words (hR h7 f_Machine_t (C + 32))) (((n - 1 : Nat) : Int)).toNat))] [] h7 K51) ∧ (¬ hK h7 x12 = k_Fun → False))))))) (fun e10 h9 => hK h9 e10 ≠ 0 ∧ Q (Sum.inr e10) h9)) := by
    refine r_objectOf G F (by omega) d3 d6 (fun w => ⟨by rw [wk]; omega, by rw [wk]; omega, by rw [wk, Int.toNat_natCast]; rcases kk with w | w <;> rw [w] <;> decide⟩) ?_
    have eo : obA h C (X o f_Task_tags m0) (X o f_Task_words m0) = hB h (C + 51) k := by
      unfold obA
      rw [if_pos (by rw [tk]; exact gt), wk, Int.toNat_natCast]
    rw [eo]
    have f1 := F.t ht
    unfold FCt at f1
    have f2 := F
    unfold FC at f2
    show _ ∧ _
    simp (decide := true) only [ccI, ccR, ccRo, ccK, ccl, ccA G, ccAt G ht, KC G, KCt G ht, f1, f2, e1, x1, Int.toNat_natCast, true_and, and_true]
    exact ⟨fun w1 => ⟨km, fun w2 => ⟨b1, b1, q3 w1 w2⟩, q2' w1⟩, fun w1 => ⟨b1, b1, kb (q1 w1)⟩⟩
  clear q1 q2 q3 q2' d7 d8
  refine b_Machine_write_0 (d := d + 10) ?_
  have f1 := F.t ht
  unfold FCt at f1
  have f2 := F
  unfold FC at f2
  simp (decide := true) only [ccI, ccR, ccRo, ccK, ccl, ccA G, ccAt G ht, KC G, KCt G ht, f1, f2, e1, true_and, and_true]
  exact ⟨b2, b2, gob⟩
end
