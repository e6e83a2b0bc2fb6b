/-! OBJECT, FUN: joined -/
set_option maxRecDepth 20000
/-- how both stand after an instruction -/
def RLC (Γ : GH) (h : ah) (C ho : Nat) (X : X3) (Y : Y3) (S : SS) (N : Nat) (e : Option Int) (S' : SS) (h' : ah) (X' : X3) (Y' : Y3) : Prop := ∃ Γ' z s, CORE Γ' h' C ho X' Y' S' N ∧ GRO Γ Γ' h h' C S S' ∧ NSc S S' ∧ NXc X X' ∧ NYc Y Y' ∧ Fr LHc [] z s h h' ∧ BND h C S h' S' 1 8 ∧ ER e X' S'
def OPE (ρ : Nat → Nat) (P : ah → Nat → Prop) (Γ : GH) (h : ah) (C ho : Nat) (X : X3) (Y : Y3) (S : SS) (N : Nat) (op a b : Int) : Prop := ∃ e S', TRUN ρ P S e S' ∧ ∀ d Q, (∀ h' X' Y', RLC Γ h C ho X Y S N e S' h' X' Y' → Q (oE e (C + 33)) (cc h' C X' Y')) → wpB PGm ρ (d + 60) m_Machine_instruct 0 [(0, vR (C + 32)), (1, vI op), (2, vI a), (3, vI b)] [] (cc h C X Y) Q
section
variable {ρ : Nat → Nat} {P : ah → Nat → Prop} {d : Nat} {Q : QT} {Γ Γ' : GH} {h h' h1 : ah} {C ho : Nat} {X X' X1 X2 : X3} {Y Y' : Y3} {S S' S1 S2 : SS} {N t o n c r f i j k m z s l tn mk n' pu po : Nat} {L : List Nat} {Pp : List (Nat × Nat)} {ty v x y op a b kd : Int}
theorem OPC.e (A : OPC ρ P Γ h C ho X Y S N op a b) : OPE ρ P Γ h C ho X Y S N op a b := by
  obtain ⟨e, Γ', h', X', Y', S', z, s, A1, A2, A3, A4, A5, A6, A7, A8, A9, A10⟩ := A
  exact ⟨e, S', A10, fun d Q q => A9 d Q (q h' X' Y' ⟨Γ', z, s, A1, A2, A3, A4, A5, A6, A7, A8⟩)⟩
/-- rows beside the tasks change, then the task goes on -/
theorem RLC.fin (H : OPH Γ h C X Y S N t o n c r) (nx : NXT Γ S (fsS S t (c - 1)) (psS S t (c - 1)) pu po 0 0) (M1 : CORE Γ' h1 C ho X1 Y S1 N) (K1 : CT Γ' h1 C X1 Y S1 N t o n c r) (g : GRO Γ Γ' h h1 C S S1) (e0 : EXS (LTK ++ [f_Md_t, f_Md_p0, f_Md_f0, f_Md_top, f_Md_after, f_Md_codeSize]) S S1) (nsc : NSc S S1) (nxc : NXc X X1) (fr : Fr L [] z s h h1) (hL : ∀ f, f ∈ L → f ∈ LHc) (bd : BND h C S h1 S1 1 8) (ns : NSt t S1 S2) (es : EXS LS8 S1 S2) (ex : EXX LX8 X1 X2) (nxo : NXo o X1 X2) (z1 : X2 o f_Task_size 0 = (n' : Int)) (z2 : S2 f_Md_height t = (n' : Int)) (z3 : n' ≤ 2000) (zn : n' + po = n + pu) (pl : PIL Γ' X2 S2 N o t n') : RLC Γ h C ho X Y S N none (atS S2 t c ((psS S t (c - 1) + 1 : Nat) : Int)) h1 (goX X2 o c) Y := by
  have w : ∀ f, (LTK ++ [f_Md_t, f_Md_p0, f_Md_f0, f_Md_top, f_Md_after, f_Md_codeSize]).elem f = true → ∀ i, S1 f i = S f i := e0
  have ef : fsS S1 t (c - 1) = fsS S t (c - 1) := by unfold fsS; rw [w _ (by decide)]
  have ep : psS S1 t (c - 1) = psS S t (c - 1) := by unfold psS; rw [w _ (by decide)]
  have aT : AT S1 t c := by
    obtain ⟨t1, t2, t3, t4, t5⟩ := H.2.2.2.2.2.2
    exact ⟨by rw [w _ (by decide)]; exact t1, by rw [w _ (by decide)]; exact t2, by rw [w _ (by decide)]; exact t3, by rw [w _ (by decide)]; exact t4, by rw [w _ (by decide), ep]; exact t5⟩
  have H1 := M1.oph K1 H.2.2.2.1 H.2.2.2.2.2.1 aT
  have fl := (H.2.2.1.2.2.2.2.2.2.1 (c - 1) (by have := H.2.2.2.1; omega)).1.2.1
  obtain ⟨-, -, g3, g4, -⟩ := g.1.2 _ fl
  have nx1 : NXT Γ' S1 (fsS S1 t (c - 1)) (psS S1 t (c - 1)) pu po 0 0 := by
    rw [ef, ep]; unfold NXT at nx ⊢; rw [w _ (by decide), g3, g4]; exact nx
  obtain ⟨A, B⟩ := CT.nxt (n' := n') (S1 := S2) (X1 := X2) H1 nx1 ns es ex z1 z2 z3 zn pl
  rw [ep] at A B
  exact ⟨Γ', z, s, M1.task K1.1 A B (go_nx nxo), g.tr (GRO.nst B), fun f i hf => (B.co f i hf).trans (nsc f i hf), fun a' f i hf => ((go_nx nxo).co a' f i hf).trans (nxc a' f i hf), fun _ _ _ _ => rfl, fr.mono hL (fun q hq => by cases hq), (bd.tr (BND.rows (B.ex (by decide)))).le (by decide) (by decide), trivial⟩
theorem GRO.th (es : EXS [f_Md_functions, f_Md_codeSize, f_Md_calls, f_Md_sourceTexts, f_Md_madeTexts, f_Md_textFrom, f_Md_textLength, f_Md_textSigns] S S') (G : AC h C) (F : FC h C) (fr : Fr L Pp z s h h') (d1 : DJ [f_Machine_functions, f_Machine_functions + 1] L Pp) (p0 : ∀ y, (0, y) ∉ Pp) (t1 : S f_Md_things 0 ≤ S' f_Md_things 0) (t2 : ∀ i : Nat, (i : Int) < S f_Md_things 0 → S' f_Md_thingKind i = S f_Md_thingKind i ∧ hB h' (C + 51) i = hB h (C + 51) i) : GRO Γ Γ h h' C S S' := by
  have g1 := G.1
  have s56 : sameArr h h' (C + 56) := fr.ar G.2.1 (f := f_Machine_functions) (by unfold own; decide) (x := C + 32) (by omega) F.2.1.2.2.2.2.2.2.2.1 (by omega) (fun c => c.elim (d1.w (by decide)) (d1.w (by decide))) (p0 _)
  refine ⟨⟨?_, fun i _ => ⟨?_, s56.2.2 i, rfl, rfl, rfl⟩⟩, ⟨?_, fun _ _ => ⟨rfl, rfl⟩⟩, ⟨t1, t2⟩, ?_, ?_, fun _ _ => rfl, fun x _ => ⟨es _ (by decide) x, es _ (by decide) x⟩, fun j _ => es _ (by decide) j⟩
  · rw [es _ (by decide)]; exact Int.le_refl _
  · rw [es _ (by decide)]
  · rw [es _ (by decide)]; exact Int.le_refl _
  · rw [es _ (by decide)]; exact Int.le_refl _
  · rw [es _ (by decide)]; exact Int.le_refl _
theorem exs_of {L M : List Nat} (o0 : ∀ f i, M.elem f = false → S1 f i = S f i) (q : L.all (fun f => !(M.elem f)) = true) : EXS L S S1 := fun f hf i => o0 f i (by
  have := List.all_eq_true.mp q f (by simpa using hf)
  simpa using this)
theorem exx_of {L M : List Nat} (o0 : ∀ o f i, M.elem f = false → X1 o f i = X o f i) (q : L.all (fun f => !(M.elem f)) = true) : EXX L X X1 := fun f hf o i => o0 o f i (by
  have := List.all_eq_true.mp q f (by simpa using hf)
  simpa using this)
theorem cpL4 (G : AC h C) (F : FC h C) (fr : Fr L Pp z s h h') (d : DJ [f_Heap_shapes, f_Heap_shapes + 1, f_Machine_functions, f_Machine_functions + 1, f_Machine_sites, f_Machine_sites + 1, f_Machine_descriptors, f_Machine_descriptors + 1] L Pp) (p0 : ∀ y, (0, y) ∉ Pp) : hI h' 2 (C + 52) = hI h 2 (C + 52) ∧ hI h' 2 (C + 56) = hI h 2 (C + 56) ∧ hI h' 2 (C + 57) = hI h 2 (C + 57) ∧ hI h' 2 (C + 58) = hI h 2 (C + 58) := by
  have g1 := G.1
  have c := fun {f x y : Nat} (ho : own f) (hx : x < hz h) (e : hR h f x = y) (h0 : y ≠ 0) (hn : ¬ okC L Pp f x) => fr.arC G.2.1 ho hx e h0 hn (p0 y)
  exact ⟨c (f := f_Heap_shapes) (x := C + 50) (by unfold own; decide) (by omega) F.2.2.1.2.2.1 (by omega) (fun q => q.elim (d.w (by decide)) (d.w (by decide))), c (f := f_Machine_functions) (x := C + 32) (by unfold own; decide) (by omega) F.2.1.2.2.2.2.2.2.2.1 (by omega) (fun q => q.elim (d.w (by decide)) (d.w (by decide))), c (f := f_Machine_sites) (x := C + 32) (by unfold own; decide) (by omega) F.2.1.2.2.2.2.2.2.2.2.1 (by omega) (fun q => q.elim (d.w (by decide)) (d.w (by decide))), c (f := f_Machine_descriptors) (x := C + 32) (by unfold own; decide) (by omega) F.2.1.2.2.2.2.2.2.2.2.2.1 (by omega) (fun q => q.elim (d.w (by decide)) (d.w (by decide)))⟩
/-- a thing more, with room for l and m values -/
theorem CHG.th (et : S f_Md_things 0 = (tn : Int)) (o2 : S1 f_Md_things 0 = ((tn + 1 : Nat) : Int)) (e : EXS [f_Md_changes, f_Md_shapes, f_Md_shapeProto, f_Md_shapeBefore, f_Md_shapeName, f_Md_shapeCount, f_lay] S S1) (o1 : ∀ f k, LTT.elem f = true → k ≠ tn → S1 f k = S f k) (n7 : S1 f_Md_thingKind tn = 7 → S1 f_Md_thingCount tn = S1 f_lay (S1 f_Md_thingClass tn).toNat) : CHG S S1 := ⟨by rw [e _ (by decide)]; exact Int.le_refl _, ⟨by rw [e _ (by decide)]; exact Int.le_refl _, fun s _ f hf => e f (by
  have : f = f_Md_shapeProto ∨ f = f_Md_shapeBefore ∨ f = f_Md_shapeName ∨ f = f_Md_shapeCount := by simpa using hf
  rcases this with rfl | rfl | rfl | rfl <;> decide) s⟩, by rw [et, o2]; omega, fun k hk w => by
  have ne : k ≠ tn := by omega
  exact ⟨by rw [o1 _ k (by decide) ne]; exact w, Or.inl ⟨o1 _ k (by decide) ne, o1 _ k (by decide) ne⟩⟩, ⟨fun k hk => by
  have ne : k ≠ tn := by omega
  exact ⟨o1 _ k (by decide) ne, fun _ => ⟨o1 _ k (by decide) ne, o1 _ k (by decide) ne⟩⟩, fun k h1 h2 w => by
  have ne : k = tn := by omega
  rw [ne] at w ⊢
  exact n7 w, fun c => e _ (by decide) c⟩⟩
theorem BND.thing {zz ss : Nat} (G : AC h C) (F : FC h C) (T : THK h C (S f_Md_things 0).toNat) (R1 : Fr (LCC ++ [f_Heap_things + 1]) [] z s h h1) (kp : KEP C h h1 zz ss) (eB : ∀ i, i < tn → hB h1 (C + 51) i = hB h (C + 51) i) (et : S f_Md_things 0 = (tn : Int)) (o2 : S1 f_Md_things 0 = ((tn + 1 : Nat) : Int)) (o3 : S1 f_Md_allMade 0 = S f_Md_allMade 0 + 1) (o4 : S1 f_Md_allShapes 0 = S f_Md_allShapes 0) (o5 : S1 f_Md_allSlots 0 = S f_Md_allSlots 0 + m) (o6 : S1 f_Md_slots 0 = S f_Md_slots 0 + m) (o7 : S1 f_Md_changes 0 = S f_Md_changes 0) (o8 : S1 f_Md_allChoices 0 = S f_Md_allChoices 0) (ec : hl h1 (hR h1 f_Thing_words (hB h1 (C + 51) tn)) = l) (hzz : zz ≤ 6) (hss : ss ≤ 28 + 4 * l + 4 * m) (ch : CHG S S1) : BND h C S h1 S1 0 0 := by
  have a1 := fun φ => sumA_e (φ := φ) (lnA_fr G R1 (by unfold DJ; decide))
  obtain ⟨c2, c3, c4, c5⟩ := cpL4 G F R1 (by unfold DJ; decide) (by simp)
  rw [et, Int.toNat_natCast] at T
  have c6 := cpT_fr T eB R1 (by unfold DJ; decide)
  obtain ⟨k1, k2⟩ := kp
  have c7 : cpT h1 C (tn + 1) = cpT h1 C tn + (hl h1 (hR h1 f_Thing_words (hB h1 (C + 51) tn)) : Int) := rfl
  have c8 := mcp_fr G F R1 (by unfold DJ; decide) (by simp)
  unfold BND WZ WS cpL
  rw [o2, o3, o4, o5, o6, et, Int.toNat_natCast, Int.toNat_natCast, a1, a1, c2, c3, c4, c5, c7, c6, ec, o7, o8, c8]
  exact ⟨by omega, by omega, by omega, ch, fun s _ => (R1.ar G.2.1 (f := f_Heap_shapes) (by unfold own; decide) (x := C + 50) (by have := G.1; omega) F.2.2.1.2.2.1 (by omega) (fun c => c.elim ((show DJ [f_Heap_shapes] (LCC ++ [f_Heap_things + 1]) [] by unfold DJ; decide).w (by decide)) ((show DJ [f_Heap_shapes + 1] (LCC ++ [f_Heap_things + 1]) [] by unfold DJ; decide).w (by decide))) (by simp)).2.2 s⟩
theorem BND.thing5 {zz ss : Nat} (G : AC h C) (F : FC h C) (T : THK h C (S f_Md_things 0).toNat) (R1 : Fr (LCC ++ [f_Heap_things + 1]) [] z s h h1) (kp : KEP C h h1 zz ss) (eB : ∀ i, i < tn → hB h1 (C + 51) i = hB h (C + 51) i) (et : S f_Md_things 0 = (tn : Int)) (o2 : S1 f_Md_things 0 = ((tn + 1 : Nat) : Int)) (o3 : S1 f_Md_allMade 0 = S f_Md_allMade 0 + 1) (o4 : S1 f_Md_allShapes 0 = S f_Md_allShapes 0) (o5 : S1 f_Md_allSlots 0 = S f_Md_allSlots 0 + m) (o6 : S1 f_Md_slots 0 = S f_Md_slots 0 + m) (o7 : S1 f_Md_changes 0 = S f_Md_changes 0) (o8 : S1 f_Md_allChoices 0 = S f_Md_allChoices 0) (ec : hl h1 (hR h1 f_Thing_words (hB h1 (C + 51) tn)) = l) : (hz h1 : Int) - WZ h1 C S1 + 6 ≤ (hz h : Int) - WZ h C S + zz ∧ (hs h1 : Int) - WS h1 C S1 + 28 + 4 * l + 4 * m ≤ (hs h : Int) - WS h C S + ss := by
  have a1 := fun φ => sumA_e (φ := φ) (lnA_fr G R1 (by unfold DJ; decide))
  obtain ⟨c2, c3, c4, c5⟩ := cpL4 G F R1 (by unfold DJ; decide) (by simp)
  rw [et, Int.toNat_natCast] at T
  have c6 := cpT_fr T eB R1 (by unfold DJ; decide)
  obtain ⟨k1, k2⟩ := kp
  have c7 : cpT h1 C (tn + 1) = cpT h1 C tn + (hl h1 (hR h1 f_Thing_words (hB h1 (C + 51) tn)) : Int) := rfl
  have c8 := mcp_fr G F R1 (by unfold DJ; decide) (by simp)
  unfold WZ WS cpL
  rw [o2, o3, o4, o5, o6, et, Int.toNat_natCast, Int.toNat_natCast, a1, a1, c2, c3, c4, c5, c7, c6, ec, o8, c8]
  exact ⟨by omega, by omega⟩
/-- what was taken ahead of a thing is paid with it -/
theorem BND.made {kz ks : Int} (A : BND h C S h1 S1 kz ks) (b : BND h1 C S1 h' S' 0 0) (e : (hz h' : Int) - WZ h' C S' + 5 ≤ (hz h1 : Int) - WZ h1 C S1 ∧ (hs h' : Int) - WS h' C S' + 28 ≤ (hs h1 : Int) - WS h1 C S1) (c : S1 f_Md_changes 0 ≤ S f_Md_changes 0) (q1 : kz ≤ 5) (q2 : ks ≤ 28) : BND h C S h' S' 0 0 := by
  obtain ⟨a1, a2, a3, a4, a5⟩ := A
  obtain ⟨b1, b2, b3, b4, b5⟩ := b
  exact ⟨by omega, by omega, by omega, a4.tr b4, fun s hs => (b5 s (by have := a4.2.1.1; omega)).trans (a5 s hs)⟩
theorem RLC.mkt (HC : CORE Γ h C ho X Y S N) (H : OPH Γ h C X Y S N t o n c r) (nx : NXT Γ S (fsS S t (c - 1)) (psS S t (c - 1)) 1 0 0 0) (hn : n < 2000) (hm : mk + 1 ≤ 8000) (e1 : X 50 f_Heap_made 0 = (mk : Int)) (et : S f_Md_things 0 = (tn : Int)) (hk : kd = 4 ∨ kd = 5) (o0 : ∀ f i, LNT.elem f = false → S1 f i = S f i) (o1 : ∀ f k, LTT.elem f = true → k ≠ tn → S1 f k = S f k) (o2 : S1 f_Md_things 0 = ((tn + 1 : Nat) : Int)) (o3 : S1 f_Md_allMade 0 = ((mk + 1 : Nat) : Int)) (k1 : S1 f_Md_thingKind tn = kd) (k2 : S1 f_Md_thingShape tn = 0) (k3 : S1 f_Md_thingCount tn = 0) (k4 : S1 f_Md_isWatched tn = 0) (k5 : S1 f_Md_epoch tn = 0) (k6 : S1 f_Md_changedAt tn = 0) (k7 : S1 f_Md_thingClass tn = -1) (G1 : AC h1 C) (F1 : FC h1 C) (R1 : Fr (LCC ++ [f_Heap_things + 1]) [] z s h h1) (kp : KEP C h h1 4 20) (B : NOB C h h1 tn (hz h) (kdK kd) (hB h (C + 52) 0))
    (k9 : ((kd ≠ 5 ∧ S1 f_Md_thingFunction tn = -1) ∨ (kd = 5 ∧ 0 ≤ S1 f_Md_thingFunction tn ∧ S1 f_Md_thingFunction tn < S1 f_Md_functions 0 ∧ hR h1 f_Fun_code (hz h) = hB h1 (C + 56) (S1 f_Md_thingFunction tn).toNat ∧ 0 ≤ S1 f_Md_thingAround tn ∧ S1 f_Md_thingAround tn < S1 f_Md_calls 0 ∧ hR h1 f_Fun_around (hz h) = gva Γ (S1 f_Md_thingAround tn).toNat ∧ gcf Γ (S1 f_Md_thingAround tn).toNat = gou Γ (S1 f_Md_thingFunction tn).toNat ∧ gou Γ (S1 f_Md_thingFunction tn).toNat ≠ (S1 f_Md_thingFunction tn).toNat))) : RLC Γ h C ho X Y S N none (atS (pshS S1 t n kd (tn : Int)) t c ((psS S t (c - 1) + 1 : Nat) : Int)) h1 (goX (pshX (u3 X 50 f_Heap_made 0 ((mk + 1 : Nat) : Int)) o n kd (tn : Int)) o c) Y := by
  have G := H.1
  have F := H.2.1
  have HC0 := HC
  obtain ⟨-, -, -, -, q2', q3, q4, q5, q6, q7, q8⟩ := HC
  have eB : ∀ i, i < tn → hB h1 (C + 51) i = hB h (C + 51) i := fun i hi => by rw [B.2.1, if_neg (by omega)]
  have g : GRO Γ Γ h h1 C S S1 := GRO.th (exs_of o0 (by decide)) G F R1 (by unfold DJ; decide) (by simp) (by omega) (fun i hi => ⟨o1 _ _ (by decide) (by omega), eB i (by omega)⟩)
  have x0 : ∀ o f i, [f_Heap_made].elem f = false → u3 X 50 f_Heap_made 0 ((mk + 1 : Nat) : Int) o f i = X o f i := fun o f i hf => u3_f (by rintro rfl; revert hf; decide)
  have ch : 0 ≤ S f_Md_changes 0 := by obtain ⟨mk, rm, sm, tk, ck, sk, vk, hk, gk, -, -, -, -, -, -, m1, -⟩ := q6; omega
  have kt : THC Γ h1 C ho S1 N := q7.add G F g R1 (by unfold DJ; decide) (by unfold DJ; decide) (by simp) (fun i _ => q8.eq G.2.1 R1 (by unfold DJ; decide) (by simp) i) et o2 (by obtain ⟨mk0, rm, sm, tk, ck, sk, vk, hk, gk, m1, -, -, m4, -⟩ := q6; omega) B.1 eB (fun k hk f hf => o1 f k hf (by omega)) (fun i _ f hf => exs_of (L := LSL) o0 (by decide) f hf i) (Int.le_of_eq (o0 _ _ (by decide)).symm) (exs_of o0 (by decide)) (Int.le_of_eq (o0 _ _ (by decide)).symm) (fun sn _ hsn w1 w2 w3 => TH1.nob B hk hsn w1 w2 w3 k1 k2 k3 k4 k5 k6 k7 (by rw [o0 _ _ (by decide)]; exact ch) k9) (fun i hi => by omega) (fun i i' hi _ => by omega)
  have km : MEM (u3 X 50 f_Heap_made 0 ((mk + 1 : Nat) : Int)) S1 := q6.thing e1 hm et u3_s (exx_of x0 (by decide)) o2 o3 (exs_of o0 (by decide))
  obtain ⟨M1, M2⟩ := HC0.mv (S' := S1) (X' := u3 X 50 f_Heap_made 0 ((mk + 1 : Nat) : Int)) R1 g (exs_of o0 (by decide)) (exx_of x0 (by decide)) (by simp) (by unfold DJ; decide) (by unfold DJ; decide) (by unfold DJ; decide) (by unfold DJ; decide) (exs_of o0 (by decide)) (Int.le_of_eq (o0 _ _ (by decide)).symm) (q2'.ext g (exs_of o0 (by decide)) (exx_of x0 (by decide)) (ac_len G R1 (by decide) (by unfold DJ; decide)) (ac_len G R1 (by decide) (by unfold DJ; decide)) (ac_len G R1 (by decide) (by unfold DJ; decide))) (q3.ext (C := C) G.2.1 g (exs_of o0 (by decide)) R1 (by unfold DJ; decide) (by unfold DJ; decide) (by simp)) (q4.ext g (exs_of o0 (by decide)) (exx_of x0 (by decide)) (ac_len G R1 (by decide) (by unfold DJ; decide)) (ac_len G R1 (by decide) (by unfold DJ; decide)) (ac_len G R1 (by decide) (by unfold DJ; decide))) (q5.ext (exs_of o0 (by decide)) (exx_of x0 (by decide)) (ac_len G R1 (by decide) (by unfold DJ; decide)) (ac_len G R1 (by decide) (by unfold DJ; decide)) (ac_len G R1 (by decide) (by unfold DJ; decide))) km kt (by unfold DJ; decide)
  have bd : BND h C S h1 S1 1 8 := by
    obtain ⟨mk0, rm, sm, tk, ck, sk, vk, hk, gk, m1, -⟩ := q6
    exact (BND.thing (m := 0) (l := 0) G F (q7.thk G) R1 kp eB et o2 (by omega) (o0 _ _ (by decide)) (by rw [o0 _ _ (by decide)]; omega) (by rw [o0 _ _ (by decide)]; omega) (o0 _ _ (by decide)) (o0 _ _ (by decide)) (by rw [B.2.1, if_pos rfl]; exact B.2.2.2.2.2.2.1.2.2.2.2.2) (by decide) (by decide) (CHG.th et o2 (exs_of o0 (by decide)) o1 (fun w => by omega))).le (by decide) (by decide)
  have K1 := M2 H.2.2.1
  have V : VR Γ S1 N kd (tn : Int) kd (tn : Int) := ⟨rfl, by unfold cw; rw [if_neg (by omega)], Or.inr (Or.inr (Or.inr (Or.inr (Or.inl ⟨by omega, by omega, by omega, by omega, by rw [Int.toNat_natCast]; exact k1⟩))))⟩
  refine RLC.fin (S2 := pshS S1 t n kd (tn : Int)) (X2 := pshX (u3 X 50 f_Heap_made 0 ((mk + 1 : Nat) : Int)) o n kd (tn : Int)) (n' := n + 1) H nx M1 K1 g (exs_of o0 (by decide)) (fun f i hf => o0 f i ?_) (fun a' f i hf => x0 a' f i ?_) R1 (fun f hf => ?_) bd (psh_ns (by omega)) (psh_es (by decide)) (psh_ex (by decide)) psh_nx (by unfold pshX; rw [u3_s]) (by unfold pshS; rw [u2_s]) (by omega) (by omega) (K1.2.2.2.2.2.1.psh (by omega) V)
  · cases q : LNT.elem f with
    | false => rfl
    | true =>
      have : ∀ f, f ∈ LNT → LSc.elem f = true := by
        have : LNT.all (fun f => LSc.elem f) = true := by decide
        exact fun f hf => List.all_eq_true.mp this f hf
      rw [this f (by simpa using q)] at hf; cases hf
  · cases q : [f_Heap_made].elem f with
    | false => rfl
    | true =>
      have : f = f_Heap_made := by simpa using q
      subst this
      revert hf; decide
  · unfold LHc
    simp only [List.mem_append] at hf ⊢
    rcases hf with hf | hf
    · exact Or.inl (Or.inl (Or.inl (Or.inl (Or.inl hf))))
    · refine Or.inl (Or.inr ?_)
      unfold LHH1
      simp only [List.mem_cons, List.not_mem_nil, or_false] at hf ⊢
      simp [hf]
theorem nthS_t (hf : LTT.elem f = true) (hk : k ≠ tn) : nthS S tn mk kd f k = S f k := by
  have nn : f ≠ f_Md_things ∧ f ≠ f_Md_allMade := by constructor <;> (rintro rfl; revert hf; decide)
  unfold nthS
  rw [u2_f nn.2, u2_f nn.1]
  simp only [u2_e, hk, and_false, if_false]
/-- the ends of memory and of the pile -/
theorem OPC.er (HC : CORE Γ h C ho X Y S N) (H : OPH Γ h C X Y S N t o n c r) (hx : ern x) (q1 : CRUN ρ C op a b h X Y (some x) h (erX X x) Y) (q2 : TRUN ρ P S (some x) (erS S x)) : OPC ρ P Γ h C ho X Y S N op a b := (SOP.er H hx q1 q2).q.core HC
theorem OPC.mem (HC : CORE Γ h C ho X Y S N) (H : OPH Γ h C X Y S N t o n c r) (q1 : CRUN ρ C op a b h X Y (some 0) h (erX X 0) Y) (q2 : TRUN ρ P S (some 0) (erS S 99)) : OPC ρ P Γ h C ho X Y S N op a b := ⟨some 0, Γ, h, erX X 0, Y, erS S 99, 0, 0, HC.task H.2.2.1.1 H.2.2.1.er NSt.er NXo.rf.e, GRO.nst (t := t) NSt.er, (NSt.er (t := t)).co, (NXo.rf (o := o)).e.co, fun _ _ _ _ => rfl, Fr.r0, (BND.rows ((NSt.er (t := t)).ex (by decide))).le (by decide) (by decide), ER.mem H.fc, q1, q2⟩
theorem op_OBJECT (hP : ∀ h0 T, P h0 T → TOK h0 T) (HC : CORE Γ h C ho X Y S N) (H : OPH Γ h C X Y S N t o n c r) (O : OPT Γ S (fsS S t (c - 1)) (psS S t (c - 1)) 26 a b) (D : DF S t n c (fsS S t (c - 1)) (psS S t (c - 1)) k 26 a b) : OPE ρ P Γ h C ho X Y S N 26 a b := by
  have nx := O.2.2.2.2.2.2.2.2.2.2.2.2.2.2.2.1 rfl
  obtain ⟨mk, rm, sm, tk, ck, sk, vk, hk, gk, ⟨a1, a2, a3⟩, ⟨b1, b2, b3⟩, -, ⟨d1, -, -, d4⟩, -⟩ := HC.2.2.2.2.2.2.2.2.1
  obtain ⟨tn, sn, c1, c2, c3, c4, c5, c6, -, -, c8, -⟩ := HC.2.2.2.2.2.2.2.2.2.1
  have : tk = tn := by omega
  have hn := D.2.1.2.1
  have sh := (c8 0 (by omega)).1
  by_cases n1 : n = 2000
  · exact (OPC.er (x := 11) HC H (by decide) (fun d Q q => r_OBJECT (d := d + 20) H.ix a1 b1 a3 b3 c3 c6 c4 c5 ⟨sh.1, sh.2.1⟩ (fun w => by omega) (fun _ => q) (fun w => by omega)) (fun d h0 T Q p q => s_OBJECT (d := d + 52) (hP _ _ p) D c1 (by omega) a2 a3 (fun w => by omega) (fun _ => q) (fun w => by omega))).e
  by_cases n2 : mk + 1 ≤ 8000
  · have o0 : ∀ f i, LNT.elem f = false → nobS S tn mk f i = S f i := fun f i hf => by
      unfold nobS
      rw [u2_f (by rintro rfl; revert hf; decide), nthS_o hf]
    have o1 : ∀ f k, LTT.elem f = true → k ≠ tn → nobS S tn mk f k = S f k := fun f k hf hk => by
      unfold nobS
      rw [u2_e, if_neg (fun c => hk c.2), nthS_t hf hk]
    refine ⟨none, _, fun d h0 T Q p q => s_OBJECT (d := d + 52) (hP _ _ p) D c1 (by omega) a2 a3 (fun _ _ => q) (fun w => absurd w n1) (fun _ w => absurd n2 w), fun d Q q => r_OBJECT (d := d + 20) H.ix a1 b1 a3 b3 c3 c6 c4 c5 ⟨sh.1, sh.2.1⟩ (fun _ _ h' z s G1 F1 R1 kp B => ?_) (fun w => absurd w n1) (fun _ w => absurd n2 w)⟩
    refine q _ _ _ (RLC.mkt HC H nx (by omega) n2 a1 c1 (Or.inl rfl) o0 o1 ?_ ?_ ?_ ?_ ?_ ?_ ?_ ?_ ?_ G1 F1 R1 kp B (Or.inl ⟨by decide, ?_⟩))
    all_goals unfold nobS nthS; simp (decide := true) (disch := first | decide | omega) only [u2_f, u2_s]
  · exact (OPC.mem HC H (fun d Q q => r_OBJECT (d := d + 20) H.ix a1 b1 a3 b3 c3 c6 c4 c5 ⟨sh.1, sh.2.1⟩ (fun _ w => absurd w n2) (fun w => absurd w n1) (fun _ _ => q)) (fun d h0 T Q p q => s_OBJECT (d := d + 52) (hP _ _ p) D c1 (by omega) a2 a3 (fun _ w => absurd w n2) (fun w => absurd w n1) (fun _ _ => q))).e
theorem op_FUN (hP : ∀ h0 T, P h0 T → TOK h0 T) (HC : CORE Γ h C ho X Y S N) (H : OPH Γ h C X Y S N t o n c r) (O : OPT Γ S (fsS S t (c - 1)) (psS S t (c - 1)) 24 a b) (D : DF S t n c (fsS S t (c - 1)) (psS S t (c - 1)) k 24 a b) : OPE ρ P Γ h C ho X Y S N 24 a b := by
  obtain ⟨nx, v1, v2, v3, v4⟩ := O.2.2.2.2.2.2.2.2.2.2.2.2.2.1 rfl
  obtain ⟨mk, rm, sm, tk, ck, sk, vk, hk, gk, ⟨a1, a2, a3⟩, ⟨b1, b2, b3⟩, -, ⟨d1, -, -, d4⟩, -⟩ := HC.2.2.2.2.2.2.2.2.1
  obtain ⟨tn, sn, c1, c2, c3, c4, c5, c6, -, -, c8, -⟩ := HC.2.2.2.2.2.2.2.2.2.1
  obtain ⟨fn, f1, f2, f3, f4⟩ := H.2.2.2.2.1
  have : tk = tn := by omega
  have hn := D.2.1.2.1
  have sh := (c8 0 (by omega)).1
  have ea : a = (a.toNat : Int) := by omega
  have hfa : a.toNat < fn := by omega
  have kf := (f4 _ hfa).1
  have F1 := H.2.2.1.2.2.2.2.2.2.1 (c - 1) (by have := H.2.2.2.1; omega)
  obtain ⟨-, -, -, ⟨i10, i11, i12, i13⟩, -⟩ := F1
  by_cases n1 : n = 2000
  · refine (OPC.er (x := 11) HC H (by decide) (fun d Q q => ?_) (fun d h0 T Q p q => s_FUN (d := d + 52) (hP _ _ p) D i10 c1 (by omega) a2 a3 (fun w => by omega) (fun _ => q) (fun w => by omega))).e
    rw [ea]
    exact r_FUN (d := d + 20) H.ix a1 b1 a3 b3 c3 c6 c4 c5 ⟨sh.1, sh.2.1⟩ f3 hfa ⟨kf.1, kf.2.1⟩ (fun w => by omega) (fun _ => q) (fun w => by omega)
  by_cases n2 : mk + 1 ≤ 8000
  · have o0 : ∀ f i, LNT.elem f = false → nfnS S tn mk a (ksS S t (c - 1) : Int) f i = S f i := fun f i hf => by
      unfold nfnS
      rw [u2_f (by rintro rfl; revert hf; decide), u2_f (by rintro rfl; revert hf; decide), u2_f (by rintro rfl; revert hf; decide), nthS_o hf]
    have o1 : ∀ f k, LTT.elem f = true → k ≠ tn → nfnS S tn mk a (ksS S t (c - 1) : Int) f k = S f k := fun f k hf hk => by
      unfold nfnS
      rw [u2_e, if_neg (fun c => hk c.2), u2_e, if_neg (fun c => hk c.2), u2_e, if_neg (fun c => hk c.2), nthS_t hf hk]
    have w1 : nfnS S tn mk a (ksS S t (c - 1) : Int) f_Md_thingFunction tn = a := by unfold nfnS; rw [u2_f (by decide), u2_s]
    have w2 : nfnS S tn mk a (ksS S t (c - 1) : Int) f_Md_thingAround tn = (ksS S t (c - 1) : Int) := by unfold nfnS; rw [u2_s]
    refine ⟨none, _, fun d h0 T Q p q => s_FUN (d := d + 52) (hP _ _ p) D i10 c1 (by omega) a2 a3 (fun _ _ => q) (fun w => absurd w n1) (fun _ w => absurd n2 w), fun d Q q => ?_⟩
    have r := fun q1 => r_FUN (ρ := ρ) (d := d + 20) (Q := Q) (b := b) H.ix a1 b1 a3 b3 c3 c6 c4 c5 ⟨sh.1, sh.2.1⟩ f3 hfa ⟨kf.1, kf.2.1⟩ q1 (fun w => absurd w n1) (fun _ w => absurd n2 w)
    rw [← ea] at r
    refine r (fun _ _ h' z s G1 F1 R1 kp B e1 e2 => ?_)
    have s56 : ∀ i, hB h' (C + 56) i = hB h (C + 56) i := by
      have g1 := H.1.1
      exact (R1.ar H.1.2.1 (f := f_Machine_functions) (by unfold own; decide) (x := C + 32) (by omega) H.2.1.2.1.2.2.2.2.2.2.2.1 (by omega) (nok (by decide) (by decide) rfl rfl) (by simp)).2.2
    refine q _ _ _ (RLC.mkt HC H nx (by omega) n2 a1 c1 (Or.inr rfl) o0 o1 ?_ ?_ ?_ ?_ ?_ ?_ ?_ ?_ ?_ G1 F1 R1 kp B (Or.inr ⟨rfl, by rw [w1]; exact v1, by rw [w1, o0 _ _ (by decide)]; exact v2, by rw [w1, s56]; exact e1, by rw [w2]; omega, by rw [w2, o0 _ _ (by decide)]; exact i11, by rw [w2, Int.toNat_natCast, e2]; exact i12, by rw [w1, w2, Int.toNat_natCast, i13, v3], by rw [w1, v3]; exact fun w => v4 w.symm⟩))
    all_goals unfold nfnS nthS; simp (decide := true) (disch := first | decide | omega) only [u2_f, u2_s]
  · refine (OPC.mem HC H (fun d Q q => ?_) (fun d h0 T Q p q => s_FUN (d := d + 52) (hP _ _ p) D i10 c1 (by omega) a2 a3 (fun _ w => absurd w n2) (fun w => absurd w n1) (fun _ _ => q))).e
    rw [ea]
    exact r_FUN (d := d + 20) H.ix a1 b1 a3 b3 c3 c6 c4 c5 ⟨sh.1, sh.2.1⟩ f3 hfa ⟨kf.1, kf.2.1⟩ (fun _ w => absurd w n2) (fun w => absurd w n1) (fun _ _ => q)
end
