/-! the builtin turn: joined -/
set_option maxRecDepth 20000
section
variable {ρ : Nat → Nat} {P : ah → Nat → Prop} {d : Nat} {Q : QT} {Γ Γ' : GH} {h h0 h1 h' : ah} {C ho T : Nat} {X X' X1 X2 : X3} {Y Y' : Y3} {S S' S1 S2 : SS} {N t o n c r f i j k m z s n' pu po tn w sn sm l1 s0 nn : Nat} {ty v x y op a b p : Int} {L : List Nat}
theorem pshA_id (e1 : S f_Md_pileType (2100 * t + m) = ty) (e2 : S f_Md_pileValue (2100 * t + m) = v) : pshA S t m ty v = u2 S f_Md_height t ((m + 1 : Nat) : Int) := by
  unfold pshA putS
  rw [u2_id (f := f_Md_pileType) (by rw [u2_f (by decide)]; exact e1), u2_id (f := f_Md_pileValue) (by rw [u2_f (by decide)]; exact e2)]
theorem op_TURN (hP : ∀ h0 T, P h0 T → TOK h0 T) (hc : S f_Md_changes 0 + 1 ≤ 1000000) (HC : CORE Γ h C ho X Y S N) (H : OPH Γ h C X Y S N t o n c r) (O : OPT Γ S (fsS S t (c - 1)) (psS S t (c - 1)) 28 3 b) (D : DF S t n c (fsS S t (c - 1)) (psS S t (c - 1)) k 28 3 b) (hh : n = bsS S t (c - 1) + ghs Γ (fsS S t (c - 1)) (psS S t (c - 1))) : OPF ρ P Γ h C ho X Y S N 28 3 b := by
  obtain ⟨-, -, v1, nx⟩ := O.2.2.2.2.2.2.2.2.2.2.2.2.2.2.2.2.2.1 rfl
  have bw : bwN 3 = 2 := rfl
  rw [bw] at v1 nx
  have d2 := D.2.1
  have n2 : 2 ≤ n := by omega
  have VA := H.pl (i := n - 2) (by omega)
  have VB := H.pl (i := n - 1) (by omega)
  have ⟨A1, AE⟩ := VA.obj HC.2.2.2.2.2.2.2.2.2.1 (h := h) (C := C)
  have ⟨B1, BE⟩ := VB.obj HC.2.2.2.2.2.2.2.2.2.1 (h := h) (C := C)
  obtain ⟨tn, sn, sm, c1, c2, c5, c6', c3, c4, c6, c7, c8, U, m1, m2, m3, m4⟩ := HC.shp
  have wf := prS_wf c1 c7 c8
  have ws : ∀ k : Nat, (k : Int) < S f_Md_things 0 → S f_Md_thingKind k = 4 ∨ S f_Md_thingKind k = 5 → k < 8000 ∧ 0 ≤ S f_Md_thingShape k ∧ S f_Md_thingShape k < 4001 := fun k hk kd => by
    obtain ⟨⟨x1, x2⟩, -⟩ := (c7 k (by omega)).p.2.2.1.1 kd
    exact ⟨by omega, x1, by omega⟩
  have AY : ACY S := by obtain ⟨_, _, _, _, _, _, _, _, _, _, _, _, a⟩ := HC.2.2.2.2.2.2.2.2.2.1; exact a.2
  have I := H.ix
  have G := H.1
  have F := H.2.1
  have V1 : X o f_Task_tags (n - 2) = 4 ∨ X o f_Task_tags (n - 2) = 5 → (0 ≤ X o f_Task_words (n - 2) ∧ X o f_Task_words (n - 2) < (tn : Int) ∧ hK h (hB h (C + 51) (X o f_Task_words (n - 2)).toNat) ∈ [244, 245]) ∧ hB h (C + 51) (X o f_Task_words (n - 2)).toNat ≠ 0 := fun w => by
    obtain ⟨a1, a2, a3, a4, a5, a6⟩ := A1 w
    exact ⟨⟨by omega, by omega, a5⟩, a6⟩
  have V2 : X o f_Task_tags (n - 1) = 4 ∨ X o f_Task_tags (n - 1) = 5 → (0 ≤ X o f_Task_words (n - 1) ∧ X o f_Task_words (n - 1) < (tn : Int) ∧ hK h (hB h (C + 51) (X o f_Task_words (n - 1)).toNat) ∈ [244, 245]) ∧ hB h (C + 51) (X o f_Task_words (n - 1)).toNat ≠ 0 := fun w => by
    obtain ⟨a1, a2, a3, a4, a5, a6⟩ := B1 w
    exact ⟨⟨by omega, by omega, a5⟩, a6⟩
  have kS : ∀ {h' : ah} {X' : X3}, FC h' C → hK (cc h' C X' Y) (C + 33) ≠ 0 := fun {h' X'} F' => by rw [ccK, F'.1.2.1]; decide
  intro d Q q
  have er12 : (∀ d h0 T Q, P h0 T → Q (Sum.inr (hR h0 f_Md_halt T)) (cn h0 T (erS S 12)) → wpB PGm ρ (d + 60) m_Md_does 0 [(0, vR T)] [] (cn h0 T S) Q) → Q (Sum.inr (C + 33)) (cc h C (erX X 12) Y) := fun tr => q (some 12) (erS S 12) _ _ _ tr (RLC.mem (v := 12) (x := 12) H HC H.2.2.1 GRO.rf (BND.rf.le (by decide) (by decide)) (fun _ _ _ => rfl) (fun _ _ _ _ => rfl) (Fr.r0 (L := LHc) (P := [])) (Or.inr ⟨by decide, rfl⟩))
  have es : hR (cc h C X Y) f_Machine_signal (C + 32) = C + 33 := by rw [ccRo (by decide)]; exact F.2.1.1
  refine r_TURN0 I n2 c3 c6 V1 V2 (fun wa wb K K1 K2 => ?_) (fun nw => er12 (fun d h0 T Q pp qq => ?_))
  · obtain ⟨a1, a2, a3, a4, a5, a6⟩ := A1 wa
    -- the thing, and its new prototype
    have ek : ∃ kx : Nat, S f_Md_pileValue (2100 * t + (n - 2)) = (kx : Int) := ⟨(S f_Md_pileValue (2100 * t + (n - 2))).toNat, by omega⟩
    obtain ⟨kx, ek⟩ := ek
    have wx : X o f_Task_words (n - 2) = (kx : Int) := by rw [a1]; exact ek
    have hk : (kx : Int) < S f_Md_things 0 := by omega
    have kd : S f_Md_thingKind kx = 4 ∨ S f_Md_thingKind kx = 5 := by
      rw [ek, Int.toNat_natCast] at a4
      rw [a4]; exact wa
    have eo : obA h C (X o f_Task_tags (n - 2)) (X o f_Task_words (n - 2)) = hB h (C + 51) kx := by
      have : obA h C (X o f_Task_tags (n - 2)) (X o f_Task_words (n - 2)) = hB h (C + 51) (X o f_Task_words (n - 2)).toNat := if_pos wa
      rw [this, wx, Int.toNat_natCast]
    have pe : ∃ p : Int, PVL S p ∧ obA h C (X o f_Task_tags (n - 1)) (X o f_Task_words (n - 1)) = prA h C p ∧ PRX h C S (prA h C p) p ∧ (S f_Md_pileType (2100 * t + (n - 1)) = 0 ∧ p = -1 ∨ (S f_Md_pileType (2100 * t + (n - 1)) = 4 ∨ S f_Md_pileType (2100 * t + (n - 1)) = 5) ∧ S f_Md_pileValue (2100 * t + (n - 1)) = p ∧ 0 ≤ p ∧ p < 8000 ∨ ¬ (S f_Md_pileType (2100 * t + (n - 1)) = 0 ∨ S f_Md_pileType (2100 * t + (n - 1)) = 4 ∨ S f_Md_pileType (2100 * t + (n - 1)) = 5)) := by
      rcases wb with w | w
      · refine ⟨-1, Or.inl rfl, ?_, Or.inl ⟨if_pos (by decide), rfl⟩, Or.inl ⟨by rw [← BE]; exact w, rfl⟩⟩
        have : obA h C (X o f_Task_tags (n - 1)) (X o f_Task_words (n - 1)) = 0 := if_neg (by omega)
        rw [this]; exact (if_pos (by decide)).symm
      · obtain ⟨x1, x2, x3, x4, x5, x6⟩ := B1 w
        have pa : prA h C (S f_Md_pileValue (2100 * t + (n - 1))) = hB h (C + 51) (S f_Md_pileValue (2100 * t + (n - 1))).toNat := if_neg (by omega)
        refine ⟨S f_Md_pileValue (2100 * t + (n - 1)), Or.inr ⟨x2, x3, by rw [x4]; exact w⟩, ?_, Or.inr ⟨(S f_Md_pileValue (2100 * t + (n - 1))).toNat, pa, by omega, by omega, by rw [x4]; exact w⟩, Or.inr (Or.inl ⟨by rw [← BE]; exact w, rfl, x2, by omega⟩)⟩
        have : obA h C (X o f_Task_tags (n - 1)) (X o f_Task_words (n - 1)) = hB h (C + 51) (X o f_Task_words (n - 1)).toNat := if_pos w
        rw [this, pa, x1]
    obtain ⟨p, pv, ep, px, pt⟩ := pe
    have pA : ∃ j, pcS S j p < 0 := by
      rcases pv with e | ⟨e1, e2, e3⟩
      · exact ⟨0, by show p < 0; omega⟩
      · obtain ⟨j, hj⟩ := AY p.toNat (by omega) e3
        exact ⟨j, by rw [show ((p.toNat : Nat) : Int) = p by omega] at hj; exact hj⟩
    have wa' : S f_Md_pileType (2100 * t + (n - 2)) = 4 ∨ S f_Md_pileType (2100 * t + (n - 2)) = 5 := by rw [← AE]; exact wa
    have wb' : S f_Md_pileType (2100 * t + (n - 1)) = 0 ∨ S f_Md_pileType (2100 * t + (n - 1)) = 4 ∨ S f_Md_pileType (2100 * t + (n - 1)) = 5 := by rw [← BE]; exact wb
    have hk8 : kx < 8000 := by omega
    -- T's run down to the walk
    have tr : ∀ (d : Nat) (h0 : ah) (T : Nat) (Q : QT), P h0 T → (∀ K : QT, (∀ S3, TF S3 t n c → S3 f_Md_top 0 = S f_Md_top 0 → S3 f_Md_after 0 = S f_Md_after 0 → Q (Sum.inl none) (cn h0 T (atS (u2 S3 f_Md_height t ((n - 1 : Nat) : Int)) t c ((psS S t (c - 1) + 1 : Nat) : Int))) → K (Sum.inl none) (cn h0 T S3)) → (∀ S3, Q (Sum.inr (hR h0 f_Md_halt T)) (cn h0 T S3) → K (Sum.inr (hR h0 f_Md_halt T)) (cn h0 T S3)) → wpB PGm ρ (d + 55 + 2) m_Md_turns 75 [(0, vR T), (3, vI (kx : Int)), (4, vI p), (5, vI p)] [] (cn h0 T S) K) → wpB PGm ρ (d + 60) m_Md_does 0 [(0, vR T)] [] (cn h0 T S) Q := fun d h0 T Q pp g => s_TURN0 (hP _ _ pp) D n2 (fun K k1 k2 => s_turns (d := d + 55) (hP _ _ pp) (by omega) (by omega) (fun _ => ⟨ek, hk8⟩) pt (fun _ _ => g K k1 k2) (fun z => absurd ⟨wa', wb'⟩ z))
    rw [eo, ep]
    refine b_Machine_turn_43 (r_above HC hk kd (fun hit => ⟨fun z => absurd z (by decide), fun _ => ?_⟩) (fun nhit => ⟨fun _ => ⟨F.1.1, ?_⟩, fun z => absurd rfl z⟩) pv)
    · refine b_Machine_turn_52 ⟨F.1.1, ?_⟩
      rw [es]
      refine ⟨F.1.2.1, r_sigQ G F (K2 _ (kS F) (er12 (fun d h0 T Q pp qq => tr d h0 T Q pp (fun K k1 k2 => ?_))))⟩
      exact s_above (d := d + 55) (hP _ _ pp) pA wf ws pv (fun _ => k2 _ qq) (fun z => absurd hit z)
    · have eH : hR (cc h C X Y) f_Machine_heap (C + 32) = C + 50 := by rw [ccRo (by decide)]; exact F.2.1.2.2.2.2.1
      rw [eH]
      refine ⟨F.1.2.2.2.2.2.1, j_turn (d := d + 51) HC (by omega) hk kd px hc nhit pv (fun S2 h2 X2 B tc => ⟨kS B.1.1.1.2, K2 _ (kS B.1.1.1.2) (q (some 0) (erS S2 99) _ _ _ (fun d h0 T Q pp qq => tr d h0 T Q pp (fun K k1 k2 => ?_)) ?_)⟩) (fun r2 S2 h2 X2 h3 X3 B tc M g bd fr x3 => ?_)⟩
      · exact s_above (d := d + 55) (hP _ _ pp) pA wf ws pv (fun z => absurd z nhit) (fun _ => s_t75 (d := d + 52) (hP _ _ pp) hk8 tc (fun _ _ e => by cases e) (fun S1 e => by cases e; exact k2 _ qq) (fun _ _ e => by cases e))
      · obtain ⟨z2, s2, f2⟩ := B.2.2.2.1
        refine RLC.mem (v := 0) (x := 99) H B.1.1 (B.1.2 H.2.2.1) B.2.1 (B.2.2.1.le (by decide) (by decide)) (fun f i hf => B.2.2.2.2.1 f i ?_) (fun o' f i hf => B.2.2.2.2.2.1 o' f i (by rintro rfl; exact absurd hf (by decide))) f2 (Or.inl ⟨rfl, rfl⟩)
        cases q : LSH.elem f with
        | false => rfl
        | true =>
          have e : LSH.all (fun f => LSc.elem f) = true := by decide
          rw [List.all_eq_true.mp e f (by simpa using q)] at hf; cases hf
      · -- the thing is turned
        have ⟨G3, F3⟩ := M.1.1
        obtain ⟨z2, s2, f2⟩ := B.2.2.2.1
        have g2 := B.2.1.tr g
        have nl : ∀ {f i}, (LSH ++ [f_Md_thingShape, f_Md_epoch, f_Md_changes, f_Md_changedAt]).elem f = false → grwS (u2 S2 f_Md_thingShape kx (r2 : Int)) kx f i = S f i := fun {f i} hf => by
          have nn : ∀ L : List Nat, (L.all fun f => (LSH ++ [f_Md_thingShape, f_Md_epoch, f_Md_changes, f_Md_changedAt]).elem f) = true → L.elem f = false := fun L q => by
            cases w : L.elem f with
            | false => rfl
            | true => rw [List.all_eq_true.mp q f (by simpa using w)] at hf; cases hf
          rw [grwS_o (nn _ (by decide)), u2_f (by rintro rfl; exact absurd hf (by decide)), B.2.2.2.2.1 _ _ (nn _ (by decide))]
        have xe : ∀ o' f i, f ≠ f_Heap_ticks → f ≠ f_Heap_shapesMade → X3 o' f i = X o' f i := fun o' f i h1 h2 => by rw [x3 _ _ _ h1, B.2.2.2.2.2.1 _ _ _ h2]
        have V3 := g2.vr VA
        obtain ⟨tn2, sn2, sm2, t1, t2, t5, t6', t3, t4, t6, t7, t8, -⟩ := B.1.1.shp
        have TD2 := (t7 kx (by have := B.2.2.2.2.1 f_Md_things 0 (by decide); omega)).p.2.2.2
        have ch2 : S2 f_Md_changes 0 = S f_Md_changes 0 := B.2.2.2.2.1 _ _ (by decide)
        have rng : (0 ≤ S2 f_Md_epoch kx ∧ S2 f_Md_epoch kx ≤ 1000000) ∧ (0 ≤ S2 f_Md_changes 0 ∧ S2 f_Md_changes 0 ≤ 1000000) := by
          have := TD2.2.2.2.1; omega
        have TF3 : TF (grwS (u2 S2 f_Md_thingShape kx (r2 : Int)) kx) t n c := by
          obtain ⟨y1, y2, y3, y4, y5⟩ := D.1
          exact ⟨by rw [nl (by decide)]; exact y1, by rw [nl (by decide)]; exact y2, by rw [nl (by decide)]; exact y3, by rw [nl (by decide)]; exact y4, by rw [nl (by decide)]; exact y5⟩
        have fin : Q (Sum.inl none) (cc h3 C (ansX X3 o (n - 2) c (X o f_Task_tags (n - 2)) (X o f_Task_words (n - 2))) Y) := by
          refine q none (atS (u2 (grwS (u2 S2 f_Md_thingShape kx (r2 : Int)) kx) f_Md_height t ((n - 1 : Nat) : Int)) t c ((psS S t (c - 1) + 1 : Nat) : Int)) _ _ _ (fun d h0 T Q pp qq => tr d h0 T Q pp (fun K k1 k2 => ?_)) ?_
          · exact s_above (d := d + 55) (hP _ _ pp) pA wf ws pv (fun z => absurd z nhit) (fun _ => s_t75 (d := d + 52) (hP _ _ pp) hk8 tc (fun r' S' e => by cases e; exact rng) (fun _ e => by cases e) (fun r' S' e => by cases e; exact k1 _ TF3 (nl (by decide)) (nl (by decide)) qq))
          · have en1 : n - 2 + 1 = n - 1 := by omega
            have e := pshA_id (S := grwS (u2 S2 f_Md_thingShape kx (r2 : Int)) kx) (t := t) (m := n - 2) (ty := S f_Md_pileType (2100 * t + (n - 2))) (v := S f_Md_pileValue (2100 * t + (n - 2))) (nl (by decide)) (nl (by decide))
            rw [en1] at e
            rw [← e]
            refine RLC.ans H nx M.1 (M.2 (B.1.2 H.2.2.1)) g2 (fun f hf i => nl ?_) (fun f i hf => nl ?_) (fun o' f i hf => xe o' f i (by rintro rfl; exact absurd hf (by decide)) (by rintro rfl; exact absurd hf (by decide))) (f2.trans fr) ((B.2.2.1.tr bd).le (by decide) (by decide)) V3 (by omega) (by omega)
            · have e : (LTK ++ [f_Md_t, f_Md_p0, f_Md_f0, f_Md_top, f_Md_after, f_Md_codeSize]).all (fun f => !((LSH ++ [f_Md_thingShape, f_Md_epoch, f_Md_changes, f_Md_changedAt]).elem f)) = true := by decide
              simpa using List.all_eq_true.mp e f (by simpa using hf)
            · cases q : (LSH ++ [f_Md_thingShape, f_Md_epoch, f_Md_changes, f_Md_changedAt]).elem f with
              | false => rfl
              | true =>
                have e : (LSH ++ [f_Md_thingShape, f_Md_epoch, f_Md_changes, f_Md_changedAt]).all (fun f => LSc.elem f) = true := by decide
                rw [List.all_eq_true.mp e f (by simpa only [List.elem_eq_mem, decide_eq_true_eq] using q)] at hf; cases hf
        obtain ⟨-, -, ht, ⟨i1, i2, i3⟩, hn, hc1, hc2⟩ := I
        have f1 := F3.t ht
        unfold FCt at f1
        have b1 : 0 ≤ ((n - 2 : Nat) : Int) ∧ ((n - 2 : Nat) : Int) < ((2001 : Nat) : Int) := by omega
        have xa := xe o f_Task_tags (n - 2) (by decide) (by decide)
        have xb := xe o f_Task_words (n - 2) (by decide) (by decide)
        have ga : wpB PGm ρ (d + 57) m_Machine_answer 0 [(0, vR (C + 32)), (1, vI ((n - 2 : Nat) : Int)), (2, vI (X o f_Task_tags (n - 2))), (3, vL (X o f_Task_words (n - 2)))] [] (cc h3 C X3 Y) (cV (fun h26 => K (Sum.inl none) h26) (fun e29 h28 => hK h28 e29 ≠ 0 ∧ K (Sum.inr e29) h28)) := r_answer (d := d + 56) (n := n - 2) (c := c) G3 F3 ht i1 (by rw [xe _ _ _ (by decide) (by decide)]; exact i3) (by omega) ⟨hc1, hc2⟩ (by omega) (K1 _ fin)
        clear fin rng TD2 V3 g2 nl tr q er12 K1 K2
        have f2' := F3
        unfold FC at f2'
        show hK (cc h3 C X3 Y) (C + 32) = k_Machine ∧ _
        simp (decide := true) only [ccI, ccR, ccRo, ccK, ccl, ccA G3, ccAt G3 ht, KC G3, KCt G3 ht, f1, f2', i1, xa, xb, Int.toNat_natCast, true_and, and_true]
        exact ⟨b1, b1, ga⟩
  · refine s_TURN0 (hP _ _ pp) D n2 (fun K k1 k2 => ?_)
    have nw' : ¬ ((S f_Md_pileType (2100 * t + (n - 2)) = 4 ∨ S f_Md_pileType (2100 * t + (n - 2)) = 5) ∧ (S f_Md_pileType (2100 * t + (n - 1)) = 0 ∨ S f_Md_pileType (2100 * t + (n - 1)) = 4 ∨ S f_Md_pileType (2100 * t + (n - 1)) = 5)) := by rw [← AE, ← BE]; exact nw
    by_cases wa : X o f_Task_tags (n - 2) = 4 ∨ X o f_Task_tags (n - 2) = 5
    · obtain ⟨a1, a2, a3, a4, a5, a6⟩ := A1 wa
      have nb : ¬ (S f_Md_pileType (2100 * t + (n - 1)) = 0 ∨ S f_Md_pileType (2100 * t + (n - 1)) = 4 ∨ S f_Md_pileType (2100 * t + (n - 1)) = 5) := fun c => nw' ⟨by rw [← AE]; exact wa, c⟩
      exact s_turns (k := (S f_Md_pileValue (2100 * t + (n - 2))).toNat) (p := -1) (d := d + 55) (hP _ _ pp) (by omega) (by omega) (fun _ => ⟨by omega, by omega⟩) (Or.inr (Or.inr nb)) (fun _ z => absurd z nb) (fun _ => k2 _ qq)
    · have na : ¬ (S f_Md_pileType (2100 * t + (n - 2)) = 4 ∨ S f_Md_pileType (2100 * t + (n - 2)) = 5) := by rw [← AE]; exact wa
      by_cases wb : S f_Md_pileType (2100 * t + (n - 1)) = 0
      · exact s_turns (k := 0) (p := -1) (d := d + 55) (hP _ _ pp) (by omega) (by omega) (fun z => absurd z na) (Or.inl ⟨wb, rfl⟩) (fun z => absurd z na) (fun _ => k2 _ qq)
      · by_cases wc : S f_Md_pileType (2100 * t + (n - 1)) = 4 ∨ S f_Md_pileType (2100 * t + (n - 1)) = 5
        · obtain ⟨x1, x2, x3, x4, x5, x6⟩ := B1 (by rw [BE]; exact wc)
          exact s_turns (k := 0) (d := d + 55) (hP _ _ pp) (by omega) (by omega) (fun z => absurd z na) (Or.inr (Or.inl ⟨wc, rfl, x2, by omega⟩)) (fun z => absurd z na) (fun _ => k2 _ qq)
        · exact s_turns (k := 0) (p := -1) (d := d + 55) (hP _ _ pp) (by omega) (by omega) (fun z => absurd z na) (Or.inr (Or.inr (fun c => c.elim wb wc))) (fun z => absurd z na) (fun _ => k2 _ qq)
end
