/-! C: the builtin turn -/
set_option maxRecDepth 20000
section
variable {ρ : Nat → Nat} {P : ah → Nat → Prop} {d : Nat} {Q : QT} {Γ Γ' : GH} {h h0 h1 h' : ah} {C ho T : Nat} {X X' X1 X2 : X3} {Y Y' : Y3} {S S' S1 S2 : SS} {N t o n c r f i j k m z s n' pu po tn w sn sm l1 s0 nn : Nat} {ty v x y op a b p : Int} {L : List Nat}
theorem r_TURN0 (I : IX h C X Y o n c) (n2 : 2 ≤ n) (c3 : hl h (C + 51) = tn) (c6 : tn ≤ 8000) (V1 : X o f_Task_tags (n - 2) = 4 ∨ X o f_Task_tags (n - 2) = 5 → (0 ≤ X o f_Task_words (n - 2) ∧ X o f_Task_words (n - 2) < (tn : Int) ∧ hK h (hB h (C + 51) (X o f_Task_words (n - 2)).toNat) ∈ [244, 245]) ∧ hB h (C + 51) (X o f_Task_words (n - 2)).toNat ≠ 0) (V2 : X o f_Task_tags (n - 1) = 4 ∨ X o f_Task_tags (n - 1) = 5 → (0 ≤ X o f_Task_words (n - 1) ∧ X o f_Task_words (n - 1) < (tn : Int) ∧ hK h (hB h (C + 51) (X o f_Task_words (n - 1)).toNat) ∈ [244, 245]) ∧ hB h (C + 51) (X o f_Task_words (n - 1)).toNat ≠ 0) (q1 : (X o f_Task_tags (n - 2) = 4 ∨ X o f_Task_tags (n - 2) = 5) → (X o f_Task_tags (n - 1) = 0 ∨ X o f_Task_tags (n - 1) = 4 ∨ X o f_Task_tags (n - 1) = 5) → ∀ K : QT, (∀ h', Q (Sum.inl none) h' → K (Sum.inl none) h') → (∀ h', hK h' (C + 33) ≠ 0 → Q (Sum.inr (C + 33)) h' → K (Sum.inr (C + 33)) h') → wpB PGm ρ (d + 58) m_Machine_turn 43 [(0, vR (C + 32)), (1, vR (obA h C (X o f_Task_tags (n - 2)) (X o f_Task_words (n - 2)))), (2, vI ((n - 2 : Nat) : Int)), (4, vR (obA h C (X o f_Task_tags (n - 1)) (X o f_Task_words (n - 1))))] [] (cc h C X Y) K) (q0 : ¬ ((X o f_Task_tags (n - 2) = 4 ∨ X o f_Task_tags (n - 2) = 5) ∧ (X o f_Task_tags (n - 1) = 0 ∨ X o f_Task_tags (n - 1) = 4 ∨ X o f_Task_tags (n - 1) = 5)) → Q (Sum.inr (C + 33)) (cc h C (erX X 12) Y)) : wpB PGm ρ (d + 60) m_Machine_instruct 0 [(0, vR (C + 32)), (1, vI 28), (2, vI 3), (3, vI b)] [] (cc h C X Y) Q := by
  obtain ⟨G, F, ht, ⟨e1, e2, e3⟩, hn, hc1, hc2⟩ := I
  have kS : hK h (C + 33) ≠ 0 := by rw [F.1.2.1]; decide
  have x1 : n - 2 ≤ 2000000000 := by omega
  have eqn : n - 2 + 1 = n - 1 := by omega
  have w1 : w32 ((n : Int) - ((2 : Nat) : Int)) = ((n - 2 : Nat) : Int) := by
    have e : (n : Int) - ((2 : Nat) : Int) = ((n - 2 : Nat) : Int) := by omega
    rw [e]; exact w32_of (by omega) (by omega)
  have b1 : 0 ≤ ((n - 2 : Nat) : Int) ∧ ((n - 2 : Nat) : Int) < ((2001 : Nat) : Int) := by omega
  have b2 : 0 ≤ ((n - 1 : Nat) : Int) ∧ ((n - 1 : Nat) : Int) < ((2001 : Nat) : Int) := by omega
  have es : hR (cc h C X Y) f_Machine_signal (C + 32) = C + 33 := by rw [ccRo (by decide)]; exact F.2.1.1
  refine r_BLT (w := 2) (d := d + 40) ⟨G, F, ht, ⟨e1, e2, e3⟩, hn, hc1, hc2⟩ n2 (Or.inl ⟨Or.inl rfl, rfl⟩) (b_Machine_builtin_27 ?_)
  have w2 : w32 (((n - 2 : Nat) : Int) + 1) = ((n - 1 : Nat) : Int) := by rw [w32_s x1, eqn]
  generalize hx : X o f_Task_tags (n - 2) = x at *
  generalize hy : X o f_Task_words (n - 2) = y at *
  generalize hx2 : X o f_Task_tags (n - 1) = x2 at *
  generalize hy2 : X o f_Task_words (n - 1) = y2 at *
  have f1 := F.t ht
  unfold FCt at f1
  have f2 := F
  unfold FC at f2
  clear n2 hn
  have z1 : obA h C x y = 0 ↔ ¬ (x = 4 ∨ x = 5) := ⟨fun e c => by
    have : obA h C x y = hB h (C + 51) y.toNat := if_pos c
    exact (V1 c).2 (by rw [← this]; exact e), fun e => if_neg e⟩
  have z2 : obA h C x2 y2 = 0 ↔ ¬ (x2 = 4 ∨ x2 = 5) := ⟨fun e c => by
    have : obA h C x2 y2 = hB h (C + 51) y2.toNat := if_pos c
    exact (V2 c).2 (by rw [← this]; exact e), fun e => if_neg e⟩
  simp (decide := true) only [ccI, ccR, ccRo, ccK, ccl, ccA G, ccAt G ht, KC G, KCt G ht, f1, f2, e1, w1, hx, hy, Int.toNat_natCast, true_and, and_true, false_implies, forall_const]
  refine ⟨b1, b1, r_objectOf G F (by omega) c3 c6 (fun c => (V1 c).1) ⟨F.1.1, b_Machine_turn_0 ?_⟩⟩
  simp (decide := true) only [ccI, ccR, ccRo, ccK, ccl, ccA G, ccAt G ht, KC G, KCt G ht, f1, f2, e1, w2, hx2, hy2, Int.toNat_natCast, true_and, and_true]
  have g52 : ¬ ((x = 4 ∨ x = 5) ∧ (x2 = 0 ∨ x2 = 4 ∨ x2 = 5)) → wpB PGm ρ (d + 57 + 1) m_Machine_turn 52 [(0, vR (C + 32))] [] (cc h C X Y) (cV (fun h89 => cV (fun h3 => Q (Sum.inl none) h3) (fun e h' => hK h' e ≠ 0 ∧ Q (Sum.inr e) h') (Sum.inl none) h89) (fun e92 h91 => hK h91 e92 ≠ 0 ∧ cV (fun h3 => Q (Sum.inl none) h3) (fun e h' => hK h' e ≠ 0 ∧ Q (Sum.inr e) h') (Sum.inr e92) h91)) := fun z => by
    refine b_Machine_turn_52 ⟨F.1.1, ?_⟩
    rw [es]
    exact ⟨F.1.2.1, r_sigQ G F ⟨kS, kS, q0 z⟩⟩
  have g43 : (x = 4 ∨ x = 5) → (x2 = 0 ∨ x2 = 4 ∨ x2 = 5) → wpB PGm ρ (d + 57 + 1) m_Machine_turn 43 [(0, vR (C + 32)), (1, vR (obA h C x y)), (2, vI ((n - 2 : Nat) : Int)), (4, vR (obA h C x2 y2))] [] (cc h C X Y) (cV (fun h89 => cV (fun h3 => Q (Sum.inl none) h3) (fun e h' => hK h' e ≠ 0 ∧ Q (Sum.inr e) h') (Sum.inl none) h89) (fun e92 h91 => hK h91 e92 ≠ 0 ∧ cV (fun h3 => Q (Sum.inl none) h3) (fun e h' => hK h' e ≠ 0 ∧ Q (Sum.inr e) h') (Sum.inr e92) h91)) := fun za zb => q1 za zb _ (fun h' w => w) (fun h' w v => ⟨w, w, v⟩)
  refine ⟨b2, b2, r_objectOf G F (by omega) c3 c6 (fun c => (V2 c).1) ⟨fun c => g52 (fun e => z1.mp c e.1), fun c => ?_⟩⟩
  have za : x = 4 ∨ x = 5 := Classical.byContradiction fun e => c (z1.mpr e)
  exact ⟨fun c2 => g43 za (Or.inr (Classical.byContradiction fun e => c2 (z2.mpr e))), fun c2 => ⟨fun c4 => g52 (fun e => e.2.elim c4 (z2.mp c2)), fun c4 => g43 za (Or.inl c4)⟩⟩
/-- C: the heap turns a thing, with T's certificate -/
theorem j_turn (HC : CORE Γ h C ho X Y S N) (hd : 20 ≤ d) (hk : (k : Int) < S f_Md_things 0) (kd : S f_Md_thingKind k = 4 ∨ S f_Md_thingKind k = 5) (P1 : PRX h C S l1 p) (hc : S f_Md_changes 0 + 1 ≤ 1000000) (nh : ¬ HIT S (k : Int) p) (hp : PVL S p) (q0 : ∀ S2 h2 X2, SHR Γ h C ho X Y S N h2 X2 S2 → TRW ρ S k p (-1) (Sum.inl S2) → Q (Sum.inr (C + 33)) (cc h2 C (erX X2 0) Y)) (q1 : ∀ r S2 h2 X2 h3 X3, SHR Γ h C ho X Y S N h2 X2 S2 → TRW ρ S k p (-1) (Sum.inr (r, S2)) → (CORE Γ h3 C ho X3 Y (grwS (u2 S2 f_Md_thingShape k (r : Int)) k) N ∧ ∀ {t o n c r' : Nat}, CT Γ h2 C X2 Y S2 N t o n c r' → CT Γ h3 C X3 Y (grwS (u2 S2 f_Md_thingShape k (r : Int)) k) N t o n c r') → GRO Γ Γ h2 h3 C S2 (grwS (u2 S2 f_Md_thingShape k (r : Int)) k) → BND h2 C S2 h3 (grwS (u2 S2 f_Md_thingShape k (r : Int)) k) 1 0 → Fr LHc [] 0 0 h2 h3 → (∀ o f i, f ≠ f_Heap_ticks → X3 o f i = X2 o f i) → Q (Sum.inl none) (cc h3 C X3 Y)) : wpB PGm ρ (d + 6) m_Heap_turn 0 [(0, vR (C + 50)), (1, vR (hB h (C + 51) k)), (2, vR l1)] [] (cc h C X Y) Q := by
  have ⟨G, F⟩ := HC.1
  obtain ⟨tn, sn, sm, c1, c2, c5, c6', c3, c4, c6, c7, c8, U, m1, m2, m3, m4⟩ := HC.shp
  have kH : hK h (C + 50) = k_Heap := F.1.2.2.2.2.2.1
  have kS : hK h (C + 33) ≠ 0 := by rw [F.1.2.1]; decide
  obtain ⟨TA, TB, TC, TD⟩ := (c7 k (by omega)).p
  obtain ⟨⟨u1, u1'⟩, v2', u3', u4, u5⟩ := TC.1 kd
  have kk : hK h (hB h (C + 51) k) ∈ [244, 245] := by
    rw [TA.2.1.1]
    rcases kd with w | w <;> (rw [w]; decide)
  have skm := HC.2.2.2.2.2.2.2.2.1
  obtain ⟨-, rm0, -, -, -, sk, vk, -, gk, -, ⟨-, -, r3⟩, -, -, ⟨s1, -, s3⟩, -, ⟨g1, g2, g3⟩⟩ := skm
  have en : ∃ n : Nat, S f_Md_thingCount k = (n : Int) ∧ n ≤ 64 := ⟨(S f_Md_thingCount k).toNat, by have := TB.2.1; omega, by have := TB.2.1; omega⟩
  obtain ⟨n, en, n64⟩ := en
  have L : SLK S k n := ⟨by omega, n64, en, fun w => (TB.2.2.2.2.1 (by omega)).1, fun i hi => by have := (TB.2.2.2.1 i (by omega)).1; omega, fun i hi => TB.2.2.2.2.2 i (by omega)⟩
  have hs0 : (S f_Md_thingShape k).toNat < sn := by omega
  have hnm : ∀ i, i < n → S f_Md_shapeName (anc S (S f_Md_thingShape k).toNat (n - 1 - i)) = nmT S k i := fun i hi => by
    have := u5 i (by omega)
    rw [en, Int.toNat_natCast] at this
    exact this.symm
  have SH := c8 _ hs0
  have dst := SH.2.2.2.2.2.2.2.2.2
  have hcn : S f_Md_shapeCount (S f_Md_thingShape k).toNat = (n : Int) := by rw [u3']; exact en
  have nmn : ∀ i, i < n → 0 ≤ nmT S k i := fun i hi => by
    rw [← hnm i hi]
    obtain ⟨x1, x2⟩ := anc_k (S := S) (S' := S) (sn := sn) (s := (S f_Md_thingShape k).toNat) (fun s hs => rfl) (fun s hs => (c8 s hs).bef hs) hs0 (n - 1 - i)
    have cnt : ∀ j, j < n → S f_Md_shapeCount (anc S (S f_Md_thingShape k).toNat j) = ((n - j : Nat) : Int) := fun j => by
      induction j with
      | zero => intro _; exact hcn
      | succ j ih =>
        intro hj
        have e := ih (by omega)
        obtain ⟨y1, y2⟩ := anc_k (S := S) (S' := S) (sn := sn) (s := (S f_Md_thingShape k).toNat) (fun s hs => rfl) (fun s hs => (c8 s hs).bef hs) hs0 j
        have f8 := (SHF.of c8 _ y2).2.2.2.2.2.2.2 (by omega)
        show S f_Md_shapeCount (S f_Md_shapeBefore (anc S (S f_Md_thingShape k).toNat j)).toNat = _
        have := f8.2.2.2
        omega
    have e := cnt (n - 1 - i) (by omega)
    rcases (c8 _ x2).2.2.2.1 with y | y
    · omega
    · exact y.2.2.2.1
  have dn : ∀ a b, a < n → b < n → nmT S k a = nmT S k b → a = b := fun a b ha hb e => by
    rw [← hnm a ha, ← hnm b hb] at e
    have cs : ((n : Nat) : Int) = S f_Md_shapeCount (S f_Md_thingShape k).toNat := hcn.symm
    by_cases q : a = b
    · exact q
    · exfalso
      by_cases q2 : a < b
      · exact dst (n - 1 - b) (n - 1 - a) (by omega) (by omega) e.symm
      · exact dst (n - 1 - a) (n - 1 - b) (by omega) (by omega) e
  have hw : ∀ i, i < n → (nmT S k i = -1 ↔ (i : Int) = -1) := fun i hi => ⟨fun e => by have := nmn i hi; omega, fun e => by omega⟩
  have eS : ∀ {X : X3}, hR (cc h C X Y) f_Obj_shape (hB h (C + 51) k) = hB h (C + 52) (S f_Md_thingShape k).toNat := fun {X} => by rw [ccRo (by decide)]; exact v2'
  refine b_Heap_turn_0 ⟨kk, kH, ?_⟩
  rw [eS]
  refine j_want (d := d + 4) (nm := nmT S k) (w := -1) HC c2 m2 (by omega) P1 hs0 hcn n64 hnm hw (fun rm => ⟨kk, kH, ?_⟩) (fun rm => ⟨kS, q0 S h X (SHR.rf HC) (trw_full HC c2 m2 L P1 rm)⟩)
  rw [eS]
  refine j_rb0 (d := d + 1) (k := k) (w := -1) HC c2 m2 (by omega) L P1 hs0 hcn hnm hw (Or.inl rfl) dn nmn rm (fun S2 h2 X2 B tc => ⟨by rw [ccK, B.1.1.1.2.1.2.1]; decide, q0 S2 h2 X2 B tc⟩) (fun r S2 h2 X2 B tc R => ?_)
  have ⟨G2, F2⟩ := B.1.1.1
  have hk2 : (k : Int) < S2 f_Md_things 0 := by rw [B.2.2.2.2.1 _ _ (by decide)]; exact hk
  have kd2 : S2 f_Md_thingKind k = 4 ∨ S2 f_Md_thingKind k = 5 := by rw [B.2.2.2.2.1 _ _ (by decide)]; exact kd
  have ad : hB h2 (C + 51) k = hB h (C + 51) k := (B.2.1.2.2.1.2 k hk).2
  have ch2 : S2 f_Md_changes 0 = S f_Md_changes 0 := B.2.2.2.2.1 _ _ (by decide)
  obtain ⟨tn2, sn2, sm2, d1, d2, d5, d6', d3, d4, d6, d7, d8, U2, -⟩ := B.1.1.shp
  obtain ⟨TA2, TB2, TC2, TD2⟩ := (d7 k (by omega)).p
  have wf2 := prS_wf d1 d7 d8
  have nme : nmT S2 k = nmT S k := by funext i; exact (L.sh B.2.2.2.2.1).2.2 i
  have R2 : RCH S2 p (-1) (nmT S2 k) n r := by rw [nme]; exact R
  have en2 : S2 f_Md_thingCount k = (n : Int) := by rw [B.2.2.2.2.1 _ _ (by decide)]; exact en
  have AY : ACY S2 → ACY (grwS (u2 S2 f_Md_thingShape k (r : Int)) k) := fun A => by
    refine ACY.turn (S := S2) (k := k) (p := p) A wf2 ?_ (fun i => ?_) (fun i hi kdi ne => ?_) ?_ ?_ (fun c => nh (HIT.sh B HC hp c))
    · rw [grwS_o (by decide), u2_f (by decide)]
    · rw [grwS_o (by decide), u2_f (by decide)]
    · unfold prS
      rw [grwS_o (f := f_Md_thingShape) (by decide), grwS_o (by decide), u2_f (by decide), u2_e, if_neg (fun c => ne c.2)]
    · unfold prS
      rw [grwS_o (f := f_Md_thingShape) (by decide), grwS_o (by decide), u2_f (by decide), u2_s, Int.toNat_natCast]
      exact R.2.1
    · rcases hp with e | ⟨e1, e2, e3⟩
      · exact Or.inl e
      · exact Or.inr ⟨e1, by rw [B.2.2.2.2.1 _ _ (by decide)]; exact e2, by rw [B.2.2.2.2.1 _ _ (by decide)]; exact e3⟩
  obtain ⟨M, g, bd, fr⟩ := B.1.1.trn (k := k) (b := !(S2 f_Md_isWatched k == 0)) hk2 kd2 (by rw [ch2]; exact hc) en2 R2 rfl AY
  have kk2 : hK h2 (hB h (C + 51) k) ∈ [244, 245] := by
    rw [← ad, TA2.2.1.1]
    rcases kd2 with w | w <;> (rw [w]; decide)
  have tk2 : X2 50 f_Heap_ticks 0 = S2 f_Md_changes 0 := by
    obtain ⟨-, -, -, -, -, -, -, -, gk2, -, -, -, -, -, -, g1', g2', -⟩ := B.1.1.2.2.2.2.2.2.2.2.1
    rw [g1', g2']
  have ep2 : hI h2 f_Obj_epoch (hB h2 (C + 51) k) = if (!(S2 f_Md_isWatched k == 0)) = true then S2 f_Md_epoch k else -1 := by
    rw [(TD2.1 kd2).1]
    by_cases q : S2 f_Md_isWatched k = 0
    · rw [if_pos q, if_neg (by simp [q])]
    · rw [if_neg q, if_pos (by simp [q])]
  have rng := TD2.2.2.2.1
  have gr := q1 r S2 h2 X2 _ _ B tc M g bd fr (fun o f i hf => by
    unfold grwX
    split
    · exact u3_f hf
    · rfl)
  rw [ad] at gr ep2
  have cs : sR (cc h2 C X2 Y) f_Obj_shape (hB h (C + 51) k) (hB h2 (C + 52) r) = cc (sR h2 f_Obj_shape (hB h (C + 51) k) (hB h2 (C + 52) r)) C X2 Y := cc_sRo (by decide)
  have fsh : Fr [] [(f_Obj_shape, hB h (C + 51) k)] 0 0 h2 (sR h2 f_Obj_shape (hB h (C + 51) k) (hB h2 (C + 52) r)) := Fr.wR (Or.inr (by simp)) (by unfold own; decide) Fr.r0
  have F3 : FC (sR h2 f_Obj_shape (hB h (C + 51) k) (hB h2 (C + 52) r)) C := F2.frm G2 fsh (by unfold DJ; rfl) ⟨by simp, by simp, by simp⟩
  refine ⟨kk2, ?_⟩
  rw [cs]
  exact ⟨F3.1.2.2.2.2.2.1, r_grew (b := !(S2 f_Md_isWatched k == 0)) (e := S2 f_Md_epoch k) (t := S2 f_Md_changes 0) F3 kk2 ep2 (by rw [ch2] at rng; omega) tk2 (by rw [ch2]; omega) gr⟩
end
