/-! a property is dropped: both heaps -/
set_option maxRecDepth 20000
section
variable {ρ : Nat → Nat} {P : ah → Nat → Prop} {d : Nat} {Q : QT} {Γ Γ' : GH} {h h0 h1 h' : ah} {C ho T : Nat} {X X' X1 X2 : X3} {Y Y' : Y3} {S S' S1 S2 : SS} {N t o n c r f i j k m z s n' pu po tn w sn sm l1 s0 nn : Nat} {ty v x y op a b p : Int} {L : List Nat}
/-- the prototype of a shaped thing -/
theorem CORE.pro (HC : CORE Γ h C ho X Y S N) (hk : (k : Int) < S f_Md_things 0) (kd : S f_Md_thingKind k = 4 ∨ S f_Md_thingKind k = 5) : PRX h C S (hR h f_Shape_prototype (hR h f_Obj_shape (hB h (C + 51) k))) (prS S k) ∧ PVL S (prS S k) ∧ (0 ≤ S f_Md_thingShape k ∧ S f_Md_thingShape k < 4001) ∧ k < 8000 := by
  obtain ⟨tn, sn, sm, c1, c2, c5, c6', c3, c4, c6, c7, c8, U, m1, m2, m3, m4⟩ := HC.shp
  have wf := prS_wf c1 c7 c8
  obtain ⟨TA, TB, TC, TD⟩ := (c7 k (by omega)).p
  obtain ⟨⟨u1, u1'⟩, u2, -⟩ := TC.1 kd
  have SH := c8 (S f_Md_thingShape k).toNat (by omega)
  have W := wf k hk kd
  refine ⟨?_, W, ⟨u1, by omega⟩, by omega⟩
  rw [u2]
  rcases SH.2.2.1 with y | ⟨y1, y2, y3, y4⟩
  · exact Or.inl ⟨y.2, y.1⟩
  · have e : prS S k = S f_Md_shapeProto (S f_Md_thingShape k).toNat := rfl
    rcases W with w | ⟨w1, w2, w3⟩
    · rw [e] at w; omega
    · exact Or.inr ⟨(prS S k).toNat, y4, by omega, by omega, w3⟩
/-- T: the thing's shape is made anew, the slot goes -/
theorem s_d35 (O : TOK h0 T) (hk : k < 8000) (hs : 0 ≤ S f_Md_thingShape k ∧ S f_Md_thingShape k < 4001) (hi : i < n) {e : SS ⊕ (Nat × SS)} (ct : TRW ρ S k (prS S k) (i : Int) e) (hc : ∀ r S1, e = Sum.inr (r, S1) → (0 ≤ S1 f_Md_epoch k ∧ S1 f_Md_epoch k ≤ 1000000) ∧ (0 ≤ S1 f_Md_changes 0 ∧ S1 f_Md_changes 0 ≤ 1000000) ∧ SLK S1 k n ∧ (∀ a b, a < n → b < n → slS S1 k a = slS S1 k b → a = b)) (q0 : ∀ S1, e = Sum.inl S1 → Q (Sum.inr (hR h0 f_Md_halt T)) (cn h0 T (erS S1 99))) (q1 : ∀ r S1, e = Sum.inr (r, S1) → Q (Sum.inl (some (vI 1))) (cn h0 T (grwS (u2 (drS S1 k i n) f_Md_thingShape k (r : Int)) k))) : wpB PGm ρ (d + 5) m_Md_drops 35 [(0, vR T), (1, vI (k : Int))] [vI (i : Int)] (cn h0 T S) Q := by
  have kT := O.1
  have G0 := O.2.1
  have kH : hK h0 (hR h0 f_Md_halt T) ≠ 0 := by rw [O.2.2]; decide
  have ck : 0 ≤ (k : Int) ∧ (k : Int) < ((8000 : Nat) : Int) := by omega
  refine b_Md_drops_35 ⟨fun _ => ⟨kT, s_protoOf O hk hs ⟨kT, ct d h0 T _ O ?_⟩⟩, fun z => absurd z (by omega)⟩
  cases e with
  | inl S1 => exact ⟨kH, q0 S1 rfl⟩
  | inr rs =>
    obtain ⟨r, S1⟩ := rs
    obtain ⟨h1, h2, h3, h4⟩ := hc r S1 rfl
    refine ⟨kT, s_dropSlot (d := d + 3) O h3.g hi h4 ?_⟩
    have g : wpB PGm ρ (d + 4) m_Md_changed 0 [(0, vR T), (1, vI (k : Int))] [] (cn h0 T (u2 (drS S1 k i n) f_Md_thingShape k (r : Int))) (cV (fun h33 => Q (Sum.inl (some (vI 1))) h33) (fun e36 h35 => hK h35 e36 ≠ 0 ∧ Q (Sum.inr e36) h35)) := s_changed O hk (by rw [u2_f (by decide), drS_o (by decide)]; exact h1) (by rw [u2_f (by decide), drS_o (by decide)]; exact h2) (q1 r S1 rfl)
    clear q0 q1 ct hc
    show hK (cn h0 T (drS S1 k i n)) T = k_Md ∧ _
    simp (decide := true) only [cnR, cnK, cnl, cn_sA' G0, kT, KN G0, LN G0, Int.toNat_natCast, true_and, and_true]
    exact ⟨ck, g⟩
/-- C: the heap drops a property, with T's certificate -/
theorem j_drop (HC : CORE Γ h C ho X Y S N) (hd : 20 ≤ d) (hk : (k : Int) < S f_Md_things 0) (kd : S f_Md_thingKind k = 4 ∨ S f_Md_thingKind k = 5) (hc : S f_Md_changes 0 + 1 ≤ 1000000) (en : S f_Md_thingCount k = (n : Int)) (hi : i < n) (hv : nmT S k i = v) (q0 : ∀ S2 h2 X2, SHR Γ h C ho X Y S N h2 X2 S2 → TRW ρ S k (prS S k) (i : Int) (Sum.inl S2) → Q (Sum.inr (C + 33)) (cc h2 C (erX X2 0) Y)) (q1 : ∀ r S2 h2 X2 h3 X3, SHR Γ h C ho X Y S N h2 X2 S2 → TRW ρ S k (prS S k) (i : Int) (Sum.inr (r, S2)) → (CORE Γ h3 C ho X3 Y (grwS (u2 (drS S2 k i n) f_Md_thingShape k (r : Int)) k) N ∧ ∀ {t o n' c r' : Nat}, CT Γ h2 C X2 Y S2 N t o n' c r' → CT Γ h3 C X3 Y (grwS (u2 (drS S2 k i n) f_Md_thingShape k (r : Int)) k) N t o n' c r') → GRO Γ Γ h2 h3 C S2 (grwS (u2 (drS S2 k i n) f_Md_thingShape k (r : Int)) k) → BND h2 C S2 h3 (grwS (u2 (drS S2 k i n) f_Md_thingShape k (r : Int)) k) 1 0 → Fr LHc [] 0 0 h2 h3 → (∀ o f i, f ≠ f_Heap_ticks → X3 o f i = X2 o f i) → Q (Sum.inl (some (vI 1))) (cc h3 C X3 Y)) : wpB PGm ρ (d + 6) m_Heap_drop 16 [(0, vR (C + 50)), (1, vR (hB h (C + 51) k)), (2, vI v)] [vI (i : Int)] (cc h C X Y) Q := by
  have ⟨G, F⟩ := HC.1
  obtain ⟨tn, sn, sm, c1, c2, c5, c6', c3, c4, c6, c7, c8, U, m1, m2, m3, m4⟩ := HC.shp
  have kH : hK h (C + 50) = k_Heap := F.1.2.2.2.2.2.1
  have kS : hK h (C + 33) ≠ 0 := by rw [F.1.2.1]; decide
  obtain ⟨P1, pv, -⟩ := HC.pro hk kd
  obtain ⟨nx, sn', s0, e1, L, e2, e3, hcn, e5, hnm, dn, nmn, SF, b0, kk, nz⟩ := HC.sth hk kd
  have enn : nx = n := by have := L.2.2.1; omega
  subst enn
  have esn : sn' = sn := by omega
  subst esn
  have ks : hK h (hR h f_Obj_shape (hB h (C + 51) k)) = k_Shape := by rw [e5]; exact (SF s0 e3).1
  have hw : ∀ i', i' < nx → (nmT S k i' = v ↔ (i' : Int) = (i : Int)) := fun i' hi' => ⟨fun e => by rw [dn i' i hi' hi (by rw [e, hv])], fun e => by rw [Int.ofNat_inj.mp e]; exact hv⟩
  have eS : ∀ {X : X3}, hR (cc h C X Y) f_Obj_shape (hB h (C + 51) k) = hR h f_Obj_shape (hB h (C + 51) k) := fun {X} => ccRo (by decide)
  have eP : ∀ {X : X3}, hR (cc h C X Y) f_Shape_prototype (hR h f_Obj_shape (hB h (C + 51) k)) = hR h f_Shape_prototype (hR h f_Obj_shape (hB h (C + 51) k)) := fun {X} => ccRo (by decide)
  refine b_Heap_drop_16 ⟨fun _ => ⟨kk, by rw [eS]; exact ks, kH, ?_⟩, fun z => absurd z (by omega)⟩
  rw [eS, eP]
  generalize hl1 : hR h f_Shape_prototype (hR h f_Obj_shape (hB h (C + 51) k)) = l1 at *
  rw [e5]
  refine j_want (d := d + 4) (nm := nmT S k) (w := (i : Int)) HC c2 m2 (by omega) P1 e3 hcn L.2.1 hnm hw (fun rm => ⟨kk, by rw [eS]; exact ks, kH, ?_⟩) (fun rm => ⟨kS, q0 S h X (SHR.rf HC) (trw_full HC c2 m2 L P1 rm)⟩)
  rw [eS, eP, e5]
  refine j_rb0 (d := d + 1) (k := k) (w := (i : Int)) HC c2 m2 (by omega) L P1 e3 hcn hnm hw (Or.inr (Int.natCast_nonneg i)) dn nmn rm (fun S2 h2 X2 B tc => ⟨by rw [ccK, B.1.1.1.2.1.2.1]; decide, q0 S2 h2 X2 B tc⟩) (fun r S2 h2 X2 B tc R => ?_)
  have ⟨G2, F2⟩ := B.1.1.1
  have hk2 : (k : Int) < S2 f_Md_things 0 := by rw [B.2.2.2.2.1 _ _ (by decide)]; exact hk
  have kd2 : S2 f_Md_thingKind k = 4 ∨ S2 f_Md_thingKind k = 5 := by rw [B.2.2.2.2.1 _ _ (by decide)]; exact kd
  have ad : hB h2 (C + 51) k = hB h (C + 51) k := (B.2.1.2.2.1.2 k hk).2
  have ch2 : S2 f_Md_changes 0 = S f_Md_changes 0 := B.2.2.2.2.1 _ _ (by decide)
  obtain ⟨tn2, sn2, sm2, d1, d2, d5, d6', d3, d4, d6, d7, d8, U2, -⟩ := B.1.1.shp
  obtain ⟨TA2, TB2, TC2, TD2⟩ := (d7 k (by omega)).p
  have wf2 := prS_wf d1 d7 d8
  have nme : nmT S2 k = nmT S k := by funext i; exact (L.sh B.2.2.2.2.1).2.2 i
  have R2 : RCH S2 (prS S k) (i : Int) (nmT S2 k) nx r := by rw [nme]; exact R
  have en2 : S2 f_Md_thingCount k = (nx : Int) := by rw [B.2.2.2.2.1 _ _ (by decide)]; exact L.2.2.1
  have AY : ACY S2 → ACY (grwS (u2 (drS S2 k i nx) f_Md_thingShape k (r : Int)) k) := fun A => by
    have pk : prS S2 k = prS S k := by
      unfold prS
      rw [B.2.2.2.2.1 f_Md_thingShape k (by decide), B.row (by omega) (by decide)]
    have g := A.old (S' := grwS (u2 (drS S2 k i nx) f_Md_thingShape k (r : Int)) k) wf2 (fun j hj kj => by
      unfold prS
      rw [grwS_o (f := f_Md_thingShape) (by decide), grwS_o (by decide), u2_f (by decide), drS_o (by decide), u2_e]
      by_cases q : j = k
      · rw [if_pos ⟨rfl, q⟩, Int.toNat_natCast, R.2.1, q]
        exact pk.symm
      · rw [if_neg (fun c => q c.2), drS_o (by decide)])
    intro j hj kj
    rw [grwS_o (by decide), u2_f (by decide), drS_o (by decide)] at hj
    rw [grwS_o (by decide), u2_f (by decide), drS_o (by decide)] at kj
    exact g j hj kj
  have kk2 : hK h2 (hB h (C + 51) k) ∈ [244, 245] := by
    rw [← ad, TA2.2.1.1]
    rcases kd2 with w | w <;> (rw [w]; decide)
  have tk2 : X2 50 f_Heap_ticks 0 = S2 f_Md_changes 0 := by
    obtain ⟨-, -, -, -, -, -, -, -, gk2, -, -, -, -, -, -, g1', g2', -⟩ := B.1.1.2.2.2.2.2.2.2.2.1
    rw [g1', g2']
  have ep2 : hI h2 f_Obj_epoch (hB h2 (C + 51) k) = if (!(S2 f_Md_isWatched k == 0)) = true then S2 f_Md_epoch k else -1 := by
    rw [(TD2.1 kd2).1]
    by_cases q : S2 f_Md_isWatched k = 0
    · rw [if_pos q, if_neg (by simp [q])]
    · rw [if_neg q, if_pos (by simp [q])]
  have rng := TD2.2.2.2.1
  have dr := fun h3 SF2 => B.1.1.drp (k := k) (b := !(S2 f_Md_isWatched k == 0)) (h2 := h3) hk2 kd2 (by rw [ch2]; exact hc) en2 hi R2 rfl SF2 AY
  rw [ad] at dr ep2
  have az : hB h (C + 51) k < hz h2 := by rw [← ad]; exact TA2.2.1.2.1
  obtain ⟨tb1, tb2, ⟨w1, w2, w3, w4, w5, w6, w7⟩, tb4, tb5, tb6⟩ := TB2
  rw [ad] at tb1 w1 w2 w3 w4 w5 w6 w7 tb4
  have tg : ∀ x, x < nx → -128 ≤ hA h2 (hR h2 f_Thing_tags (hB h (C + 51) k)) x ∧ hA h2 (hR h2 f_Thing_tags (hB h (C + 51) k)) x ≤ 127 := fun x hx => by
    have V := (tb4 x (by omega)).2
    rw [V.1]
    rcases V.2.2 with v | v | v | v | v | v <;> omega
  have cs : sR (cc h2 C X2 Y) f_Obj_shape (hB h (C + 51) k) (hB h2 (C + 52) r) = cc (sR h2 f_Obj_shape (hB h (C + 51) k) (hB h2 (C + 52) r)) C X2 Y := cc_sRo (by decide)
  have fsh : Fr [] [(f_Obj_shape, hB h (C + 51) k)] 0 0 h2 (sR h2 f_Obj_shape (hB h (C + 51) k) (hB h2 (C + 52) r)) := Fr.wR (Or.inr (by simp)) (by unfold own; decide) Fr.r0
  have F3 : FC (sR h2 f_Obj_shape (hB h (C + 51) k) (hB h2 (C + 52) r)) C := F2.frm G2 fsh (by unfold DJ; rfl) ⟨by simp, by simp, by simp⟩
  have G3 : AC (sR h2 f_Obj_shape (hB h (C + 51) k) (hB h2 (C + 52) r)) C := G2.frm fsh (by unfold DJ; rfl)
  refine ⟨kk2, ?_⟩
  show wpB PGm ρ _ m_Heap_drop 68 _ _ (sR (cc h2 C X2 Y) f_Obj_shape (hB h (C + 51) k) (hB h2 (C + 52) r)) Q
  have l64 := L.2.1
  have e8 : (0 ≤ S2 f_Md_epoch k ∧ S2 f_Md_epoch k ≤ 1000000) ∧ (0 ≤ S2 f_Md_changes 0 ∧ S2 f_Md_changes 0 ≤ 1000000) := by rw [ch2] at rng ⊢; omega
  have sz : hI h2 f_Thing_size (hB h (C + 51) k) = (nx : Int) := by rw [tb1]; exact en2
  have lw : nx ≤ hl h2 (hR h2 f_Thing_words (hB h (C + 51) k)) := by omega
  have x1 : i ≤ 2000000000 := by omega
  have hin : i + 1 + (nx - (i + 1)) = nx := by omega
  rw [cs, w32_s x1]
  have rw1 : hR (sR h2 f_Obj_shape (hB h (C + 51) k) (hB h2 (C + 52) r)) f_Thing_words (hB h (C + 51) k) = hR h2 f_Thing_words (hB h (C + 51) k) := R_Rne (by decide)
  have rt1 : hR (sR h2 f_Obj_shape (hB h (C + 51) k) (hB h2 (C + 52) r)) f_Thing_tags (hB h (C + 51) k) = hR h2 f_Thing_tags (hB h (C + 51) k) := R_Rne (by decide)
  have l60 : nx ≤ 60000 := Nat.le_trans l64 (by decide)
  refine r_d68 (n := nx) (i := i) (b := !(S2 f_Md_isWatched k == 0)) (ep := S2 f_Md_epoch k) (tk := S2 f_Md_changes 0) G3 F3 az kk2 (by rw [rw1]; exact w2) (by rw [rt1]; exact w4) ⟨by rw [rw1]; exact w1, by rw [rt1]; exact w3⟩ (by rw [rw1]; exact lw) (by rw [rw1, rt1]; exact w5) sz l60 hi (fun x hx => by rw [rt1]; exact tg x hx) ep2 e8.1 tk2 e8.2 (fun h3 SF2 => ?_) (nx - (i + 1)) (i + 1) _ hin (Nat.le_refl _) ⟨Fr.r0, fun x => ?_, fun x => ?_⟩
  · obtain ⟨M, g, bd, fr⟩ := dr h3 SF2
    exact q1 r S2 h2 X2 _ _ B tc M g bd fr (fun o f i hf => by
      unfold grwX
      split
      · exact u3_f hf
      · rfl)
  · rw [if_neg (fun c => absurd c.2 (Nat.not_lt.mpr (Nat.succ_le_succ c.1)))]
  · rw [if_neg (fun c => absurd c.2 (Nat.not_lt.mpr (Nat.succ_le_succ c.1)))]
end
