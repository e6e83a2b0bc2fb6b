/-! the builtin drop: T, joined -/
set_option maxRecDepth 20000
section
variable {ρ : Nat → Nat} {P : ah → Nat → Prop} {d : Nat} {Q : QT} {Γ Γ' : GH} {h h0 h1 h' : ah} {C ho T : Nat} {X X' X1 X2 : X3} {Y Y' : Y3} {S S' S1 S2 : SS} {N t o n c r f i j k m z s n' pu po tn w sn sm l1 s0 nn p0 kk kx : Nat} {ty v x y op a b p : Int} {L : List Nat} {ws : List (List Int)} {l : List Int}
theorem s_DROP (O : TOK h0 T) (NM : NMR h C S ws) (D : DF S t n c f p0 kk 28 4 b) (n2 : 2 ≤ n) (ek : S f_Md_pileValue (2100 * t + (n - 2)) = (kx : Int)) (hk : kx < 8000) (em : S f_Md_pileValue (2100 * t + (n - 1)) = (m : Int)) (tx : TTX S m l) (w1 : S f_Md_pileType (2100 * t + (n - 2)) = 4 ∨ S f_Md_pileType (2100 * t + (n - 2)) = 5) (w2 : S f_Md_pileType (2100 * t + (n - 1)) = 3) (hv : FWI ws l v) (L : SLK S kx nn) (dn : ∀ a b, a < nn → b < nn → nmT S kx a = nmT S kx b → a = b) {u : Int} (hu : v < 0 ∧ u = -1 ∨ 0 ≤ v ∧ OWN S kx nn v u) (q : ∀ K : QT, (∀ S3 B, (B = 0 ∨ B = 1) → TF S3 t n c → S3 f_Md_top 0 = S f_Md_top 0 → S3 f_Md_after 0 = S f_Md_after 0 → Q (Sum.inl none) (cn h0 T (atS (pshA S3 t (n - 2) 1 B) t c ((p0 + 1 : Nat) : Int))) → K (Sum.inl (some (vI B))) (cn h0 T S3)) → (∀ S3, Q (Sum.inr (hR h0 f_Md_halt T)) (cn h0 T S3) → K (Sum.inr (hR h0 f_Md_halt T)) (cn h0 T S3)) → wpB PGm ρ (d + 57) m_Md_drops 35 [(0, vR T), (1, vI (kx : Int))] [vI u] (cn h0 T S) K) : wpB PGm ρ (d + 60) m_Md_does 0 [(0, vR T)] [] (cn h0 T S) Q := by
  have O' := O
  have d2 := D.2.1
  obtain ⟨a, t1, t2, t3, t4, t5⟩ := tx.rw O'
  have m16 : m < 16000 := by obtain ⟨-, h, -⟩ := tx; exact h
  have kT := O'.1
  have G0 := O'.2.1
  have kH : hK h0 (hR h0 f_Md_halt T) ≠ 0 := by rw [O.2.2]; decide
  have cx : 0 ≤ ((2100 * t + (n - 2) : Nat) : Int) ∧ ((2100 * t + (n - 2) : Nat) : Int) < ((4200 : Nat) : Int) := by omega
  have cy : 0 ≤ ((2100 * t + (n - 1) : Nat) : Int) ∧ ((2100 * t + (n - 1) : Nat) : Int) < ((4200 : Nat) : Int) := by omega
  have cm : 0 ≤ (m : Int) ∧ (m : Int) < ((16000 : Nat) : Int) := by omega
  have x1 : -2147483648 ≤ (kx : Int) ∧ (kx : Int) < 2147483648 := by omega
  have x2 : -2147483648 ≤ (m : Int) ∧ (m : Int) < 2147483648 := by omega
  refine s_PROP O' D (Or.inl rfl) n2 (fun _ _ => ?_) (fun z => absurd ⟨w1, w2⟩ z)
  have g35 : wpB PGm ρ (d + 57) m_Md_drops 35 [(0, vR T), (1, vI (kx : Int))] [vI u] (cn h0 T S) (cI (fun x14 h9 => wpB PGm ρ (d + 58) m_Md_builtins 308 [(0, vR T), (3, vI ((2100 * t + (n - 2) : Nat) : Int))] [vI x14] h9 (bK ρ (d + 52) T Q)) (fun e12 h11 => hK h11 e12 ≠ 0 ∧ bK ρ (d + 52) T Q (Sum.inr e12) h11)) := q _ (fun S3 B hB F3 e1 e2 qq => s_b308 (op := 28) (a := 4) (b := b) O' D n2 F3 e1 e2 hB qq) (fun S3 qq => ⟨kH, bK_er O' qq⟩)
  have gdr : wpB PGm ρ (d + 57) m_Md_drops 0 [(0, vR T), (1, vI (kx : Int)), (2, vI (m : Int))] [] (cn h0 T S) (cI (fun x14 h9 => wpB PGm ρ (d + 58) m_Md_builtins 308 [(0, vR T), (3, vI ((2100 * t + (n - 2) : Nat) : Int))] [vI x14] h9 (bK ρ (d + 52) T Q)) (fun e12 h11 => hK h11 e12 ≠ 0 ∧ bK ρ (d + 52) T Q (Sum.inr e12) h11)) := by
    clear q
    generalize hKK : (cI (fun x14 h9 => wpB PGm ρ (d + 58) m_Md_builtins 308 [(0, vR T), (3, vI ((2100 * t + (n - 2) : Nat) : Int))] [vI x14] h9 (bK ρ (d + 52) T Q)) (fun e12 h11 => hK h11 e12 ≠ 0 ∧ bK ρ (d + 52) T Q (Sum.inr e12) h11)) = KK at *
    have gf := s_findName (ρ := ρ) (d := d + 56) (F := fun x10 h5 => ((0 ≤ x10 → hK h5 T = k_Md ∧ wpB PGm ρ (d + 56) m_Md_own 0 [(0, vR T), (1, vI (kx : Int)), (2, vI x10)] [] h5 (cI (fun x22 h17 => wpB PGm ρ (d + 57) m_Md_drops 35 [(0, vR T), (1, vI (kx : Int))] [vI x22] h17 KK) (fun e20 h19 => hK h19 e20 ≠ 0 ∧ KK (Sum.inr e20) h19))) ∧ (x10 < 0 → wpB PGm ρ (d + 57) m_Md_drops 35 [(0, vR T), (1, vI (kx : Int))] [vI (-1)] h5 KK))) (E := fun e8 h7 => hK h7 e8 ≠ 0 ∧ KK (Sum.inr e8) h7) O' NM t5 t3 t4 hv ⟨fun z => ⟨kT, by
        rcases hu with ⟨h1, h2⟩ | ⟨h1, h2⟩
        · omega
        · exact s_own O' L dn h2 g35⟩, fun z => by
        rcases hu with ⟨h1, h2⟩ | ⟨h1, h2⟩
        · rw [h2] at g35; exact g35
        · omega⟩
    clear g35 hu
    refine b_Md_drops_0 ⟨kT, ?_⟩
    simp (decide := true) only [cnR, cnK, cnl, cnA' G0, KN G0, LN G0, t1, t2, Int.toNat_natCast, true_and, and_true]
    exact ⟨cm, cm, gf⟩
  clear g35 q hu
  have y1 : w32 (kx : Int) = (kx : Int) := w32_of x1.1 x1.2
  have y2 : w32 (m : Int) = (m : Int) := w32_of x2.1 x2.2
  refine b_Md_builtins_264 ⟨fun z => absurd rfl z, fun _ => ⟨kT, ?_⟩⟩
  simp (decide := true) only [cnR, cnK, cnl, cnA' G0, KN G0, LN G0, ek, em, y1, y2, Int.toNat_natCast, true_and, and_true]
  exact ⟨cx, cy, gdr⟩
def LDP : List Nat := LSH ++ [f_Md_thingShape, f_Md_epoch, f_Md_changes, f_Md_changedAt, f_Md_thingFirst, f_Md_slotNext, f_Md_thingCount, f_Md_thingLast]
theorem op_DROP (hP : ∀ h0 T, P h0 T → TOK h0 T) (hc : S f_Md_changes 0 + 1 ≤ 1000000) (NM : NMR h C S ws) (HC : CORE Γ h C ho X Y S N) (H : OPH Γ h C X Y S N t o n c r) (O : OPT Γ S (fsS S t (c - 1)) (psS S t (c - 1)) 28 4 b) (D : DF S t n c (fsS S t (c - 1)) (psS S t (c - 1)) k 28 4 b) (hh : n = bsS S t (c - 1) + ghs Γ (fsS S t (c - 1)) (psS S t (c - 1))) : OPF ρ P Γ h C ho X Y S N 28 4 b := by
  obtain ⟨-, -, v1, nx⟩ := O.2.2.2.2.2.2.2.2.2.2.2.2.2.2.2.2.2.1 rfl
  have bw : bwN 4 = 2 := rfl
  rw [bw] at v1 nx
  have d2 := D.2.1
  have n2 : 2 ≤ n := by omega
  have VA := H.pl (i := n - 2) (by omega)
  have VB := H.pl (i := n - 1) (by omega)
  have ⟨A1, AE⟩ := VA.obj HC.2.2.2.2.2.2.2.2.2.1 (h := h) (C := C)
  have BE := VB.1
  obtain ⟨tn, sn, sm, c1, c2, c5, c6', c3, c4, c6, c7, c8, U, m1, m2, m3, m4⟩ := HC.shp
  have I := H.ix
  have F := H.2.1
  have kS : ∀ {h' : ah} {X' : X3}, FC h' C → hK (cc h' C X' Y) (C + 33) ≠ 0 := fun {h' X'} F' => by rw [ccK, F'.1.2.1]; decide
  intro d Q q
  have er12 : (∀ d h0 T Q, P h0 T → Q (Sum.inr (hR h0 f_Md_halt T)) (cn h0 T (erS S 12)) → wpB PGm ρ (d + 60) m_Md_does 0 [(0, vR T)] [] (cn h0 T S) Q) → Q (Sum.inr (C + 33)) (cc h C (erX X 12) Y) := fun tr => q (some 12) (erS S 12) _ _ _ tr (RLC.mem (v := 12) (x := 12) H HC H.2.2.1 GRO.rf (BND.rf.le (by decide) (by decide)) (fun _ _ _ => rfl) (fun _ _ _ _ => rfl) (Fr.r0 (L := LHc) (P := [])) (Or.inr ⟨by decide, rfl⟩))
  have V1 : X o f_Task_tags (n - 2) = 4 ∨ X o f_Task_tags (n - 2) = 5 → (0 ≤ X o f_Task_words (n - 2) ∧ X o f_Task_words (n - 2) < (tn : Int) ∧ hK h (hB h (C + 51) (X o f_Task_words (n - 2)).toNat) ∈ [244, 245]) ∧ hB h (C + 51) (X o f_Task_words (n - 2)).toNat ≠ 0 := fun w => by
    obtain ⟨a1, a2, a3, a4, a5, a6⟩ := A1 w
    exact ⟨⟨by omega, by omega, a5⟩, a6⟩
  have et : ∃ (m : Nat) (l : List Int), (X o f_Task_tags (n - 1) = 3 → S f_Md_pileValue (2100 * t + (n - 1)) = (m : Int) ∧ TTX S m l ∧ CTX h C X (X o f_Task_words (n - 1)) l) := by
    by_cases w : X o f_Task_tags (n - 1) = 3
    · obtain ⟨m, l, h1, h2, h3⟩ := HC.2.2.2.2.1.find VB (by rw [← BE]; exact w)
      exact ⟨m, l, fun _ => ⟨h1, h2, h3⟩⟩
    · exact ⟨0, [], fun c => absurd c w⟩
  obtain ⟨m, l, et⟩ := et
  refine r_DROP (ws := ws) (l := l) HC NM I n2 c3 c6 V1 (fun w => (et w).2.2) (fun wa wb v hv K K1 K2 => ?_) (fun nw => er12 (fun d h0 T Q pp qq => s_PROP (hP _ _ pp) D (Or.inl rfl) n2 (fun w1 w2 => absurd ⟨by rw [AE]; exact w1, by rw [BE]; exact w2⟩ nw) (fun _ => qq)))
  obtain ⟨t1, t2, t3⟩ := et wb
  obtain ⟨a1, a2, a3, a4, a5, a6⟩ := A1 wa
  have ek : ∃ kx : Nat, S f_Md_pileValue (2100 * t + (n - 2)) = (kx : Int) := ⟨(S f_Md_pileValue (2100 * t + (n - 2))).toNat, by omega⟩
  obtain ⟨kx, ek⟩ := ek
  have wx : X o f_Task_words (n - 2) = (kx : Int) := by rw [a1]; exact ek
  have hk : (kx : Int) < S f_Md_things 0 := by omega
  have kd : S f_Md_thingKind kx = 4 ∨ S f_Md_thingKind kx = 5 := by
    rw [ek, Int.toNat_natCast] at a4
    rw [a4]; exact wa
  have eo : obA h C (X o f_Task_tags (n - 2)) (X o f_Task_words (n - 2)) = hB h (C + 51) kx := by
    have : obA h C (X o f_Task_tags (n - 2)) (X o f_Task_words (n - 2)) = hB h (C + 51) (X o f_Task_words (n - 2)).toNat := if_pos wa
    rw [this, wx, Int.toNat_natCast]
  have wa' : S f_Md_pileType (2100 * t + (n - 2)) = 4 ∨ S f_Md_pileType (2100 * t + (n - 2)) = 5 := by rw [← AE]; exact wa
  have wb' : S f_Md_pileType (2100 * t + (n - 1)) = 3 := by rw [← BE]; exact wb
  obtain ⟨nn, sn', s0, e1, L, e2, e3, hcn, e5, hnm, dn, nmn, SF, b0, kk, nz⟩ := HC.sth hk kd
  obtain ⟨P1, pv, hs, hk8⟩ := HC.pro hk kd
  have ansR : ∀ B : Int, (B = 0 ∨ B = 1) → RLC Γ h C ho X Y S N none (atS (pshA S t (n - 2) 1 B) t c ((psS S t (c - 1) + 1 : Nat) : Int)) h (ansX X o (n - 2) c 1 B) Y := fun B hB => RLC.ans H nx HC H.2.2.1 GRO.rf EXS.rf (fun _ _ _ => rfl) (fun _ _ _ _ => rfl) (Fr.r0 (L := LHc) (P := [])) (BND.rf.le (by decide) (by decide)) ⟨rfl, by unfold cw; rw [if_neg (by decide)], Or.inr (Or.inl ⟨rfl, hB⟩)⟩ (by omega) (by omega)
  -- nothing to drop
  have nil : (v < 0 ∨ 0 ≤ v ∧ OWN S kx nn v (-1)) → K (Sum.inl (some (vI 0))) (cc h C X Y) := fun z => by
    refine K1 h X 0 H.1 F rfl (Or.inl rfl) (q none (atS (pshA S t (n - 2) 1 0) t c ((psS S t (c - 1) + 1 : Nat) : Int)) _ _ _ (fun d h0 T Q pp qq => ?_) (ansR 0 (Or.inl rfl)))
    exact s_DROP (hP _ _ pp) NM D n2 ek hk8 t1 t2 wa' wb' hv L dn (u := -1) (by rcases z with z | z; exact Or.inl ⟨z, rfl⟩; exact Or.inr z) (fun K k1 k2 => b_Md_drops_35 (d := d + 56) ⟨fun z => absurd z (by decide), fun _ => k1 S 0 (Or.inl rfl) D.1 rfl rfl qq⟩)
  have eSh : hR (cc h C X Y) f_Obj_shape (hB h (C + 51) kx) = hR h f_Obj_shape (hB h (C + 51) kx) := ccRo (by decide)
  have ks : hK h (hR h f_Obj_shape (hB h (C + 51) kx)) = k_Shape := by rw [e5]; exact (SF s0 e3).1
  rw [eo]
  refine b_Heap_drop_0 ⟨fun vz => ⟨kk, by rw [eSh]; exact ks, ?_⟩, fun vz => b_Heap_drop_16 ⟨fun z => absurd z (by decide), fun _ => nil (Or.inl vz)⟩⟩
  rw [eSh]
  refine r_findT (f := fun _ => 0) HC hk kd L.2.2.1 (fun u hu => ?_)
  have hu0 := hu
  rcases hu with ⟨i, rfl, hi, hnv⟩ | ⟨rfl, -⟩
  · -- the property is dropped
    have tr : ∀ (d : Nat) (h0 : ah) (T : Nat) (Q : QT), P h0 T → (∀ K : QT, (∀ S3 B, (B = 0 ∨ B = 1) → TF S3 t n c → S3 f_Md_top 0 = S f_Md_top 0 → S3 f_Md_after 0 = S f_Md_after 0 → Q (Sum.inl none) (cn h0 T (atS (pshA S3 t (n - 2) 1 B) t c ((psS S t (c - 1) + 1 : Nat) : Int))) → K (Sum.inl (some (vI B))) (cn h0 T S3)) → (∀ S3, Q (Sum.inr (hR h0 f_Md_halt T)) (cn h0 T S3) → K (Sum.inr (hR h0 f_Md_halt T)) (cn h0 T S3)) → wpB PGm ρ (d + 57) m_Md_drops 35 [(0, vR T), (1, vI (kx : Int))] [vI (i : Int)] (cn h0 T S) K) → wpB PGm ρ (d + 60) m_Md_does 0 [(0, vR T)] [] (cn h0 T S) Q := fun d h0 T Q pp g => s_DROP (hP _ _ pp) NM D n2 ek hk8 t1 t2 wa' wb' hv L dn (Or.inr ⟨vz, hu0⟩) g
    refine j_drop (d := d + 51) HC (by omega) hk kd hc L.2.2.1 hi hnv (fun S2 h2 X2 B tc => K2 _ (kS B.1.1.1.2) (q (some 0) (erS S2 99) _ _ _ (fun d h0 T Q pp qq => tr d h0 T Q pp (fun K k1 k2 => ?_)) ?_)) (fun r2 S2 h2 X2 h3 X3 B tc M g bd fr x3 => ?_)
    · exact s_d35 (d := d + 52) (hP _ _ pp) hk8 hs hi tc (fun _ _ e => by cases e) (fun S1 e => by cases e; exact k2 _ qq) (fun _ _ e => by cases e)
    · obtain ⟨z2, s2, f2⟩ := B.2.2.2.1
      refine RLC.mem (v := 0) (x := 99) H B.1.1 (B.1.2 H.2.2.1) B.2.1 (B.2.2.1.le (by decide) (by decide)) (fun f i hf => B.2.2.2.2.1 f i ?_) (fun o' f i hf => B.2.2.2.2.2.1 o' f i (by rintro rfl; exact absurd hf (by decide))) f2 (Or.inl ⟨rfl, rfl⟩)
      cases q : LSH.elem f with
      | false => rfl
      | true =>
        have e : LSH.all (fun f => LSc.elem f) = true := by decide
        rw [List.all_eq_true.mp e f (by simpa using q)] at hf; cases hf
    · have ⟨G3, F3⟩ := M.1.1
      obtain ⟨z2, s2, f2⟩ := B.2.2.2.1
      have g2 := B.2.1.tr g
      have nl : ∀ {f j}, LDP.elem f = false → grwS (u2 (drS S2 kx i nn) f_Md_thingShape kx (r2 : Int)) kx f j = S f j := fun {f j} hf => by
        have nm : ∀ L : List Nat, (L.all fun f => LDP.elem f) = true → L.elem f = false := fun L q => by
          cases w : L.elem f with
          | false => rfl
          | true => rw [List.all_eq_true.mp q f (by simpa using w)] at hf; cases hf
        rw [grwS_o (nm _ (by decide)), u2_f (by rintro rfl; exact absurd hf (by decide)), drS_o (nm _ (by decide)), B.2.2.2.2.1 _ _ (nm _ (by decide))]
      have xe : ∀ o' f i, f ≠ f_Heap_ticks → f ≠ f_Heap_shapesMade → X3 o' f i = X o' f i := fun o' f i h1 h2 => by rw [x3 _ _ _ h1, B.2.2.2.2.2.1 _ _ _ h2]
      obtain ⟨tn2, sn2, sm2, u1, u2', u5, u6', u3, u4, u6, u7, u8, -⟩ := B.1.1.shp
      have hk2 : (kx : Int) < S2 f_Md_things 0 := by rw [B.2.2.2.2.1 _ _ (by decide)]; exact hk
      have kd2 : S2 f_Md_thingKind kx = 4 ∨ S2 f_Md_thingKind kx = 5 := by rw [B.2.2.2.2.1 _ _ (by decide)]; exact kd
      have TD2 := (u7 kx (by omega)).p.2.2.2
      have ch2 : S2 f_Md_changes 0 = S f_Md_changes 0 := B.2.2.2.2.1 _ _ (by decide)
      obtain ⟨nn2, -, -, -, L2, -⟩ := B.1.1.sth hk2 kd2
      have enn : nn2 = nn := by
        have h1 := L2.2.2.1
        have h2 := L.2.2.1
        rw [B.2.2.2.2.1 _ _ (by decide)] at h1; omega
      rw [enn] at L2
      have un2 : ∀ x y, x < nn → y < nn → slS S2 kx x = slS S2 kx y → x = y := by
        obtain ⟨tn3, sn3, c1, c2, c3, c4, c5, c6, c6', c7, c8, c9, c10⟩ := B.1.1.2.2.2.2.2.2.2.2.2.1
        have cn := L2.2.2.1
        exact fun x y hx hy e => (c9 kx x kx y (by omega) (by omega) (by omega) (by omega) e).2
      have rng : (0 ≤ S2 f_Md_epoch kx ∧ S2 f_Md_epoch kx ≤ 1000000) ∧ (0 ≤ S2 f_Md_changes 0 ∧ S2 f_Md_changes 0 ≤ 1000000) := by
        have := TD2.2.2.2.1; omega
      have TF3 : TF (grwS (u2 (drS S2 kx i nn) f_Md_thingShape kx (r2 : Int)) kx) t n c := by
        obtain ⟨y1, y2, y3, y4, y5⟩ := D.1
        exact ⟨by rw [nl (by decide)]; exact y1, by rw [nl (by decide)]; exact y2, by rw [nl (by decide)]; exact y3, by rw [nl (by decide)]; exact y4, by rw [nl (by decide)]; exact y5⟩
      refine K1 h3 X3 1 G3 F3 (xe _ _ _ (by decide) (by decide)) (Or.inr rfl) (q none (atS (pshA (grwS (u2 (drS S2 kx i nn) f_Md_thingShape kx (r2 : Int)) kx) t (n - 2) 1 1) t c ((psS S t (c - 1) + 1 : Nat) : Int)) _ _ _ (fun d h0 T Q pp qq => tr d h0 T Q pp (fun K k1 k2 => ?_)) ?_)
      · exact s_d35 (d := d + 52) (hP _ _ pp) hk8 hs hi tc (fun r' S' e => by cases e; exact ⟨rng.1, rng.2, L2, un2⟩) (fun _ e => by cases e) (fun r' S' e => by cases e; exact k1 _ 1 (Or.inr rfl) TF3 (nl (by decide)) (nl (by decide)) qq)
      · refine RLC.ans H nx M.1 (M.2 (B.1.2 H.2.2.1)) g2 (fun f hf i => nl ?_) (fun f i hf => nl ?_) (fun o' f i hf => xe o' f i (by rintro rfl; exact absurd hf (by decide)) (by rintro rfl; exact absurd hf (by decide))) (f2.trans fr) ((B.2.2.1.tr bd).le (by decide) (by decide)) ⟨rfl, by unfold cw; rw [if_neg (by decide)], Or.inr (Or.inl ⟨rfl, Or.inr rfl⟩)⟩ (by omega) (by omega)
        · have e : (LTK ++ [f_Md_t, f_Md_p0, f_Md_f0, f_Md_top, f_Md_after, f_Md_codeSize]).all (fun f => !(LDP.elem f)) = true := by decide
          simpa using List.all_eq_true.mp e f (by simpa using hf)
        · cases q : LDP.elem f with
          | false => rfl
          | true =>
            have e : LDP.all (fun f => LSc.elem f) = true := by decide
            rw [List.all_eq_true.mp e f (by simpa only [List.elem_eq_mem, decide_eq_true_eq] using q)] at hf; cases hf
  · exact b_Heap_drop_16 ⟨fun z => absurd z (by decide), fun _ => nil (Or.inr ⟨vz, hu0⟩)⟩
end
