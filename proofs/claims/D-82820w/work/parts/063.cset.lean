/-! C: a class is settled -/
set_option maxRecDepth 20000
theorem ari1 {a b c t : Nat} (e1 : a ≤ b + 2) (e2 : b ≤ c + 12 * t) : a ≤ c + 12 * (t + 1) := by omega
theorem ari2 {a b c t x : Nat} (e1 : a ≤ b + 2 * x) (e2 : b ≤ c + 3000 * t) (e3 : x ≤ 400) : a ≤ c + 3000 * (t + 1) := by omega
theorem ari3 {a b c : Int} {k z : Nat} (h : a + b ≤ c) (hk : (k : Int) < b) (h0 : 0 ≤ a) : ¬ (c.toNat ≤ a.toNat + k ∧ a.toNat + k < z) := by omega
theorem ari4 {b : Int} {k : Nat} (hk : (k : Int) < b) : k < b.toNat := by omega
def PS (a : Nat) : List (Nat × Nat) := [(f_HostType_words, a), (f_HostType_tags, a)]
theorem PS_a {a : Nat} : ∀ q, q ∈ PS a → q.2 = a := by intro q hq; simp [PS] at hq; rcases hq with e | e <;> rw [e]
theorem PS_5 {a : Nat} : ∀ q, q ∈ PS a → 5 ≤ q.1 := by intro q hq; simp [PS] at hq; rcases hq with e | e <;> rw [e] <;> exact Nat.le_of_ble_eq_true rfl
theorem gSet_1 {g : HG} {c k i : Nat} (h : k ≠ 10 ∧ k ≠ 11 ∧ k ≠ 12) : (gSet g c).1 k i = g.1 k i := by
  show (if k = 10 ∧ i = c then _ else if k = 11 ∧ _ then _ else if k = 12 ∧ _ then _ else _) = _
  rw [if_neg (by omega), if_neg (by omega), if_neg (by omega)]
theorem gSet_o {g : HG} {c k i : Nat} (h : ¬ ((g.1 3 c).toNat ≤ i ∧ i < (g.1 3 c).toNat + (g.1 4 c).toNat)) (h2 : k ≠ 10) : (gSet g c).1 k i = g.1 k i := by
  show (if k = 10 ∧ i = c then _ else if k = 11 ∧ _ then _ else if k = 12 ∧ _ then _ else _) = _
  rw [if_neg (by omega), if_neg (fun x => h x.2), if_neg (fun x => h x.2)]
theorem gSet_10 {g : HG} {c i : Nat} : (gSet g c).1 10 i = if i = c then 1 else g.1 10 i := by
  show (if 10 = 10 ∧ i = c then _ else if 10 = 11 ∧ _ then _ else if 10 = 12 ∧ _ then _ else _) = _
  by_cases e : i = c
  · rw [if_pos ⟨rfl, e⟩, if_pos e]
  · rw [if_neg (fun x => e x.2), if_neg (by omega), if_neg (by omega), if_neg e]
theorem gSet_v {g : HG} {c i : Nat} (h : (g.1 3 c).toNat ≤ i ∧ i < (g.1 3 c).toNat + (g.1 4 c).toNat) : (gSet g c).1 11 i = 0 ∧ (gSet g c).1 12 i = tgO (g.1 8 i) := by
  have e1 : (gSet g c).1 11 i = if 11 = 10 ∧ i = c then 1 else if 11 = 11 ∧ (g.1 3 c).toNat ≤ i ∧ i < (g.1 3 c).toNat + (g.1 4 c).toNat then 0 else if 11 = 12 ∧ (g.1 3 c).toNat ≤ i ∧ i < (g.1 3 c).toNat + (g.1 4 c).toNat then tgO (g.1 8 i) else g.1 11 i := rfl
  have e2 : (gSet g c).1 12 i = if 12 = 10 ∧ i = c then 1 else if 12 = 11 ∧ (g.1 3 c).toNat ≤ i ∧ i < (g.1 3 c).toNat + (g.1 4 c).toNat then 0 else if 12 = 12 ∧ (g.1 3 c).toNat ≤ i ∧ i < (g.1 3 c).toNat + (g.1 4 c).toNat then tgO (g.1 8 i) else g.1 12 i := rfl
  rw [e1, e2, if_neg (by omega), if_pos ⟨rfl, h⟩, if_neg (by omega), if_neg (by omega), if_pos ⟨rfl, h⟩]
  exact ⟨rfl, rfl⟩
section
variable {ρ : Nat → Nat} {d : Nat} {h h' h0 : ah} {F : Int → ah → Prop} {FR : Nat → ah → Prop} {G : ah → Prop} {E : Nat → ah → Prop} {Q : QT} {C ho a : Nat} {tp : List Int} {t t' : TKN} {g : HG} {n m c : Nat} {ws : List (List Int)} {so st ty va : Int} {ps nm : List Int}
theorem c_tagOf {v : Int} (q : F (tgO v) h) : wpB PGm ρ d m_LT_tagOf 0 [(0, vI v)] [] h (cI F E) := by
  unfold tgO at q
  refine b_LT_tagOf_0 ⟨fun z => ?_, fun z => ⟨fun y => ⟨fun x => ?_, fun x => ?_⟩, fun y => ?_⟩⟩
  · rw [if_pos (Or.inl z)] at q; exact q
  · rw [if_neg (by omega), if_neg x] at q; exact q
  · rw [if_neg (by omega), if_pos x] at q; exact q
  · rw [if_pos (Or.inr y)] at q; exact q
theorem tgO_b {v : Int} : 0 ≤ tgO v ∧ tgO v ≤ 2 := by unfold tgO; split <;> (try split) <;> omega
theorem c_settle (H : RC ρ h0 h C ho tp g n m ws t) (ok : mOK g n c m) (hd : 10 ≤ d) (ha0 : hz h0 ≤ hB h (ho + 2) c)
    (q : ∀ h', RCp ρ h0 h' C ho tp (gSet g c) n m ws t → hB h' (ho + 2) c = hB h (ho + 2) c → G h') : wpB PGm ρ (d + 1) m_HostType_settle 0 [(0, vR (hB h (ho + 2) c))] [] h (cV G E) := by
  obtain ⟨fo, hc, hm, df, hnr, h10, hlast⟩ := ok
  obtain ⟨⟨by_, fr, sz, nx0, H1⟩, K, S, Hr, fx, h6, h6', hwi, hz1, hs1⟩ := id H
  obtain ⟨b0, b1, b2, b3, b4, b5, b6, b7⟩ := id H1
  have hi := b0.2.2.1
  have T := b5 c hc
  obtain ⟨d1, d2, d3, d4⟩ := T.mb fo hc
  have aT := T.1.2.1
  have kT := T.1.1
  have mT := d1.2.2
  generalize eA : hB h (ho + 2) c = aC at *
  generalize eL : hR h f_HostType_members aC = ml at *
  have nPS : ∀ y, (0, y) ∉ PS aC := nP0 rfl
  have n400 : (g.1 4 c).toNat ≤ 400 := Nat.le_trans (Nat.le_trans (Nat.le_add_left _ _) d4) b4
  refine b_HostType_settle_0 (by omega) ⟨kT, ?_⟩
  rw [eL, d2, Int.toNat_natCast]
  refine ⟨d1.1.1, d1.1, ⟨by omega, by omega⟩, ?_⟩
  intro h5
  refine ⟨Eq.trans (if_neg (by omega)) kT, ?_⟩
  intro h6a
  have z5 : hz h6a = hz h + 1 := rfl
  have F6 : Fr [] (PS aC) 1 (g.1 4 c).toNat h h6a := ((Fr.r0 (h := h)).new (k := 2) (n := (g.1 4 c).toNat) (m := (g.1 4 c).toNat)).wO (Or.inl (Or.inr (by simp [PS]))) (Nat.le_refl _) (Nat.lt_succ_self _) (INJ.new hi) |>.le (by omega) (by omega)
  have r6 : hR h6a f_HostType_members aC = ml := by rw [show hR h6a f_HostType_members aC = hR h5 f_HostType_members aC from R_Rne (by decide)]; exact Eq.trans (if_neg (by omega)) eL
  have l6 : hl h6a ml = (g.1 4 c).toNat := Eq.trans (if_neg (by omega)) d2
  have hi6 := F6.inj hi
  rw [r6, l6, Int.toNat_natCast]
  have d16 := d1.fr F6
  refine ⟨d16.1.1, d16.1, ⟨by omega, by omega⟩, ?_⟩
  intro h11
  refine ⟨Eq.trans (if_neg (by omega)) (by rw [F6.K aT]; exact kT), ?_⟩
  intro h12
  have z12 : hz h12 = hz h + 2 := rfl
  have F12 : Fr [] (PS aC) 2 (2 * (g.1 4 c).toNat) h h12 := (F6.new (k := 3) (n := (g.1 4 c).toNat) (m := (g.1 4 c).toNat)).wO (Or.inl (Or.inr (by simp [PS]))) (by omega) (Nat.lt_succ_self _) (INJ.new hi6) |>.le (by omega) (by omega)
  -- what h12 has
  have R12 : ∀ f y, y < hz h → ¬ (f = f_HostType_words ∧ y = aC) → ¬ (f = f_HostType_tags ∧ y = aC) → hR h12 f y = hR h f y := fun f y hy n1 n2 => by
    show hR (sR h11 f_HostType_tags aC (hz h6a)) f y = _
    rw [g_hR_sR, if_neg n2, show hR h11 f y = hR h6a f y from if_neg (by omega), show hR h6a f y = if f = f_HostType_words ∧ y = aC then hz h else hR h5 f y from rfl, if_neg n1]
    exact if_neg (by omega)
  have rw12 : hR h12 f_HostType_words aC = hz h := by
    show hR (sR h11 f_HostType_tags aC (hz h6a)) f_HostType_words aC = _
    rw [R_Rne (by decide), show hR h11 f_HostType_words aC = hR h6a f_HostType_words aC from if_neg (by omega)]; exact R_R _ _ _ _
  have rt12 : hR h12 f_HostType_tags aC = hz h + 1 := R_R _ _ _ _
  have I12 : ∀ f y, y < hz h → hI h12 f y = hI h f y := fun f y hy => by
    show hI h11 f y = _
    rw [show hI h11 f y = hI h6a f y from if_neg (by omega)]; exact if_neg (by omega)
  have L12 : ∀ y, y < hz h → hl h12 y = hl h y := fun y hy => by
    show hl h11 y = _
    rw [show hl h11 y = hl h6a y from if_neg (by omega)]; exact if_neg (by omega)
  have B12 : ∀ y i, y < hz h → hB h12 y i = hB h y i := fun y i hy => by
    show hB h11 y i = _
    rw [show hB h11 y i = hB h6a y i from if_neg (by omega)]; exact if_neg (by omega)
  have A12 : ∀ y i, y < hz h → hA h12 y i = hA h y i := fun y i hy => by
    show hA h11 y i = _
    rw [show hA h11 y i = hA h6a y i from if_neg (by omega)]; exact if_neg (by omega)
  have kw : hK h12 (hz h) = 2 := by
    show hK h11 (hz h) = _
    rw [show hK h11 (hz h) = hK h6a (hz h) from if_neg (by omega)]; exact if_pos rfl
  have kt : hK h12 (hz h + 1) = 3 := if_pos rfl
  have lw : hl h12 (hz h) = (g.1 4 c).toNat := by
    show hl h11 (hz h) = _
    rw [show hl h11 (hz h) = hl h6a (hz h) from if_neg (by omega)]; exact if_pos rfl
  have ltg : hl h12 (hz h + 1) = (g.1 4 c).toNat := if_pos rfl
  have aw : ∀ k, hA h12 (hz h) k = 0 := fun k => by
    show hA h11 (hz h) k = _
    rw [show hA h11 (hz h) k = hA h6a (hz h) k from if_neg (by omega)]; exact if_pos rfl
  clear_value h12
  have lp : ∀ mm j hj0, (g.1 4 c).toNat - j < mm → j ≤ (g.1 4 c).toNat → Fr [] (PS aC) 2 (2 * (g.1 4 c).toNat) h hj0 → (∀ f y, hR hj0 f y = hR h12 f y) → (∀ f y, hI hj0 f y = hI h12 f y) → (∀ y, hl hj0 y = hl h12 y) → (∀ y i, hB hj0 y i = hB h12 y i) → (∀ y, hK hj0 y = hK h12 y) → (∀ y i, y ≠ hz h + 1 → hA hj0 y i = hA h12 y i) → (∀ i, i < j → hA hj0 (hz h + 1) i = tgO (g.1 8 ((g.1 3 c).toNat + i))) → hz hj0 = hz h + 2 → wpB PGm ρ (d + 1) m_HostType_settle 28 [(0, vR aC), (1, vI (j : Int))] [] hj0 (cV G E) := by
    intro mm
    induction mm with
    | zero => intro j hj0 hm; omega
    | succ mm ih =>
      intro j hj0 hmm hj Fj Rj Ij Lj Bj Kj Aj Tj zj
      have kTj : hK hj0 aC = k_HostType := by rw [Kj, F12.K aT]; exact kT
      have rtj : hR hj0 f_HostType_tags aC = hz h + 1 := by rw [Rj]; exact rt12
      have rmj : hR hj0 f_HostType_members aC = ml := by rw [Rj, R12 _ _ aT (fun x => absurd x.1 (by decide)) (fun x => absurd x.1 (by decide))]; exact eL
      have ktj : hK hj0 (hz h + 1) = 3 := by rw [Kj]; exact kt
      have ltj : hl hj0 (hz h + 1) = (g.1 4 c).toNat := by rw [Lj]; exact ltg
      have lmj : hl hj0 ml = (g.1 4 c).toNat := by rw [Lj, L12 _ mT]; exact d2
      have j9 : j ≤ 2000000000 := by omega
      have dj := d1.fr Fj
      refine b_HostType_settle_28 (by omega) ⟨kTj, by rw [rtj, ktj]; decide, fun z => ?_, fun z => ?_⟩
      · rw [rtj, ltj] at z
        have ej : j = (g.1 4 c).toNat := by omega
        subst ej
        -- the end
        have lt2 : ho + 2 < hz h := b0.2.2.2.2.2.2.1.2.2
        have lt3 : ho + 3 < hz h := b0.2.2.2.2.2.2.2.1.2.2
        have hoa : ho ≠ aC := by omega
        have hwa : ho + 4 ≠ aC := fun e => by have x := b7.1.1; rw [e, kT] at x; exact absurd x (by decide)
        have t2 : ∀ k, hB hj0 (ho + 2) k = hB h (ho + 2) k := fun k => by rw [Bj, B12 _ _ lt2]
        have t3 : ∀ k, hB hj0 (ho + 3) k = hB h (ho + 3) k := fun k => by rw [Bj, B12 _ _ lt3]
        have W' := b7.frm Fj (fun f _ => okC_ne PS_a hwa) ⟨nPS _, nPS _, nPS _, nPS _, nPS _⟩
        have zz := HZ_frm b7 W' Fj
        have K' : CK hj0 C tp 1 t := K.fr Fj (fun x f hm => nokAll (L := []) (P := PS aC) rfl f hm x) nPS
        have HC' : HC ρ hj0 ho (gSet g c) n m ws by_ fr sz nx0 := by
          refine ⟨b0.frm Fj (fun f _ x => okC_ne PS_a hoa (Or.inl x)) (nPS _), by rw [Lj, L12 _ lt2]; exact b1, by rw [Lj, L12 _ lt3]; exact b2, b3, b4, fun i hi2 => ?_, fun j hj => ?_, W'⟩
          · rw [t2]
            by_cases ci : i = c
            · subst ci
              obtain ⟨x0, x1, x2, x3, x4, x5, x6, x7, x8, x9, x10, x11⟩ := T
              rw [eA]
              have RR : ∀ f, f ≠ f_HostType_words → f ≠ f_HostType_tags → hR hj0 f aC = hR h f aC := fun f e1 e2 => by rw [Rj, R12 _ _ aT (fun x => e1 x.1) (fun x => e2 x.1)]
              have II : ∀ f, hI hj0 f aC = hI h f aC := fun f => by rw [Ij, I12 _ _ aT]
              have lo := hi.1 _ _ aT (own_of (f := f_HostType_over) rfl)
              have nov : hR h f_HostType_over aC ≠ hz h + 1 := by omega
              have fo' := fo i hi2
              refine ⟨⟨kTj, Fj.lt aT, x0.2.2⟩, by rw [II]; exact x1, by rw [II]; exact x2, by rw [II, gSet_1 (by decide)]; exact x3, by rw [gSet_1 (by decide)]; exact x4, by rw [II, gSet_1 (by decide)]; exact x5, by rw [gSet_1 (by decide)]; exact x6, by rw [RR _ (by decide) (by decide), gSet_1 (by decide), t2]; exact x7, ?_, ?_, ?_, ?_⟩
              · rw [RR _ (by decide) (by decide)]
                exact ⟨x8.1.fr Fj, by rw [Lj, L12 _ x8.1.2.2]; exact x8.2.1, fun k hk => by rw [Bj, B12 _ _ x8.1.2.2, t2]; exact x8.2.2 k hk⟩
              · rw [RR _ (by decide) (by decide), gSet_1 (by decide), gSet_1 (by decide), eL, lmj]
                rw [eL] at x9
                exact ⟨dj, Int.toNat_of_nonneg fo'.2.1, fun k hk => by rw [Bj, B12 _ _ mT, t3]; exact d3 k hk⟩
              · rw [RR _ (by decide) (by decide)]
                exact ⟨x10.1, by rw [Kj, F12.K lo]; exact x10.2.1, by rw [Lj, L12 _ lo]; exact x10.2.2.1, fun j hj => by rw [gSet_1 (by omega), Aj _ _ nov, A12 _ _ lo]; exact x10.2.2.2 j hj⟩
              · refine Or.inr ⟨by rw [gSet_10, if_pos rfl], ?_, ?_, ?_, ?_, ?_, ?_, fun k hk => ?_⟩
                · rw [Rj, rw12]; exact Nat.ne_of_gt hi.2.2
                · rw [rtj]; exact Nat.succ_ne_zero _
                · rw [Rj, rw12, Kj]; exact kw
                · rw [rtj]; exact ktj
                · rw [Rj, rw12, Lj, lw, gSet_1 (by decide)]; exact Int.toNat_of_nonneg fo'.2.1
                · rw [rtj, ltj, gSet_1 (by decide)]; exact Int.toNat_of_nonneg fo'.2.1
                · rw [gSet_1 (by decide)] at hk
                  rw [gSet_1 (k := 3) (by decide), (gSet_v ⟨Nat.le_add_right _ _, Nat.add_lt_add_left (ari4 hk) _⟩).1, (gSet_v ⟨Nat.le_add_right _ _, Nat.add_lt_add_left (ari4 hk) _⟩).2, Rj, rw12, rtj, Aj _ _ (Nat.ne_of_lt (Nat.lt_succ_self _)), aw]
                  exact ⟨rfl, Tj k (ari4 hk)⟩
            · have ne : hB h (ho + 2) i ≠ aC := fun e => by have x := (b5 i hi2).2.1; rw [e, T.2.1] at x; omega
              obtain ⟨x0, x1, x2, x3, x4, x5, x6, x7, x8, x9, x10, x11⟩ := (b5 i hi2).frm hi Fj (fun f _ => okC_ne PS_a ne) nPS (fun k _ => t2 k) (fun k _ => t3 _)
              have hl := hlast i hi2 ci
              have fi := fo i hi2
              have fc := fo c hc
              refine ⟨x0, x1, x2, by rw [gSet_1 (by decide)]; exact x3, by rw [gSet_1 (by decide)]; exact x4, by rw [gSet_1 (by decide)]; exact x5, by rw [gSet_1 (by decide)]; exact x6, by rw [gSet_1 (by decide)]; exact x7, x8, by rw [gSet_1 (by decide), gSet_1 (by decide)]; exact x9, ⟨x10.1, x10.2.1, x10.2.2.1, fun j hj => by rw [gSet_1 (by omega)]; exact x10.2.2.2 j hj⟩, ?_⟩
              unfold SVA at x11 ⊢
              rw [gSet_10, if_neg ci, gSet_1 (k := 4) (by decide), gSet_1 (k := 3) (by decide)]
              exact x11.imp id (fun ⟨y1, y2, y3, y4, y5, y6, y7, y8⟩ => ⟨y1, y2, y3, y4, y5, y6, y7, fun k hk => by rw [gSet_o (ari3 hl hk fi.1) (by decide), gSet_o (ari3 hl hk fi.1) (by decide)]; exact y8 k hk⟩)
          · rw [t3]
            have hMa : hB h (ho + 3) j ≠ aC := fun e => by have x := (b6 j hj).1.1; rw [e, kT] at x; exact absurd x (by decide)
            have := (b6 j hj).frm Fj (fun f _ x => okC_ne PS_a hMa (Or.inl x)) nPS (fun k _ => t2 k)
            unfold MEO at this ⊢
            rw [gSet_1 (by decide), gSet_1 (by decide), gSet_1 (by decide), gSet_1 (by decide), gSet_1 (by decide)]
            exact this
        refine q hj0 ⟨⟨by_, fr, sz, nx0, HC'⟩, K', S.frm ⟨_, _, Fj⟩ nPS Hr, fun i hi => ?_, fx.into ⟨_, _, Fj⟩ (fun f c => by cases c) (fun q c => Or.inr (Or.inr ⟨PS_5 q c, by rw [PS_a q c]; exact ha0⟩)), h6, h6', hwi.mono K.2.2.2.2.2.2.1, ari1 zz.1 hz1, ari2 zz.2 hs1 n400⟩ (by rw [t2]; exact eA)
        obtain ⟨r1, r2, r3⟩ := Hr i hi
        exact ⟨Fj.lt r1, r2, r3.fr r1 r2 Fj⟩
      · rw [rtj, ltj] at z
        have hj2 : j < (g.1 4 c).toNat := by omega
        have M := b6 ((g.1 3 c).toNat + j) (by omega)
        have aM := M.1.2.1
        rw [rmj, Int.toNat_natCast]
        have eM : hB hj0 ml j = hB h (ho + 3) ((g.1 3 c).toNat + j) := by rw [Bj, B12 _ _ mT]; exact d3 j hj2
        have kM : hK hj0 (hB h (ho + 3) ((g.1 3 c).toNat + j)) = k_Member := by rw [Kj, F12.K aM]; exact M.1.1
        have tM : hI hj0 f_Member_type (hB h (ho + 3) ((g.1 3 c).toNat + j)) = g.1 8 ((g.1 3 c).toNat + j) := by rw [Ij, I12 _ _ aM]; exact M.2.2.2.2.1
        rw [eM, tM]
        refine ⟨dj.1.1, ⟨dj.1, by omega, by rw [lmj]; omega⟩, Or.inr (by rw [kM]; decide), kM, c_tagOf ?_⟩
        have tb := tgO_b (v := g.1 8 ((g.1 3 c).toNat + j))
        rw [rtj]
        refine ⟨⟨Or.inl ⟨ktj, by omega, by omega⟩, by omega, by rw [ltj]; omega⟩, ?_⟩
        rw [w32_s j9]
        refine ih (j + 1) _ (by omega) (by omega) (Fr.wA (Or.inl (by omega)) Fj) Rj Ij Lj Bj Kj (fun y i hy => ?_) (fun i hi => ?_) zj
        · rw [g_hA_sA, if_neg (fun x => hy x.1)]; exact Aj y i hy
        · rw [g_hA_sA]
          by_cases ei : i = j
          · rw [if_pos ⟨rfl, ei⟩, ei]
          · rw [if_neg (fun x => ei x.2)]; exact Tj i (by omega)
  exact lp _ 0 h12 (Nat.lt_succ_self _) (Nat.zero_le _) F12 (fun _ _ => rfl) (fun _ _ => rfl) (fun _ => rfl) (fun _ _ => rfl) (fun _ => rfl) (fun _ _ _ => rfl) (fun i hi => by omega) z12
end
