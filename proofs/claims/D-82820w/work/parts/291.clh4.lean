/-! C: a look at a host, all kinds of sites -/
set_option maxRecDepth 20000
section
variable {ρ : Nat → Nat} {d : Nat} {Q : QT} {Γ : GH} {h h' h1 h2 B : ah} {C ho k n m i j N M a b z s x y nw r f o kn ac e c D mn : Nat} {g : HG} {v p es lo sb st kd nm κ : Int} {ws hw : List (List Int)} {L ts cl pf bs Wd : List Int} {S : SS} {X X' X1 X2 : X3} {Y Y' Y1 Y2 : Y3} {w : Nat → Bool} {cs o' : List Nat} {CK : Nat → KEY} {CV : Nat → Int} {ca : Nat → Nat} {K0 : KEY}
theorem hkB_i (q : κ = 1 ∨ κ = 5 ∨ (κ = 6 ∧ st = 1)) (ne : ¬ hkC g κ st c L = []) : hkB g κ st c L = true := by
  unfold hkB
  simp only [Bool.and_eq_true, decide_eq_true_eq, Bool.not_eq_true', List.isEmpty_eq_false_iff]
  exact ⟨q, ne⟩
theorem CEQ.none (e0 : hkB g κ st c L = false) (bk : BXK X X2) : CEQ g hw κ st c L ts X X2 kn ac CK CV ca kn ac CK CV ca 0 := Or.inr ⟨e0, bk.2.2.2, rfl, rfl, rfl, rfl, rfl, bk.1, rfl⟩
theorem CEQ.sh (bk : BXK X X1) {kn2 ac2 : Nat} {CK2 : Nat → KEY} {CV2 : Nat → Int} {ca2 : Nat → Nat} (H : CEQ g hw κ st c L ts X1 X2 kn ac CK CV ca kn2 ac2 CK2 CV2 ca2 e) : CEQ g hw κ st c L ts X X2 kn ac CK CV ca kn2 ac2 CK2 CV2 ca2 e := by
  unfold CEQ at H ⊢
  rw [bk.1, bk.2.2.2] at H
  exact H
theorem LKH.bx (K : LKH h ho X Y N M kn ac CK CV ca) (HX : HCX ρ h ho g N M hw) (CF : CHF h C ho e h1) (bk : BXK X X1) (eY : ∀ b, Y1 98 f_Lookup_choices b = Y 98 f_Lookup_choices b) : LKH h1 ho X1 Y1 N M kn ac CK CV ca := by
  obtain ⟨b2, b3, -⟩ := CF.bb HX
  obtain ⟨⟨z, s, fr⟩, -⟩ := CF
  exact K.fr fr (djL (by decide +kernel)) PMN0 (fun i _ => b2 i) (fun i _ => b3 i) bk.2.1 bk.2.2.1 eY
/-- a set: the setter that is chosen, or the field -/
theorem r_hostSet (A : LHP ρ Γ g h C ho X Y S N M ws hw k c L st) (k4 : k < 4000) (K : LKH h ho X Y N M kn ac CK CV ca) (ka : hK h a = k_Site) (ha : a < hz h) (en : hI h f_Site_name a = (k : Int)) (k1 : κ = 1) (eop : X 53 f_Found_operands 0 = (ts.length : Int)) (ht : ts.length ≤ 8) (hts : ∀ i, i < ts.length → 0 ≤ ts.getD i 0 ∧ ts.getD i 0 < 9 + (N : Int)) (ec : ∀ i, i < ts.length → X 53 f_Found_classes i = clA (ts.getD i 0)) (val : hkB g κ st c L = true → ∀ K0, KEQ hw κ st c L ts K0 → ∀ k, k < kn → CK k = K0 → CV k = sglG g ts (hkC g κ st c L))
    (q1 : ∀ h2 X2 Y2 e kn2 ac2 CK2 CV2 ca2 (m : Nat), CHF h C ho e h2 → BXH X X2 → BYH Y Y2 → LKH h2 ho X2 Y2 N M kn2 ac2 CK2 CV2 ca2 → CEQ g hw κ st c L ts X X2 kn ac CK CV ca kn2 ac2 CK2 CV2 ca2 e → hkG g κ st c L ts = (m : Int) → m < M → X2 53 f_Found_action 0 = (if g.1 6 m = 0 then (if κ = 0 then 6 else 7) else 8) → Y2 53 f_Found_member 0 = hB h2 (ho + 3) m → Q (Sum.inl none) (cc h2 C X2 Y2))
    (q0 : ∀ h2 X2 Y2 e kn2 ac2 CK2 CV2 ca2, CHF h C ho e h2 → BXH X X2 → BYH Y Y2 → LKH h2 ho X2 Y2 N M kn2 ac2 CK2 CV2 ca2 → CEQ g hw κ st c L ts X X2 kn ac CK CV ca kn2 ac2 CK2 CV2 ca2 e → hkG g κ st c L ts < 0 → Q (Sum.inr (C + 33)) (cc h2 C (erX X2 (-(hkG g κ st c L ts))) Y2)) : wpB PGm ρ (d + 74) m_Lookup_hostSet 0 [(0, vR (C + 98)), (1, vR a), (2, vR (C + 53)), (3, vI st)] [] (cc h C X Y) Q := by
  obtain ⟨a1, a2, a3, a4, a5, ⟨w1, w2, w3, w4⟩, bb, ⟨a8, a9⟩, a10, a11⟩ := id A
  obtain ⟨b1, b2, b3, b4⟩ := bb k4
  have F := a1.1.2
  have G := a1.1.1
  have kl : hK h (C + 98) = k_Lookup := F.1.2.2.2.2.2.2.2.2
  have i1 : hI (cc h C X Y) f_Site_name a = (k : Int) := by rw [ccIo (by decide)]; exact en
  have eC : hkC g κ st c L = colG g (wtB g st (wtL xSET L) 1) (ordG g c) := by unfold hkC; rw [if_pos k1]
  -- the field
  have g45 : ∀ (h1 : ah) (bs : List Int), CHF h C ho 0 h1 → hkC g κ st c L = [] → wpB PGm ρ (d + 74) m_Lookup_hostSet 45 [(0, vR (C + 98)), (1, vR a), (2, vR (C + 53)), (3, vI st)] [] (cc h1 C (wdX X bs) Y) Q := fun h1 bs CF en0 => by
    have A1 := A.chf (X' := wdX X bs) (Y' := Y) CF (BXH.wd (X := X) (bs := bs)).ex rfl rfl (fun _ _ _ _ => rfl)
    obtain ⟨ka1, az1, fa1⟩ := CF.site ka ha
    have HX1 := A1.2.2.1
    have F1 := A1.1.1.2
    have ST1 := A1.2.2.2.2.1
    have ko1 : hK h1 (C + 53) = k_Found := F1.1.2.2.2.2.2.2.1
    have i2 : hI (cc h1 C (wdX X bs) Y) f_Site_name a = (k : Int) := by rw [ccIo (by decide), fa1 _ (by decide)]; exact en
    have hB0 : hkB g κ st c L = false := by unfold hkB; rw [en0]; simp
    have hG : hkG g κ st c L ts = (if oN (fldG g st L 61 (c : Int)) < 0 then -4 else oN (fldG g st L 61 (c : Int))) := by unfold hkG; rw [if_neg (by omega), if_pos k1, if_pos en0]
    refine b_Lookup_hostSet_45 (d := d + 73) ⟨ka1, F1.1.2.2.2.2.2.2.2.2, ?_⟩
    rw [i2]
    refine r_fldw (k4 := k4) A1 (by omega) (ST1.g (w := []) (by decide +kernel)) (fun bs2 a0 ha0 => ⟨ko1, ?_⟩)
    show (¬ hR (sR (cc h1 C (wdX (wdX X bs) bs2) Y) f_Found_member (C + 53) a0) f_Found_member (C + 53) = 0 → Q (Sum.inl none) (sI (sR (cc h1 C (wdX (wdX X bs) bs2) Y) f_Found_member (C + 53) a0) f_Found_action (C + 53) 7)) ∧ (hR (sR (cc h1 C (wdX (wdX X bs) bs2) Y) f_Found_member (C + 53) a0) f_Found_member (C + 53) = 0 → _)
    rw [cc_sR (by decide), ccR (by decide), u3_s, cc_sI (by decide)]
    have HC2 : CORE Γ h1 C ho (wdX (wdX X bs) bs2) (u3 Y 53 f_Found_member 0 a0) S N := A1.1.wd.yo (by decide)
    have bx : BXH X (wdX (wdX X bs) bs2) := BXH.wd.tr BXH.wd
    have bk : BXK X (wdX (wdX X bs) bs2) := BXK.wd.tr BXK.wd
    have bY : ∀ x : Nat, BYH Y (u3 Y 53 f_Found_member 0 x) := fun x o f i h1 h2 => u3_f h1
    rcases ha0 with ⟨m, em, mM, ea⟩ | ⟨em, ea⟩
    · subst ea
      have k0 := fld_k em
      refine ⟨fun _ => q1 h1 _ _ 0 kn ac CK CV ca m CF (bx.u (by decide)) (bY _) (K.bx a3 CF bk.act (fun b => u3_f (by decide))) (CEQ.none hB0 bk.act) ?_ mM ?_ u3_s, fun c => absurd c (HX1.me mM).1.2.2⟩
      · rw [hG, em]
        show (if (m : Int) < 0 then -4 else (m : Int)) = _
        rw [if_neg (by omega)]
      · rw [u3_s, if_pos k0, if_neg (by omega)]
    · subst ea
      have e4 : hkG g κ st c L ts = -4 := by rw [hG, em]; rfl
      refine ⟨fun c => absurd rfl c, fun _ => r_sigL HC2 ?_⟩
      have := q0 h1 _ _ 0 kn ac CK CV ca CF bx (bY 0) (K.bx a3 CF bk (fun b => u3_f (by decide))) (CEQ.none hB0 bk) (by rw [e4]; decide)
      rw [e4] at this
      exact this
  refine b_Lookup_hostSet_0 (d := d + 73) ⟨ka, kl, ?_⟩
  rw [i1]
  refine r_hostName a1 a2 a3 a4 (by omega) (a5.g (w := xSET) (by decide +kernel)) (by decide) (by decide) b1 b2 b3 b4 (fun v fw bs => ?_)
  have yh : hR (cc h C (wdX X bs) Y) f_Lookup_host (C + 98) = ho := by rw [ccR (by decide)]; exact a4
  have yt : hR (cc h C (wdX X bs) Y) f_Found_type (C + 53) = hB h (ho + 2) c := by rw [ccR (by decide)]; exact a9
  have HXc : HCX ρ (cc h C (wdX X bs) Y) ho g N M hw := a3.fr (cc_fr G) (by unfold DJ; decide) (by simp)
  have bc : hB (cc h C (wdX X bs) Y) (ho + 2) c = hB h (ho + 2) c := by
    have := ccBo (X := wdX X bs) (Y := Y) (i := c) (f := f_Host_types) (b := ho) G (by decide) a3.hh.2.1
    rw [a3.hh.2.2.1] at this; exact this
  show (v < 0 → _) ∧ (0 ≤ v → _)
  rw [yh, yt]
  refine ⟨fun v0 => ?_, fun v0 => ⟨kl, F.1.2.2.2.2.2.2.1, a3.hh.1, ?_⟩⟩
  · rcases fw with ⟨nw, ev, n1, n2⟩ | ⟨ev, nn⟩
    · omega
    · exact g45 h bs (CHF.rf G F) (by rw [eC]; exact col_none w1 w2 a3 a8 nn)
  · rcases fw with ⟨nw, ev, n1, n2⟩ | ⟨ev, nn⟩
    · rw [ev, ← bc]
      refine wp_d (show d + 1 + 72 = d + 73 by omega) (c_hasSetter (d := d + 1) w1 w2 w4 a8 a10 a11 n1 n2 HXc (fun h1 MF en1 => ?_) (fun h1 MF en0 => ?_))
      · obtain ⟨CF, EB⟩ := MF.mac G F
        have A1 := A.chf (X' := wdX X bs) (Y' := Y) CF (BXH.wd (X := X) (bs := bs)).ex rfl rfl (fun _ _ _ _ => rfl)
        have F1 := A1.1.1.2
        have bx : BXH X (wdX X bs) := BXH.wd
        have bk : BXK X (wdX X bs) := BXK.wd
        have K1 := K.bx a3 CF bk (fun b => (rfl : Y 98 f_Lookup_choices b = Y 98 f_Lookup_choices b))
        have kS : ∀ {B : ah}, FC B C → hK B (C + 33) ≠ 0 := fun {B} F' => by rw [F'.1.2.1]; decide
        refine ⟨fun c => absurd c (by decide), fun _ => ⟨F1.1.2.2.2.2.2.2.2.2, ?_⟩⟩
        have KE : KEQ hw κ st c L ts ((c : Int), 1, st, (nw : Int), 1, ts.map clA) := ⟨(nw : Int), by rw [if_neg (by omega), if_neg (by omega), if_pos k1], fun c => by omega, fun _ => ⟨nw, rfl, n1, by rw [if_pos k1]; exact n2⟩⟩
        have r := r_hchosen (d := d) (Q := cV (fun h33 => Q (Sum.inl none) h33) (fun e36 h35 => hK h35 e36 ≠ 0 ∧ Q (Sum.inr e36) h35)) A1 K1 (κ := κ) (ts := ts) (Or.inl k1) (by rw [eC]; exact en1) KE rfl (by rw [wdX_o (by decide)]; exact eop) ht hts (fun i hi => by rw [wdX_o (by decide)]; exact ec i hi) (val (hkB_i (Or.inl k1) (by rw [eC]; exact en1)) _ KE) (fun h2 X2 Y2 e kn2 ac2 CK2 CV2 ca2 m CF2 bx2 bY2 LK2 ce eg mM e8 em => ?_) (fun h2 X2 Y2 e kn2 ac2 CK2 CV2 ca2 CF2 bx2 bY2 LK2 ce eg => ?_)
        · rw [EB] at r; exact r
        · have := q1 h2 X2 Y2 _ kn2 ac2 CK2 CV2 ca2 m (CF.tr CF2) (bx.tr bx2) bY2 LK2 (by rw [Nat.zero_add]; exact CEQ.sh bk ce) eg mM e8 em
          exact this
        · have := q0 h2 X2 Y2 _ kn2 ac2 CK2 CV2 ca2 (CF.tr CF2) (bx.tr bx2) bY2 LK2 (by rw [Nat.zero_add]; exact CEQ.sh bk ce) eg
          exact ⟨by rw [ccK]; exact kS CF2.2.2.2.2, this⟩
      · obtain ⟨CF, EB⟩ := MF.mac G F
        have := g45 h1 bs CF (by rw [eC]; exact en0)
        rw [EB] at this
        exact ⟨fun _ => this, fun c => absurd rfl c⟩
    · omega
/-- all of it -/
theorem r_lkhost (A : LHP ρ Γ g h C ho X Y S N M ws hw k c L st) (K : LKH h ho X Y N M kn ac CK CV ca) (ka : hK h a = k_Site) (ha : a < hz h) (kq : κ = 0 ∨ κ = 1 ∨ κ = 5 → k < 4000) (en : k < 4000 → hI h f_Site_name a = (k : Int)) (ek : hI h f_Site_kind a = κ) (hκ : 0 ≤ κ ∧ κ ≤ 6) (el : X 53 f_Found_linker 0 = st + 1) (eop : κ = 1 ∨ κ = 5 ∨ κ = 6 → X 53 f_Found_operands 0 = (ts.length : Int)) (ht : ts.length ≤ 8) (hts : ∀ i, i < ts.length → 0 ≤ ts.getD i 0 ∧ ts.getD i 0 < 9 + (N : Int)) (ec : κ = 1 ∨ κ = 5 ∨ κ = 6 → ∀ i, i < ts.length → X 53 f_Found_classes i = clA (ts.getD i 0)) (val : hkB g κ st c L = true → ∀ K0, KEQ hw κ st c L ts K0 → ∀ k, k < kn → CK k = K0 → CV k = sglG g ts (hkC g κ st c L))
    (q1 : ∀ h2 X2 Y2 e kn2 ac2 CK2 CV2 ca2 (m : Nat), CHF h C ho e h2 → BXH X X2 → BYH Y Y2 → LKH h2 ho X2 Y2 N M kn2 ac2 CK2 CV2 ca2 → CEQ g hw κ st c L ts X X2 kn ac CK CV ca kn2 ac2 CK2 CV2 ca2 e → hkG g κ st c L ts = (m : Int) → m < M → X2 53 f_Found_action 0 = (if g.1 6 m = 0 then (if κ = 0 then 6 else 7) else 8) → Y2 53 f_Found_member 0 = hB h2 (ho + 3) m → Q (Sum.inl none) (cc h2 C X2 Y2))
    (q0 : ∀ h2 X2 Y2 e kn2 ac2 CK2 CV2 ca2, CHF h C ho e h2 → BXH X X2 → BYH Y Y2 → LKH h2 ho X2 Y2 N M kn2 ac2 CK2 CV2 ca2 → CEQ g hw κ st c L ts X X2 kn ac CK CV ca kn2 ac2 CK2 CV2 ca2 e → hkG g κ st c L ts < 0 → Q (Sum.inr (C + 33)) (cc h2 C (erX X2 (-(hkG g κ st c L ts))) Y2)) : wpB PGm ρ (d + 75) m_Lookup_host 0 [(0, vR (C + 98)), (1, vR a), (2, vR (C + 53))] [] (cc h C X Y) Q := by
  obtain ⟨a1, a2, a3, a4, a5, ⟨w1, w2, w3, w4⟩, bb, ⟨a8, a9⟩, a10, a11⟩ := id A
  have F := a1.1.2
  have G := a1.1.1
  have ko : hK h (C + 53) = k_Found := F.1.2.2.2.2.2.2.1
  have kl : hK h (C + 98) = k_Lookup := F.1.2.2.2.2.2.2.2.2
  have i1 : k < 4000 → hI (cc h C X Y) f_Site_name a = (k : Int) := fun z => by rw [ccIo (by decide)]; exact en z
  have ik : hI (cc h C X Y) f_Site_kind a = κ := by rw [ccIo (by decide)]; exact ek
  have il : hI (cc h C X Y) f_Found_linker (C + 53) = st + 1 := by rw [ccI (by decide)]; exact el
  have kS : ∀ {B : ah}, FC B C → hK B (C + 33) ≠ 0 := fun {B} F' => by rw [F'.1.2.1]; decide
  have CF0 := CHF.rf (ho := ho) G F
  have bkr : BXK X X := ⟨rfl, rfl, rfl, rfl⟩
  -- plain errors
  have er : ∀ (h1 : ah) (X1 : X3) (x : Int), CHF h C ho 0 h1 → BXH X X1 → BXK X X1 → hkB g κ st c L = false → hkG g κ st c L ts = -x → 0 < x → Q (Sum.inr (C + 33)) (cc h1 C (erX X1 x) Y) := fun h1 X1 x CF bx bk hb eg hx => by
    have := q0 h1 X1 Y 0 kn ac CK CV ca CF bx (fun _ _ _ _ _ => rfl) (K.bx a3 CF bk (fun _ => rfl)) (CEQ.none hb bk) (by rw [eg]; omega)
    rw [eg, Int.neg_neg] at this
    exact this
  have g176 : ¬ (κ = 0 ∨ κ = 1 ∨ κ = 5 ∨ κ = 6) → wpB PGm ρ (d + 75) m_Lookup_host 176 [(0, vR (C + 98))] [] (cc h C X Y) Q := fun nk => by
    refine b_Lookup_host_176 (d := d + 74) (r_sigL a1 (er h X 5 CF0 BXH.rf bkr ?_ ?_ (by decide)))
    · unfold hkB
      rw [decide_eq_false (by omega)]; rfl
    · unfold hkG
      rw [if_neg (by omega), if_neg (by omega), if_neg (by omega), if_neg (by omega)]
  -- a choice follows
  have cho : ∀ (h1 : ah) (X1 : X3) (kd p nm sb : Int), CHF h C ho 0 h1 → BXH X X1 → BXK X X1 → (κ = 5 ∨ (κ = 6 ∧ st = 1)) → ¬ hkC g κ st c L = [] → KEQ hw κ st c L ts ((c : Int), kd, p, nm, sb, ts.map clA) → wpB PGm ρ (d + 74) m_Lookup_chosen 0 [(0, vR (C + 98)), (1, vR (C + 53)), (2, vI kd), (3, vI p), (4, vI nm), (5, vI sb)] [] (cc h1 C X1 Y) (cV (fun h33 => Q (Sum.inl none) h33) (fun e36 h35 => hK h35 e36 ≠ 0 ∧ Q (Sum.inr e36) h35)) := fun h1 X1 kd p nm sb CF bx bk hk ne KE => by
    have A1 := A.chf (X' := X1) (Y' := Y) CF bx.ex rfl rfl (fun _ _ _ _ => rfl)
    have K1 := K.bx a3 CF bk (fun b => (rfl : Y 98 f_Lookup_choices b = Y 98 f_Lookup_choices b))
    have hk' : κ = 1 ∨ κ = 5 ∨ κ = 6 := by rcases hk with z | z; exact Or.inr (Or.inl z); exact Or.inr (Or.inr z.1)
    refine wp_d (show d + 1 + 73 = d + 74 by omega) (r_hchosen (d := d + 1) A1 K1 (κ := κ) (ts := ts) (Or.inr hk) ne KE rfl (by rw [bx _ _ _ (by decide)]; exact eop hk') ht hts (fun i hi => by rw [bx _ _ _ (by decide)]; exact ec hk' i hi) (val (hkB_i (Or.inr hk) ne) _ KE) (fun h2 X2 Y2 e kn2 ac2 CK2 CV2 ca2 m CF2 bx2 bY2 LK2 ce eg mM e8 em => ?_) (fun h2 X2 Y2 e kn2 ac2 CK2 CV2 ca2 CF2 bx2 bY2 LK2 ce eg => ?_))
    · have := q1 h2 X2 Y2 _ kn2 ac2 CK2 CV2 ca2 m (CF.tr CF2) (bx.tr bx2) bY2 LK2 (by rw [Nat.zero_add]; exact CEQ.sh bk ce) eg mM e8 em
      exact this
    · have := q0 h2 X2 Y2 _ kn2 ac2 CK2 CV2 ca2 (CF.tr CF2) (bx.tr bx2) bY2 LK2 (by rw [Nat.zero_add]; exact CEQ.sh bk ce) eg
      exact ⟨by rw [ccK]; exact kS CF2.2.2.2.2, this⟩
  have g13 : wpB PGm ρ (d + 75) m_Lookup_host 13 [(0, vR (C + 98)), (1, vR a), (2, vR (C + 53))] [vI st] (cc h C X Y) Q := by
    refine b_Lookup_host_13 (d := d + 74) ⟨ka, ?_⟩
    rw [ik]
    refine ⟨fun k0 => ⟨kl, ?_⟩, fun k0 => ⟨fun k1 => ⟨kl, ?_⟩, fun k1 => ⟨fun k2 => g176 (by omega), fun k2 => ⟨fun k3 => g176 (by omega), fun k3 => ⟨fun k4 => g176 (by omega), fun k4 => ⟨fun k5 => ⟨kl, ?_⟩, fun k5 => ⟨fun k6 => ⟨fun s0 => ⟨kl, ko, ?_⟩, fun s0 => ?_⟩, fun k6 => g176 (by omega)⟩⟩⟩⟩⟩⟩⟩
    · -- get
      have hB0 : hkB g κ st c L = false := by unfold hkB; rw [decide_eq_false (by omega)]; rfl
      have hG : hkG g κ st c L ts = (if gtG g st c L < 0 then -4 else gtG g st c L) := by unfold hkG; rw [if_pos k0]
      refine r_hostGet (d := d) A (kq (Or.inl k0)) ka ha (en (kq (Or.inl k0))) (fun h2 X2 m CF bx bk eg mM e6 => ?_) (fun h2 X2 CF bx bk eg => ⟨by rw [ccK]; exact kS CF.2.2.2.2, ?_⟩)
      · refine q1 h2 X2 _ 0 kn ac CK CV ca m CF bx (fun o f i h1 h2 => u3_f h1) (K.bx a3 CF bk (fun b => u3_f (by decide))) (CEQ.none hB0 bk) ?_ mM ?_ u3_s
        · rw [hG, eg, if_neg (by omega)]
        · rw [e6, if_pos k0]
      · have e4 : hkG g κ st c L ts = -4 := by rw [hG, if_pos eg]
        have := q0 h2 X2 (u3 Y 53 f_Found_member 0 0) 0 kn ac CK CV ca CF bx (fun o f i h1 h2 => u3_f h1) (K.bx a3 CF bk (fun b => u3_f (by decide))) (CEQ.none hB0 bk) (by rw [e4]; decide)
        rw [e4] at this
        exact this
    · -- set
      exact r_hostSet (d := d) A (kq (Or.inr (Or.inl k1))) K ka ha (en (kq (Or.inr (Or.inl k1)))) k1 (eop (Or.inl k1)) ht hts (ec (Or.inl k1)) val q1 (fun h2 X2 Y2 e kn2 ac2 CK2 CV2 ca2 CF bx bY LK ce eg => ⟨by rw [ccK]; exact kS CF.2.2.2.2, q0 h2 X2 Y2 e kn2 ac2 CK2 CV2 ca2 CF bx bY LK ce eg⟩)
    · -- a method is called
      have eC : hkC g κ st c L = colG g (wtB g st L (-1)) (ordG g c) := by unfold hkC; rw [if_neg (by omega), if_pos k5]
      have g110 : ∀ (h1 : ah) (bs : List Int), CHF h C ho 0 h1 → hkC g κ st c L = [] → wpB PGm ρ (d + 75) m_Lookup_host 110 [(0, vR (C + 98))] [] (cc h1 C (wdX X bs) Y) Q := fun h1 bs CF en0 => by
        have A1 := A.chf (X' := wdX X bs) (Y' := Y) CF (BXH.wd (X := X) (bs := bs)).ex rfl rfl (fun _ _ _ _ => rfl)
        refine b_Lookup_host_110 (d := d + 74) (r_sigL A1.1 (er h1 (wdX X bs) 4 CF BXH.wd BXK.wd ?_ ?_ (by decide)))
        · unfold hkB; rw [en0]; simp
        · unfold hkG; rw [if_neg (by omega), if_neg (by omega), if_pos k5, if_pos en0]
      rw [i1 (kq (Or.inr (Or.inr k5)))]
      obtain ⟨b1, b2, b3, b4⟩ := bb (kq (Or.inr (Or.inr k5)))
      refine r_hostName a1 a2 a3 a4 (by omega) (a5.g (w := []) (by decide +kernel)) (by decide) (fun i hi => absurd hi (Nat.not_lt_zero _)) b1 b2 b3 b4 (fun v fw bs => ?_)
      have eW : wtL [] L = L := by unfold wtL; rw [if_pos rfl]
      rw [eW] at fw
      have yh : hR (cc h C (wdX X bs) Y) f_Lookup_host (C + 98) = ho := by rw [ccR (by decide)]; exact a4
      have yt : hR (cc h C (wdX X bs) Y) f_Found_type (C + 53) = hB h (ho + 2) c := by rw [ccR (by decide)]; exact a9
      have HXc : HCX ρ (cc h C (wdX X bs) Y) ho g N M hw := a3.fr (cc_fr G) (by unfold DJ; decide) (by simp)
      have bc : hB (cc h C (wdX X bs) Y) (ho + 2) c = hB h (ho + 2) c := by
        have := ccBo (X := wdX X bs) (Y := Y) (i := c) (f := f_Host_types) (b := ho) G (by decide) a3.hh.2.1
        rw [a3.hh.2.2.1] at this; exact this
      show (v < 0 → _) ∧ (0 ≤ v → _)
      rw [yh, yt]
      refine ⟨fun v0 => ?_, fun v0 => ⟨kl, ko, a3.hh.1, ?_⟩⟩
      · rcases fw with ⟨nw, ev, n1, n2⟩ | ⟨ev, nn⟩
        · omega
        · exact g110 h bs CF0 (by rw [eC]; exact col_none w1 w2 a3 a8 nn)
      · rcases fw with ⟨nw, ev, n1, n2⟩ | ⟨ev, nn⟩
        · rw [ev, ← bc]
          refine wp_d (show d + 2 + 72 = d + 74 by omega) (c_hasMethods (d := d + 2) w1 w2 w4 a8 a10 a11 n1 n2 HXc (fun h1 MF en1 => ?_) (fun h1 MF en0 => ?_))
          · obtain ⟨CF, EB⟩ := MF.mac G F
            refine ⟨fun _ => ⟨CF.2.2.2.2.1.2.2.2.2.2.2.2.2, ?_⟩, fun c => absurd c (by decide)⟩
            have r := cho h1 (wdX X bs) 1 st (nw : Int) 0 CF BXH.wd BXK.wd (Or.inl k5) (by rw [eC]; exact en1) ⟨(nw : Int), by rw [if_neg (by omega), if_neg (by omega), if_neg (by omega)], fun c => by omega, fun _ => ⟨nw, rfl, n1, by rw [if_neg (by omega)]; exact n2⟩⟩
            rw [EB] at r; exact r
          · obtain ⟨CF, EB⟩ := MF.mac G F
            have r := g110 h1 bs CF (by rw [eC]; exact en0)
            rw [EB] at r
            exact ⟨fun c => absurd rfl c, fun _ => r⟩
        · omega
    · -- a maker
      have s1 : st = 1 := by omega
      have eC : hkC g κ st c L = mkrG g c := by unfold hkC; rw [if_neg (by omega), if_neg (by omega)]
      have yh : hR (cc h C X Y) f_Lookup_host (C + 98) = ho := by rw [ccR (by decide)]; exact a4
      have yt : hR (cc h C X Y) f_Found_type (C + 53) = hB h (ho + 2) c := by rw [ccR (by decide)]; exact a9
      have HXc : HCX ρ (cc h C X Y) ho g N M hw := a3.fr (cc_fr G) (by unfold DJ; decide) (by simp)
      have bc : hB (cc h C X Y) (ho + 2) c = hB h (ho + 2) c := by
        have := ccBo (X := X) (Y := Y) (i := c) (f := f_Host_types) (b := ho) G (by decide) a3.hh.2.1
        rw [a3.hh.2.2.1] at this; exact this
      rw [yh, yt, ← bc]
      refine ⟨a3.hh.1, ?_⟩
      refine wp_d (show d + 63 + 11 = d + 74 by omega) (c_hasMaker (d := d + 63) w2 w4 a8 HXc (fun h1 MF en1 => ?_) (fun h1 MF en0 => ?_))
      · obtain ⟨CF, EB⟩ := MF.mac G F
        refine ⟨fun _ => ⟨CF.2.2.2.2.1.2.2.2.2.2.2.2.2, ?_⟩, fun c => absurd c (by decide)⟩
        have r := cho h1 X 2 0 (-1) 0 CF BXH.rf bkr (Or.inr ⟨k6, s1⟩) (by rw [eC]; exact en1) ⟨-1, by rw [if_pos k6, if_pos k6, if_neg (by omega)], fun _ => rfl, fun c => absurd k6 c⟩
        rw [EB] at r; exact r
      · obtain ⟨CF, EB⟩ := MF.mac G F
        have A1 := A.chf (X' := X) (Y' := Y) CF EXX.rf rfl rfl (fun _ _ _ _ => rfl)
        refine ⟨fun c => absurd rfl c, fun _ => ?_⟩
        have r := r_sigL (ρ := ρ) (d := d + 74) (Q := Q) A1.1 (er h1 X 4 CF BXH.rf bkr (by unfold hkB; rw [eC, en0]; simp) (by unfold hkG; rw [if_neg (by omega), if_neg (by omega), if_neg (by omega), if_pos ⟨k6, s1⟩, if_pos (by rw [eC]; exact en0)]) (by decide))
        rw [EB] at r; exact r
    · refine r_sigL a1 (er h X 5 CF0 BXH.rf bkr ?_ ?_ (by decide))
      · unfold hkB; rw [decide_eq_false (by omega)]; rfl
      · unfold hkG; rw [if_neg (by omega), if_neg (by omega), if_neg (by omega), if_neg (by omega)]
  refine b_Lookup_host_0 ⟨ko, ?_⟩
  rw [il]
  refine ⟨fun c => ?_, fun c => ?_⟩
  · have s0 : st = 0 := by omega
    rw [s0] at g13; exact g13
  · have s1 : st = 1 := by omega
    rw [s1] at g13; exact g13
end
