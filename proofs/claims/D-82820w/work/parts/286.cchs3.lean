/-! C: a member is chosen -/
set_option maxRecDepth 20000
section
variable {ρ : Nat → Nat} {d : Nat} {Q : QT} {Γ : GH} {h h' h1 h2 B : ah} {C ho k n m i j N M a b z s x y nw r f o kn ac e c : Nat} {g : HG} {v p es lo sb st kd nm : Int} {ws hw : List (List Int)} {L ts cl : List Int} {S : SS} {X X' : X3} {Y Y' : Y3} {K K0 : KEY} {CK : Nat → KEY} {CV : Nat → Int} {ca : Nat → Nat} {Lf cs : List Nat} {Pp : List (Nat × Nat)}
theorem xcX_core (HC : CORE Γ h C ho X Y S N) : CORE Γ h C ho (xcX X) Y S N := (HC.xo (by decide +kernel)).xo (by decide +kernel)
theorem xcX_o (h1 : f ≠ f_Found_byClasses) (h2 : f ≠ f_Found_action) : xcX X o f i = X o f i := by unfold xcX; rw [u3_f h2, u3_f h1]
theorem wkX_o (h1 : f ≠ f_Lookup_workedOut) : wkX X o f i = X o f i := by unfold wkX; rw [u3_f h1]
theorem r_chosen (HC : CORE Γ h C ho X Y S N) (HX : HCX ρ h ho g N M hw) (yo : Y 98 f_Lookup_host 0 = ho) (W : HGW g N) (W2 : HMW g N M) (W3 : HPW g N M) (WX : HWX g N M) (A : LKH h ho X Y N M kn ac CK CV ca) (hc : c < N) (hs : st = 0 ∨ st = 1) (hsb : sb = 0 ∨ sb = 1) (hst : kd = 1 → st = 0 → g.1 1 c = 0) (hkd : kd = 1 ∨ kd = 2) (hnw : kd = 1 → nw < hw.length ∧ hw.getD nw [] = L ∧ nm = (nw : Int)) (ety : Y 53 f_Found_type 0 = hB h (ho + 2) c) (eop : X 53 f_Found_operands 0 = (ts.length : Int)) (ht : ts.length ≤ 8) (hts : ∀ i, i < ts.length → 0 ≤ ts.getD i 0 ∧ ts.getD i 0 < 9 + (N : Int)) (ec : ∀ i, i < ts.length → X 53 f_Found_classes i = clA (ts.getD i 0)) (ecs : cs = ((if kd = 1 then colG g (wtB g st L (-1)) (ordG g c) else mkrG g c).filter (fsB g sb))) (eK : K0 = ((c : Int), kd, st, nm, sb, ts.map clA))
    (q1 : ∀ k, k < kn → CK k = K0 → (∀ j, k < j → j < kn → ¬ CK j = K0) → FIN Q h C ho (xcX X) Y (CV k))
    (q2 : (∀ k, k < kn → ¬ CK k = K0) → ac < 2000 → ∀ h2 a, CHF h C ho 1 h2 → LKH h2 ho (kpX (wkX (xcX X)) kn ac) (u3 Y 98 f_Lookup_choices (hsK K0).toNat a) N M (kn + 1) (ac + 1) (upF CK kn K0) (upF CV kn (sglG g ts cs)) (upF ca kn a) → HCX ρ h2 ho g N M hw → FIN Q h2 C ho (kpX (wkX (xcX X)) kn ac) (u3 Y 98 f_Lookup_choices (hsK K0).toNat a) (sglG g ts cs))
    (q3 : (∀ k, k < kn → ¬ CK k = K0) → ac = 2000 → ∀ h2, CHF h C ho 0 h2 → LKH h2 ho (wkX (xcX X)) Y N M kn ac CK CV ca → HCX ρ h2 ho g N M hw → FIN Q h2 C ho (wkX (xcX X)) Y (sglG g ts cs)) : wpB PGm ρ (d + 73) m_Lookup_chosen 0 [(0, vR (C + 98)), (1, vR (C + 53)), (2, vI kd), (3, vI st), (4, vI nm), (5, vI sb)] [] (cc h C X Y) Q := by
  have F := HC.1.2
  have G := HC.1.1
  have ko : hK h (C + 53) = k_Found := F.1.2.2.2.2.2.2.1
  have kl : hK h (C + 98) = k_Lookup := F.1.2.2.2.2.2.2.2.2
  have HC1 := xcX_core HC
  have A1 : LKH h ho (xcX X) Y N M kn ac CK CV ca := A.fr (Lf := []) (Pp := []) Fr.r0 (by unfold DJ; decide) (by simp) (fun _ _ => rfl) (fun _ _ => rfl) (xcX_o (by decide) (by decide)) (xcX_o (by decide) (by decide)) (fun _ => rfl)
  have T := HX.tp hc
  have lK : K0.2.2.2.2.2 = ts.map clA := by rw [eK]
  have lK' : K0.2.2.2.2.2.length = ts.length := by rw [lK]; simp
  have gK : ∀ i, i < ts.length → K0.2.2.2.2.2.getD i 0 = clA (ts.getD i 0) := fun i hi => by
    rw [lK]
    simp only [List.getD, List.getElem?_map]
    rw [List.getElem?_eq_getElem hi]
    rfl
  have c1 : K0.1 = (c : Int) := by rw [eK]
  have c2 : K0.2.1 = kd := by rw [eK]
  have c3 : K0.2.2.1 = st := by rw [eK]
  have c4 : K0.2.2.2.1 = nm := by rw [eK]
  have c5 : K0.2.2.2.2.1 = sb := by rw [eK]
  have y1 : ∀ {X' : X3}, hR (cc h C X' Y) f_Found_type (C + 53) = hB h (ho + 2) c := fun {X'} => by rw [ccR (by decide)]; exact ety
  have i1 : ∀ {X' : X3}, hI (cc h C X' Y) f_HostType_number (hB h (ho + 2) c) = (c : Int) := fun {X'} => by rw [ccIo (by decide)]; exact T.2.1
  have opx : xcX X 53 f_Found_operands 0 = (ts.length : Int) := by rw [xcX_o (by decide) (by decide)]; exact eop
  have clx : ∀ i, i < ts.length → xcX X 53 f_Found_classes i = clA (ts.getD i 0) := fun i hi => by rw [xcX_o (by decide) (by decide)]; exact ec i hi
  have kf : hK h (hR h f_Found_classes (C + 53)) = 1 := (KC G).2.2.2.2.2.2.2.2.2.2.2.2.2.1
  have lf : hl h (hR h f_Found_classes (C + 53)) = 9 := by
    have f2 := F
    unfold FC at f2
    exact f2.2.2.2.2.2.2.1.1
  have kc : hK h (hR h f_Lookup_choices (C + 98)) = 22 := (KC G).2.2.2.2.2.2.2.2.2.2.2.2.2.2.2.2
  have lc : hl h (hR h f_Lookup_choices (C + 98)) = 256 := by
    have f2 := F
    unfold FC at f2
    exact f2.2.2.2.2.2.2.1.2.2.1
  obtain ⟨hb0, hb1⟩ := hsF_b (K0.2.2.2.2.2.foldl (fun h x => w32 (w32 (31 * h) + x)) (hs0 K0))
  have hb0' : 0 ≤ hsK K0 := hb0
  have hb1' : hsK K0 < 256 := hb1
  clear hb0 hb1
  -- a choice is worked out
  have new : (∀ k, k < kn → ¬ CK k = K0) → wpB PGm ρ (d + 73) m_Lookup_chosen 138 [(0, vR (C + 98)), (1, vR (C + 53)), (2, vI kd), (3, vI st), (4, vI nm), (5, vI sb), (6, vI (hsK K0)), (7, vR 0)] [] (cc h C (xcX X) Y) Q := fun no => by
    have wk : hI (cc h C (xcX X) Y) f_Lookup_workedOut (C + 98) = xcX X 98 f_Lookup_workedOut 0 := ccI (by decide)
    have HC2 : CORE Γ h C ho (wkX (xcX X)) Y S N := HC1.xo (by decide +kernel)
    have HXc : HCX ρ (cc h C (wkX (xcX X)) Y) ho g N M hw := HX.fr (cc_fr G) (by unfold DJ; decide) (by simp)
    have yh : ∀ {B : ah}, AC B C → cc B C (wkX (xcX X)) Y = B → hR B f_Lookup_host (C + 98) = ho := fun {B} _ e => by
      have : hR (cc B C (wkX (xcX X)) Y) f_Lookup_host (C + 98) = Y 98 f_Lookup_host 0 := ccR (by decide)
      rw [e, yo] at this; exact this
    have bc : ∀ i, hB (cc h C (wkX (xcX X)) Y) (ho + 2) i = hB h (ho + 2) i := fun i => by
      have := ccBo (X := wkX (xcX X)) (Y := Y) (i := i) (f := f_Host_types) (b := ho) G (by decide) HX.hh.2.1
      rw [HX.hh.2.2.1] at this; exact this
    -- behind the search
    have beh : ∀ (B : ah) (a0 : Nat) (v : Int), MFR (cc h C (wkX (xcX X)) Y) ho B → v = sglG g ts cs → ((0 ≤ v ∧ v < (M : Int) ∧ a0 = hB B (ho + 3) v.toNat) ∨ ((v = -8 ∨ v = -9) ∧ a0 = 0 ∧ hI B f_Host_why ho = -v)) → hK B (C + 98) = k_Lookup ∧ hK B (hR B f_Lookup_host (C + 98)) = k_Host ∧ ((2000 ≤ (hI B f_Lookup_allKept (C + 98)) → wpB PGm ρ (d + 73) m_Lookup_chosen 296 [(0, vR (C + 98)), (1, vR (C + 53)), (8, vR a0), (9, vI (hI B f_Host_why (hR B f_Lookup_host (C + 98))))] [] B Q) ∧ ((hI B f_Lookup_allKept (C + 98)) < 2000 → let h26 := hn B k_Choice 9 0
        hK h26 (C + 53) = k_Found ∧ (hK h26 (hR h26 f_Found_classes (C + 53)) = 1 ∧ 0 ≤ (hI h26 f_Found_operands (C + 53)) ∧ (hI h26 f_Found_operands (C + 53)) ≤ 67108864) ∧ let h29 := hcp h26 1 (hR h26 f_Found_classes (C + 53)) (hI h26 f_Found_operands (C + 53)).toNat
        hK h29 (C + 98) = k_Lookup ∧ (20 ≤ hK h29 (hR h29 f_Lookup_choices (C + 98)) ∧ hK h29 (hR h29 f_Lookup_choices (C + 98)) < 100 ∧ 0 ≤ hsK K0 ∧ hsK K0 < (hl h29 (hR h29 f_Lookup_choices (C + 98)) : Int)) ∧ hK h29 (hz B) ≠ 0 ∧ wpB PGm ρ (d + 72) m_Choice_init 0 [(0, vR (hz B)), (1, vR (hR h26 f_Found_type (C + 53))), (2, vI kd), (3, vI st), (4, vI nm), (5, vI sb), (6, vR (hz h26)), (7, vR (hB h29 (hR h29 f_Lookup_choices (C + 98)) (hsK K0).toNat))] [] h29 (cV (fun h32 => wpB PGm ρ (d + 73) m_Lookup_chosen 253 [(0, vR (C + 98)), (1, vR (C + 53)), (6, vI (hsK K0)), (7, vR (hz B)), (8, vR a0), (9, vI (hI B f_Host_why (hR B f_Lookup_host (C + 98))))] [] h32 Q) (fun e35 h34 => hK h34 e35 ≠ 0 ∧ Q (Sum.inr e35) h34)))) := fun B a0 v MF ev hv => by
      obtain ⟨CF, EB⟩ := MF.mac G F
      have GB := CF.2.2.2.1
      have FB := CF.2.2.2.2
      obtain ⟨bb2, bb3, HB⟩ := CF.bb HX
      have ehst := yh GB EB
      have ak : hI B f_Lookup_allKept (C + 98) = (ac : Int) := by
        have : hI (cc B C (wkX (xcX X)) Y) f_Lookup_allKept (C + 98) = wkX (xcX X) 98 f_Lookup_allKept 0 := ccI (by decide)
        rw [EB, wkX_o (by decide), A1.1.2.1] at this; exact this
      have AB : LKH B ho (wkX (xcX X)) Y N M kn ac CK CV ca := by
        obtain ⟨⟨z, s, frB⟩, -⟩ := CF
        refine A1.fr frB ?_ PMN0 (fun i _ => bb2 i) (fun i _ => bb3 i) (wkX_o (by decide)) (wkX_o (by decide)) (fun _ => rfl)
        refine List.all_eq_true.mpr fun f hf => ?_
        have e : [f_Choice_type, f_Choice_kind, f_Choice_isStatic, f_Choice_name, f_Choice_setter, f_Choice_classes, f_Choice_member, f_Choice_why, f_Choice_next].all (fun f => !(LCC.elem f) && !([f_Host_meant + 1, f_Host_met + 1, f_Host_why].elem f)) = true := by decide +kernel
        exact List.all_eq_true.mp e f hf
      rw [ehst, ak]
      refine ⟨FB.1.2.2.2.2.2.2.2.2, HB.hh.1, fun c => ?_, fun c => ?_⟩
      · have a2 : ac = 2000 := by have := A1.1.2.2.2; omega
        have g := q3 no a2 B CF AB HB
        rw [← ev] at g
        have r := r_cho296 (ρ := ρ) (d := d + 72) (l8 := a0) (l9 := hI B f_Host_why ho) (v := v) (ho := ho) (X := wkX (xcX X)) (Y := Y) GB FB (fun v0 => by
          rcases hv with ⟨v1, v2, v3⟩ | ⟨v1, v2, v3⟩
          · exact ⟨v3, by rw [v3]; exact (HB.me (j := v.toNat) (by omega)).1.2.2⟩
          · omega) (fun v0 => by
          rcases hv with ⟨v1, v2, v3⟩ | ⟨v1, v2, v3⟩
          · omega
          · exact ⟨v2, v3⟩) g
        rw [EB] at r
        exact r
      · have a2 : ac < 2000 := by omega
        have r := r_choN (ρ := ρ) (d := d + 72) (Q := Q) (v := v) (a0 := a0) (w9 := hI B f_Host_why ho) (K0 := K0) GB FB EB HB AB (by omega) a2 (by rw [c1]; omega) (by rw [c3]; exact hs) (by rw [c5]; exact hsb) (by rw [c1, Int.toNat_natCast, bb2]; exact ety) (by rw [wkX_o (by decide), lK']; exact opx) (by omega) (fun i hi => by rw [wkX_o (by decide), gK i (by omega)]; exact clx i (by omega)) hv (fun h2 a f2 z2 s2 G2 F2 i2 LK => by
          have CF2 : CHF h C ho 1 h2 := by
            obtain ⟨⟨z, s, fB⟩, p1, p2, -, -⟩ := CF
            obtain ⟨z', s', fr2⟩ := f2
            refine ⟨⟨z + z', s + s', fB.trans (fr2.mono (fun f hf => by cases hf) (fun q hq => by cases hq))⟩, ?_, ?_, G2, F2⟩
            · rw [i2]; omega
            · rw [i2]; omega
          have HB2 := (CF2.bb HX).2.2
          rw [ev] at LK ⊢
          exact q2 no a2 h2 a CF2 LK HB2)
        rw [c2, c3, c4, c5] at r
        exact r
    refine b_Lookup_chosen_138 (d := d + 72) (by omega) ⟨fun _ => ⟨kl, ?_⟩, fun c => absurd rfl c⟩
    rw [wk]
    show hK (sI (cc h C (xcX X) Y) f_Lookup_workedOut (C + 98) (w32 (xcX X 98 f_Lookup_workedOut 0 + 1))) (C + 53) = k_Found ∧ _
    rw [cc_sI (by decide), show u3 (xcX X) 98 f_Lookup_workedOut 0 (w32 (xcX X 98 f_Lookup_workedOut 0 + 1)) = wkX (xcX X) from rfl]
    have yh1 : hR (cc h C (wkX (xcX X)) Y) f_Lookup_host (C + 98) = ho := by rw [ccR (by decide)]; exact yo
    have xo1 : hI (cc h C (wkX (xcX X)) Y) f_Found_operands (C + 53) = (ts.length : Int) := by rw [ccI (by decide), wkX_o (by decide)]; exact opx
    have yc1 : hR (cc h C (wkX (xcX X)) Y) f_Found_classes (C + 53) = hR h f_Found_classes (C + 53) := ccRo (by decide)
    rw [yh1, y1, xo1, yc1, ← bc c]
    refine ⟨ko, HX.hh.1, ?_⟩
    have CR : ∀ h1, MFR (cc h C (wkX (xcX X)) Y) ho h1 → CLR h1 (hR h f_Found_classes (C + 53)) ts := fun h1 MF => by
      have oF : own f_Found_classes := by unfold own; decide
      have gz : C + 53 < hz (cc h C (wkX (xcX X)) Y) := by have := G.1; rw [ccz]; omega
      have n0 : hR h f_Found_classes (C + 53) ≠ 0 := fun c => by
        have := (G.2.2.2.1 (f_Found_classes, 53, 1) (by decide)).1
        exact this c
      have fz : hR h f_Found_classes (C + 53) < hz (cc h C (wkX (xcX X)) Y) := G.2.1.1 _ _ gz oF
      have sm := MF.ar' HXc.inj oF gz yc1 n0 (fun c => by
        have dj : DJ [f_Found_classes, f_Found_classes + 1] [] (PMN ho) := djPM (by decide)
        exact c.elim (dj.w (by decide)) (dj.w (by decide)))
      obtain ⟨⟨z, s, fr⟩, -⟩ := MF
      refine ⟨by rw [fr.K fz]; exact kf, by rw [sm.1, ccl, lf]; omega, fun i hi => ?_⟩
      rw [sm.2.1, ccA G (by decide), wkX_o (by decide)]
      exact clx i hi
    refine wp_d (show d + 72 = d + 72 from rfl) (c_choose (d := d) (sb := sb) (v := nm) (nw := nw) (L := L) (cs := cs) W W2 W3 WX hc hs hst hkd hnw HXc CR ht hts ecs (fun h1 m MF em mM => ?_) (fun h1 x MF hx em => ?_))
    · exact beh h1 (hB h1 (ho + 3) m) (m : Int) MF em.symm (Or.inl ⟨by omega, by omega, by rw [Int.toNat_natCast]⟩)
    · exact beh (sI h1 f_Host_why ho x) 0 (-x) (MF.why x) em.symm (Or.inr ⟨by omega, rfl, by rw [I_I]; omega⟩)
  -- it was kept
  have old : ∀ k, k < kn → CK k = K0 → (∀ j, k < j → j < kn → ¬ CK j = K0) → wpB PGm ρ (d + 73) m_Lookup_chosen 138 [(0, vR (C + 98)), (1, vR (C + 53)), (2, vI kd), (3, vI st), (4, vI nm), (5, vI sb), (6, vI (hsK K0)), (7, vR (ca k))] [] (cc h C (xcX X) Y) Q := fun k hk ek nk => by
    obtain ⟨⟨⟨k1, k2, k3⟩, -, -, -, mm⟩, -⟩ := A1.2.1 k hk
    have rm : hR (cc h C (xcX X) Y) f_Choice_member (ca k) = hR h f_Choice_member (ca k) := ccRo (by decide)
    have iw : hI (cc h C (xcX X) Y) f_Choice_why (ca k) = hI h f_Choice_why (ca k) := ccIo (by decide)
    refine b_Lookup_chosen_138 (d := d + 72) (by omega) ⟨fun c => absurd c k3, fun _ => ⟨k1, ?_⟩⟩
    rw [rm, iw]
    refine r_cho296 (d := d + 72) (v := CV k) (ho := ho) G F (fun v0 => ?_) (fun v0 => ?_) (q1 k hk ek nk)
    · rcases mm with ⟨m1, m2, m3⟩ | ⟨m1, m2, m3⟩
      · exact ⟨m3, by rw [m3]; exact (HX.me (j := (CV k).toNat) (by omega)).1.2.2⟩
      · omega
    · rcases mm with ⟨m1, m2, m3⟩ | ⟨m1, m2, m3⟩
      · omega
      · exact ⟨m2, m3⟩
  have g97 : wpB PGm ρ (d + 73) m_Lookup_chosen 97 [(0, vR (C + 98)), (1, vR (C + 53)), (2, vI kd), (3, vI st), (4, vI nm), (5, vI sb), (6, vI (hsK K0)), (7, vR (chA' CK ca kn (hsK K0).toNat))] [] (cc h C (xcX X) Y) Q := by
    have r := r_cho97 (ρ := ρ) (d := d + 72) (Q := Q) (K0 := K0) HC1 HX A1 (by rw [c1]; omega) (by rw [c1, Int.toNat_natCast]; exact ety) (by rw [lK']; exact opx) (by omega) (fun i hi => by rw [gK i (by omega)]; exact clx i (by omega)) (fun k hk ek nk => by rw [c2, c3, c4, c5]; exact old k hk ek nk) (fun no => by rw [c2, c3, c4, c5]; exact new no) kn (Nat.le_refl _) (fun k h1 h2 => by omega)
    rw [c2, c3, c4, c5] at r
    exact r
  clear old new
  -- the hash
  have lp : ∀ mm j, j + mm = ts.length → wpB PGm ρ (d + 73) m_Lookup_chosen 44 [(0, vR (C + 98)), (1, vR (C + 53)), (2, vI kd), (3, vI st), (4, vI nm), (5, vI sb), (6, vI ((K0.2.2.2.2.2.take j).foldl (fun h x => w32 (w32 (31 * h) + x)) (hs0 K0))), (7, vI (j : Int))] [] (cc h C (xcX X) Y) Q := fun mm => by
    have x1 : hI (cc h C (xcX X) Y) f_Found_operands (C + 53) = (ts.length : Int) := by rw [ccI (by decide)]; exact opx
    have r1 : hR (cc h C (xcX X) Y) f_Lookup_choices (C + 98) = hR h f_Lookup_choices (C + 98) := ccRo (by decide)
    have r2 : hR (cc h C (xcX X) Y) f_Found_classes (C + 53) = hR h f_Found_classes (C + 53) := ccRo (by decide)
    induction mm with
    | zero =>
      intro j hj
      have ej : j = ts.length := by omega
      have z0 : (ts.length : Int) ≤ (j : Int) ∧ ¬ (j : Int) < (ts.length : Int) := by omega
      refine b_Lookup_chosen_44 ⟨ko, ?_⟩
      rw [x1, r1, List.take_of_length_le (by omega)]
      refine ⟨fun _ => ⟨kl, ⟨by rw [ccK, kc]; decide, by rw [ccK, kc]; decide, hb0', by rw [ccl, lc]; exact hb1'⟩, ?_⟩, fun c => absurd c z0.2⟩
      have eB : hB (cc h C (xcX X) Y) (hR h f_Lookup_choices (C + 98)) (hsK K0).toNat = chA' CK ca kn (hsK K0).toNat := by rw [ccB G (by decide)]; exact A1.2.2 _ (by omega)
      have := g97
      rw [← eB] at this
      exact this
    | succ mm ih =>
      intro j hj
      have jl : j < ts.length := by omega
      have z0 : ¬ (ts.length : Int) ≤ (j : Int) ∧ 0 ≤ (j : Int) ∧ (j : Int) < ((9 : Nat) : Int) ∧ j ≤ 2000000000 := by omega
      have g1 := ih (j + 1) (by omega)
      rw [take_s (by omega), List.foldl_append, gK j jl] at g1
      refine b_Lookup_chosen_44 ⟨ko, ?_⟩
      rw [x1, r2]
      refine ⟨fun c => absurd c z0.1, fun _ => ⟨⟨by rw [ccK, kf]; decide, z0.2.1, by rw [ccl, lf]; exact z0.2.2.1⟩, ?_⟩⟩
      rw [Int.toNat_natCast, ccA G (by decide), clx j jl, w32_p1 z0.2.2.2]
      exact g1
  have g44 := lp ts.length 0 (by omega)
  rw [List.take_zero, List.foldl_nil] at g44
  have e0 : hs0 K0 = w32 (w32 (w32 (w32 (31 * (c : Int)) + w32 (7 * kd)) + nm) + (if st = 0 then 0 else 3)) := by rw [eK]; rfl
  refine b_Lookup_chosen_0 ⟨ko, ?_⟩
  show hK (sI (sI (cc h C X Y) f_Found_byClasses (C + 53) 1) f_Found_action (C + 53) 8) (hR (sI (sI (cc h C X Y) f_Found_byClasses (C + 53) 1) f_Found_action (C + 53) 8) f_Found_type (C + 53)) = k_HostType ∧ _
  rw [cc_sI (by decide), cc_sI (by decide), show u3 (u3 X 53 f_Found_byClasses 0 1) 53 f_Found_action 0 8 = xcX X from rfl, y1, i1]
  refine ⟨T.1.1, fun s0 => b_Lookup_chosen_38 ?_, fun s0 => b_Lookup_chosen_38 ?_⟩
  · rw [e0, if_pos s0] at g44
    exact g44
  · rw [e0, if_neg s0] at g44
    exact g44
end
