/-! perform: a function is called -/
set_option maxRecDepth 20000
section
variable {ρ : Nat → Nat} {d : Nat} {Q : QT} {Γ Γ' : GH} {h h' h1 h2 H : ah} {C ho k i j N M a z s r f o c t n mn m0 rr sk rk l cd ar nv np E va ma mk ck jm vs fm po fn pp : Nat} {g : HG} {v w hd ty κ nm x y x1 nw : Int} {S S' S1 : SS} {X X' X1 X2 : X3} {Y Y' Y1 Y2 : Y3} {b : Bool} {tg wd : Nat → Int} {L : List Nat} {P : List (Nat × Nat)} {fi ca m q : Int}
theorem CORE.tasky (H : CORE Γ h C ho X Y S N) (hto : isTO t o) (K : CT Γ h C X' Y' S' N t o n c r) (ns : NSt t S S') (nx : NXo o X X') (ny : ∀ a f i, a ≠ o → Y' a f i = Y a f i) : CORE Γ h C ho X' Y' S' N := by
  obtain ⟨⟨G, F⟩, ⟨n0, c0, r0, K0⟩, ⟨n1, c1, r1, K1⟩, a1, a2, a3, a4, a5, a6, a7, a8⟩ := H
  have g : GRO Γ Γ h h C S S' := GRO.nst ns
  refine ⟨⟨G, F⟩, ?_, ?_, a1.ext G F g (ns.ex (by decide)) (Int.le_of_eq (ns.g (by decide)).symm) (L := []) (P := []) Fr.r0 (by unfold DJ; decide) (by unfold DJ; decide) (by simp), a2.ext g (ns.ex (by decide)) (nx.ex (by decide)) rfl rfl rfl, a3.ext (C := C) G.2.1 g (ns.ex (by decide)) (L := []) (P := []) Fr.r0 (by unfold DJ; decide) (by unfold DJ; decide) (by simp), a4.ext g (ns.ex (by decide)) (nx.ex (by decide)) rfl rfl rfl, a5.ext (ns.ex (by decide)) (nx.ex (by decide)) rfl rfl rfl, a6.ext (ns.ex (by decide)) (nx.ex (by decide)), a7.ext G F g (ns.ex (by decide)) (L := []) (P := []) Fr.r0 (by unfold DJ; decide) (by unfold DJ; decide) (by simp) (fun _ _ => rfl), a8⟩
  · rcases hto with ⟨rfl, rfl⟩ | ⟨rfl, rfl⟩
    · exact ⟨n, c, r, K⟩
    · exact ⟨n0, c0, r0, K0.oth ns nx (by decide) (by decide) (fun f _ i => ny 62 f i (by decide))⟩
  · rcases hto with ⟨rfl, rfl⟩ | ⟨rfl, rfl⟩
    · exact ⟨n1, c1, r1, K1.oth ns nx (by decide) (by decide) (fun f _ i => ny 75 f i (by decide))⟩
    · exact ⟨n, c, r, K⟩
theorem goX_sz {p q : Int} : u3 (goX (u3 X o f_Task_size 0 p) o c) o f_Task_size 0 q = u3 (goX X o c) o f_Task_size 0 q := by
  unfold goX
  funext a f i
  simp only [u3_e]
  by_cases w1 : f = f_Task_size
  · subst w1
    by_cases w2 : a = o ∧ i = 0
    · simp (decide := true) [w2]
    · simp (decide := true) [w2]
  · simp (decide := true) [w1]
theorem atS_hs {p q : Int} : u2 (atS (u2 S f_Md_height t p) t c w) f_Md_height t q = u2 (atS S t c w) f_Md_height t q := by
  unfold atS
  funext f i
  simp only [u2_e]
  by_cases w1 : f = f_Md_height
  · subst w1
    by_cases w2 : i = t
    · simp (decide := true) [w2]
    · simp (decide := true) [w2]
  · simp (decide := true) [w1]
/-- both stand so after a call has begun -/
theorem RLC.call {Γ0 : GH} {h0 : ah} {X0 : X3} {S0 : SS} (H0 : OPH Γ h C X Y S N t o n c r) (nx : NXT Γ S (fsS S t (c - 1)) (psS S t (c - 1)) 0 po 0 0) (hm : m0 + 1 + po = n) (hb : bsS S t (c - 1) ≤ m0) (hc : c < 200) (M0 : CORE Γ0 h0 C ho X0 Y S0 N) (K0 : CT Γ0 h0 C X0 Y S0 N t o n c r) (g0 : GRO Γ Γ0 h h0 C S S0) (e0 : EXS (LTK ++ [f_Md_t, f_Md_p0, f_Md_f0, f_Md_top, f_Md_after, f_Md_codeSize]) S S0) (nsc : NSc S S0) (nxc : NXc X X0) (fr0 : Fr LHc [] z s h h0) (bd0 : BND h C S h0 S0 1 8) (G1 : AC H C) (F1 : FC H C) (A : NV (cc h0 C X0 Y) H (gva Γ0 ar) nv (min E np) tg wd) (fl : (fn : Int) < S0 f_Md_functions 0) (ev : S0 f_Md_variablesOf fn = (nv : Int)) (hnv : nv ≤ 60) (har : (ar : Int) < S0 f_Md_calls 0) (hcf : gcf Γ0 ar = gou Γ0 fn) (hof : gou Γ0 fn ≠ fn) (ek : S0 f_Md_calls 0 = (ck : Int)) (em : S0 f_Md_allMade 0 = (mk : Int)) (es : S0 f_Md_variables 0 = (vs : Int)) (er : S0 f_Md_allSlots 0 = (rk : Int)) (hr : mk + 1 ≤ 8000 ∧ rk + nv ≤ 60000) (VA : ∀ i, i < min E np → VR Γ0 S0 N (tg i) (wd i) (S0 f_Md_pileType (fm + i)) (S0 f_Md_pileValue (fm + i))) (V : VR Γ0 S0 N x y ty v) (nw1 : (nw = -1 ∧ ma = 0) ∨ (0 ≤ nw ∧ nw < S0 f_Md_things 0 ∧ S0 f_Md_thingKind nw.toNat = 4 ∧ ma = hB h0 (C + 51) nw.toNat)) : RLC Γ h C ho X Y S N none (enS (u2 (ncS (atS S0 t c ((psS S t (c - 1) + 1 : Nat) : Int)) ck mk vs rk (ar : Int) fm E np nv) f_Md_height t (m0 : Int)) t c (fn : Int) (ck : Int) ty v nw (m0 : Int) (r : Int)) H (entX (u3 (goX (nclX X0 mk ck rk nv) o c) o f_Task_size 0 (m0 : Int)) o c m0 x y) (entY Y o c (hB h0 (C + 56) fn) (hz h0) ma) := by
  obtain ⟨⟨M1, K1⟩, g1, bd1, fr1⟩ := M0.ncl (fm := fm) G1 F1 A fl ev hnv har hcf hof ek em es er hr VA
  have o1 : ∀ f i, LNC.elem f = false → ncS S0 ck mk vs rk (ar : Int) fm E np nv f i = S0 f i := fun f i hf => ncS_off f i hf
  have c1 := (ncS_1 (S := S0) (ck := ck) (mk := mk) (vs := vs) (rk := rk) (v := (ar : Int)) (fm := fm) (n := E) (np := np) (j := nv)).1
  rw [ncS_at]
  have e1 : EXS (LTK ++ [f_Md_t, f_Md_p0, f_Md_f0, f_Md_top, f_Md_after, f_Md_codeSize]) S (ncS S0 ck mk vs rk (ar : Int) fm E np nv) := fun f hf i => ((exs_of o1 (by decide) : EXS (LTK ++ [f_Md_t, f_Md_p0, f_Md_f0, f_Md_top, f_Md_after, f_Md_codeSize]) S0 _) f hf i).trans (e0 f hf i)
  have g2 := g0.tr g1
  have nsc2 : NSc S (ncS S0 ck mk vs rk (ar : Int) fm E np nv) := fun f i hf => by
    rw [(OFF.le (L' := LSc) ncS_off (by decide)) f i hf]; exact nsc f i hf
  have nxc2 : NXc X (nclX X0 mk ck rk nv) := fun a f i hf => by
    unfold nclX
    rw [u3_f (by rintro rfl; exact absurd hf (by decide)), u3_f (by rintro rfl; exact absurd hf (by decide)), u3_f (by rintro rfl; exact absurd hf (by decide))]
    exact nxc a f i hf
  have gva1 : gva (gcal Γ0 ck (hz h0) fn) ck = hz h0 := by show (if ck = ck then _ else _) = _; rw [if_pos rfl]
  have gcf1 : gcf (gcal Γ0 ck (hz h0) fn) ck = fn := by show (if ck = ck then _ else _) = _; rw [if_pos rfl]
  have V2 := g1.vr V
  have fl2 : (fn : Int) < ncS S0 ck mk vs rk (ar : Int) fm E np nv f_Md_functions 0 := by rw [o1 _ _ (by decide)]; exact fl
  obtain ⟨fN, N1, N2, N3, N4⟩ := M1.2.2.2.1
  obtain ⟨-, -, -, -, -, -, -, -, -, -, -, ⟨kf, zf, -, z2, z3, -, -, z5, z6, -⟩⟩ := N4 fn (by omega)
  have g56 : hB H (C + 56) fn = hB h0 (C + 56) fn := (g1.1.2 fn fl).2.1
  have nw2 : (nw = -1 ∧ ma = 0) ∨ (0 ≤ nw ∧ nw < ncS S0 ck mk vs rk (ar : Int) fm E np nv f_Md_things 0 ∧ ncS S0 ck mk vs rk (ar : Int) fm E np nv f_Md_thingKind nw.toNat = 4 ∧ ma = hB H (C + 51) nw.toNat) := by
    rcases nw1 with w | ⟨w1, w2, w3, w4⟩
    · exact Or.inl w
    · exact Or.inr ⟨w1, by rw [o1 _ _ (by decide)]; exact w2, by rw [o1 _ _ (by decide)]; exact w3, by rw [(g1.2.2.1.2 nw.toNat (by omega)).2]; exact w4⟩
  have CT1 := K1 K0
  have H1 := H0.mv M1 CT1 e1
  have hck : (ck : Int) < ncS S0 ck mk vs rk (ar : Int) fm E np nv f_Md_calls 0 := by rw [c1]; omega
  have ef : fsS (ncS S0 ck mk vs rk (ar : Int) fm E np nv) t (c - 1) = fsS S t (c - 1) := by unfold fsS; rw [e1 _ (by decide)]
  have ep : psS (ncS S0 ck mk vs rk (ar : Int) fm E np nv) t (c - 1) = psS S t (c - 1) := by unfold psS; rw [e1 _ (by decide)]
  have ebs : bsS (ncS S0 ck mk vs rk (ar : Int) fm E np nv) t (c - 1) = bsS S t (c - 1) := by unfold bsS; rw [e1 _ (by decide)]
  have flc := (H0.2.2.1.2.2.2.2.2.2.1 (c - 1) (by have := H0.2.2.2.1; omega)).1.2.1
  obtain ⟨-, -, gg3, gg4, -⟩ := g2.1.2 _ flc
  generalize ncS S0 ck mk vs rk (ar : Int) fm E np nv = S1 at *
  generalize nclX X0 mk ck rk nv = X1 at *
  have nx1 : NXT (gcal Γ0 ck (hz h0) fn) S1 (fsS S1 t (c - 1)) (psS S1 t (c - 1)) 0 po 0 0 := by
    rw [ef, ep]; unfold NXT at nx ⊢; rw [e1 _ (by decide), gg3, gg4]; exact nx
  have hn2 : n ≤ 2000 := K0.2.2.1.2.2
  have ht2 := K0.1.to.2
  have ns1 : NSt t S1 (u2 S1 f_Md_height t ((m0 + 1 : Nat) : Int)) := NSt.u (Or.inl ⟨by decide, rfl⟩) NSt.rf
  have pl1 : PIL (gcal Γ0 ck (hz h0) fn) (u3 X1 o f_Task_size 0 ((m0 + 1 : Nat) : Int)) (u2 S1 f_Md_height t ((m0 + 1 : Nat) : Int)) N o t (m0 + 1) := fun i hi => by
    rw [u3_f (by decide), u3_f (by decide), u2_f (by decide), u2_f (by decide)]
    exact ns1.vr (CT1.2.2.2.2.2.1 i (by omega))
  obtain ⟨B1, B2⟩ := CT.nxt (n' := m0 + 1) (S1 := u2 S1 f_Md_height t ((m0 + 1 : Nat) : Int)) (X1 := u3 X1 o f_Task_size 0 ((m0 + 1 : Nat) : Int)) H1 nx1 ns1 (EXS.u (by decide) EXS.rf) (EXX.u (by decide) EXX.rf) u3_s u2_s (by omega) (by omega) pl1
  have hbs : bsS (atS (u2 S1 f_Md_height t ((m0 + 1 : Nat) : Int)) t c ((psS S1 t (c - 1) + 1 : Nat) : Int)) t (c - 1) ≤ m0 := by
    unfold bsS atS
    rw [u2_f (by decide), u2_f (by decide)]
    show bsS S1 t (c - 1) ≤ m0
    rw [ebs]; exact hb
  obtain ⟨D1, D2⟩ := CT.frm (fn := fn) (ck := ck) (x := x) (y := y) (ty := ty) (v := v) (nw := nw) (ma := ma) B1 ⟨H0.2.2.2.1, hc⟩ hbs (by rw [B2.g (by decide)]; exact fl2) z5 z6 (by rw [B2.g (by decide)]; omega) (by rw [B2.g (by decide)]; exact hck) gcf1 (B2.vr V2) (by rw [B2.g (by decide), B2.g (by decide)]; exact nw2)
  rw [goX_sz, gva1, g56, atS_hs, ep] at D1
  rw [atS_hs, ep] at D2
  rw [ep] at B2
  have nsF := B2.tr D2
  have nxF : NXo o X1 (entX (u3 (goX X1 o c) o f_Task_size 0 (m0 : Int)) o c m0 x y) := by
    unfold entX goX
    exact NXo.u (by decide) (NXo.u (by decide) (NXo.u (by decide) (NXo.u (by decide) (NXo.u (by decide) (NXo.u (by decide) (NXo.u (by decide) NXo.rf))))))
  have nyF : ∀ a f i, a ≠ o → entY Y o c (hB h0 (C + 56) fn) (hz h0) ma a f i = Y a f i := fun a f i ha => by
    unfold entY
    rw [u3_e, if_neg (fun q => ha q.1), u3_e, if_neg (fun q => ha q.1), u3_e, if_neg (fun q => ha q.1)]
  have nyc : NYc Y (entY Y o c (hB h0 (C + 56) fn) (hz h0) ma) := fun a f i hf => by
    unfold entY
    rw [u3_f (by rintro rfl; exact absurd hf (by decide)), u3_f (by rintro rfl; exact absurd hf (by decide)), u3_f (by rintro rfl; exact absurd hf (by decide))]
  have lc : LCC.all (fun f => LHc.elem f) = true := by decide
  exact ⟨gcal Γ0 ck (hz h0) fn, _, _, M1.tasky K0.1 D1 nsF nxF nyF, g2.tr (GRO.nst nsF), fun f i hf => (nsF.co f i hf).trans (nsc2 f i hf), fun a f i hf => (nxF.co a f i hf).trans (nxc2 a f i hf), nyc, fr0.trans (fr1.mono (fun f q => by simpa using List.all_eq_true.mp lc f q) (fun q hq => hq)), ((bd0.tr bd1).tr (BND.rows (nsF.ex (by decide)))).le (by decide) (by decide), trivial⟩
/-- what is known of a fun, by both -/
theorem FNQ.co (HC : CORE Γ h C ho X Y S N) (hk : (k : Int) < S f_Md_things 0) (kd : S f_Md_thingKind k = 5) : ∃ fn ar ck mk vs rk np nv : Nat, FNQ S k fn ck mk vs rk np nv (ar : Int) ∧ (fn : Int) < S f_Md_functions 0 ∧ (ar : Int) < S f_Md_calls 0 ∧ gcf Γ ar = gou Γ fn ∧ gou Γ fn ≠ fn ∧ hR h f_Fun_around (hB h (C + 51) k) = gva Γ ar ∧ (X 50 f_Heap_made 0 = (mk : Int) ∧ X 50 f_Heap_calls 0 = (ck : Int) ∧ X 50 f_Heap_room 0 = (rk : Int)) := by
  obtain ⟨tn, sn, sm', d1, d2, d5, d6', d3, d4, d6, d7, d8, U, m1, m2, m3, m4⟩ := HC.shp
  have TH := (d7 k (by omega)).p.1
  obtain ⟨ta1, ⟨ta2, ta3, ta4⟩, -, tf, -⟩ := TH
  obtain ⟨-, t1, t2, t3, t4, t5, t6, t7, t8⟩ := tf.resolve_left (fun z => z.1 kd)
  obtain ⟨fN, n1, n2, n3, n4⟩ := HC.2.2.2.1
  obtain ⟨-, -, -, p4, p5, -, -, -, ⟨p6, p7, p8⟩, -⟩ := n4 (S f_Md_thingFunction k).toNat (by omega)
  obtain ⟨mk, rm, sm, tk, ck, sk, vk, hk', gk, ⟨u1, u2, v3⟩, ⟨u4, u5, u6⟩, -, ⟨w1, w2, w3, w4⟩, ⟨u7, u8, u9⟩, -, -⟩ := HC.2.2.2.2.2.2.2.2.1
  refine ⟨(S f_Md_thingFunction k).toNat, (S f_Md_thingAround k).toNat, ck, mk, vk, rm, (S f_Md_parametersOf (S f_Md_thingFunction k).toNat).toNat, (S f_Md_variablesOf (S f_Md_thingFunction k).toNat).toNat, ⟨by omega, by omega, by omega, by omega, w2, u2, u8, u5, by omega, by omega, by omega, by omega⟩, by omega, by omega, t7, t8, t6, u1, w3, u4⟩
/-- a function is entered from a site -/
theorem pf_enter (P : PFX Γ h C ho X Y S N t o n c r s a κ mn m0 rr) (hκ : κ = 4 ∨ κ = 5) (hb : bsS S t (c - 1) ≤ m0) (hk : (k : Int) < S f_Md_things 0) (kd : S f_Md_thingKind k = 5) (V : VR Γ S N x y ty v) (tac : ∀ e S', (e = none ∨ e = some none) → TCL ρ g N M (k : Int) ty v (mn : Int) S e S' → TAC ρ g N M s S e S') (q : PFR ρ g N M Γ h C ho X Y S s Q) : wpB PGm ρ (d + 12) m_Machine_enter 0 [(0, vR (C + 32)), (1, vR (hB h (C + 51) k)), (2, vI x), (3, vL y), (5, vI ((m0 + 1 : Nat) : Int)), (6, vI (mn : Int)), (7, vI (m0 : Int)), (8, vR 0)] [] (cc h C X Y) (pK Q) := by
  have HC := P.1
  have F := HC.1.2
  have eE : esK κ mn = mn := by unfold esK; rw [if_neg (by omega), if_neg (by omega), if_neg (by omega)]
  have hm := P.2.2.2.2.1
  rw [eE] at hm
  have nx := P.2.2.2.1
  rw [eE] at nx
  obtain ⟨fn, ar, ck, mk, vs, rk, np, nv, Z, fl, har, hcf, hof, ea, u1, u2', u4⟩ := FNQ.co HC hk kd
  obtain ⟨z1, z2, z3, z4, z5, z6, z7, z8, z9, z10, z11, z12⟩ := id Z
  have er : rr = 2100 * t + m0 := P.2.2.1.2.2.2.1
  have ht1 := P.2.2.1.2.1
  have hn2 := P.2.2.1.2.2.2.2.2.1
  have PA : ∀ i, i < mn → VR Γ S N (X o f_Task_tags (m0 + 1 + i)) (X o f_Task_words (m0 + 1 + i)) (S f_Md_pileType (rr + 1 + i)) (S f_Md_pileValue (rr + 1 + i)) := fun i hi => by
    have := P.pl (i := 1 + i) (by rw [eE]; omega)
    rw [← Nat.add_assoc, ← Nat.add_assoc] at this
    exact this
  have et : S f_Md_tries t = (r : Int) := P.2.1.2.2.1.2.2.2.2.1.2
  refine r_enter (d := d) (k := k) (f := fn) (mk := mk) (ck := ck) (rk := rk) (np := np) (nv := nv) HC P.2.1.ix hk kd z2 z10 z12 (by omega) (fun i hi => (PA i hi).tg) u1 u2' u4 (by omega) (Or.inl rfl) V.tg (fun w => ?_) (fun w1 w2 => ?_) (fun w1 w2 w3 H G1 F1 A => ?_)
  · exact ⟨kSg F, q (some 11) _ h _ Y (tac none _ (Or.inl rfl) (TCL.full P.2.2.1 w)) (P.err (by decide))⟩
  · exact ⟨kSg F, q (some 0) _ h _ Y (tac none _ (Or.inl rfl) (TCL.nomem P.2.2.1 w1 Z w2)) P.full⟩
  · rw [ea] at A
    have T := tac (some none) _ (Or.inr rfl) (TCL.ok (ρ := ρ) (g := g) (N := N) (M := M) (ty := ty) (v := v) (E := mn) P.2.2.1 w1 Z ⟨w2, w3⟩ (by omega) et)
    exact q none _ H _ _ T (RLC.call (Γ0 := Γ) (h0 := h) (X0 := X) (S0 := S) (z := 0) (s := 0) P.2.1 nx hm hb w1 HC P.2.1.2.2.1 GRO.rf EXS.rf (fun _ _ _ => rfl) (fun _ _ _ _ => rfl) Fr.r0 (BND.rf.le (by decide) (by decide)) G1 F1 A fl z10 z11 har hcf hof z5 z6 z7 z8 ⟨w2, w3⟩ (fun i hi => PA i (by omega)) V (Or.inl ⟨rfl, rfl⟩))
end
