/-! perform: a maker of the host does its work -/
set_option maxRecDepth 20000
section
variable {ρ : Nat → Nat} {d : Nat} {Q : QT} {Γ Γ' : GH} {h h' h1 h2 H H1 : ah} {C ho k i j N M a z s r f o c t n m mn m0 rr l1 l2 p E us am ab mx tm mb mk rm : Nat} {g : HG} {v hd ty κ x y sv it sum : Int} {S S' S1 S2 S3 ST : SS} {X X' X1 X2 : X3} {Y Y' Y1 Y2 : Y3} {hw : List (List Int)} {e : Option Int} {L : List Nat} {w : Nat}
theorem niX_c : u3 (u3 X 50 f_Heap_room 0 ((rm + n : Nat) : Int)) 50 f_Heap_made 0 ((mk + 1 : Nat) : Int) = niX X mk rm n := by
  unfold niX
  funext o f i
  simp only [u3_e]
  by_cases c1 : f = f_Heap_made
  · subst c1; simp (decide := true)
  · by_cases c2 : f = f_Heap_room
    · subst c2; simp (decide := true)
    · simp (decide := true) [c1, c2]
theorem niX_o (hf : [f_Heap_made, f_Heap_room].elem f = false) : niX X mk rm n o f i = X o f i := by
  unfold niX
  rw [u3_f (by rintro rfl; revert hf; decide), u3_f (by rintro rfl; revert hf; decide)]
/-- a maker's work -/
theorem pf_maker (P : PFX Γ h C ho X Y S N t o n c r s a κ mn m0 rr) (U : HUS ρ Γ h ho S g N M hw) (MM : MMO h ho g M) (W : HWF g N M) (hκ : ¬ κ = 2 ∧ ¬ κ = 3) (fl : S f_Md_foundLinker 0 = 1 ∨ S f_Md_foundLinker 0 = 2) (ew : S f_Md_foundWhich 0 = (m : Int)) (em : Y 53 f_Found_member 0 = hB h (ho + 3) m) (hm : m < M) (k6 : g.1 6 m = 2) (lyg : S f_lay (g.1 5 m).toNat = ((layG g (g.1 5 m).toNat).length : Int)) (mz : ∀ i, i < 400 → X 32 f_Machine_marks i = 0) (p1 : 0 < esK κ mn → 1 ≤ (g.2 2 m).length) (pv : PVS S N rr (esK κ mn)) (q : PFD ρ g N M hw Γ h C ho X Y S s Q) : wpB PGm ρ (d + 16) m_Machine_does 0 [(0, vR (C + 32)), (1, vR (Y 53 f_Found_member 0)), (2, vI (m0 : Int)), (3, vI (if κ = 0 then 0 else if κ = 1 then 1 else (mn : Int))), (4, vI (if κ = 1 then 1 else 0))] [] (cc h C X Y) (pK Q) := by
  have HC := P.1
  have G := HC.1.1
  have F0 := HC.1.2
  have I := P.2.1.ix
  have ht := I.2.2.1
  have e1 : Y 32 f_Machine_t 0 = C + o := I.2.2.2.1.1
  have e2 : X o f_Task_size 0 = (n : Int) := I.2.2.2.1.2.1
  have hmn := P.2.2.2.2.1
  have hn0 := I.2.2.2.2.1
  obtain ⟨⟨mk', mz', m0'⟩, mnn, mkd, -, mt, mt2, ⟨mo1, mo2, mo3⟩, -⟩ := U.1.me hm
  obtain ⟨w, lo, b1, b2, b3, b4, b5, b6, -⟩ := HC.2.2.2.2.2.2.2.1.2.1
  have ahq : AHQ S s m κ := ⟨P.2.2.2.2.2.1.1, P.2.2.2.2.2.1.2.1, fl, ew⟩
  have ees : S f_Md_es 0 = (esK κ mn : Int) := P.2.2.2.2.2.1.2.2.2.1
  have k01 : 0 ≤ κ := P.2.2.2.2.2.1.2.2.2.2.1.1
  have mn8 : mn ≤ 8 := P.2.2.2.2.2.1.2.2.2.2.2
  have e8 : esK κ mn ≤ 8 := by unfold esK; split <;> (try split) <;> (try split) <;> omega
  have eE : (if κ = 0 then (0 : Int) else if κ = 1 then 1 else (mn : Int)) = ((esK κ mn : Nat) : Int) := by
    unfold esK
    by_cases c0 : κ = 0
    · rw [if_pos c0, if_pos c0]; rfl
    · rw [if_neg c0, if_neg c0, if_neg hκ.2]
      by_cases c1 : κ = 1
      · rw [if_pos c1, if_pos (by omega)]; rfl
      · rw [if_neg c1, if_neg (by omega)]
  have c5 : g.1 5 m = (((g.1 5 m).toNat : Nat) : Int) := by omega
  have cN : (g.1 5 m).toNat < N := by omega
  obtain ⟨mk, rm, sm, tk, ck, sk, vk, hk, gk, ⟨a1, a2, a3⟩, ⟨r1, r2, r3⟩, -, ⟨d1, -, -, d4⟩, ⟨s1, -, s3⟩, -, -⟩ := HC.2.2.2.2.2.2.2.2.1
  obtain ⟨tn, sn, sm', t1, -, -, -, t3, -, t8, -⟩ := HC.shp
  have etk : tk = tn := by omega
  subst etk
  have l4 := U.2.2.2.2 _ cN
  have xk : hI (cc h C X Y) f_Member_kind (hB h (ho + 3) m) = g.1 6 m := by rw [ccIo (by decide)]; exact mkd
  have x1 : hI (cc h C X Y) f_Machine_traceSize (C + 32) = (w : Int) := by rw [ccI (by decide)]; exact b1
  have r2' : hR (cc h C X Y) f_Machine_t (C + 32) = C + o := by rw [ccR (by decide)]; exact e1
  have r3' : hR (cc h C X Y) f_Machine_heap (C + 32) = C + 50 := by rw [ccRo (by decide)]; exact F0.2.1.2.2.2.2.1
  have r8 : hI (cc h C X Y) f_Task_size (C + o) = (n : Int) := by rw [ccIt ht (by decide)]; exact e2
  have ta : ∀ i, hA (cc h C X Y) (hR (cc h C X Y) f_Task_tags (C + o)) i = X o f_Task_tags i := fun i => by rw [ccRo (by decide), ccAt G ht (by decide)]
  have tw : ∀ i, hA (cc h C X Y) (hR (cc h C X Y) f_Task_words (C + o)) i = X o f_Task_words i := fun i => by rw [ccRo (by decide), ccAt G ht (by decide)]
  have ro : hR (cc h C X Y) f_Member_owner (hB h (ho + 3) m) = hB h (ho + 2) (g.1 5 m).toNat := by rw [ccRo (by decide)]; exact mo3
  have ft := F0.t ht
  unfold FCt at ft
  have bb : 0 ≤ ((n - 1 : Nat) : Int) ∧ ((n - 1 : Nat) : Int) < ((2001 : Nat) : Int) ∧ (1 ≤ n ∧ n ≤ 2000000000) ∧ w + 2 ≤ 2000000000 := by omega
  have ge1 : ((w + 2 : Nat) : Int) ≤ 100000 → w + 2 ≤ 100000 := fun c => by omega
  have ge2 : 100000 < ((w + 2 : Nat) : Int) → ¬ w + 2 ≤ 100000 := fun c => by omega
  have n0 : ¬ g.1 6 m = 0 := by omega
  have rw1 : rm + (layG g (g.1 5 m).toNat).length ≤ 2000000000 := by omega
  have Z0 : w + 2 ≤ 100000 → MKQ g S N M (g.1 5 m).toNat tk mk sk rm w m (esK κ mn) rr := fun hw2 => ⟨hm, c5, cN, t1, a2, by omega, a3, s1, r2, by omega, r3, ees, e8, pv.1, pv.2.1, b2, hw2, p1⟩
  have w2 : w32 ((w : Int) + 2) = ((w + 2 : Nat) : Int) := w32_aa bb.2.2.2
  have wn1 : w32 ((n : Int) - 1) = ((n - 1 : Nat) : Int) := w32_m1 bb.2.2.1
  have full : ¬ w + 2 ≤ 100000 → wpB PGm ρ (d + 15) m_Heap_full 0 [(0, vR (C + 50))] [] (cc h C X Y) (cR (fun x56 h51 => hK h51 x56 ≠ 0 ∧ pK Q (Sum.inr x56) h51) (fun e54 h53 => hK h53 e54 ≠ 0 ∧ pK Q (Sum.inr e54) h53)) := fun c => by
    have := does_full P U MM W ahq hm n0 b2 b3 c q
    exact r_full (d := d + 14) G F0 ⟨kSg F0, this⟩
  rw [em, eE]
  refine b_Machine_does_0 (d := d + 15) ⟨F0.1.1, ?_⟩
  rw [x1, w2, r2', r3', r8, wn1, Int.toNat_natCast, ta, tw, xk]
  refine ⟨fun c9 => ⟨ft.1, ⟨?_, bb.1, ?_⟩, ⟨?_, bb.1, ?_⟩, mk', fun c2 => absurd k6 c2, fun _ => ?_⟩, fun c => ⟨F0.1.2.2.2.2.2.1, full (ge2 c)⟩⟩
  · simp (decide := true) only [ccRo, ccK, KCt G ht]
  · rw [ccRo (by decide), ccl, ft.2.2.1]; exact bb.2.1
  · simp (decide := true) only [ccRo, ccK, KCt G ht]
  · rw [ccRo (by decide), ccl, ft.2.1]; exact bb.2.1
  have hw2 := ge1 c9
  have Z := Z0 hw2
  clear full ge1 ge2 w2 wn1 Z0
  obtain ⟨S1, o1, -, D0, D1⟩ := s_makes (ρ := ρ) W Z
  have kT := (U.1.tp cN).1.1
  refine b_Machine_construct_0 (d := d + 14) (by omega) ⟨mk', ?_⟩
  rw [ro]
  refine ⟨kT, ?_⟩
  refine r_lay (d := d + 3) HC U cN (fun H la LY LA => ?_)
  have P1 := P.lay LY
  have A1 := (DMX.rf HC U MM).lyr W LY
  obtain ⟨_, _, _, ⟨HC1, _⟩, gL, _, frL, U1, _⟩ := id LY
  have G1 := HC1.1.1
  have F1 := HC1.1.2
  obtain ⟨adr2, adr3⟩ := LY.adr U.1 G.2.1
  obtain ⟨⟨la1, la2, la3, la4⟩, la5, la6⟩ := id LA
  obtain ⟨⟨mk1, mz1, -⟩, -, -, -, -, -, ⟨-, -, mo31⟩, -⟩ := U1.1.me hm
  rw [adr3] at mk1 mz1 mo31
  obtain ⟨tn1, sn1, sm1, t11, -, -, -, t31, -, -, -⟩ := HC1.shp
  have etn : tn1 = tk := by omega
  subst etn
  have rh : hR (cc H C X Y) f_Machine_heap (C + 32) = C + 50 := by rw [ccRo (by decide)]; exact F1.2.1.2.2.2.2.1
  have ln : hl (cc H C X Y) la = (layG g (g.1 5 m).toNat).length := by rw [ccl]; exact la5
  have kla : 1 ≤ hK (cc H C X Y) la ∧ hK (cc H C X Y) la < 100 := by rw [ccK, la1]; decide
  generalize hc0 : (g.1 5 m).toNat = c0 at *
  generalize hnn : (layG g c0).length = nn at *
  refine ⟨F1.1.1, kla, ?_⟩
  rw [rh, ln]
  refine ⟨F1.1.2.2.2.2.2.1, ?_⟩
  have one : (1 : Int) = ((1 : Nat) : Int) := rfl
  rw [one]
  refine r_want (d := d + 12) G1 F1 a1 r1 a3 r3 (by decide) (by omega) (fun q1 q2 => ?_) (fun q0 => ?_)
  · -- there is room
    have D := TDM.make (ρ := ρ) (Or.inr rfl) hm k6 b2 hw2 (D1 ⟨q1, q2⟩)
    have xr : hI (cc H C X Y) f_Heap_room (C + 50) = (rm : Int) := by rw [ccI (by decide)]; exact r1
    refine ⟨F1.1.1, ?_⟩
    rw [rh, xr, ln, w32_aa rw1, cc_sI (by decide)]
    refine ⟨F1.1.2.2.2.2.2.1, kla, ?_⟩
    have C32 : C + 32 < hz (cc H C (u3 X 50 f_Heap_room 0 ((rm + nn : Nat) : Int)) Y) := by show C + 32 < hz H; have := G1.1; omega
    have C50 : C + 50 < hz (cc H C (u3 X 50 f_Heap_room 0 ((rm + nn : Nat) : Int)) Y) := by show C + 50 < hz H; have := G1.1; omega
    have C51 : C + 51 < hz (cc H C (u3 X 50 f_Heap_room 0 ((rm + nn : Nat) : Int)) Y) := by show C + 51 < hz H; have := G1.1; omega
    have Cm : hB h (ho + 3) m < hz (cc H C (u3 X 50 f_Heap_room 0 ((rm + nn : Nat) : Int)) Y) := mz1
    have rh2 : hR (cc H C (u3 X 50 f_Heap_room 0 ((rm + nn : Nat) : Int)) Y) f_Machine_heap (C + 32) = C + 50 := by rw [ccRo (by decide)]; exact F1.2.1.2.2.2.2.1
    have rt2 : hR (cc H C (u3 X 50 f_Heap_room 0 ((rm + nn : Nat) : Int)) Y) f_Heap_things (C + 50) = C + 51 := by rw [ccRo (by decide)]; exact F1.2.2.1.2.1
    have ro2 : hR (cc H C (u3 X 50 f_Heap_room 0 ((rm + nn : Nat) : Int)) Y) f_Member_owner (hB h (ho + 3) m) = hB H (ho + 2) c0 := by rw [ccRo (by decide)]; exact mo31
    have lk : lok H (C + 51) := F1.2.2.2.1.1
    dsimp only
    rw [hnK C32, hnR C32, rh2, hnK C50, hnR C50, rt2, hnK C51, hnlok C51, cclok, hnK Cm, hnl C51, ccl, t31, hnR Cm, ro2]
    refine ⟨F1.1.1, F1.1.2.2.2.2.2.1, lk.1, lk, mk1, ?_⟩
    refine r_newinst (d := d + 13) (X := u3 X 50 f_Heap_room 0 ((rm + nn : Nat) : Int)) (tyv := tyL g c0) G1 F1 (by omega) (by omega) (by rw [u3_f (by decide)]; exact a1) a3 t31 t8 ⟨la1, la2, la3, la4⟩ la5 (fun i hi => ?_) (fun h' z s' G' F' R' kp B ety ct => ?_)
    · obtain ⟨⟨v1, v2, -⟩, -, -, -, v3, -⟩ := U1.1.me (l4.2 i (by omega))
      rw [la6 i (by omega)]
      exact ⟨v2, v1, v3⟩
    rw [niX_c]
    obtain ⟨⟨M1, K1⟩, g1, bd, fr1, u0, u1, u2, u3'⟩ := HC1.ins lyg cN q1 q2 a1 r1 t11 s1 R' kp B ety ct
    have I0 : CIV Γ H C ho X Y S N h' (niX X mk rm nn) (niS S tn1 mk sk rm c0 nn (fun i => firT (tyL g c0 i))) := ⟨⟨M1, K1⟩, g1, bd, _, _, fr1⟩
    have oN := niS_off (S := S) (tn := tn1) (mk := mk) (sk := sk) (rm := rm) (c := c0) (n := nn) (vt := fun i => firT (tyL g c0 i))
    have e51 : hB h' (C + 51) tn1 = hz H := by rw [B.2.1, if_pos rfl]
    have kI : hK h' (hz H) = k_Instance := B.2.2.2.1
    have hX0 : mrX (niX X mk rm nn) nn (fun _ => none) = niX X mk rm nn := mrX_n (fun i hi => by rw [niX_o (by decide)]; exact mz i (by omega))
    have I1 : CIV Γ H C ho X Y S N h' (mrX (niX X mk rm nn) nn (mkA nn (tyL g c0) (parG g m) 0)) (flS (niS S tn1 mk sk rm c0 nn (fun i => firT (tyL g c0 i))) nn sk rr (mkA nn (tyL g c0) (parG g m) 0)) := by
      show CIV Γ H C ho X Y S N h' (mrX (niX X mk rm nn) nn (fun _ => none)) (flS (niS S tn1 mk sk rm c0 nn (fun i => firT (tyL g c0 i))) nn sk rr (fun _ => none))
      rw [hX0, ← uzS_fl]
      refine I0.fz (LL := [f_Md_used1]) (fun f i hf => if_neg (fun c => ?_)) (by decide +kernel) EXX.rf
      rw [c.1] at hf
      exact absurd hf (by decide)
    have hX0' : niX X mk rm nn = mrX (niX X mk rm nn) nn (mkA nn (tyL g c0) (parG g m) 0) := hX0.symm
    refine ⟨Or.inr (by rw [ccK, kI]; decide), ?_⟩
    have L2 : LYA H ho la (layG g c0) := LA
    have go := r_con76 (ρ := ρ) (d := d + 3) (tn := tn1) (sk := sk) (X0 := niX X mk rm nn) (S0 := niS S tn1 mk sk rm c0 nn (fun i => firT (tyL g c0 i))) (l := hz H) (Q := cV (fun h44 => wpB PGm ρ (d + 16) m_Machine_does 104 [(0, vR (C + 32)), (1, vR (hB h (ho + 3) m)), (2, vI (m0 : Int)), (3, vI ((esK κ mn : Nat) : Int)), (4, vI (if κ = 1 then 1 else 0)), (5, vI (X o f_Task_tags (n - 1))), (6, vL (X o f_Task_words (n - 1)))] [] h44 (pK Q)) (fun e47 h46 => hK h46 e47 ≠ 0 ∧ pK Q (Sum.inr e47) h46)) P1 U1 hm rfl p1 L2 cN (oN.ex (by decide)) (fun f hf i => niX_o (by
      have : f = f_Task_tags ∨ f = f_Task_words := by simpa using hf
      rcases this with rfl | rfl <;> decide)) u0 u1 (by rw [hnn]; exact u2) (by rw [hnn]; exact u3') (fun {H2 X2 A2} J i hi => ?_) (fun hE J el => ?_) (esK κ mn) 0 h' (by omega) (by rw [hnn]; exact I1) e51
    · rw [hnn, ← hX0', adr3] at go
      exact go
    · have V := P1.pl (i := 1 + i) (by omega)
      rw [← Nat.add_assoc, ← Nat.add_assoc] at V
      exact J.2.1.vr V
    · rw [hnn] at J ⊢
      generalize hA : mkA nn (tyL g c0) (parG g m) (esK κ mn) = A at *
      have oF := flS_off (S := niS S tn1 mk sk rm c0 nn (fun i => firT (tyL g c0 i))) (n := nn) (sk := sk) (rr := rr) (A := A)
      have oo : OFF (LNI ++ LFL) S (flS (niS S tn1 mk sk rm c0 nn (fun i => firT (tyL g c0 i))) nn sk rr A) := (oN.le (by decide)).tr (oF.le (by decide))
      have J2 : CIV Γ H C ho X Y S N hE (niX X mk rm nn) (flS (niS S tn1 mk sk rm c0 nn (fun i => firT (tyL g c0 i))) nn sk rr A) := J.fz (LL := []) OFF.rf (by decide +kernel) (fun f hf o i => (mrX_o (by rintro rfl; exact absurd hf (by decide +kernel))).symm)
      have f0 : flS (niS S tn1 mk sk rm c0 nn (fun i => firT (tyL g c0 i))) nn sk rr A f_Md_things 0 = ((tn1 + 1 : Nat) : Int) := by rw [oF _ _ (by decide)]; exact u0
      have f1 : flS (niS S tn1 mk sk rm c0 nn (fun i => firT (tyL g c0 i))) nn sk rr A f_Md_thingKind tn1 = 7 := by rw [oF _ _ (by decide)]; exact u1
      obtain ⟨z2, s2, frE⟩ := J2.2.2.2
      have GE := J2.1.1.1.1
      have FE := J2.1.1.1.2
      obtain ⟨LE, -⟩ := L2.fr U1.1 G1.2.1 frE (by unfold DJ; decide +kernel)
      have T : TA1 Γ hE C ho (flS (niS S tn1 mk sk rm c0 nn (fun i => firT (tyL g c0 i))) nn sk rr A) N tn1 := by
        obtain ⟨tn', _, _, d1', _, _, _, _, _, _, d7', _⟩ := J2.1.1.shp
        exact (d7' tn1 (by omega)).p.1
      have kE : hK hE (hz H) = k_Instance := by
        have := T.2.1.1
        rw [el, f1] at this
        exact this
      have nE : hI hE f_Thing_number (hz H) = (tn1 : Int) := by
        have := T.2.2.1
        rw [el] at this
        exact this
      refine r_con201 (d := d + 3) (c := c) GE FE ht e1 (by rw [niX_o (by decide)]; exact I.2.2.2.1.2.2) (by omega) ⟨I.2.2.2.2.2.1, I.2.2.2.2.2.2⟩ ⟨LE.1.1, by rw [LE.2.1]; exact hnn⟩ (by omega) (fun i hi => by rw [niX_o (by decide)]; exact mz i (by omega)) kE nE ?_
      have oM := mkS_off (g := g) (S := S) (S1 := S1) (tn := tn1) (mk := mk) (sk := sk) (rk := rm) (c := c0) (rr := rr) (m := m) (E := esK κ mn) (w := w) o1
      rw [hnn, hA] at oM
      refine pf_end (d := d + 4) P A1 W U hm n0 ahq rfl J2.1.1 (J2.1.2 P1.2.1.2.2.1) J2.2.1 (oo.ex (by decide)) (fun f i hf => oo.le (L' := LSc) (by decide) f i hf) (fun o f i hf => niX_o (by
        cases w : [f_Heap_made, f_Heap_room].elem f with
        | false => rfl
        | true =>
          have : f = f_Heap_made ∨ f = f_Heap_room := by simpa using w
          rcases this with rfl | rfl <;> exact absurd hf (by decide))) frE (J2.2.2.1.le (by decide) (by decide)) (by rw [oo _ _ (by decide)]; exact b2) hw2 D oM (ty := 7) (v := (tn1 : Int)) ?_ ?_ ⟨rfl, ?_, ?_⟩ q
      · unfold mkS isS; rw [u2_f (by decide), u2_s]
      · unfold mkS isS; rw [u2_s]
      · unfold cw; rw [if_neg (by decide)]
      · exact Or.inr (Or.inr (Or.inr (Or.inr (Or.inl ⟨by decide, by decide, by omega, by rw [f0]; omega, by rw [Int.toNat_natCast]; exact f1⟩))))
  · -- no room
    have D := TDM.make (ρ := ρ) (Or.inl rfl) hm k6 b2 hw2 (D0 q0)
    obtain ⟨⟨M4, K4⟩, g4, bd4⟩ := HC1.fzz (L := []) (Pp := []) (h' := H) (X' := X) (Y' := Y) (S' := S1) Fr.r0 (by unfold DJ; decide +kernel) (fun y c => by simp at c) (o1.ex (by decide)) (Int.le_of_eq (o1 _ _ (by decide)).symm) EXX.rf (fun _ _ _ _ => rfl)
    have RL := RLC.mem (v := 0) (x := 99) P1.2.1 M4 (K4 P1.2.1.2.2.1) g4 ((bd4 (o1.ex (by decide))).le (by decide) (by decide)) (fun f i hf => o1.le (L' := LSc) (by decide) f i hf) (fun _ _ _ _ => rfl) (Fr.r0 (L := LHc) (P := [])) (Or.inl ⟨rfl, rfl⟩)
    have gq := q (some 0) _ _ _ Y (TAC.does0 (ρ := ρ) ahq hm n0 D) (RLD.mk A1 W RL)
    exact ⟨kSg F1, kSg F1, kSg F1, gq⟩
end
