/-! T: a fun makes an object -/
set_option maxRecDepth 20000
/-- the prototype that a slot tells -/
def PRV (S : SS) (u w : Nat) : Int := if S f_Md_slotType (slS S u w) = 4 ∨ S f_Md_slotType (slS S u w) = 5 then S f_Md_slotValue (slS S u w) else -1
/-- T finds the prototype p for what fun k makes -/
def PRE (ρ : Nat → Nat) (g : HG) (N M : Nat) (S : SS) (k : Nat) (p : Int) : Prop := ∀ (d : Nat) (h0 : ah) (T : Nat) (Q : QT), PTO ρ g N M h0 T → wpB PGm ρ (d + 196) m_Md_news 136 [(0, vR T), (1, vI (k : Int)), (3, vI p)] [] (cn h0 T S) Q → wpB PGm ρ (d + 196) m_Md_news 21 [(0, vR T), (1, vI (k : Int))] [] (cn h0 T S) Q
section
variable {ρ : Nat → Nat} {P : ah → Nat → Prop} {d : Nat} {Q : QT} {Γ : GH} {h h0 : ah} {C ho T k n m f i j N M b r a s rr mn sn tn row c t E pp fn ck mk vs rk np nv fm wi : Nat} {S S' S1 S2 S3 SX : SS} {X : X3} {Y : Y3} {g : HG} {l L bs ts : List Int} {ws : List (List Int)} {v p x y nm ty cnt κ hd w La bv el st LL bb ar ca nw q q0 u : Int} {ls l2 : List ENT} {e : Option (Option AV)}
theorem PTO.pro (K : PTO ρ g N M h0 T) : hK h0 (ρ 1001) ∈ [3, 4, 13] ∧ RW (cn h0 T S) (ρ 1001) 0 xPRO := by
  obtain ⟨⟨O, -, hT⟩, -, a1, a2, a3, a4, a5, a6⟩ := K
  refine ⟨by rw [a1]; decide, ?_, fun i hi => ?_⟩
  · show 0 + 5 ≤ hl h0 (ρ 1001); rw [a2]; decide
  · rw [Nat.zero_add, cnAo (fun q hq => a6 q.1 T hT (tabO q hq))]
    exact a3 i hi
theorem s_nw39 (K : PTO ρ g N M h0 T) (HC : CORE Γ h C ho X Y S N) (h0' : 0 ≤ nm) (hk : k < 8000) : ∀ j p u, HLD S nm j p u → PVL S p → (u < 0 → wpB PGm ρ (d + 1) m_Md_news 136 [(0, vR T), (1, vI (k : Int)), (3, vI (-1))] [] (cn h0 T S) Q) → (0 ≤ u → ∀ n wi : Nat, S f_Md_thingCount u.toNat = (n : Int) → wi < n → nmT S u.toNat wi = nm → (S f_Md_slotType (slS S u.toNat wi) = 4 ∨ S f_Md_slotType (slS S u.toNat wi) = 5 → 0 ≤ S f_Md_slotValue (slS S u.toNat wi) ∧ S f_Md_slotValue (slS S u.toNat wi) < 8000) ∧ wpB PGm ρ (d + 1) m_Md_news 136 [(0, vR T), (1, vI (k : Int)), (3, vI (PRV S u.toNat wi))] [] (cn h0 T S) Q) → wpB PGm ρ (d + 1) m_Md_news 39 [(0, vR T), (1, vI (k : Int)), (2, vI nm), (3, vI (-1)), (4, vI 0), (5, vI p)] [] (cn h0 T S) Q := by
  obtain ⟨tn, sn, sm, c1, c2, c5, c6', c3, c4, c6, c7, c8, U, m1, m2, m3, m4⟩ := HC.shp
  have wf := prS_wf c1 c7 c8
  have O := K.1.1
  have kT := O.1
  have G := O.2.1
  intro j
  induction j with
  | zero =>
    intro p u hL hp q0 q1
    obtain ⟨pz, rfl⟩ := hL
    exact b_Md_news_39 ⟨fun _ => q0 (by decide), fun z => absurd pz (by omega)⟩
  | succ j ih =>
    intro p u hL hp q0 q1
    rcases hL with ⟨pz, rfl⟩ | ⟨p0, hL⟩
    · exact b_Md_news_39 ⟨fun _ => q0 (by decide), fun z => absurd pz (by omega)⟩
    · have hp' := hp
      rcases hp with e | ⟨a1, a2, a3⟩
      · omega
      have hk' : ((p.toNat : Nat) : Int) < S f_Md_things 0 := by omega
      have ec : ((p.toNat : Nat) : Int) = p := by omega
      obtain ⟨n', sn', s0, e1, L, e2, e3, e4, e5, hnm, dn, nmn, SF, b0, kk, nz⟩ := HC.sth hk' a3
      obtain ⟨w, hw⟩ := OWN.ex (S := S) (k := p.toNat) (n := n') (nm := nm)
      have PR : ∀ QQ : QT, QQ (Sum.inl (some (vI (prS S p.toNat)))) (cn h0 T S) → wpB PGm ρ d m_Md_protoOf 0 [(0, vR T), (1, vI p)] [] (cn h0 T S) QQ := fun QQ z => by
        have := s_protoOf (ρ := ρ) (d := d) (k := p.toNat) (S := S) (Q := QQ) O L.1 (by exact ⟨by omega, by omega⟩) z
        rw [ec] at this; exact this
      refine b_Md_news_39 ⟨fun z => absurd p0 (by omega), fun _ => ⟨fun z => absurd h0' (by omega), fun _ => ⟨fun z => absurd rfl z, fun _ => ⟨kT, ?_⟩⟩⟩⟩
      have so := s_own (ρ := ρ) (d := d) (Q := cI (fun x20 h15 => ((x20 < 0 → wpB PGm ρ (d + 1) m_Md_news 72 [(0, vR T), (1, vI (k : Int)), (2, vI nm), (5, vI p), (6, vI x20)] [vI 0] h15 Q) ∧ (0 ≤ x20 → wpB PGm ρ (d + 1) m_Md_news 72 [(0, vR T), (1, vI (k : Int)), (2, vI nm), (5, vI p), (6, vI x20)] [vI 1] h15 Q))) (fun e18 h17 => hK h17 e18 ≠ 0 ∧ Q (Sum.inr e18) h17)) O L dn hw ⟨fun w0 => ?_, fun w0 => ?_⟩
      · rw [ec] at so; exact so
      · have no : ¬ OWs S p.toNat nm := fun c => absurd ((hw.ows L.2.2.1).mpr c) (by omega)
        have hl2 := (hL.resolve_left (fun c => no c.1)).2
        have nx := ih _ u hl2 (PVL.of wf p0 hp') q0 q1
        exact b_Md_news_72 ⟨fun _ => b_Md_news_91 ⟨fun _ => b_Md_news_124 ⟨kT, PR _ nx⟩, fun c => absurd rfl c⟩, fun c => absurd rfl c⟩
      · have yo : OWs S p.toNat nm := (hw.ows L.2.2.1).mp w0
        have eu : u = p := (hL.resolve_right (fun c => c.1 yo)).2
        subst eu
        obtain ⟨i, rfl, i1, i2⟩ := hw.resolve_right (fun c => by omega)
        obtain ⟨vb, g136⟩ := q1 p0 n' i L.2.2.1 i1 i2
        have sl := L.2.2.2.2.1 i i1
        have bs1 : 0 ≤ (slS S u.toNat i : Int) ∧ (slS S u.toNat i : Int) < ((60000 : Nat) : Int) := by omega
        have g124 : ∀ s0 : Int, s0 = PRV S u.toNat i → wpB PGm ρ (d + 1) m_Md_news 124 [(0, vR T), (1, vI (k : Int)), (2, vI nm), (4, vI 1), (5, vI u)] [vI s0] (cn h0 T S) Q := fun s0 es => b_Md_news_124 ⟨kT, PR _ (b_Md_news_39 ⟨fun _ => by rw [es]; exact g136, fun _ => ⟨fun c => absurd h0' (by omega), fun _ => ⟨fun _ => by rw [es]; exact g136, fun c => absurd c (by decide)⟩⟩⟩)⟩
        have g91 : wpB PGm ρ (d + 1) m_Md_news 91 [(0, vR T), (1, vI (k : Int)), (2, vI nm), (4, vI 1), (5, vI u)] [vI (slS S u.toNat i : Int)] (cn h0 T S) Q := by
          have hsx : wpB PGm ρ d m_Md_hasShape 0 [(0, vR T), (1, vI (S f_Md_slotType (slS S u.toNat i)))] [] (cn h0 T S) (cI (fun x14 h9 => ((x14 = 0 → wpB PGm ρ (d + 1) m_Md_news 124 [(0, vR T), (1, vI (k : Int)), (2, vI nm), (4, vI 1), (5, vI u)] [vI (-1)] h9 Q) ∧ (¬ x14 = 0 → hK h9 T = k_Md ∧ (hK h9 (hR h9 f_Md_slotValue T) ∈ [2] ∧ 0 ≤ (slS S u.toNat i : Int) ∧ (slS S u.toNat i : Int) < (hl h9 (hR h9 f_Md_slotValue T) : Int)) ∧ wpB PGm ρ (d + 1) m_Md_news 124 [(0, vR T), (1, vI (k : Int)), (2, vI nm), (4, vI 1), (5, vI u)] [vI (w32 (hA h9 (hR h9 f_Md_slotValue T) (slS S u.toNat i)))] h9 Q))) (fun e12 h11 => hK h11 e12 ≠ 0 ∧ Q (Sum.inr e12) h11)) := by
            refine s_hasShape (fun c => ⟨fun c2 => absurd c2 (by decide), fun _ => ⟨kT, ?_⟩⟩) (fun c => ⟨fun _ => g124 (-1) (by unfold PRV; rw [if_neg c]), fun c2 => absurd rfl c2⟩)
            have vv := vb c
            have z1 : -2147483648 ≤ S f_Md_slotValue (slS S u.toNat i) ∧ S f_Md_slotValue (slS S u.toNat i) < 2147483648 := by omega
            have g9 := g124 (S f_Md_slotValue (slS S u.toNat i)) (by unfold PRV; rw [if_pos c])
            have y1 : w32 (S f_Md_slotValue (slS S u.toNat i)) = S f_Md_slotValue (slS S u.toNat i) := w32_of z1.1 z1.2
            clear g124 PR q0 q1 ih hL wf c7 c8
            simp (decide := true) (disch := first | decide | omega) only [cnI, cnR, cnK, cnl, cnA' G, kT, KN G, LN G, y1, Int.toNat_natCast, true_and, and_true]
            exact ⟨bs1, g9⟩
          refine b_Md_news_91 ⟨fun c => absurd c (by decide), fun _ => ?_⟩
          clear g124 PR q0 q1 ih hL wf c7 c8
          simp (decide := true) (disch := first | decide | omega) only [cnI, cnR, cnK, cnl, cnA' G, kT, KN G, LN G, Int.toNat_natCast, true_and, and_true]
          exact ⟨bs1, hsx⟩
        have sa := s_slotAt (ρ := ρ) (d := d) (Q := cI (fun x12 h7 => wpB PGm ρ (d + 1) m_Md_news 91 [(0, vR T), (1, vI (k : Int)), (2, vI nm), (4, vI 1), (5, vI u)] [vI x12] h7 Q) (fun e10 h9 => hK h9 e10 ≠ 0 ∧ Q (Sum.inr e10) h9)) O L.g i1 g91
        rw [ec] at sa
        exact b_Md_news_72 ⟨fun c => absurd c (by decide), fun _ => ⟨kT, sa⟩⟩
theorem PRE.none (NM : NMR h C S ws) (fw : FWI ws xPRO (-1)) : PRE ρ g N M S k (-1) := fun d h0 T Q K q => by
  obtain ⟨p1, p2⟩ := K.pro (S := S)
  refine b_Md_news_21 ⟨K.1.1.1, ?_⟩
  exact s_findName (r := ρ 1001) (at_ := 0) (l := xPRO) K.1.1 NM p1 p2 (by decide) fw (b_Md_news_39 ⟨fun _ => q, fun _ => ⟨fun _ => q, fun c => absurd c (by decide)⟩⟩)
theorem PRE.fnd (HC : CORE Γ h C ho X Y S N) (NM : NMR h C S ws) (fw : FWI ws xPRO nm) (hn : 0 ≤ nm) (hk : (k : Int) < S f_Md_things 0) (k8 : k < 8000) (kd : S f_Md_thingKind k = 4 ∨ S f_Md_thingKind k = 5) (hl : HLD S nm j (k : Int) u) (un : u < 0 → p = -1) (uy : 0 ≤ u → ∀ n wi : Nat, S f_Md_thingCount u.toNat = (n : Int) → wi < n → nmT S u.toNat wi = nm → (S f_Md_slotType (slS S u.toNat wi) = 4 ∨ S f_Md_slotType (slS S u.toNat wi) = 5 → 0 ≤ S f_Md_slotValue (slS S u.toNat wi) ∧ S f_Md_slotValue (slS S u.toNat wi) < 8000) ∧ p = PRV S u.toNat wi) : PRE ρ g N M S k p := fun d h0 T Q K q => by
  obtain ⟨p1, p2⟩ := K.pro (S := S)
  refine b_Md_news_21 ⟨K.1.1.1, ?_⟩
  refine s_findName (r := ρ 1001) (at_ := 0) (l := xPRO) K.1.1 NM p1 p2 (by decide) fw ?_
  exact s_nw39 (d := d + 195) K HC hn k8 j (k : Int) u hl (Or.inr ⟨by omega, hk, by rw [Int.toNat_natCast]; exact kd⟩) (fun z => by rw [← un z]; exact q) (fun z n wi a1 a2 a3 => by
    obtain ⟨b1, b2⟩ := uy z n wi a1 a2 a3
    exact ⟨b1, by rw [← b2]; exact q⟩)
def TNW (ρ : Nat → Nat) (g : HG) (N M k : Nat) (S : SS) (e : Option (Option AV)) (S' : SS) : Prop := TC ρ (PTO ρ g N M) 196 m_Md_news 0 [(1, vI (k : Int))] [] S e S'
theorem TNW.full (H : GFR S t n c rr m pp) (hc : c = 200) : TNW ρ g N M k S none (erS S 11) := fun d h0 T Q K q => by
  have O := K.1.1
  have kT := O.1
  have G := O.2.1
  have h1 := H.2.1
  have b1 : 0 ≤ (t : Int) ∧ (t : Int) < ((2 : Nat) : Int) := by omega
  have e1 := H.1.1
  have e2 : S f_Md_frames t = 200 := by rw [H.1.2.2.2.2, hc]; rfl
  have g1 := s_error (ρ := ρ) (d := d + 194) (v := 11) (Q := cV (fun h9 => wpB PGm ρ (d + 196) m_Md_news 21 [(0, vR T), (1, vI (k : Int))] [] h9 Q) (fun e12 h11 => hK h11 e12 ≠ 0 ∧ Q (Sum.inr e12) h11)) O ⟨O.kh, q⟩
  refine b_Md_news_0 ?_
  clear q H
  simp (decide := true) (disch := first | decide | omega) only [cnI, cnR, cnK, cnl, cnA' G, kT, KN G, LN G, e1, e2, Int.toNat_natCast, true_and, and_true, not_true_eq_false, not_false_eq_true, false_implies, forall_const]
  exact ⟨b1, g1⟩
theorem s_nw21 (O : TOK h0 T) (H : GFR S t n c rr m pp) (hc : c < 200) (q : wpB PGm ρ (d + 1) m_Md_news 21 [(0, vR T), (1, vI x)] [] (cn h0 T S) Q) : wpB PGm ρ (d + 1) m_Md_news 0 [(0, vR T), (1, vI x)] [] (cn h0 T S) Q := by
  have kT := O.1
  have G := O.2.1
  have h1 := H.2.1
  have b1 : 0 ≤ (t : Int) ∧ (t : Int) < ((2 : Nat) : Int) := by omega
  have e1 := H.1.1
  have e2 := H.1.2.2.2.2
  have n1 : ¬ (c : Int) = 200 := by omega
  refine b_Md_news_0 ?_
  clear H
  simp (decide := true) (disch := first | decide | omega) only [cnI, cnR, cnK, cnl, cnA' G, kT, KN G, LN G, e1, e2, n1, Int.toNat_natCast, true_and, and_true, not_true_eq_false, not_false_eq_true, false_implies, forall_const]
  exact ⟨b1, q⟩
/-- from the room on -/
theorem s_nw136 (O : TOK h0 T) (Z : FNQ S k fn ck mk vs rk np nv ar) (qn : ¬ (mk + 2 ≤ 8000 ∧ rk + nv ≤ 60000) → Q (Sum.inr (hR h0 f_Md_halt T)) (cn h0 T (erS S 99))) (qy : mk + 2 ≤ 8000 ∧ rk + nv ≤ 60000 → wpB PGm ρ (d + 3) m_Md_madeShape 0 [(0, vR T), (1, vI (-1)), (2, vI p), (3, vI (-1))] [] (cn h0 T S) (cI (fun x25 h20 => hK h20 T = k_Md ∧ wpB PGm ρ (d + 3) m_Md_newThing 0 [(0, vR T), (1, vI 4)] [] h20 (cI (fun x33 h28 => hK h28 T = k_Md ∧ (hK h28 (hR h28 f_Md_thingShape T) = 1 ∧ 0 ≤ x33 ∧ x33 < (hl h28 (hR h28 f_Md_thingShape T) : Int)) ∧ wpB PGm ρ (d + 3) m_Md_callsFun 0 [(0, vR T), (1, vI (k : Int)), (2, vI 4), (3, vL x33), (5, vI (hI (sA h28 (hR h28 f_Md_thingShape T) (x33).toNat x25) f_Md_es T))] [] (sA h28 (hR h28 f_Md_thingShape T) (x33).toNat x25) (cV (fun h39 => hK h39 T = k_Md ∧ (hK h39 (hR h39 f_Md_frameNew T) = 1 ∧ 0 ≤ (hI h39 f_Md_top T) ∧ (hI h39 f_Md_top T) < (hl h39 (hR h39 f_Md_frameNew T) : Int)) ∧ Q (Sum.inl none) (sA h39 (hR h39 f_Md_frameNew T) (hI h39 f_Md_top T).toNat x33)) (fun e42 h41 => hK h41 e42 ≠ 0 ∧ Q (Sum.inr e42) h41))) (fun e31 h30 => hK h30 e31 ≠ 0 ∧ Q (Sum.inr e31) h30))) (fun e23 h22 => hK h22 e23 ≠ 0 ∧ Q (Sum.inr e23) h22))) : wpB PGm ρ (d + 4) m_Md_news 136 [(0, vR T), (1, vI (k : Int)), (3, vI p)] [] (cn h0 T S) Q := by
  have kT := O.1
  have G := O.2.1
  have z2 := Z.2.1
  have b1 : 0 ≤ (k : Int) ∧ (k : Int) < ((8000 : Nat) : Int) := by have := Z.1; omega
  have e2 : mk + 1 + 1 = mk + 2 := by omega
  refine b_Md_news_136 ⟨kT, ?_⟩
  have l1 : hl (cn h0 T S) (hR (cn h0 T S) f_Md_thingFunction T) = 8000 := by simp (decide := true) (disch := first | decide | omega) only [cnR, cnl, LN G]
  have a1 : hA (cn h0 T S) (hR (cn h0 T S) f_Md_thingFunction T) (k : Int).toNat = (fn : Int) := by simp (decide := true) (disch := first | decide | omega) only [cnR, cnA' G, z2, Int.toNat_natCast]
  have k1 : hK (cn h0 T S) (hR (cn h0 T S) f_Md_thingFunction T) ∈ [1, 11] := by simp (decide := true) (disch := first | decide | omega) only [cnR, cnK, KN G]
  rw [a1, l1]
  refine ⟨⟨k1, b1⟩, s_roomc (b := 1) O Z (by decide) (fun z => ⟨kT, s_room (d := d + 2) O (fun _ => ⟨kT, qy (by omega)⟩) (fun c => absurd c (by decide))⟩) (fun z => ⟨kT, s_room (d := d + 2) O (fun c => absurd rfl c) (fun _ => ⟨O.kh, qn (by omega)⟩)⟩)⟩
theorem TNW.nomem (H : GFR S t n c rr m pp) (hc : c < 200) (Z : FNQ S k fn ck mk vs rk np nv ar) (PR : PRE ρ g N M S k p) (nr : ¬ (mk + 2 ≤ 8000 ∧ rk + nv ≤ 60000)) : TNW ρ g N M k S none (erS S 99) := fun d h0 T Q K q =>
  s_nw21 (d := d + 195) K.1.1 H hc (PR d h0 T Q K (s_nw136 (d := d + 192) K.1.1 Z (fun _ => q) (fun z => absurd z nr)))
theorem TNW.nosh (H : GFR S t n c rr m pp) (hc : c < 200) (Z : FNQ S k fn ck mk vs rk np nv ar) (PR : PRE ρ g N M S k p) (nr : mk + 2 ≤ 8000 ∧ rk + nv ≤ 60000) (tm : TMD ρ S (-1) p (-1) none) : TNW ρ g N M k S none (erS S 99) := fun d h0 T Q K q =>
  s_nw21 (d := d + 195) K.1.1 H hc (PR d h0 T Q K (s_nw136 (d := d + 192) K.1.1 Z (fun z => absurd nr z) (fun _ => tm (d + 193) h0 T _ K.1.1 ⟨K.1.1.kh, q⟩)))
theorem TNW.ok (H : GFR S t n c rr m pp) (hc : c < 200) (Z : FNQ S k fn ck mk vs rk np nv ar) (PR : PRE ρ g N M S k p) (nr : mk + 2 ≤ 8000 ∧ rk + nv ≤ 60000) (tm : TMD ρ S (-1) p (-1) (some (r, S1))) (e1 : S1 f_Md_things 0 = (tn : Int)) (ht : tn < 8000) (e2 : S1 f_Md_allMade 0 = (mk : Int)) (ee : S1 f_Md_es 0 = (E : Int)) (CF : TCL ρ g N M (k : Int) 4 (tn : Int) (E : Int) (u2 (nthS S1 tn mk 4) f_Md_thingShape tn (r : Int)) (some none) S3) (et : S3 f_Md_top 0 = ((200 * t + c : Nat) : Int)) : TNW ρ g N M k S (some none) (u2 S3 f_Md_frameNew (200 * t + c) (tn : Int)) := fun d h0 T Q K q => by
  have O := K.1.1
  have kT := O.1
  have G := O.2.1
  have h1 := H.2.1
  have b1 : 0 ≤ (tn : Int) ∧ (tn : Int) < ((8000 : Nat) : Int) := by omega
  have b2 : 0 ≤ ((200 * t + c : Nat) : Int) ∧ ((200 * t + c : Nat) : Int) < ((400 : Nat) : Int) := by omega
  refine s_nw21 (d := d + 195) K.1.1 H hc (PR d h0 T Q K (s_nw136 (d := d + 192) K.1.1 Z (fun z => absurd nr z) (fun _ => tm (d + 193) h0 T _ K.1.1 ⟨kT, s_newThing O e1 ht e2 (by omega) ⟨kT, ?_⟩⟩)))
  have e3 : u2 (nthS S1 tn mk 4) f_Md_thingShape tn (r : Int) f_Md_es 0 = (E : Int) := by rw [u2_f (by decide)]; unfold nthS; simp (decide := true) only [u2_f, ne_eq, not_false_eq_true]; exact ee
  have gc : wpB PGm ρ (d + 195) m_Md_callsFun 0 [(0, vR T), (1, vI (k : Int)), (2, vI 4), (3, vL (tn : Int)), (5, vI (E : Int))] [] (cn h0 T (u2 (nthS S1 tn mk 4) f_Md_thingShape tn (r : Int))) (cV (fun h39 => hK h39 T = k_Md ∧ (hK h39 (hR h39 f_Md_frameNew T) = 1 ∧ 0 ≤ (hI h39 f_Md_top T) ∧ (hI h39 f_Md_top T) < (hl h39 (hR h39 f_Md_frameNew T) : Int)) ∧ Q (Sum.inl none) (sA h39 (hR h39 f_Md_frameNew T) (hI h39 f_Md_top T).toNat (tn : Int))) (fun e42 h41 => hK h41 e42 ≠ 0 ∧ Q (Sum.inr e42) h41)) := by
    refine CF (d + 5) h0 T _ K ⟨kT, ?_⟩
    clear CF PR tm H Z e3
    simp (decide := true) (disch := first | decide | omega) only [cnI, cnR, cnK, cnl, cnA' G, cn_sA' G, kT, KN G, LN G, et, Int.toNat_natCast, true_and, and_true]
    exact ⟨b2, q⟩
  clear CF PR tm H Z q et e1 e2 ee
  generalize nthS S1 tn mk 4 = S4 at *
  simp (decide := true) (disch := first | decide | omega) only [cnI, cnR, cnK, cnl, cnA' G, cn_sA' G, kT, KN G, LN G, e3, Int.toNat_natCast, true_and, and_true]
  exact ⟨b1, gc⟩
end
