/-! T looks at hosts: all kinds of sites -/
set_option maxRecDepth 20000
section
variable {ρ : Nat → Nat} {P : ah → Nat → Prop} {d : Nat} {Q : QT} {h h0 : ah} {T k n m f i j N M b r a ph kn ac c rr s mn : Nat} {S S' S1 S2 SX : SS} {g : HG} {tp l o bs pf L ts : List Int} {v st p x y md nm ty cnt κ cc_ : Int} {ls cs ch : List Nat} {w : Nat → Bool}
theorem tsT_len : (tsT S rr n).length = n := by unfold tsT; simp
theorem s_lhx (hκ : ¬ κ = 0 ∧ ¬ κ = 1 ∧ ¬ κ = 5 ∧ ¬ (κ = 6 ∧ st = 1)) (hs : s < 4000) (hst : st = 0 ∨ st = 1) : ∃ S', LHR g S S S' κ st c L ts ∧ LH51 ρ g N M S S' s c κ st cnt (hkG g κ st c L ts) := by
  have ek : hkG g κ st c L ts = -5 := by unfold hkG; rw [if_neg hκ.1, if_neg hκ.2.1, if_neg hκ.2.2.1, if_neg hκ.2.2.2]
  have f0 : OFF [f_Md_foundGuard] S (u2 S f_Md_foundGuard 0 (c : Int)) := OFF.rf.u (by decide)
  refine ⟨u2 S f_Md_foundGuard 0 (c : Int), ⟨f0.le (by decide), f0.ex (by decide), u2_s, fun z => by rw [ek] at z; exact absurd z (by decide)⟩, fun d h0 T Q K q1 q0 => ?_⟩
  rw [ek] at q0
  have O := K.1.1
  have kT := O.1
  have G := O.2.1
  have b1 : 0 ≤ (s : Int) ∧ (s : Int) < ((4000 : Nat) : Int) := by omega
  have g1 : wpB PGm ρ (d + 128) m_Md_looksAtHost 301 [(0, vR T)] [] (cn h0 T (u2 S f_Md_foundGuard 0 (c : Int))) Q := b_Md_looksAtHost_301 ⟨kT, s_error (d := d + 126) O ⟨O.kh, q0 (by decide)⟩⟩
  have n1 := hκ.1
  have n2 := hκ.2.1
  have n3 := hκ.2.2.1
  have n4 : κ = 6 → st = 0 := fun z => by have := hκ.2.2.2; omega
  refine b_Md_looksAtHost_51 ?_
  clear q1 q0 hκ f0 K ek
  simp (decide := true) (disch := first | decide | omega) only [cnI, cnR, cnK, cnl, cnA' G, cn_sI, kT, KN G, LN G, n1, n2, n3, Int.toNat_natCast, true_and, and_true, false_implies, forall_const]
  exact ⟨b1, fun _ => g1, fun z => ⟨fun _ => g1, fun z2 => absurd (n4 z) z2⟩⟩
theorem s_lh6 (W : HWF g N M) (H : LHQ S N s rr mn c 6 1 L) (et : ts = tsT S rr mn) (E : hkB g 6 1 c L = true → CH2 g ts (hkC g 6 1 c L) S (c : Int) 2 (-1) cnt (sglG g ts (hkC g 6 1 c L)) SX) (e0 : hkB g 6 1 c L = false → SX = S) : ∃ S', LHR g S SX S' 6 1 c L ts ∧ LH51 ρ g N M S S' s c 6 1 cnt (hkG g 6 1 c L ts) := by
  obtain ⟨h1, h2, h3, h4, h5, h6, -⟩ := H
  have f0 : OFF [f_Md_foundGuard] S (u2 S f_Md_foundGuard 0 (c : Int)) := OFF.rf.u (by decide)
  obtain ⟨S2, f2, c2, t2⟩ := s_makers (ρ := ρ) (S := u2 S f_Md_foundGuard 0 (c : Int)) W.2.1 W.2.2.2.2.2 h5
  have ok2 := mkr_ok W.2.1 h5
  have ec : hkC g 6 1 c L = mkrG g c := by unfold hkC; rw [if_neg (by decide), if_neg (by decide)]
  have ek : hkG g 6 1 c L ts = if mkrG g c = [] then -4 else sglG g ts (mkrG g c) := by unfold hkG; rw [if_neg (by decide), if_neg (by decide), if_neg (by decide), if_pos (by decide), ec]
  have eb : hkB g 6 1 c L = !(mkrG g c).isEmpty := by unfold hkB; rw [ec]; rfl
  rw [if_neg (by decide)] at h4
  have f3 : OFF (LHK ++ LCH3) S S2 := (f0.le (by decide)).tr (f2.le (by decide))
  have fg : S2 f_Md_foundGuard 0 = (c : Int) := by rw [f2 _ _ (by decide), u2_s]
  have P2 : PVS S2 N rr mn := h4.ex (fun f hf i => by rw [f2.ex (L' := LPV) (by decide) f hf, f0.ex (L' := LPV) (by decide) f hf])
  have ts2 : ts = tsT S2 rr mn := by rw [et]; exact (tsT_e (fun f hf i => by rw [f2.ex (L' := LPV) (by decide) f hf, f0.ex (L' := LPV) (by decide) f hf])).symm
  have x2 : EXS LCH3 S S2 := fun f hf i => by rw [f2.ex (L' := LCH3) (by decide) f hf, f0.ex (L' := LCH3) (by decide) f hf]
  have em2 : S2 f_Md_siteMany s = (mn : Int) := by rw [f2 _ _ (by decide), f0 _ _ (by decide)]; exact h2
  -- T up to the makers
  have fr : ∀ (d : Nat) (h0 : ah) (T : Nat) (Q : QT), PTO ρ g N M h0 T → (mkrG g c = [] → Q (Sum.inr (hR h0 f_Md_halt T)) (cn h0 T (erS S2 4))) → (mkrG g c ≠ [] → wpB PGm ρ (d + 128) m_Md_looksAtHost 279 [(0, vR T), (1, vI (s : Int)), (3, vI cnt), (5, vI (c : Int))] [] (cn h0 T S2) Q) → wpB PGm ρ (d + 128) m_Md_looksAtHost 51 [(0, vR T), (1, vI (s : Int)), (2, vI 6), (3, vI cnt), (4, vI 1), (5, vI (c : Int))] [vI 1] (cn h0 T S) Q := by
    intro d h0 T Q K q0 q1
    have O := K.1.1
    have kT := O.1
    have G := O.2.1
    have b1 : 0 ≤ (s : Int) ∧ (s : Int) < ((4000 : Nat) : Int) := by omega
    have g1 : wpB PGm ρ (d + 127) m_Md_collectsMakers 0 [(0, vR T), (1, vI (c : Int))] [] (cn h0 T (u2 S f_Md_foundGuard 0 (c : Int))) (cV (fun h26 => hK h26 T = k_Md ∧ ((¬ (hI h26 f_Md_candidates T) = 0 → wpB PGm ρ (d + 128) m_Md_looksAtHost 279 [(0, vR T), (1, vI (s : Int)), (3, vI cnt), (5, vI (c : Int))] [] h26 Q) ∧ ((hI h26 f_Md_candidates T) = 0 → wpB PGm ρ (d + 127) m_Md_error 0 [(0, vR T), (1, vI 4)] [] h26 (cV (fun h39 => wpB PGm ρ (d + 128) m_Md_looksAtHost 279 [(0, vR T), (1, vI (s : Int)), (3, vI cnt), (5, vI (c : Int))] [] h39 Q) (fun e42 h41 => hK h41 e42 ≠ 0 ∧ Q (Sum.inr e42) h41))))) (fun e29 h28 => hK h28 e29 ≠ 0 ∧ Q (Sum.inr e29) h28)) := by
      refine t2 (d + 126) h0 T _ K ⟨kT, ?_⟩
      rw [cnI (by decide), c2.1]
      refine ⟨fun z => q1 (fun e => z (by rw [e]; rfl)), fun z => s_error (d := d + 126) O ⟨O.kh, q0 (List.length_eq_zero_iff.mp (by omega))⟩⟩
    refine b_Md_looksAtHost_51 ?_
    clear q1 q0 t2 f2 f0 W h4 ek eb ok2 E e0 P2 x2
    simp (decide := true) (disch := first | decide | omega) only [cnI, cnR, cnK, cnl, cnA' G, cn_sI, kT, KN G, LN G, Int.toNat_natCast, true_and, and_true, false_implies, forall_const, not_true_eq_false]
    exact ⟨b1, g1⟩
  by_cases w : mkrG g c = []
  · have eb' : hkB g 6 1 c L = false := by rw [eb, w]; rfl
    rw [e0 eb', ek, if_pos w]
    refine ⟨S2, ⟨f3, x2, fg, fun z => by rw [ek, if_pos w] at z; exact absurd z (by decide)⟩, fun d h0 T Q K q1 q0 => fr d h0 T Q K (fun _ => q0 (by decide)) (fun z => absurd w z)⟩
  · have eb' : hkB g 6 1 c L = true := by rw [eb]; cases hm : mkrG g c with
      | nil => exact absurd hm w
      | cons a b => rfl
    have E' := E eb'
    rw [ec] at E'
    obtain ⟨SY, E2, x3, o3⟩ := E'.e x2
    obtain ⟨S3, S', p1, p2, p3, p4, p5, p6, p7⟩ := s_pick (ρ := ρ) W P2 h3 c2 ok2 ts2 E2
    rw [ek, if_neg w]
    refine ⟨S', ⟨f3.tr (p2.le (by decide)), fun f hf i => by rw [p3 f hf i, x3 f hf i], by rw [p2 _ _ (by decide)]; exact fg, fun z => by rw [ek, if_neg w] at z ⊢; exact ⟨p4 z, by rw [p5, if_pos eb', et, tsT_len]⟩⟩, fun d h0 T Q K q1 q0 => fr d h0 T Q K (fun z => absurd z w) (fun _ => ?_)⟩
    have O := K.1.1
    have kT := O.1
    have G := O.2.1
    have b1 : 0 ≤ (s : Int) ∧ (s : Int) < ((4000 : Nat) : Int) := by omega
    have g1 := p6 (d + 126) h0 T (cV (fun h5 => hK h5 T = k_Md ∧ wpB PGm ρ (d + 127) m_Md_chooses 0 [(0, vR T), (1, vI (c : Int)), (2, vI 2), (3, vI (-1)), (4, vI cnt)] [] h5 (cV (fun h12 => Q (Sum.inl none) h12) (fun e15 h14 => hK h14 e15 ≠ 0 ∧ Q (Sum.inr e15) h14))) (fun e8 h7 => hK h7 e8 ≠ 0 ∧ Q (Sum.inr e8) h7)) O ⟨kT, p7 (d + 111) h0 T _ K q1 (fun z => ⟨O.kh, q0 z⟩)⟩
    refine b_Md_looksAtHost_279 ?_
    clear q1 q0 t2 f2 f0 W h4 ek eb ok2 E e0 P2 x2 p7 p6 fr E' E2
    simp (decide := true) (disch := first | decide | omega) only [cnI, cnR, cnK, cnl, cnA' G, kT, KN G, LN G, em2, Int.toNat_natCast, true_and, and_true]
    exact ⟨b1, g1⟩
theorem s_lh5 (W : HWF g N M) (H : LHQ S N s rr mn c 5 st L) (en : S f_Md_siteName s = (n : Int)) (nt : NMT S n L) (et : ts = tsT S rr mn) (E : hkB g 5 st c L = true → CH2 g ts (hkC g 5 st c L) S (c : Int) st (n : Int) cnt (sglG g ts (hkC g 5 st c L)) SX) (e0 : hkB g 5 st c L = false → SX = S) : ∃ S', LHR g S SX S' 5 st c L ts ∧ LH51 ρ g N M S S' s c 5 st cnt (hkG g 5 st c L ts) := by
  obtain ⟨h1, h2, h3, h4, h5, h6, -⟩ := H
  have f0 : OFF [f_Md_foundGuard] S (u2 S f_Md_foundGuard 0 (c : Int)) := OFF.rf.u (by decide)
  have nt1 := nt.ex (f0.ex (L' := [f_Md_nameSize, f_Md_nameSigns]) (by decide))
  obtain ⟨S2, f2, c2, ok2, -, -, t2⟩ := s_wcol (ρ := ρ) (p := -1) (pf := []) W h6 (by decide) h5 nt1 (by decide)
  have eL : wtL [] L = L := rfl
  rw [eL] at c2 ok2 t2
  have ec : hkC g 5 st c L = colG g (wtB g st L (-1)) (ordG g c) := by unfold hkC; rw [if_neg (by decide), if_pos rfl]
  generalize hcs : colG g (wtB g st L (-1)) (ordG g c) = cs at *
  have ek : hkG g 5 st c L ts = if cs = [] then -4 else sglG g ts cs := by unfold hkG; rw [if_neg (by decide), if_neg (by decide), if_pos rfl, ec]
  have eb : hkB g 5 st c L = !cs.isEmpty := by unfold hkB; rw [ec]; rfl
  rw [if_neg (by decide)] at h4
  have f3 : OFF (LHK ++ LCH3) S S2 := (f0.le (by decide)).tr (f2.le (by decide))
  have fg : S2 f_Md_foundGuard 0 = (c : Int) := by rw [f2 _ _ (by decide), u2_s]
  have P2 : PVS S2 N rr mn := h4.ex (fun f hf i => by rw [f2.ex (L' := LPV) (by decide) f hf, f0.ex (L' := LPV) (by decide) f hf])
  have ts2 : ts = tsT S2 rr mn := by rw [et]; exact (tsT_e (fun f hf i => by rw [f2.ex (L' := LPV) (by decide) f hf, f0.ex (L' := LPV) (by decide) f hf])).symm
  have x2 : EXS LCH3 S S2 := fun f hf i => by rw [f2.ex (L' := LCH3) (by decide) f hf, f0.ex (L' := LCH3) (by decide) f hf]
  have em2 : S2 f_Md_siteMany s = (mn : Int) := by rw [f2 _ _ (by decide), f0 _ _ (by decide)]; exact h2
  have es : u2 S f_Md_foundGuard 0 (c : Int) f_Md_siteName s = (n : Int) := by rw [u2_f (by decide)]; exact en
  have fr : ∀ (d : Nat) (h0 : ah) (T : Nat) (Q : QT), PTO ρ g N M h0 T → (cs = [] → Q (Sum.inr (hR h0 f_Md_halt T)) (cn h0 T (erS S2 4))) → (cs ≠ [] → wpB PGm ρ (d + 128) m_Md_looksAtHost 226 [(0, vR T), (1, vI (s : Int)), (3, vI cnt), (5, vI (c : Int)), (6, vI st), (7, vI (n : Int))] [] (cn h0 T S2) Q) → wpB PGm ρ (d + 128) m_Md_looksAtHost 51 [(0, vR T), (1, vI (s : Int)), (2, vI 5), (3, vI cnt), (4, vI st), (5, vI (c : Int))] [vI st] (cn h0 T S) Q := by
    intro d h0 T Q K q0 q1
    have O := K.1.1
    have kT := O.1
    have G := O.2.1
    have b1 : 0 ≤ (s : Int) ∧ (s : Int) < ((4000 : Nat) : Int) := by omega
    have g1 := s_wants (ρ := ρ) (d := d + 115) (Q := cV (fun h46 => hK h46 T = k_Md ∧ wpB PGm ρ (d + 127) m_Md_collects 0 [(0, vR T), (1, vI (c : Int)), (2, vI st), (3, vI (-1))] [] h46 (cV (fun h53 => hK h53 T = k_Md ∧ ((¬ (hI h53 f_Md_candidates T) = 0 → wpB PGm ρ (d + 128) m_Md_looksAtHost 226 [(0, vR T), (1, vI (s : Int)), (3, vI cnt), (5, vI (c : Int)), (6, vI st), (7, vI (n : Int))] [] h53 Q) ∧ ((hI h53 f_Md_candidates T) = 0 → wpB PGm ρ (d + 127) m_Md_error 0 [(0, vR T), (1, vI 4)] [] h53 (cV (fun h66 => wpB PGm ρ (d + 128) m_Md_looksAtHost 226 [(0, vR T), (1, vI (s : Int)), (3, vI cnt), (5, vI (c : Int)), (6, vI st), (7, vI (n : Int))] [] h66 Q) (fun e69 h68 => hK h68 e69 ≠ 0 ∧ Q (Sum.inr e69) h68))))) (fun e56 h55 => hK h55 e56 ≠ 0 ∧ Q (Sum.inr e56) h55))) (fun e49 h48 => hK h48 e49 ≠ 0 ∧ Q (Sum.inr e49) h48)) K.1 (K.tx (q := (30, [])) (by decide)) (by decide) (fun i hi => absurd hi (by simp)) nt1 ⟨kT, t2 (d + 4) h0 T _ K ⟨kT, by
      rw [cnI (by decide), c2.1]
      exact ⟨fun z => q1 (fun e => z (by rw [e]; rfl)), fun z => s_error (d := d + 126) O ⟨O.kh, q0 (List.length_eq_zero_iff.mp (by omega))⟩⟩⟩⟩
    refine b_Md_looksAtHost_51 ?_
    clear q1 q0 t2 f2 f0 W h4 ek eb ok2 E e0 P2 x2
    simp (decide := true) (disch := first | decide | omega) only [cnI, cnR, cnK, cnl, cnA' G, cn_sI, kT, KN G, LN G, es, Int.toNat_natCast, true_and, and_true, false_implies, forall_const, not_true_eq_false]
    exact ⟨b1, g1⟩
  by_cases w : cs = []
  · have eb' : hkB g 5 st c L = false := by rw [eb, w]; rfl
    rw [e0 eb', ek, if_pos w]
    refine ⟨S2, ⟨f3, x2, fg, fun z => by rw [ek, if_pos w] at z; exact absurd z (by decide)⟩, fun d h0 T Q K q1 q0 => fr d h0 T Q K (fun _ => q0 (by decide)) (fun z => absurd w z)⟩
  · have eb' : hkB g 5 st c L = true := by
      rw [eb]
      cases hm : cs with
      | nil => exact absurd hm w
      | cons a b => rfl
    have E' := E eb'
    rw [ec] at E'
    obtain ⟨SY, E2, x3, o3⟩ := E'.e x2
    obtain ⟨S3, S', p1, p2, p3, p4, p5, p6, p7⟩ := s_pick (ρ := ρ) W P2 h3 c2 ok2 ts2 E2
    rw [ek, if_neg w]
    refine ⟨S', ⟨f3.tr (p2.le (by decide)), fun f hf i => by rw [p3 f hf i, x3 f hf i], by rw [p2 _ _ (by decide)]; exact fg, fun z => by rw [ek, if_neg w] at z ⊢; exact ⟨p4 z, by rw [p5, if_pos eb', et, tsT_len]⟩⟩, fun d h0 T Q K q1 q0 => fr d h0 T Q K (fun z => absurd z w) (fun _ => ?_)⟩
    have O := K.1.1
    have kT := O.1
    have G := O.2.1
    have b1 : 0 ≤ (s : Int) ∧ (s : Int) < ((4000 : Nat) : Int) := by omega
    have g1 := p6 (d + 126) h0 T (cV (fun h5 => hK h5 T = k_Md ∧ wpB PGm ρ (d + 127) m_Md_chooses 0 [(0, vR T), (1, vI (c : Int)), (2, vI st), (3, vI (n : Int)), (4, vI cnt)] [] h5 (cV (fun h12 => Q (Sum.inl none) h12) (fun e15 h14 => hK h14 e15 ≠ 0 ∧ Q (Sum.inr e15) h14))) (fun e8 h7 => hK h7 e8 ≠ 0 ∧ Q (Sum.inr e8) h7)) O ⟨kT, p7 (d + 111) h0 T _ K q1 (fun z => ⟨O.kh, q0 z⟩)⟩
    refine b_Md_looksAtHost_226 ?_
    clear q1 q0 t2 f2 f0 W h4 ek eb ok2 E e0 P2 x2 p7 p6 fr E' E2
    simp (decide := true) (disch := first | decide | omega) only [cnI, cnR, cnK, cnl, cnA' G, kT, KN G, LN G, em2, Int.toNat_natCast, true_and, and_true]
    exact ⟨b1, g1⟩
theorem s_lh1 (W : HWF g N M) (H : LHQ S N s rr mn c 1 st L) (en : S f_Md_siteName s = (n : Int)) (nt : NMT S n L) (et : ts = tsT S rr 1) (E : hkB g 1 st c L = true → CH2 g ts (hkC g 1 st c L) S (c : Int) (st + 4) ((hkC g 1 st c L).getD 0 0 : Int) cnt (sglG g ts (hkC g 1 st c L)) SX) (e0 : hkB g 1 st c L = false → SX = S) : ∃ S', LHR g S SX S' 1 st c L ts ∧ LH51 ρ g N M S S' s c 1 st cnt (hkG g 1 st c L ts) := by
  obtain ⟨h1, h2, h3, h4, h5, h6, -⟩ := H
  have f0 : OFF [f_Md_foundGuard] S (u2 S f_Md_foundGuard 0 (c : Int)) := OFF.rf.u (by decide)
  have nt1 := nt.ex (f0.ex (L' := [f_Md_nameSize, f_Md_nameSigns]) (by decide))
  obtain ⟨S2, f2, c2, ok2, nt2, -, t2⟩ := s_wcol (ρ := ρ) (p := 1) (pf := xSET) W h6 (by decide) h5 nt1 (by decide)
  have eL : wtL [] L = L := rfl
  have ec : hkC g 1 st c L = colG g (wtB g st (wtL xSET L) 1) (ordG g c) := by unfold hkC; rw [if_pos rfl]
  generalize hcs : colG g (wtB g st (wtL xSET L) 1) (ordG g c) = cs at *
  have ek : hkG g 1 st c L ts = if cs = [] then (if oN (fldG g st L 61 (c : Int)) < 0 then -4 else oN (fldG g st L 61 (c : Int))) else sglG g ts cs := by unfold hkG; rw [if_neg (by decide), if_pos rfl, ec]
  have eb : hkB g 1 st c L = !cs.isEmpty := by unfold hkB; rw [ec]; rfl
  rw [if_pos rfl] at h4
  have f3 : OFF (LHK ++ LCH3) S S2 := (f0.le (by decide)).tr (f2.le (by decide))
  have fg : S2 f_Md_foundGuard 0 = (c : Int) := by rw [f2 _ _ (by decide), u2_s]
  have P2 : PVS S2 N rr 1 := h4.ex (fun f hf i => by rw [f2.ex (L' := LPV) (by decide) f hf, f0.ex (L' := LPV) (by decide) f hf])
  have ts2 : ts = tsT S2 rr 1 := by rw [et]; exact (tsT_e (fun f hf i => by rw [f2.ex (L' := LPV) (by decide) f hf, f0.ex (L' := LPV) (by decide) f hf])).symm
  have x2 : EXS LCH3 S S2 := fun f hf i => by rw [f2.ex (L' := LCH3) (by decide) f hf, f0.ex (L' := LCH3) (by decide) f hf]
  have es : u2 S f_Md_foundGuard 0 (c : Int) f_Md_siteName s = (n : Int) := by rw [u2_f (by decide)]; exact en
  have w3 : WNT (wnS S2 L) L := wnS_w (by have := nt.2.2.1; omega)
  have st3 : st = -1 ∨ st = 0 ∨ st = 1 := Or.inr h6
  have fr : ∀ (d : Nat) (h0 : ah) (T : Nat) (Q : QT), PTO ρ g N M h0 T → (cs = [] → (0 ≤ oN (fldG g st L 61 (c : Int)) → Q (Sum.inl none) (cn h0 T (u2 (wnS S2 L) f_Md_foundWhich 0 (oN (fldG g st L 61 (c : Int)))))) ∧ (oN (fldG g st L 61 (c : Int)) < 0 → Q (Sum.inr (hR h0 f_Md_halt T)) (cn h0 T (erS (u2 (wnS S2 L) f_Md_foundWhich 0 (oN (fldG g st L 61 (c : Int)))) 4)))) → (cs ≠ [] → wpB PGm ρ (d + 127) m_Md_typesOfEs 0 [(0, vR T), (1, vI 1)] [] (cn h0 T S2) (cV (fun h122 => hK h122 T = k_Md ∧ (hK h122 (hR h122 f_Md_candidate T) ∈ [1, 11] ∧ (0 : Int) < (hl h122 (hR h122 f_Md_candidate T) : Int)) ∧ wpB PGm ρ (d + 127) m_Md_chooses 0 [(0, vR T), (1, vI (c : Int)), (2, vI (w32 (st + 4))), (3, vI (hA h122 (hR h122 f_Md_candidate T) 0)), (4, vI cnt)] [] h122 (cV (fun h131 => wpB PGm ρ (d + 128) m_Md_looksAtHost 152 [] [] h131 Q) (fun e134 h133 => hK h133 e134 ≠ 0 ∧ Q (Sum.inr e134) h133))) (fun e125 h124 => hK h124 e125 ≠ 0 ∧ Q (Sum.inr e125) h124))) → wpB PGm ρ (d + 128) m_Md_looksAtHost 51 [(0, vR T), (1, vI (s : Int)), (2, vI 1), (3, vI cnt), (4, vI st), (5, vI (c : Int))] [vI st] (cn h0 T S) Q := by
    intro d h0 T Q K q0 q1
    have O := K.1.1
    have kT := O.1
    have G := O.2.1
    have b1 : 0 ≤ (s : Int) ∧ (s : Int) < ((4000 : Nat) : Int) := by omega
    refine b_Md_looksAtHost_51 ?_
    have gW : ∀ QQ : QT, QQ (Sum.inl none) (cn h0 T (wnS (u2 S f_Md_foundGuard 0 (c : Int)) (wtL xSET L))) → wpB PGm ρ (d + 127) m_Md_wants 0 [(0, vR T), (1, vR (ρ 21)), (2, vI (n : Int))] [] (cn h0 T (u2 S f_Md_foundGuard 0 (c : Int))) QQ := fun QQ z => s_wants (d := d + 115) K.1 (K.tx (q := (21, xSET)) (by decide)) (by decide) (by decide) nt1 z
    have gW2 : ∀ QQ : QT, QQ (Sum.inl none) (cn h0 T (wnS S2 L)) → wpB PGm ρ (d + 127) m_Md_wants 0 [(0, vR T), (1, vR (ρ 30)), (2, vI (n : Int))] [] (cn h0 T S2) QQ := fun QQ z => s_wants (d := d + 115) K.1 (K.tx (q := (30, [])) (by decide)) (by decide) (fun i hi => absurd hi (by simp)) nt2 z
    simp (decide := true) (disch := first | decide | omega) only [cnI, cnR, cnK, cnl, cnA' G, cn_sI, kT, KN G, LN G, es, Int.toNat_natCast, true_and, and_true, false_implies, forall_const, not_true_eq_false]
    refine ⟨b1, gW _ ⟨kT, t2 (d + 4) h0 T _ K ⟨kT, ?_⟩⟩⟩
    rw [cnI (by decide), c2.1]
    refine ⟨fun z => gW2 _ ⟨kT, ?_⟩, fun z => q1 (fun e => by rw [e] at z; exact absurd z (by decide))⟩
    obtain ⟨r1, r2⟩ := q0 (List.length_eq_zero_iff.mp (by omega))
    refine s_field (d := d + 126) K W.1 W.2.1 h5 w3 st3 ⟨kT, ?_⟩
    show ((0 ≤ hI (sI (cn h0 T (wnS S2 L)) f_Md_foundWhich T (oN (fldG g st L 61 (c : Int)))) f_Md_foundWhich T → Q (Sum.inl none) (sI (cn h0 T (wnS S2 L)) f_Md_foundWhich T (oN (fldG g st L 61 (c : Int))))) ∧ (hI (sI (cn h0 T (wnS S2 L)) f_Md_foundWhich T (oN (fldG g st L 61 (c : Int)))) f_Md_foundWhich T < 0 → wpB PGm ρ (d + 127) m_Md_error 0 [(0, vR T), (1, vI 4)] [] (sI (cn h0 T (wnS S2 L)) f_Md_foundWhich T (oN (fldG g st L 61 (c : Int)))) (cV (fun h115 => Q (Sum.inl none) h115) (fun e118 h117 => hK h117 e118 ≠ 0 ∧ Q (Sum.inr e118) h117))))
    rw [cn_sI (by decide), cnI (by decide), u2_s]
    exact ⟨r1, fun z => s_error (d := d + 126) O ⟨O.kh, r2 z⟩⟩
  by_cases w : cs = []
  · have eb' : hkB g 1 st c L = false := by rw [eb, w]; rfl
    have x4 : EXS LCH3 S (u2 (wnS S2 L) f_Md_foundWhich 0 (oN (fldG g st L 61 (c : Int)))) := fun f hf i => by
      rw [u2_f (by rintro rfl; exact absurd hf (by decide)), wnS_off.ex (L' := LCH3) (by decide) f hf]; exact x2 f hf i
    rw [e0 eb', ek, if_pos w]
    refine ⟨u2 (wnS S2 L) f_Md_foundWhich 0 (oN (fldG g st L 61 (c : Int))), ⟨f3.tr ((wnS_off.le (by decide)).u (by decide)), x4, by rw [u2_f (by decide), wnS_o (by decide)]; exact fg, fun z => ?_⟩, fun d h0 T Q K q1 q0 => fr d h0 T Q K (fun _ => ⟨fun z => ?_, fun z => ?_⟩) (fun z => absurd w z)⟩
    · rw [ek, if_pos w] at z ⊢
      have : ¬ oN (fldG g st L 61 (c : Int)) < 0 := fun c => by rw [if_pos c] at z; exact absurd z (by decide)
      rw [if_neg this, eb', if_neg (by decide)]
      exact ⟨u2_s, by rw [u2_f (by decide), wnS_o (by decide), f2 _ _ (by decide), u2_f (by decide)]⟩
    · rw [if_neg (by omega)] at q1; exact q1 z
    · rw [if_pos z] at q0; exact q0 (by decide)
  · have eb' : hkB g 1 st c L = true := by
      rw [eb]
      cases hm : cs with
      | nil => exact absurd hm w
      | cons a b => rfl
    have E' := E eb'
    rw [ec] at E'
    obtain ⟨SY, E2, x3, o3⟩ := E'.e x2
    obtain ⟨S3, S', p1, p2, p3, p4, p5, p6, p7⟩ := s_pick (ρ := ρ) W P2 (by decide) c2 ok2 ts2 E2
    have er : S3 f_Md_candidate 0 = ((cs.getD 0 0 : Nat) : Int) := by
      rw [p1 _ _ (by decide)]
      exact c2.2 0 (List.length_pos_iff.mpr w)
    rw [ek, if_neg w]
    refine ⟨S', ⟨f3.tr (p2.le (by decide)), fun f hf i => by rw [p3 f hf i, x3 f hf i], by rw [p2 _ _ (by decide)]; exact fg, fun z => by rw [ek, if_neg w] at z ⊢; exact ⟨p4 z, by rw [p5, if_pos eb', et, tsT_len]⟩⟩, fun d h0 T Q K q1 q0 => fr d h0 T Q K (fun z => absurd z w) (fun _ => ?_)⟩
    have O := K.1.1
    have kT := O.1
    have G := O.2.1
    have g1 := p7 (d + 111) h0 T (cV (fun h131 => wpB PGm ρ (d + 128) m_Md_looksAtHost 152 [] [] h131 Q) (fun e134 h133 => hK h133 e134 ≠ 0 ∧ Q (Sum.inr e134) h133)) K (fun z => b_Md_looksAtHost_152 (q1 z)) (fun z => ⟨O.kh, q0 z⟩)
    have y1 : w32 (st + 4) = st + 4 := w32_of (by omega) (by omega)
    refine p6 (d + 126) h0 T _ O ⟨kT, ?_⟩
    clear q1 q0 t2 f2 f0 W h4 ek eb ok2 E e0 P2 x2 p7 p6 fr E' E2
    generalize cs.getD 0 0 = c00 at *
    simp (decide := true) (disch := first | decide | omega) only [cnI, cnR, cnK, cnl, cnA' G, kT, KN G, LN G, er, y1, true_and, and_true]
    exact g1
theorem s_lhost (W : HWF g N M) (H : LHQ S N s rr mn c κ st L) (hκ : 0 ≤ κ ∧ κ ≤ 6) (et : ts = tsT S rr (if κ = 1 then 1 else mn)) (E : hkB g κ st c L = true → CH2 g ts (hkC g κ st c L) S (c : Int) (hkD κ st) (hkN g κ st c L (S f_Md_siteName s)) cnt (sglG g ts (hkC g κ st c L)) SX) (e0 : hkB g κ st c L = false → SX = S) : ∃ S', LHR g S SX S' κ st c L ts ∧ ∀ (d : Nat) (h0 : ah) (T : Nat) (Q : QT), PTO ρ g N M h0 T → (0 ≤ hkG g κ st c L ts → Q (Sum.inl none) (cn h0 T S')) → (hkG g κ st c L ts < 0 → Q (Sum.inr (hR h0 f_Md_halt T)) (cn h0 T (erS S' (-(hkG g κ st c L ts))))) → wpB PGm ρ (d + 128) m_Md_looksAtHost 0 [(0, vR T), (1, vI (s : Int)), (2, vI κ), (3, vI cnt)] [] (cn h0 T S) Q := by
  have H' := H
  obtain ⟨h1, h2, h3, h4, h5, h6, h7, h8, h9, h10⟩ := H'
  have main : ∃ S', LHR g S SX S' κ st c L ts ∧ LH51 ρ g N M S S' s c κ st cnt (hkG g κ st c L ts) := by
    by_cases k0 : κ = 0
    · subst k0
      have eb : hkB g 0 st c L = false := by unfold hkB; rw [decide_eq_false (by omega)]; rfl
      rw [e0 eb]; exact s_lh0 W H
    · by_cases k1 : κ = 1
      · subst k1
        obtain ⟨n, en, nt⟩ := h7 (Or.inr (Or.inl rfl))
        exact s_lh1 W H en nt et (fun z => by have := E z; unfold hkD hkN at this; rw [if_pos rfl, if_pos rfl] at this; exact this) e0
      · rw [if_neg k1] at et
        by_cases k5 : κ = 5
        · subst k5
          obtain ⟨n, en, nt⟩ := h7 (Or.inr (Or.inr rfl))
          exact s_lh5 W H en nt et (fun z => by have := E z; unfold hkD hkN at this; rw [if_neg (by decide), if_pos rfl, if_neg (by decide), if_pos rfl, en] at this; exact this) e0
        · by_cases k6 : κ = 6 ∧ st = 1
          · obtain ⟨rfl, rfl⟩ := k6
            exact s_lh6 W H et (fun z => by have := E z; unfold hkD hkN at this; rw [if_neg (by decide), if_neg (by decide), if_neg (by decide), if_neg (by decide)] at this; exact this) e0
          · have eb : hkB g κ st c L = false := by unfold hkB; rw [decide_eq_false (by omega)]; rfl
            rw [e0 eb]; exact s_lhx ⟨k0, k1, k5, k6⟩ h1 h6
  obtain ⟨S', r1, r2⟩ := main
  refine ⟨S', r1, fun d h0 T Q K q1 q0 => ?_⟩
  have O := K.1.1
  have kT := O.1
  have G := O.2.1
  have g1 := r2 d h0 T Q K q1 q0
  have y1 : w32 (S f_Md_goesValue 0) = S f_Md_goesValue 0 := w32_of (by omega) (by omega)
  have b1 : 0 ≤ S f_Md_goesValue 0 ∧ S f_Md_goesValue 0 < ((8000 : Nat) : Int) := by omega
  rcases h6 with rfl | rfl
  · rw [if_neg (by decide)] at h8 h10
    refine b_Md_looksAtHost_0 ⟨kT, fun _ => b_Md_looksAtHost_14 ⟨fun _ => ?_, fun z => absurd rfl z⟩, fun z => by rw [cnI (by decide), h8] at z; exact absurd z (by decide)⟩
    have g2 : wpB PGm ρ (d + 128) m_Md_looksAtHost 39 [(0, vR T), (1, vI (s : Int)), (2, vI κ), (3, vI cnt), (4, vI 0)] [vI (c : Int)] (cn h0 T S) Q := b_Md_looksAtHost_39 ⟨fun _ => g1, fun z => absurd rfl z⟩
    clear q1 q0 r1 r2 W H E e0 h4 h7 g1
    simp (decide := true) (disch := first | decide | omega) only [cnI, cnR, cnK, cnl, cnA' G, kT, KN G, LN G, y1, h10, true_and, and_true]
    exact ⟨b1, g2⟩
  · rw [if_pos rfl] at h8 h10
    refine b_Md_looksAtHost_0 ⟨kT, fun z => by rw [cnI (by decide), h8] at z; exact absurd rfl z, fun _ => b_Md_looksAtHost_14 ⟨fun z => absurd z (by decide), fun _ => ⟨kT, ?_⟩⟩⟩
    rw [cnI (by decide), y1, h10]
    exact b_Md_looksAtHost_39 ⟨fun z => absurd z (by decide), fun _ => g1⟩
end
