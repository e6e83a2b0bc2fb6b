/-! perform: a field of the host is written -/
set_option maxRecDepth 20000
section
variable {ρ : Nat → Nat} {d : Nat} {Q : QT} {Γ Γ' : GH} {h h' h1 h2 H : ah} {C ho k i j N M a z s r f o c t n m mn m0 rr l0 l2 : Nat} {g : HG} {v w hd ty κ x y : Int} {S S' S1 S2 S3 : SS} {X X' X1 X2 : X3} {Y Y' Y1 Y2 : Y3} {hw : List (List Int)} {e : Option Int}
theorem pf_fwrite (P : PFX Γ h C ho X Y S N t o n c r s a κ mn m0 rr) (U : HUS ρ Γ h ho S g N M hw) (YH : YHO Y ho) (W : HWF g N M) (hκ : κ = 1) (fl : S f_Md_foundLinker 0 = 1 ∨ S f_Md_foundLinker 0 = 2) (ew : S f_Md_foundWhich 0 = (m : Int)) (em : Y 53 f_Found_member 0 = hB h (ho + 3) m) (hm : m < M) (k6 : g.1 6 m = 0) (k8 : 1 ≤ g.1 8 m) (MO : MOW g N m) (dis : ∀ c' : Nat, c' < N → ∀ k : Nat, (k : Int) < g.1 4 c' → (g.1 3 c').toNat + k = m → c' = (g.1 5 m).toNat) (pv : PVS S N rr 1) (ce : 0 ≤ tyT S (S f_Md_pileType (rr + 1)) (S f_Md_pileValue (rr + 1)) ∧ tyT S (S f_Md_pileType (rr + 1)) (S f_Md_pileValue (rr + 1)) < 9 + (N : Int)) (ins : g.1 7 m = 0 → S f_Md_pileType rr = 7 ∧ S f_Md_pileValue rr = (k : Int) ∧ ∃ c, c < N ∧ S f_Md_thingClass k = (c : Int) ∧ PLC g c m i ∧ S f_Md_thingCount k = ((layG g c).length : Int)) (q : PFH ρ g N M hw Γ h C ho X Y S s Q) : wpB PGm ρ (d + 15) m_Machine_fieldWrite 0 [(0, vR (C + 32)), (1, vI (m0 : Int)), (2, vI ((n - 1 : Nat) : Int))] [] (cc h C X Y) (pK Q) := by
  have HC := P.1
  have G := HC.1.1
  have F0 := HC.1.2
  have I := P.2.1.ix
  have ht := I.2.2.1
  have e1 : Y 32 f_Machine_t 0 = C + o := I.2.2.2.1.1
  have hn := I.2.2.2.2.1
  have hmn : m0 < n := P.2.2.1.2.2.2.2.1
  have eE : esK κ mn = 1 := by unfold esK; rw [if_neg (by omega), if_neg (by omega), if_pos (by omega)]
  have hm2 := P.2.2.2.2.1
  rw [eE] at hm2
  have en1 : n - 1 = m0 + 1 := by omega
  obtain ⟨⟨mk, mz, -⟩, -, -, -, mt, mt2, -, -, m7, -⟩ := U.1.me hm
  obtain ⟨tn, sn, sm', d1, d2, d5, d6', d3, d4, d6, d7, d8, U', -⟩ := HC.shp
  have V0 := P.pl (i := 0) (by omega)
  rw [Nat.add_zero, Nat.add_zero] at V0
  have V1 := P.pl (i := 1) (by rw [eE]; omega)
  have ik : g.1 7 m = 0 → (k : Int) < S f_Md_things 0 ∧ S f_Md_thingKind k = 7 := fun z => by
    obtain ⟨i1, i2, -⟩ := ins z
    rcases V0.2.2 with z | z | z | z | z | z <;> first | omega | skip
    rw [i2, Int.toNat_natCast, i1] at z
    exact ⟨z.2.2.2.1, z.2.2.2.2⟩
  have FQ : FIQ g S N M k m i := ⟨hm, fun z => by
    obtain ⟨i1, i2, c0, i3, i4, i5, i6⟩ := ins z
    obtain ⟨cnt, Lg, ecg⟩ := SLG.co HC (ik z).1
    have : cnt = (layG g c0).length := by omega
    subst this
    exact ⟨by rw [P.2.2.2.2.2.2.1.2]; exact i2, by have := (ik z).1; omega, c0, i3, i4, i5, Lg⟩⟩
  have ahq : AHQ S s m κ := ⟨P.2.2.2.2.2.1.1, P.2.2.2.2.2.1.2.1, fl, ew⟩
  have r0 : hR (cc h C X Y) f_Machine_found (C + 32) = C + 53 := by rw [ccRo (by decide)]; exact F0.2.1.2.2.2.2.2.1
  have r1 : hR (cc h C X Y) f_Found_member (C + 53) = hB h (ho + 3) m := by rw [ccR (by decide)]; exact em
  have r2 : hR (cc h C X Y) f_Machine_t (C + 32) = C + o := by rw [ccR (by decide)]; exact e1
  have r3 : hR (cc h C X Y) f_Machine_host (C + 32) = ho := by rw [ccR (by decide)]; exact YH.1
  have r6 : hR (cc h C X Y) f_Machine_signal (C + 32) = C + 33 := by rw [ccRo (by decide)]; exact F0.2.1.1
  have t1 : hA (cc h C X Y) (hR (cc h C X Y) f_Task_tags (C + o)) (m0 + 1) = X o f_Task_tags (m0 + 1) := by rw [ccRo (by decide), ccAt G ht (by decide)]
  have t2 : hA (cc h C X Y) (hR (cc h C X Y) f_Task_words (C + o)) (m0 + 1) = X o f_Task_words (m0 + 1) := by rw [ccRo (by decide), ccAt G ht (by decide)]
  have xt : hI (cc h C X Y) f_Member_type (hB h (ho + 3) m) = g.1 8 m := by rw [ccIo (by decide)]; exact mt
  have ft := F0.t ht
  unfold FCt at ft
  have b1 : 0 ≤ ((m0 + 1 : Nat) : Int) ∧ ((m0 + 1 : Nat) : Int) < ((2001 : Nat) : Int) := by omega
  have bt : ∀ {H : ah}, AC H C → FC H C → (hK (cc H C X Y) (hR (cc H C X Y) f_Task_tags (C + o)) ∈ [3, 4, 13] ∧ 0 ≤ ((m0 + 1 : Nat) : Int) ∧ ((m0 + 1 : Nat) : Int) < (hl (cc H C X Y) (hR (cc H C X Y) f_Task_tags (C + o)) : Int)) ∧ (hK (cc H C X Y) (hR (cc H C X Y) f_Task_words (C + o)) ∈ [2] ∧ 0 ≤ ((m0 + 1 : Nat) : Int) ∧ ((m0 + 1 : Nat) : Int) < (hl (cc H C X Y) (hR (cc H C X Y) f_Task_words (C + o)) : Int)) := by
    intro H G2 F2
    have ft2 := F2.t ht
    unfold FCt at ft2
    refine ⟨⟨?_, b1.1, ?_⟩, ⟨?_, b1.1, ?_⟩⟩
    · simp (decide := true) only [ccRo, ccK, KCt G2 ht]
    · rw [ccRo (by decide), ccl, ft2.2.2.1]; exact b1.2
    · simp (decide := true) only [ccRo, ccK, KCt G2 ht]
    · rw [ccRo (by decide), ccl, ft2.2.1]; exact b1.2
  rw [en1]
  refine b_Machine_fieldWrite_0 (d := d + 14) ⟨F0.1.1, ?_⟩
  rw [r0, r1, r2, r3, Int.toNat_natCast, t1, t2]
  refine ⟨F0.1.2.2.2.2.2.2.1, ft.1, (bt G F0).1, (bt G F0).2, ?_⟩
  refine r_classOf (d := d + 13) HC U.1 (by omega) V1 ⟨mk, U.1.hh.1, ?_⟩
  rw [xt]
  refine c_goes (d := d + 12) (U.1.ccx G) (by omega) ce ⟨k8, mt2.2⟩ (fun w => ⟨fun _ => ⟨F0.1.1, ?_⟩, fun z => absurd z (by decide)⟩) (fun w => ⟨fun z => absurd rfl z, fun _ => ⟨F0.1.1, ?_⟩⟩)
  · rw [if_neg (by decide)] at w
    obtain ⟨S1, o1, T⟩ := TAC.fwr (ρ := ρ) W ahq k6 (by omega) FQ mt2 P.2.2.1.2.2.1 pv w P.2.2.1
    refine r_inst (d := d + 4) P (fun l2 el => ⟨F0.1.1, ?_⟩)
    have I1 : IST h C S g N k m i l2 := fun z => by
      obtain ⟨i1, i2, c0, i3, i4, i5, i6⟩ := ins z
      exact ⟨by rw [el i1, i2, Int.toNat_natCast], (ik z).1, (ik z).2, c0, i3, i4, i5, i6⟩
    rw [r2, t1, t2]
    refine ⟨ft.1, (bt G F0).1, (bt G F0).2, ?_⟩
    refine r_setf (d := d) HC U hm MO dis I1 V1 (fun H A => ?_)
    have A2 := A.lfd (fwS_lfd o1)
    obtain ⟨_, _, _, ⟨N1, _⟩, gA, _⟩ := id A2
    have oo : OFF (LFD ++ [f_Md_slotType, f_Md_slotValue, f_Md_staticType, f_Md_staticValue]) S (fwS g S1 k m i (S f_Md_pileType (rr + 1)) (S f_Md_pileValue (rr + 1))) := (o1.le (by decide)).tr (fwS_off.le (by decide))
    obtain ⟨RL, I3⟩ := P.swr A2 oo (gA.vr V1)
    have gq := q none _ _ _ Y T RL
    have G3 := I3.1
    have F3 := I3.2.1
    have s1 : hA (cc H C X Y) (hR (cc H C X Y) f_Task_tags (C + o)) (m0 + 1) = X o f_Task_tags (m0 + 1) := by rw [ccRo (by decide), ccAt G3 ht (by decide)]
    have s2 : hA (cc H C X Y) (hR (cc H C X Y) f_Task_words (C + o)) (m0 + 1) = X o f_Task_words (m0 + 1) := by rw [ccRo (by decide), ccAt G3 ht (by decide)]
    have r9 : hR (cc H C X Y) f_Machine_t (C + 32) = C + o := by rw [ccR (by decide)]; exact e1
    refine ⟨F3.1.1, ?_⟩
    rw [r9, s1, s2]
    refine ⟨(F3.t ht).1, (bt G3 F3).1, (bt G3 F3).2, ?_⟩
    exact r_answer (d := d + 13) G3 F3 ht e1 I3.2.2.2.1.2.2 (n := m0) (by omega) ⟨I3.2.2.2.2.2.1, I3.2.2.2.2.2.2⟩ V1.tg (b_Machine_fieldWrite_106 gq)
  · rw [if_neg (by decide)] at w
    rw [r6]
    have T := TAC.fwr7 (ρ := ρ) W ahq k6 (by omega) FQ mt2 P.2.2.1.2.2.1 pv w
    exact ⟨F0.1.2.1, r_sigQ G F0 ⟨kSg F0, q (some 7) _ h _ Y T (RLH.mk (LYR.rf HC U) (P.err (by decide)))⟩⟩
end
