/-! perform: a field of the host is read -/
set_option maxRecDepth 20000
section
variable {ρ : Nat → Nat} {d : Nat} {Q : QT} {Γ Γ' : GH} {h h' h1 h2 H : ah} {C ho k i j N M a z s r f o c t n mn m m0 rr l0 l2 : Nat} {g : HG} {v w hd ty κ x y : Int} {S S' S1 : SS} {X X' X1 X2 : X3} {Y Y' Y1 Y2 : Y3} {hw : List (List Int)} {ls L : List Nat} {e : Option Int} {F : Nat → ah → Prop} {E : Nat → ah → Prop}
theorem r_inst (P : PFX Γ h C ho X Y S N t o n c r s a κ mn m0 rr) (q : ∀ l2, (S f_Md_pileType rr = 7 → l2 = hB h (C + 51) (S f_Md_pileValue rr).toNat) → F l2 (cc h C X Y)) : wpB PGm ρ (d + 10) m_Machine_instanceAt 0 [(0, vR (C + 32)), (1, vI (m0 : Int))] [] (cc h C X Y) (cR F E) := by
  have HC := P.1
  have G := HC.1.1
  have F0 := HC.1.2
  have I := P.2.1.ix
  have ht := I.2.2.1
  have e1 : Y 32 f_Machine_t 0 = C + o := I.2.2.2.1.1
  have hn := I.2.2.2.2.1
  have hm : m0 < n := P.2.2.1.2.2.2.2.1
  obtain ⟨tn, sn, sm', d1, d2, d5, d6', d3, d4, d6, d7, d8, U, m1, m2, m3, m4⟩ := HC.shp
  have V0 := P.pl (i := 0) (by omega)
  rw [Nat.add_zero, Nat.add_zero] at V0
  have r2 : hR (cc h C X Y) f_Machine_t (C + 32) = C + o := by rw [ccR (by decide)]; exact e1
  have r3 : hR (cc h C X Y) f_Machine_heap (C + 32) = C + 50 := by rw [ccRo (by decide)]; exact F0.2.1.2.2.2.2.1
  have r4 : hR (cc h C X Y) f_Heap_things (C + 50) = C + 51 := by rw [ccRo (by decide)]; exact F0.2.2.1.2.1
  have r9 : hA (cc h C X Y) (hR (cc h C X Y) f_Task_words (C + o)) m0 = X o f_Task_words m0 := by rw [ccRo (by decide), ccAt G ht (by decide)]
  have r8 : hA (cc h C X Y) (hR (cc h C X Y) f_Task_tags (C + o)) m0 = S f_Md_pileType rr := by rw [ccRo (by decide), ccAt G ht (by decide)]; exact V0.1
  have lk : lok h (C + 51) := F0.2.2.2.1.1
  have ft := F0.t ht
  unfold FCt at ft
  have b1 : 0 ≤ (m0 : Int) ∧ (m0 : Int) < ((2001 : Nat) : Int) := by omega
  have dd : 10 ≤ d + 10 := by omega
  refine b_Machine_instanceAt_0 dd ⟨F0.1.1, ?_⟩
  rw [r2, r3, r4, Int.toNat_natCast, r8, r9]
  refine ⟨ft.1, ⟨?_, b1.1, ?_⟩, fun c => q 0 (fun c2 => absurd c2 c), fun c => ?_⟩
  · simp (decide := true) only [ccRo, ccK, KCt G ht]
  · rw [ccRo (by decide), ccl, ft.2.2.1]; exact b1.2
  · obtain ⟨u, eu, u1, u2⟩ : ∃ u : Nat, S f_Md_pileValue rr = (u : Int) ∧ u < tn ∧ S f_Md_thingKind u = 7 := by
      rcases V0.2.2 with z | z | z | z | z | z <;> first | omega | skip
      exact ⟨(S f_Md_pileValue rr).toNat, by omega, by omega, by rw [z.2.2.2.2]; exact c⟩
    have ew : X o f_Task_words m0 = (u : Int) := by rw [V0.2.1]; unfold cw; rw [if_neg (by rw [c]; decide)]; exact eu
    have T := (d7 u u1).p.1
    have bl : hB (cc h C X Y) (C + 51) u = hB h (C + 51) u := by
      have := ccBo (X := X) (Y := Y) (i := u) (f := f_Heap_things) (b := C + 50) G (by decide) (by have := G.1; omega)
      rw [F0.2.2.1.2.1] at this; exact this
    have kI : hK h (hB h (C + 51) u) = k_Instance := by rw [T.2.1.1, u2]; rfl
    have gq := q (hB h (C + 51) u) (fun _ => by rw [eu, Int.toNat_natCast])
    have b4 : 0 ≤ (u : Int) ∧ (u : Int) < (tn : Int) := by omega
    have w3 : w32 (u : Int) = (u : Int) := w32_of (by omega) (by omega)
    rw [ew, w3, Int.toNat_natCast, bl]
    refine ⟨F0.1.2.2.2.2.2.1, ⟨?_, b1.1, ?_⟩, lk.1, ⟨by rw [cclok]; exact lk, b4.1, by rw [ccl, d3]; exact b4.2⟩, Or.inr (by rw [ccK, kI]; decide), gq⟩
    · simp (decide := true) only [ccRo, ccK, KCt G ht]
    · rw [ccRo (by decide), ccl, ft.2.1]; exact b1.2
theorem pf_field (P : PFX Γ h C ho X Y S N t o n c r s a κ mn m0 rr) (U : HUS ρ Γ h ho S g N M hw) (W : HWF g N M) (hκ : κ = 0) (fl : S f_Md_foundLinker 0 = 1 ∨ S f_Md_foundLinker 0 = 2) (ew : S f_Md_foundWhich 0 = (m : Int)) (em : Y 53 f_Found_member 0 = hB h (ho + 3) m) (hm : m < M) (k6 : g.1 6 m = 0) (MO : MOW g N m) (ins : g.1 7 m = 0 → S f_Md_pileType rr = 7 ∧ S f_Md_pileValue rr = (k : Int) ∧ ∃ c, c < N ∧ S f_Md_thingClass k = (c : Int) ∧ PLC g c m i ∧ S f_Md_thingCount k = ((layG g c).length : Int)) (q : PFH ρ g N M hw Γ h C ho X Y S s Q) : wpB PGm ρ (d + 15) m_Machine_field 0 [(0, vR (C + 32)), (1, vI (m0 : Int))] [] (cc h C X Y) (pK Q) := by
  have HC := P.1
  have G := HC.1.1
  have F0 := HC.1.2
  have hmn : m0 < n := P.2.2.1.2.2.2.2.1
  obtain ⟨-, -, -, -, -, -, -, -, m7, -⟩ := U.1.me hm
  obtain ⟨tn, sn, sm', d1, d2, d5, d6', d3, d4, d6, d7, d8, U', -⟩ := HC.shp
  have V0 := P.pl (i := 0) (by omega)
  rw [Nat.add_zero, Nat.add_zero] at V0
  have ik : g.1 7 m = 0 → (k : Int) < S f_Md_things 0 ∧ S f_Md_thingKind k = 7 := fun z => by
    obtain ⟨i1, i2, -⟩ := ins z
    rcases V0.2.2 with z | z | z | z | z | z <;> first | omega | skip
    rw [i2, Int.toNat_natCast, i1] at z
    exact ⟨z.2.2.2.1, z.2.2.2.2⟩
  have r0 : hR (cc h C X Y) f_Machine_found (C + 32) = C + 53 := by rw [ccRo (by decide)]; exact F0.2.1.2.2.2.2.2.1
  have r1 : hR (cc h C X Y) f_Found_member (C + 53) = hB h (ho + 3) m := by rw [ccR (by decide)]; exact em
  have FQ : FIQ g S N M k m i := ⟨hm, fun z => by
    obtain ⟨i1, i2, c0, i3, i4, i5, i6⟩ := ins z
    obtain ⟨cnt, Lg, ecg⟩ := SLG.co HC (ik z).1
    have : cnt = (layG g c0).length := by omega
    subst this
    exact ⟨by rw [P.2.2.2.2.2.2.1.2]; exact i2, by have := (ik z).1; omega, c0, i3, i4, i5, Lg⟩⟩
  obtain ⟨S1, o1, T⟩ := TAC.fread (ρ := ρ) W ⟨P.2.2.2.2.2.1.1, P.2.2.2.2.2.1.2.1, fl, ew⟩ k6 hκ FQ P.2.2.1
  refine b_Machine_field_0 (d := d + 14) ⟨F0.1.1, ?_⟩
  rw [r0]
  refine ⟨F0.1.2.2.2.2.2.2.1, ?_⟩
  rw [r1]
  refine r_inst (d := d + 4) P (fun l2 el => ⟨F0.1.1, ?_⟩)
  have I1 : IST h C S g N k m i l2 := fun z => by
    obtain ⟨i1, i2, c0, i3, i4, i5, i6⟩ := ins z
    exact ⟨by rw [el i1, i2, Int.toNat_natCast], (ik z).1, (ik z).2, c0, i3, i4, i5, i6⟩
  refine r_ftag (d := d) HC U hm MO I1 (fun H L => ?_)
  obtain ⟨e, z, s', ⟨M1, K1⟩, g1, bd, fr, U1, ly⟩ := id L
  obtain ⟨ad2, ad3⟩ := L.adr U.1 G.2.1
  have I2 : IST H C S g N k m i l2 := fun z => by
    obtain ⟨i1, i2, i3, i4⟩ := I1 z
    exact ⟨by rw [i1, (g1.2.2.1.2 k i2).2], i2, i3, i4⟩
  have fw := r_fword (ρ := ρ) (d := d) (l0 := C + 32) (F := fun x28 h23 => hK h23 (C + 32) = k_Machine ∧ wpB PGm ρ (d + 14) m_Machine_answer 0 [(0, vR (C + 32)), (1, vI (m0 : Int)), (2, vI (fvT g S k m i)), (3, vL x28)] [] h23 (cV (fun h31 => pK Q (Sum.inl none) h31) (fun e34 h33 => hK h33 e34 ≠ 0 ∧ pK Q (Sum.inr e34) h33))) (E := fun e26 h25 => hK h25 e26 ≠ 0 ∧ pK Q (Sum.inr e26) h25) M1 U1 hm MO I2 (fun H2 L2 => by
    have L3 := L.tr L2
    have P2 := P.lay L3
    obtain ⟨-, -, -, -, -, -, -, U3, -⟩ := id L3
    have M3 := P2.1
    have I3 := P2.2.1.ix
    have oo : OFF (LFD ++ [f_Md_type, f_Md_value]) S (isS S1 (fvT g S k m i) (fvV g S k m i)) := (o1.le (by decide)).tr (isS_off.le (by decide))
    obtain ⟨⟨N1, N2⟩, gn, bn⟩ := M3.fzz (L := []) (Pp := []) (h' := H2) (X' := X) (Y' := Y) (S' := isS S1 (fvT g S k m i) (fvV g S k m i)) Fr.r0 (by unfold DJ; decide +kernel) (fun y c => by simp at c) (oo.ex (by decide)) (Int.le_of_eq (oo _ _ (by decide)).symm) EXX.rf (fun _ _ _ _ => rfl)
    have VV := fv_vr HC U MO I1 m7
    obtain ⟨_, _, _, _, g3, _⟩ := id L3
    have RL := P2.ach (z := 0) (j := 0) N1 (N2 P2.2.1.2.2.1) gn (oo.ex (by decide)) (oo.le (by decide)) (fun _ _ _ _ => rfl) Fr.r0 ((bn (oo.ex (by decide))).le (by decide) (by decide)) (gn.vr (g3.vr VV))
    have gq := q none _ _ _ Y T (RLH.mk L3 RL)
    exact ⟨M3.1.2.1.1, r_answer (d := d + 13) (Q := pK (pK Q)) M3.1.1 M3.1.2 I3.2.2.1 I3.2.2.2.1.1 I3.2.2.2.1.2.2 (n := m0) (by have := I3.2.2.2.2.1; omega) ⟨I3.2.2.2.2.2.1, I3.2.2.2.2.2.2⟩ VV.tg gq⟩)
  rw [ad3] at fw
  exact ⟨M1.1.2.1.1, fw⟩
end
