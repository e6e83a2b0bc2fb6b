/-! C: a method gives or sets its field -/
set_option maxRecDepth 20000
section
variable {ρ : Nat → Nat} {d : Nat} {Q : QT} {Γ Γ' : GH} {h h' h1 h2 H H1 : ah} {C ho k i j N M a z s r f o c t n m mn m0 rr l1 l2 p : Nat} {g : HG} {v hd ty κ x y sv : Int} {S S' S1 S2 S3 ST : SS} {X X' X1 X2 : X3} {Y Y' Y1 Y2 : Y3} {hw : List (List Int)} {e : Option Int} {L : List Nat} {w : Nat}
theorem r_access (P : PFX Γ h C ho X Y S N t o n c r s a κ mn m0 rr) (U : HUS ρ Γ h ho S g N M hw) (km : hK h l1 = k_Member) (kz : l1 < hz h) (kf : hR h f_Member_field l1 = hB h (ho + 3) f) (ks : hI h f_Member_sets l1 = sv) (hf : f < M) (MO : MOW g N f) (dis : ∀ c' : Nat, c' < N → ∀ k : Nat, (k : Int) < g.1 4 c' → (g.1 3 c').toNat + k = f → c' = (g.1 5 f).toNat) (ins : g.1 7 f = 0 → S f_Md_pileType rr = 7 ∧ S f_Md_pileValue rr = (k : Int) ∧ ∃ c, c < N ∧ S f_Md_thingClass k = (c : Int) ∧ PLC g c f i ∧ S f_Md_thingCount k = ((layG g c).length : Int)) (eE : ¬ sv = 0 → 1 ≤ esK κ mn) (qr : sv = 0 → ∀ H, LYR ρ Γ h C ho X Y S g N M hw H → Q (Sum.inl none) (cc H C (ansX X o m0 c (fvT g S k f i) (cw Γ (fvT g S k f i) (fvV g S k f i))) Y)) (qw : ¬ sv = 0 → ∀ H, SWR ρ Γ h C ho X Y S g N M hw (fwS g S k f i (S f_Md_pileType (rr + 1)) (S f_Md_pileValue (rr + 1))) H → Q (Sum.inl none) (cc H C (ansX X o m0 c 0 0) Y)) : wpB PGm ρ (d + 15) m_Machine_access 0 [(0, vR (C + 32)), (1, vR l1), (2, vI (m0 : Int))] [] (cc h C X Y) Q := by
  have HC := P.1
  have G := HC.1.1
  have F0 := HC.1.2
  have hmn : m0 < n := P.2.2.1.2.2.2.2.1
  have hn0 := P.2.1.ix.2.2.2.2.1
  have m7 := (U.1.me hf).2.2.2.2.2.2.2.2.1
  have V0 := P.pl (i := 0) (by omega)
  rw [Nat.add_zero, Nat.add_zero] at V0
  have ik : g.1 7 f = 0 → (k : Int) < S f_Md_things 0 ∧ S f_Md_thingKind k = 7 := fun z => by
    obtain ⟨i1, i2, -⟩ := ins z
    rcases V0.2.2 with z | z | z | z | z | z <;> first | omega | skip
    rw [i2, Int.toNat_natCast, i1] at z
    exact ⟨z.2.2.2.1, z.2.2.2.2⟩
  have rs : hI (cc h C X Y) f_Member_sets l1 = sv := by rw [ccIo (by decide)]; exact ks
  have rf : ∀ {H : ah}, hR H f_Member_field l1 = hB h (ho + 3) f → hR (cc H C X Y) f_Member_field l1 = hB h (ho + 3) f := fun {H} e => by rw [ccRo (by decide)]; exact e
  have lf : ∀ {H : ah}, LYR ρ Γ h C ho X Y S g N M hw H → hR H f_Member_field l1 = hB h (ho + 3) f ∧ hK H l1 = k_Member := fun {H} L => by
    obtain ⟨_, _, _, _, _, _, fr, _⟩ := L
    exact ⟨by rw [fr.R kz (by decide) (nokW (by decide) rfl)]; exact kf, by rw [fr.K kz]; exact km⟩
  refine b_Machine_access_0 (d := d + 14) ⟨F0.1.1, ?_⟩
  refine r_inst (d := d + 4) P (fun l2 el => ⟨km, ?_⟩)
  rw [rs, rf kf]
  have I1 : IST h C S g N k f i l2 := fun z => by
    obtain ⟨i1, i2, c0, i3, i4, i5, i6⟩ := ins z
    exact ⟨by rw [el i1, i2, Int.toNat_natCast], (ik z).1, (ik z).2, c0, i3, i4, i5, i6⟩
  refine ⟨fun w => ⟨F0.1.1, ?_⟩, fun w => ⟨F0.1.1, ?_⟩⟩
  · have hE := eE w
    have I := P.2.1.ix
    have ht := I.2.2.1
    have e1 : Y 32 f_Machine_t 0 = C + o := I.2.2.2.1.1
    have hm2 := P.2.2.2.2.1
    have V1 := P.pl (i := 1) hE
    have r2 : hR (cc h C X Y) f_Machine_t (C + 32) = C + o := by rw [ccR (by decide)]; exact e1
    have t1 : hA (cc h C X Y) (hR (cc h C X Y) f_Task_tags (C + o)) (m0 + 1) = X o f_Task_tags (m0 + 1) := by rw [ccRo (by decide), ccAt G ht (by decide)]
    have t2 : hA (cc h C X Y) (hR (cc h C X Y) f_Task_words (C + o)) (m0 + 1) = X o f_Task_words (m0 + 1) := by rw [ccRo (by decide), ccAt G ht (by decide)]
    have ft := F0.t ht
    unfold FCt at ft
    have b1 : 0 ≤ ((m0 + 1 : Nat) : Int) ∧ ((m0 + 1 : Nat) : Int) < ((2001 : Nat) : Int) ∧ m0 ≤ 2000000000 := by omega
    rw [r2, w32_p1 b1.2.2, Int.toNat_natCast, t1, t2]
    refine ⟨ft.1, ⟨?_, b1.1, ?_⟩, ⟨?_, b1.1, ?_⟩, ?_⟩
    · simp (decide := true) only [ccRo, ccK, KCt G ht]
    · rw [ccRo (by decide), ccl, ft.2.2.1]; exact b1.2.1
    · simp (decide := true) only [ccRo, ccK, KCt G ht]
    · rw [ccRo (by decide), ccl, ft.2.1]; exact b1.2.1
    · refine r_setf (d := d) HC U hf MO dis I1 V1 (fun H A => ?_)
      have gq := qw w H A
      obtain ⟨_, _, _, ⟨N1, _⟩, gA, _⟩ := id A
      exact ⟨N1.1.2.1.1, r_answer (d := d + 13) (Q := cV (fun h28 => Q (Sum.inl none) h28) (fun e31 h30 => hK h30 e31 ≠ 0 ∧ Q (Sum.inr e31) h30)) N1.1.1 N1.1.2 ht e1 I.2.2.2.1.2.2 (n := m0) (by omega) ⟨I.2.2.2.2.2.1, I.2.2.2.2.2.2⟩ (by decide) gq⟩
  · refine r_ftag (d := d) HC U hf MO I1 (fun H L => ?_)
    obtain ⟨e, z, s', ⟨M1, K1⟩, g1, bd, fr, U1, ly⟩ := id L
    obtain ⟨ad2, ad3⟩ := L.adr U.1 G.2.1
    have I2 : IST H C S g N k f i l2 := fun z => by
      obtain ⟨i1, i2, i3, i4⟩ := I1 z
      exact ⟨by rw [i1, (g1.2.2.1.2 k i2).2], i2, i3, i4⟩
    have VV := fv_vr HC U MO I1 m7
    have fw := r_fword (ρ := ρ) (d := d) (l0 := C + 32) (F := fun x28 h23 => hK h23 (C + 32) = k_Machine ∧ wpB PGm ρ (d + 14) m_Machine_answer 0 [(0, vR (C + 32)), (1, vI (m0 : Int)), (2, vI (fvT g S k f i)), (3, vL x28)] [] h23 (cV (fun h31 => Q (Sum.inl none) h31) (fun e34 h33 => hK h33 e34 ≠ 0 ∧ Q (Sum.inr e34) h33))) (E := fun e26 h25 => hK h25 e26 ≠ 0 ∧ Q (Sum.inr e26) h25) M1 U1 hf MO I2 (fun H2 L2 => by
      have L3 := L.tr L2
      have P2 := P.lay L3
      have M3 := P2.1
      have I3 := P2.2.1.ix
      have gq := qr w H2 L3
      exact ⟨M3.1.2.1.1, r_answer (d := d + 13) (Q := cV (fun h31 => Q (Sum.inl none) h31) (fun e34 h33 => hK h33 e34 ≠ 0 ∧ Q (Sum.inr e34) h33)) M3.1.1 M3.1.2 I3.2.2.1 I3.2.2.2.1.1 I3.2.2.2.1.2.2 (n := m0) (by have := I3.2.2.2.2.1; omega) ⟨I3.2.2.2.2.2.1, I3.2.2.2.2.2.2⟩ VV.tg gq⟩)
    rw [ad3] at fw
    refine ⟨(lf L).2, M1.1.2.1.1, ?_⟩
    rw [rf (lf L).1]
    exact fw
end
