/-! C: tag and word of a field -/
set_option maxRecDepth 20000
section
variable {ρ : Nat → Nat} {d : Nat} {Q : QT} {Γ Γ' : GH} {h h' h1 h2 H : ah} {C ho k i j N M a z s r f o c t n mn m m0 rr l0 l2 : Nat} {g : HG} {v w hd ty κ x y : Int} {S S' S1 : SS} {X X' X1 X2 : X3} {Y Y' Y1 Y2 : Y3} {hw : List (List Int)} {ls : List Nat} {F : Int → ah → Prop} {E : Nat → ah → Prop}
theorem LYR.rf (HC : CORE Γ h C ho X Y S N) (U : HUS ρ Γ h ho S g N M hw) : LYR ρ Γ h C ho X Y S g N M hw h := ⟨0, 0, 0, ⟨HC, fun K => K⟩, GRO.rf, BND.rf, Fr.r0, U, rfl⟩
theorem LYR.tr (A : LYR ρ Γ h C ho X Y S g N M hw h1) (B : LYR ρ Γ h1 C ho X Y S g N M hw h2) : LYR ρ Γ h C ho X Y S g N M hw h2 := by
  obtain ⟨e, z, s, ⟨a1, a2⟩, a3, a4, a5, a6, a7⟩ := A
  obtain ⟨e', z', s', ⟨b1, b2⟩, b3, b4, b5, b6, b7⟩ := B
  exact ⟨e + e', z + z', s + s', ⟨b1, fun K => b2 (a2 K)⟩, a3.tr b3, (a4.tr b4).le (by omega) (by omega), a5.trans b5, b6, by omega⟩
theorem LYR.adr (A : LYR ρ Γ h C ho X Y S g N M hw H) (H0 : HCX ρ h ho g N M hw) (ij : INJ h) : (∀ j, hB H (ho + 2) j = hB h (ho + 2) j) ∧ (∀ j, hB H (ho + 3) j = hB h (ho + 3) j) := by
  obtain ⟨e, z, s, -, -, -, fr, -⟩ := A
  have hh := H0.hh
  have nw : ∀ f, LLC.elem f = false → ∀ x, ¬ okW LLC [] f x := fun f hf x => by
    rintro (c | c)
    · have : LLC.elem f = true := by simpa using c
      rw [this] at hf; cases hf
    · cases c
  exact ⟨(fr.ar ij (f := f_Host_types) (x := ho) (y := ho + 2) (by unfold own; decide) hh.2.1 hh.2.2.1 (by omega) (fun c => c.elim (nw _ (by decide) _) (nw _ (by decide) _)) (by simp)).2.2, (fr.ar ij (f := f_Host_members) (x := ho) (y := ho + 3) (by unfold own; decide) hh.2.1 hh.2.2.2.1 (by omega) (fun c => c.elim (nw _ (by decide) _) (nw _ (by decide) _)) (by simp)).2.2⟩
/-- what is known of an instance whose field is read -/
def IST (h : ah) (C : Nat) (S : SS) (g : HG) (N k m i l2 : Nat) : Prop := g.1 7 m = 0 → l2 = hB h (C + 51) k ∧ (k : Int) < S f_Md_things 0 ∧ S f_Md_thingKind k = 7 ∧ ∃ c, c < N ∧ S f_Md_thingClass k = (c : Int) ∧ PLC g c m i ∧ S f_Md_thingCount k = ((layG g c).length : Int)
/-- where a member is among those of its class -/
def MOW (g : HG) (N m : Nat) : Prop := 0 ≤ g.1 5 m ∧ g.1 5 m < (N : Int) ∧ g.1 3 (g.1 5 m).toNat ≤ (m : Int) ∧ (m : Int) < g.1 3 (g.1 5 m).toNat + g.1 4 (g.1 5 m).toNat ∧ 0 ≤ g.1 3 (g.1 5 m).toNat
theorem fv_vr (HC : CORE Γ h C ho X Y S N) (U : HUS ρ Γ h ho S g N M hw) (MO : MOW g N m) (I : IST h C S g N k m i l2) (s7 : g.1 7 m = 0 ∨ g.1 7 m = 1) : VR Γ S N (fvT g S k m i) (cw Γ (fvT g S k m i) (fvV g S k m i)) (fvT g S k m i) (fvV g S k m i) := by
  refine ⟨rfl, rfl, ?_⟩
  unfold fvT fvV
  obtain ⟨tn, sn, sm', d1, d2, d5, d6', d3, d4, d6, d7, d8, U', m1, m2, m3, m4⟩ := HC.shp
  by_cases c : g.1 7 m = 0
  · rw [if_pos c, if_pos c]
    obtain ⟨e1, e2, e3, c0, hc, ec, P, en⟩ := I c
    exact ((d7 k (by omega)).p.2.1.2.2.2.1 i (by have := P.1; omega)).2.2.2
  · rw [if_neg c, if_neg c]
    obtain ⟨a1, a2, a3, a4, a5⟩ := MO
    have := ((U.2.1 (g.1 5 m).toNat (by omega)).2.2 (m - (g.1 3 (g.1 5 m).toNat).toNat) (by omega)).2.2
    rw [show (g.1 3 (g.1 5 m).toNat).toNat + (m - (g.1 3 (g.1 5 m).toNat).toNat) = m by omega] at this
    exact this
theorem r_ftag (HC : CORE Γ h C ho X Y S N) (U : HUS ρ Γ h ho S g N M hw) (hm : m < M) (MO : MOW g N m) (I : IST h C S g N k m i l2) (q : ∀ H, LYR ρ Γ h C ho X Y S g N M hw H → F (fvT g S k m i) (cc H C X Y)) : wpB PGm ρ (d + 14) m_Machine_fieldTag 0 [(0, vR l0), (1, vR (hB h (ho + 3) m)), (2, vR l2)] [] (cc h C X Y) (cI F E) := by
  have G := HC.1.1
  obtain ⟨H0, V, LM, ⟨W, W2⟩, l4⟩ := id U
  obtain ⟨⟨m1, m2, m3⟩, mn, -, -, -, -, ⟨o1, o2, o3⟩, ms, m7, -⟩ := H0.me hm
  have M4 := H0.hh.2.2.2.2.2.2.2.2.2.2
  have vr := fv_vr HC U MO I m7
  obtain ⟨tn, sn, sm', d1, d2, d5, d6', d3, d4, d6, d7, d8, U', -⟩ := HC.shp
  have x1 : hI (cc h C X Y) f_Member_isStatic (hB h (ho + 3) m) = g.1 7 m := by rw [ccIo (by decide)]; exact ms
  refine b_Machine_fieldTag_0 (d := d + 13) ⟨m1, ?_⟩
  rw [x1]
  refine ⟨fun c => ?_, fun c => ?_⟩
  · obtain ⟨e1, e2, e3, c0, hc, ec, P, en⟩ := I c
    subst e1
    have TH := (d7 k (by omega)).p
    obtain ⟨ta1, ⟨ta2, ta3, ta4⟩, -, -, tc⟩ := TH.1
    have tc' := tc.resolve_left (fun z => z.1 e3)
    rw [ec] at tc'
    obtain ⟨-, -, -, ty⟩ := tc'
    rw [Int.toNat_natCast] at ty
    have kI : hK h (hB h (C + 51) k) = k_Instance := by rw [ta2, e3]; rfl
    have k4 : hK h (hB h (C + 51) k) ∈ [244, 245, 246, 249] := by rw [kI]; decide
    obtain ⟨⟨y1, y1', y0⟩, -⟩ := H0.tp hc
    have r1 : hR (cc h C X Y) f_Instance_type (hB h (C + 51) k) = hB h (ho + 2) c0 := by rw [ccRo (by decide)]; exact ty
    have r2 : hR (cc h C X Y) f_Thing_tags (hB h (C + 51) k) = hR h f_Thing_tags (hB h (C + 51) k) := ccRo (by decide)
    refine ⟨k4, b_Machine_placeOf_0 (d := d + 12) ⟨Or.inr (by rw [ccK, kI]; decide), kI, ?_⟩⟩
    rw [r1]
    refine ⟨y1, r_plc HC U hc hm P (fun H L => ?_)⟩
    obtain ⟨e, z, s, ⟨M1, -⟩, g1, -, fr, -⟩ := id L
    have e51 : hB H (C + 51) k = hB h (C + 51) k := (g1.2.2.1.2 k e2).2
    obtain ⟨tn2, sn2, sm2, c1, -, -, -, -, -, -, c7, -⟩ := M1.shp
    have TB := (c7 k (by omega)).p.2.1
    unfold TB1 at TB
    rw [e51] at TB
    obtain ⟨tb1, tb2, ⟨tb3, tb4, tb5, tb6, tb7, tb8, tb9⟩, tb10, -⟩ := TB
    have VV := (tb10 i (by have := P.1; omega)).2
    have tr : hR h f_Thing_tags (hB h (C + 51) k) = hR H f_Thing_tags (hB h (C + 51) k) := (fr.R ta3 (by decide) (nokW (by decide) rfl)).symm
    have zH := fr.lt ta3
    have a1 : hA (cc H C X Y) (hR H f_Thing_tags (hB h (C + 51) k)) i = hA H (hR H f_Thing_tags (hB h (C + 51) k)) i := ccAo M1.1.1 (by decide) zH
    have tg := VV.tg
    show (hK (cc H C X Y) (hR (cc h C X Y) f_Thing_tags (hB h (C + 51) k)) ∈ [3, 4, 13] ∧ 0 ≤ (i : Int) ∧ (i : Int) < (hl (cc H C X Y) (hR (cc h C X Y) f_Thing_tags (hB h (C + 51) k)) : Int)) ∧ (-128 ≤ hA (cc H C X Y) (hR (cc h C X Y) f_Thing_tags (hB h (C + 51) k)) (i : Int).toNat ∧ hA (cc H C X Y) (hR (cc h C X Y) f_Thing_tags (hB h (C + 51) k)) (i : Int).toNat ≤ 127) ∧ F (hA (cc H C X Y) (hR (cc h C X Y) f_Thing_tags (hB h (C + 51) k)) (i : Int).toNat) (cc H C X Y)
    rw [r2, tr, Int.toNat_natCast, a1]
    have ef : fvT g S k m i = S f_Md_slotType (slS S k i) := if_pos c
    have gq := q H L
    rw [ef, ← VV.1] at gq
    exact ⟨⟨by rw [ccK, tb6]; decide, by omega, by rw [ccl, tb7]; have := P.1; omega⟩, tg, gq⟩
  · obtain ⟨a1, a2, a3, a4, a5⟩ := MO
    obtain ⟨⟨v1, v2, v3⟩, ⟨v4, v5, v6⟩, v7⟩ := V (g.1 5 m).toNat (by omega)
    obtain ⟨⟨y1, y1', y0⟩, -, -, yf, -⟩ := H0.tp (i := (g.1 5 m).toNat) (by omega)
    have VV := v7 (m - (g.1 3 (g.1 5 m).toNat).toNat) (by omega)
    rw [show (g.1 3 (g.1 5 m).toNat).toNat + (m - (g.1 3 (g.1 5 m).toNat).toNat) = m by omega] at VV
    have r1 : hR (cc h C X Y) f_Member_owner (hB h (ho + 3) m) = hB h (ho + 2) (g.1 5 m).toNat := by rw [ccRo (by decide)]; exact o3
    have r2 : hI (cc h C X Y) f_Member_number (hB h (ho + 3) m) = (m : Int) := by rw [ccIo (by decide)]; exact mn
    have r3 : hI (cc h C X Y) f_HostType_firstMember (hB h (ho + 2) (g.1 5 m).toNat) = g.1 3 (g.1 5 m).toNat := by rw [ccIo (by decide)]; exact yf
    have r4 : hR (cc h C X Y) f_HostType_tags (hB h (ho + 2) (g.1 5 m).toNat) = hR h f_HostType_tags (hB h (ho + 2) (g.1 5 m).toNat) := ccRo (by decide)
    have x2 : hA (cc h C X Y) (hR h f_HostType_tags (hB h (ho + 2) (g.1 5 m).toNat)) (m - (g.1 3 (g.1 5 m).toNat).toNat) = hA h (hR h f_HostType_tags (hB h (ho + 2) (g.1 5 m).toNat)) (m - (g.1 3 (g.1 5 m).toNat).toNat) := ccAo G (by decide) y1'
    have gq := q h (LYR.rf HC U)
    have ef : fvT g S k m i = S f_Md_staticType m := if_neg c
    rw [ef, ← VV.1] at gq
    have tg := VV.tg
    have b1 : 0 ≤ ((m - (g.1 3 (g.1 5 m).toNat).toNat : Nat) : Int) ∧ ((m - (g.1 3 (g.1 5 m).toNat).toNat : Nat) : Int) < (((g.1 4 (g.1 5 m).toNat).toNat : Nat) : Int) := by omega
    have w1 : w32 ((m : Int) - g.1 3 (g.1 5 m).toNat) = ((m - (g.1 3 (g.1 5 m).toNat).toNat : Nat) : Int) := by rw [w32_of (by omega) (by omega)]; omega
    rw [r1, r2, r3, r4, w1, Int.toNat_natCast, x2]
    exact ⟨y1, ⟨by rw [ccK, v5]; decide, b1.1, by rw [ccl, v6]; exact b1.2⟩, tg, gq⟩
theorem r_fword (HC : CORE Γ h C ho X Y S N) (U : HUS ρ Γ h ho S g N M hw) (hm : m < M) (MO : MOW g N m) (I : IST h C S g N k m i l2) (q : ∀ H, LYR ρ Γ h C ho X Y S g N M hw H → F (cw Γ (fvT g S k m i) (fvV g S k m i)) (cc H C X Y)) : wpB PGm ρ (d + 14) m_Machine_fieldWord 0 [(0, vR l0), (1, vR (hB h (ho + 3) m)), (2, vR l2)] [] (cc h C X Y) (cL F E) := by
  have G := HC.1.1
  obtain ⟨H0, V, LM, ⟨W, W2⟩, l4⟩ := id U
  obtain ⟨⟨m1, m2, m3⟩, mn, -, -, -, -, ⟨o1, o2, o3⟩, ms, m7, -⟩ := H0.me hm
  have M4 := H0.hh.2.2.2.2.2.2.2.2.2.2
  have vr := fv_vr HC U MO I m7
  obtain ⟨tn, sn, sm', d1, d2, d5, d6', d3, d4, d6, d7, d8, U', -⟩ := HC.shp
  have x1 : hI (cc h C X Y) f_Member_isStatic (hB h (ho + 3) m) = g.1 7 m := by rw [ccIo (by decide)]; exact ms
  refine b_Machine_fieldWord_0 (d := d + 13) ⟨m1, ?_⟩
  rw [x1]
  refine ⟨fun c => ?_, fun c => ?_⟩
  · obtain ⟨e1, e2, e3, c0, hc, ec, P, en⟩ := I c
    subst e1
    have TH := (d7 k (by omega)).p
    obtain ⟨ta1, ⟨ta2, ta3, ta4⟩, -, -, tc⟩ := TH.1
    have tc' := tc.resolve_left (fun z => z.1 e3)
    rw [ec] at tc'
    obtain ⟨-, -, -, ty⟩ := tc'
    rw [Int.toNat_natCast] at ty
    have kI : hK h (hB h (C + 51) k) = k_Instance := by rw [ta2, e3]; rfl
    have k4 : hK h (hB h (C + 51) k) ∈ [244, 245, 246, 249] := by rw [kI]; decide
    obtain ⟨⟨y1, y1', y0⟩, -⟩ := H0.tp hc
    have r1 : hR (cc h C X Y) f_Instance_type (hB h (C + 51) k) = hB h (ho + 2) c0 := by rw [ccRo (by decide)]; exact ty
    have r2 : hR (cc h C X Y) f_Thing_words (hB h (C + 51) k) = hR h f_Thing_words (hB h (C + 51) k) := ccRo (by decide)
    refine ⟨k4, b_Machine_placeOf_0 (d := d + 12) ⟨Or.inr (by rw [ccK, kI]; decide), kI, ?_⟩⟩
    rw [r1]
    refine ⟨y1, r_plc HC U hc hm P (fun H L => ?_)⟩
    obtain ⟨e, z, s, ⟨M1, -⟩, g1, -, fr, -⟩ := id L
    have e51 : hB H (C + 51) k = hB h (C + 51) k := (g1.2.2.1.2 k e2).2
    obtain ⟨tn2, sn2, sm2, c1, -, -, -, -, -, -, c7, -⟩ := M1.shp
    have TB := (c7 k (by omega)).p.2.1
    unfold TB1 at TB
    rw [e51] at TB
    obtain ⟨tb1, tb2, ⟨tb3, tb4, tb5, tb6, tb7, tb8, tb9⟩, tb10, -⟩ := TB
    have VV := (tb10 i (by have := P.1; omega)).2
    have tr : hR h f_Thing_words (hB h (C + 51) k) = hR H f_Thing_words (hB h (C + 51) k) := (fr.R ta3 (by decide) (nokW (by decide) rfl)).symm
    have zH := fr.lt ta3
    have a1 : hA (cc H C X Y) (hR H f_Thing_words (hB h (C + 51) k)) i = hA H (hR H f_Thing_words (hB h (C + 51) k)) i := ccAo M1.1.1 (by decide) zH
    have tg := VV.tg
    show (hK (cc H C X Y) (hR (cc h C X Y) f_Thing_words (hB h (C + 51) k)) ∈ [2] ∧ 0 ≤ (i : Int) ∧ (i : Int) < (hl (cc H C X Y) (hR (cc h C X Y) f_Thing_words (hB h (C + 51) k)) : Int)) ∧ F (hA (cc H C X Y) (hR (cc h C X Y) f_Thing_words (hB h (C + 51) k)) (i : Int).toNat) (cc H C X Y)
    rw [r2, tr, Int.toNat_natCast, a1]
    have ef : fvT g S k m i = S f_Md_slotType (slS S k i) := if_pos c
    have ef2 : fvV g S k m i = S f_Md_slotValue (slS S k i) := if_pos c
    have gq := q H L
    rw [ef, ef2, ← VV.2.1] at gq
    exact ⟨⟨by rw [ccK, tb4]; decide, by omega, by rw [ccl]; have := P.1; omega⟩, gq⟩
  · obtain ⟨a1, a2, a3, a4, a5⟩ := MO
    obtain ⟨⟨v1, v2, v3⟩, ⟨v4, v5, v6⟩, v7⟩ := V (g.1 5 m).toNat (by omega)
    obtain ⟨⟨y1, y1', y0⟩, -, -, yf, -⟩ := H0.tp (i := (g.1 5 m).toNat) (by omega)
    have VV := v7 (m - (g.1 3 (g.1 5 m).toNat).toNat) (by omega)
    rw [show (g.1 3 (g.1 5 m).toNat).toNat + (m - (g.1 3 (g.1 5 m).toNat).toNat) = m by omega] at VV
    have r1 : hR (cc h C X Y) f_Member_owner (hB h (ho + 3) m) = hB h (ho + 2) (g.1 5 m).toNat := by rw [ccRo (by decide)]; exact o3
    have r2 : hI (cc h C X Y) f_Member_number (hB h (ho + 3) m) = (m : Int) := by rw [ccIo (by decide)]; exact mn
    have r3 : hI (cc h C X Y) f_HostType_firstMember (hB h (ho + 2) (g.1 5 m).toNat) = g.1 3 (g.1 5 m).toNat := by rw [ccIo (by decide)]; exact yf
    have r4 : hR (cc h C X Y) f_HostType_words (hB h (ho + 2) (g.1 5 m).toNat) = hR h f_HostType_words (hB h (ho + 2) (g.1 5 m).toNat) := ccRo (by decide)
    have x2 : hA (cc h C X Y) (hR h f_HostType_words (hB h (ho + 2) (g.1 5 m).toNat)) (m - (g.1 3 (g.1 5 m).toNat).toNat) = hA h (hR h f_HostType_words (hB h (ho + 2) (g.1 5 m).toNat)) (m - (g.1 3 (g.1 5 m).toNat).toNat) := ccAo G (by decide) y1'
    have gq := q h (LYR.rf HC U)
    have ef : fvT g S k m i = S f_Md_staticType m := if_neg c
    have ef2 : fvV g S k m i = S f_Md_staticValue m := if_neg c
    rw [ef, ef2, ← VV.2.1] at gq
    have tg := VV.tg
    have b1 : 0 ≤ ((m - (g.1 3 (g.1 5 m).toNat).toNat : Nat) : Int) ∧ ((m - (g.1 3 (g.1 5 m).toNat).toNat : Nat) : Int) < (((g.1 4 (g.1 5 m).toNat).toNat : Nat) : Int) := by omega
    have w1 : w32 ((m : Int) - g.1 3 (g.1 5 m).toNat) = ((m - (g.1 3 (g.1 5 m).toNat).toNat : Nat) : Int) := by rw [w32_of (by omega) (by omega)]; omega
    rw [r1, r2, r3, r4, w1, Int.toNat_natCast, x2]
    exact ⟨y1, ⟨by rw [ccK, v2]; decide, b1.1, by rw [ccl, v3]; exact b1.2⟩, gq⟩
end
