/-! C: a field is set -/
set_option maxRecDepth 20000
/-- a field was set, a layout may have become known -/
def SWR (ρ : Nat → Nat) (Γ : GH) (h : ah) (C ho : Nat) (X : X3) (Y : Y3) (S : SS) (g : HG) (N M : Nat) (hw : List (List Int)) (S' : SS) (H : ah) : Prop := ∃ e z s : Nat, (CORE Γ H C ho X Y S' N ∧ ∀ {t o n c r' : Nat}, CT Γ h C X Y S N t o n c r' → CT Γ H C X Y S' N t o n c r') ∧ GRO Γ Γ h H C S S' ∧ BND h C S H S' (e : Int) ((400 * e : Nat) : Int) ∧ Fr LHO [] z s h H ∧ HUS ρ Γ H ho S' g N M hw ∧ lyc H ho N = lyc h ho N + e
section
variable {ρ : Nat → Nat} {d : Nat} {Q : QT} {Γ Γ' : GH} {h h' h1 h2 H : ah} {C ho k i j N M a z s r f o c t n m m0 rr l0 l2 : Nat} {g : HG} {v w hd ty κ x y : Int} {S S' S1 : SS} {X X' X1 X2 : X3} {Y Y' Y1 Y2 : Y3} {hw : List (List Int)}
theorem r_setf (HC : CORE Γ h C ho X Y S N) (U : HUS ρ Γ h ho S g N M hw) (hm : m < M) (MO : MOW g N m) (dis : ∀ c' : Nat, c' < N → ∀ k : Nat, (k : Int) < g.1 4 c' → (g.1 3 c').toNat + k = m → c' = (g.1 5 m).toNat) (I : IST h C S g N k m i l2) (V : VR Γ S N x y ty v) (q : ∀ H, SWR ρ Γ h C ho X Y S g N M hw (fwS g S k m i ty v) H → Q (Sum.inl none) (cc H C X Y)) : wpB PGm ρ (d + 14) m_Machine_setField 0 [(0, vR l0), (1, vR (hB h (ho + 3) m)), (2, vR l2), (3, vI x), (4, vL y)] [] (cc h C X Y) Q := by
  have G := HC.1.1
  obtain ⟨H0, VS, LM, ⟨W, W2⟩, l4⟩ := id U
  obtain ⟨⟨m1, m2, m3⟩, mn, -, -, -, -, ⟨o1, o2, o3⟩, ms, m7, -⟩ := H0.me hm
  have M4 := H0.hh.2.2.2.2.2.2.2.2.2.2
  obtain ⟨tn, sn, sm', d1, d2, d5, d6', d3, d4, d6, d7, d8, U', -⟩ := HC.shp
  have tg := V.tg
  have x1 : hI (cc h C X Y) f_Member_isStatic (hB h (ho + 3) m) = g.1 7 m := by rw [ccIo (by decide)]; exact ms
  refine b_Machine_setField_0 (d := d + 13) ⟨m1, ?_⟩
  rw [x1]
  refine ⟨fun c => ?_, fun c => ?_⟩
  · obtain ⟨a1, a2, a3, a4, a5⟩ := MO
    have hcN : (g.1 5 m).toNat < N := by omega
    obtain ⟨⟨v1, v2, v3⟩, ⟨v4, v5, v6⟩, v7⟩ := VS _ hcN
    obtain ⟨⟨y1, y1', y0⟩, -, -, yf, -⟩ := H0.tp hcN
    have hj : m - (g.1 3 (g.1 5 m).toNat).toNat < (g.1 4 (g.1 5 m).toNat).toNat := by omega
    have em : (g.1 3 (g.1 5 m).toNat).toNat + (m - (g.1 3 (g.1 5 m).toNat).toNat) = m := by omega
    have R := HC.stw U hcN hj (fun c' hc' k' hk' e => by
      have ec := dis c' hc' k' hk' (by rw [e]; exact em)
      subst ec
      exact ⟨rfl, by omega⟩) V
    rw [em] at R
    obtain ⟨K, gg, bb, fr, U1, ly⟩ := R
    have ef : fwS g S k m i ty v = stwS S m ty v := if_neg c
    have l1 : [f_HostType_words + 1, f_HostType_tags + 1].all (fun f => LHO.elem f) = true := by decide
    have gq := q _ (by rw [ef]; exact ⟨0, 0, 0, K, gg, bb, fr.mono (fun f q => by simpa using List.all_eq_true.mp l1 f q) (fun q hq => hq), U1, ly⟩)
    have r1 : hR (cc h C X Y) f_Member_owner (hB h (ho + 3) m) = hB h (ho + 2) (g.1 5 m).toNat := by rw [ccRo (by decide)]; exact o3
    have r2 : hI (cc h C X Y) f_Member_number (hB h (ho + 3) m) = (m : Int) := by rw [ccIo (by decide)]; exact mn
    have r3 : hI (cc h C X Y) f_HostType_firstMember (hB h (ho + 2) (g.1 5 m).toNat) = g.1 3 (g.1 5 m).toNat := by rw [ccIo (by decide)]; exact yf
    have r4 : hR (cc h C X Y) f_HostType_tags (hB h (ho + 2) (g.1 5 m).toNat) = hR h f_HostType_tags (hB h (ho + 2) (g.1 5 m).toNat) := ccRo (by decide)
    have r5 : hR (cc h C X Y) f_HostType_words (hB h (ho + 2) (g.1 5 m).toNat) = hR h f_HostType_words (hB h (ho + 2) (g.1 5 m).toNat) := ccRo (by decide)
    have b1 : 0 ≤ ((m - (g.1 3 (g.1 5 m).toNat).toNat : Nat) : Int) ∧ ((m - (g.1 3 (g.1 5 m).toNat).toNat : Nat) : Int) < (((g.1 4 (g.1 5 m).toNat).toNat : Nat) : Int) := by omega
    have w1 : w32 ((m : Int) - g.1 3 (g.1 5 m).toNat) = ((m - (g.1 3 (g.1 5 m).toNat).toNat : Nat) : Int) := by rw [w32_of (by omega) (by omega)]; omega
    have c1 : sA (cc h C X Y) (hR h f_HostType_tags (hB h (ho + 2) (g.1 5 m).toNat)) (m - (g.1 3 (g.1 5 m).toNat).toNat) x = cc (sA h (hR h f_HostType_tags (hB h (ho + 2) (g.1 5 m).toNat)) (m - (g.1 3 (g.1 5 m).toNat).toNat) x) C X Y := cc_sAo G (by decide) y1'
    have G2 : AC (sA h (hR h f_HostType_tags (hB h (ho + 2) (g.1 5 m).toNat)) (m - (g.1 3 (g.1 5 m).toNat).toNat) x) C := G.frm (Fr.wA (L := [f_HostType_tags + 1]) (P := []) (Or.inr (Or.inr (Or.inr ⟨f_HostType_tags, _, y1', by unfold own; decide, rfl, Or.inr (Or.inl (by simp))⟩))) Fr.r0) (by unfold DJ; rfl)
    have c2 : sA (cc (sA h (hR h f_HostType_tags (hB h (ho + 2) (g.1 5 m).toNat)) (m - (g.1 3 (g.1 5 m).toNat).toNat) x) C X Y) (hR h f_HostType_words (hB h (ho + 2) (g.1 5 m).toNat)) (m - (g.1 3 (g.1 5 m).toNat).toNat) y = cc (stwH h (hB h (ho + 2) (g.1 5 m).toNat) (m - (g.1 3 (g.1 5 m).toNat).toNat) x y) C X Y := cc_sAo (h := sA h (hR h f_HostType_tags (hB h (ho + 2) (g.1 5 m).toNat)) (m - (g.1 3 (g.1 5 m).toNat).toNat) x) G2 (by decide) y1'
    rw [r1, r2, r3, r4, w1, Int.toNat_natCast]
    refine ⟨y1, ⟨Or.inl ⟨v5, tg⟩, b1.1, by rw [ccl, v6]; exact b1.2⟩, ?_⟩
    show hK (sA (cc h C X Y) (hR h f_HostType_tags (hB h (ho + 2) (g.1 5 m).toNat)) (m - (g.1 3 (g.1 5 m).toNat).toNat) x) (hR (cc h C X Y) f_Member_owner (hB h (ho + 3) m)) = k_HostType ∧ (hK h (hR (cc h C X Y) f_HostType_words (hR (cc h C X Y) f_Member_owner (hB h (ho + 3) m))) = 2 ∧ 0 ≤ w32 (hI (cc h C X Y) f_Member_number (hB h (ho + 3) m) - hI (cc h C X Y) f_HostType_firstMember (hR (cc h C X Y) f_Member_owner (hB h (ho + 3) m))) ∧ w32 (hI (cc h C X Y) f_Member_number (hB h (ho + 3) m) - hI (cc h C X Y) f_HostType_firstMember (hR (cc h C X Y) f_Member_owner (hB h (ho + 3) m))) < (hl h (hR (cc h C X Y) f_HostType_words (hR (cc h C X Y) f_Member_owner (hB h (ho + 3) m))) : Int)) ∧ Q (Sum.inl none) (sA (sA (cc h C X Y) (hR h f_HostType_tags (hB h (ho + 2) (g.1 5 m).toNat)) (m - (g.1 3 (g.1 5 m).toNat).toNat) x) (hR (cc h C X Y) f_HostType_words (hR (cc h C X Y) f_Member_owner (hB h (ho + 3) m))) (w32 (hI (cc h C X Y) f_Member_number (hB h (ho + 3) m) - hI (cc h C X Y) f_HostType_firstMember (hR (cc h C X Y) f_Member_owner (hB h (ho + 3) m)))).toNat y)
    rw [r1, r2, r3, r5, w1, Int.toNat_natCast, c1, c2]
    exact ⟨y1, ⟨v2, b1.1, by rw [v3]; exact b1.2⟩, gq⟩
  · obtain ⟨e1, e2, e3, c0, hc, ec, P, en⟩ := I c
    subst e1
    have TH := (d7 k (by omega)).p
    obtain ⟨ta1, ⟨ta2, ta3, ta4⟩, -, -, tc⟩ := TH.1
    have tc' := tc.resolve_left (fun z => z.1 e3)
    rw [ec] at tc'
    obtain ⟨-, -, -, tyy⟩ := tc'
    rw [Int.toNat_natCast] at tyy
    have kI : hK h (hB h (C + 51) k) = k_Instance := by rw [ta2, e3]; rfl
    obtain ⟨⟨y1, y1', y0⟩, -⟩ := H0.tp hc
    have r1 : hR (cc h C X Y) f_Instance_type (hB h (C + 51) k) = hB h (ho + 2) c0 := by rw [ccRo (by decide)]; exact tyy
    refine b_Machine_placeOf_0 (d := d + 12) ⟨Or.inr (by rw [ccK, kI]; decide), kI, ?_⟩
    rw [r1]
    refine ⟨y1, r_plc HC U hc hm P (fun H L => ?_)⟩
    obtain ⟨e, z, s, ⟨M1, K1⟩, g1, bd, fr, U1, ly⟩ := id L
    have e51 : hB H (C + 51) k = hB h (C + 51) k := (g1.2.2.1.2 k e2).2
    have hi : (i : Int) < S f_Md_thingCount k := by have := P.1; omega
    obtain ⟨⟨M2, K2⟩, g2, bd2, fr2⟩ := M1.slw (i := i) e2 hi V
    have ef : fwS g S k m i ty v = slwS S k i ty v := if_pos c
    obtain ⟨U2, ly2⟩ := U1.mv (C := C) M1.1.1.2.1 g2 fr2 (by unfold DJ; decide +kernel) (by unfold DJ; decide +kernel) (fun f hf i' => slwS_o (by rintro rfl; exact absurd hf (by decide)) (by rintro rfl; exact absurd hf (by decide)))
    have l1 : LLC.all (fun f => LHO.elem f) = true := by decide
    have gq := q _ (by rw [ef]; exact ⟨e, _, _, ⟨M2, fun K => K2 (K1 K)⟩, g1.tr g2, (bd.tr bd2).le (by omega) (by omega), (fr.mono (fun f q => by simpa using List.all_eq_true.mp l1 f q) (fun q hq => hq)).trans (fr2.mono (fun f q => by unfold LHO; exact List.mem_append_left _ q) (fun q hq => hq)), U2, by omega⟩)
    have kH : hK (cc H C X Y) (hB h (C + 51) k) = k_Instance := by rw [ccK, fr.K ta3]; exact kI
    have gs := r_slw (ρ := ρ) (d := d + 13) (x := x) (y := y) (Q := cV (fun h19 => wpB PGm ρ (d + 13 + 1) m_Machine_setField 19 [] [] h19 Q) (fun e22 h21 => hK h21 e22 ≠ 0 ∧ Q (Sum.inr e22) h21)) M1 e2 hi tg (b_Machine_setField_19 gq)
    rw [e51] at gs
    exact ⟨fun _ => gs, fun _ => ⟨fun _ => gs, fun _ => ⟨fun _ => gs, fun _ => ⟨fun _ => gs, fun w => absurd kH w⟩⟩⟩⟩
end
