set_option maxRecDepth 20000
section
variable {ρ : Nat → Nat} {d : Nat} {Q : QT} {Γ Γ' Γ1 Γ2 : GH} {h h' h1 h2 H : ah} {C ho N M z s t o n c r i j k p a T cd fn ck mk vs rk np : Nat} {g g' : HG} {S S' S1 S2 : SS} {X X' X1 X2 : X3} {Y Y' Y1 Y2 : Y3} {ws ws' hw : List (List Int)} {x y ty v fl l1 l2 l3 : Int} {h0 : ah}
theorem t01 {P : Int → Prop} (m : x = 0 ∨ x = 1) (q : P x) : (x = 0 → P 0) ∧ (¬ x = 0 → P 1) := by
  rcases m with rfl | rfl
  · exact ⟨fun _ => q, fun c => absurd rfl c⟩
  · exact ⟨fun c => absurd c (by decide), fun _ => q⟩
/-- sites -/
def siA (S : SS) (l1 l2 : Int) : Int := if 0 ≤ l1 ∧ l1 < S f_Md_sites 0 then (if l2 = 0 then S f_Md_siteKind l1.toNat else if l2 = 1 then S f_Md_siteName l1.toNat else if l2 = 2 then S f_Md_siteMany l1.toNat else if l2 = 3 then S f_Md_siteFunction l1.toNat else if l2 = 4 then S f_Md_siteAt l1.toNat else if l2 = 5 then S f_Md_descriptor l1.toNat else if l2 = 6 then S f_Md_links l1.toNat else if l2 = 7 then S f_Md_hits l1.toNat else if l2 = 8 then S f_Md_pruned l1.toNat else if l2 = 9 then S f_Md_entries l1.toNat else if l2 = 10 then S f_Md_isMega l1.toNat else -1) else -1
theorem eSi (F : FC h C) (G : AC h C) {i : Nat} : hB (cc h C X Y) (C + 57) i = hB h (C + 57) i := by
  have gz := G.1
  have := ccBo (X := X) (Y := Y) (i := i) G (f := f_Machine_sites) (b := C + 32) (by decide) (by omega)
  rw [F.2.1.2.2.2.2.2.2.2.2.1] at this
  exact this
theorem c_site (A : ALL ρ Γ h C ho X Y S g N M hw ws) (LT : LTM h C) (q : Q (Sum.inl (some (vI (siA S l1 l2)))) (cc h C X Y)) : wpB PGm ρ (d + 12) m_LT_site 0 [(0, vR C), (1, vI l1), (2, vI l2)] [] (cc h C X Y) Q := by
  have G := A.1.1.1
  have F := A.1.1.2
  obtain ⟨ea, sp, ⟨s0, s4, sl⟩, SI, -⟩ := A.2.1.2.2.1
  have rm : hR (cc h C X Y) f_LT_machine C = C + 32 := by rw [ccRo (by decide)]; exact LT.2.1
  have rf : hR (cc h C X Y) f_Machine_sites (C + 32) = C + 57 := by rw [ccRo (by decide)]; exact F.2.1.2.2.2.2.2.2.2.2.1
  have lk : lok (cc h C X Y) (C + 57) := by rw [cclok]; exact F.2.2.2.1.2.2.2.1
  have lf : (hl (cc h C X Y) (C + 57) : Int) = S f_Md_sites 0 := sl
  unfold siA at q
  refine b_LT_site_0 (d := d + 11) (by omega) ⟨fun c => ?_, fun c => ⟨LT.1, ?_⟩⟩
  · rw [if_neg (by omega)] at q; exact q
  · rw [rm, rf, lf, eSi F G]
    refine ⟨F.1.1, lk.1, lk, fun c2 => ?_, fun c2 => ?_⟩
    · have ⟨u, eu⟩ : ∃ u : Nat, l1 = (u : Int) := ⟨l1.toNat, by omega⟩
      subst eu
      rw [Int.toNat_natCast]
      obtain ⟨⟨ka, az, a0⟩, ⟨-, b1, b2, b3, b4, b5, b6⟩, ⟨b7, b8, b9, b10⟩, ⟨mg, -⟩, -, en, ⟨-, -, b11⟩, -⟩ := SI u c2
      rw [← en] at b11
      rw [if_pos (by omega), Int.toNat_natCast] at q
      refine ⟨lk.1, ⟨lk, c, c2⟩, Or.inr (by rw [ccK, ka]; decide), ka, b_Site_tell_0 ?_⟩
      have i := fun {f : Nat} (e : noP scC f = true) => ccIo (h := h) (C := C) (X := X) (Y := Y) (a := hB h (C + 57) u) e
      rw [i (by decide), i (by decide), i (by decide), i (by decide), i (by decide), i (by decide), i (by decide), i (by decide), i (by decide), i (by decide), i (by decide), b1, b2, b3, b4, b5, b6, b7, b8, b9, b11, b10]
      exact ⟨fun z => ⟨ka, by rw [if_pos z] at q; exact q⟩, fun z0 => ⟨fun z => ⟨ka, by rw [if_neg z0, if_pos z] at q; exact q⟩, fun z1 => ⟨fun z => ⟨ka, by rw [if_neg z0, if_neg z1, if_pos z] at q; exact q⟩, fun z2 => ⟨fun z => ⟨ka, by rw [if_neg z0, if_neg z1, if_neg z2, if_pos z] at q; exact q⟩, fun z3 => ⟨fun z => ⟨ka, by rw [if_neg z0, if_neg z1, if_neg z2, if_neg z3, if_pos z] at q; exact q⟩, fun z4 => ⟨fun z => ⟨ka, by rw [if_neg z0, if_neg z1, if_neg z2, if_neg z3, if_neg z4, if_pos z] at q; exact q⟩, fun z5 => ⟨fun z => ⟨ka, by rw [if_neg z0, if_neg z1, if_neg z2, if_neg z3, if_neg z4, if_neg z5, if_pos z] at q; exact q⟩, fun z6 => ⟨fun z => ⟨ka, by rw [if_neg z0, if_neg z1, if_neg z2, if_neg z3, if_neg z4, if_neg z5, if_neg z6, if_pos z] at q; exact q⟩, fun z7 => ⟨fun z => ⟨ka, by rw [if_neg z0, if_neg z1, if_neg z2, if_neg z3, if_neg z4, if_neg z5, if_neg z6, if_neg z7, if_pos z] at q; exact q⟩, fun z8 => ⟨fun z => ⟨ka, by rw [if_neg z0, if_neg z1, if_neg z2, if_neg z3, if_neg z4, if_neg z5, if_neg z6, if_neg z7, if_neg z8, if_pos z] at q; exact q⟩, fun z9 => ⟨fun z => ⟨ka, by rw [if_neg z0, if_neg z1, if_neg z2, if_neg z3, if_neg z4, if_neg z5, if_neg z6, if_neg z7, if_neg z8, if_neg z9, if_pos z] at q; exact t01 (P := fun x => Q (Sum.inl (some (vI x))) (cc h C X Y)) mg q⟩, fun z10 => by rw [if_neg z0, if_neg z1, if_neg z2, if_neg z3, if_neg z4, if_neg z5, if_neg z6, if_neg z7, if_neg z8, if_neg z9, if_neg z10] at q; exact q⟩⟩⟩⟩⟩⟩⟩⟩⟩⟩⟩
    · rw [if_neg (by omega)] at q; exact q
theorem t_site (O : TOK h0 T) (en : S f_Md_sites 0 = (n : Int)) (hn : n ≤ 4000) (mg : ∀ s, s < n → S f_Md_isMega s = 0 ∨ S f_Md_isMega s = 1) (q : Q (Sum.inl (some (vI (siA S l1 l2)))) (cn h0 T (thZ S))) : wpB PGm ρ (d + 1) m_Md_site 0 [(0, vR T), (1, vI l1), (2, vI l2)] [] (cn h0 T S) Q := by
  obtain ⟨kT, G, kH⟩ := O
  have kM : ∀ S : SS, hK (cn h0 T S) T = k_Md := fun S => by rw [cnK]; exact kT
  have e1 : hI (cn h0 T (thZ S)) f_Md_sites T = (n : Int) := by rw [cnI (by decide), thZ_o (by decide)]; exact en
  unfold siA at q
  rw [en] at q
  refine b_Md_site_0 ⟨kM _, ?_⟩
  dsimp only
  rw [cn_th, e1]
  have wu : w32 ((n : Int) - 1) = (n : Int) - 1 := w32_of (by omega) (by omega)
  rw [wu]
  clear wu
  refine t_inF (fun a1 a2 => ⟨fun _ => ?_, fun c => absurd c (by decide)⟩) (fun a1 => ⟨fun c => absurd rfl c, fun _ => ?_⟩)
  · have ⟨u, eu⟩ : ∃ u : Nat, l1 = (u : Int) := ⟨l1.toNat, by omega⟩
    subst eu
    have bu : 0 ≤ (u : Int) ∧ (u : Int) < ((4000 : Nat) : Int) := by omega
    replace mg := mg u (by omega)
    rw [if_pos (by omega), Int.toNat_natCast] at q
    have e2 : ∀ f, f ≠ f_Md_thrown → thZ S f u = S f u := fun f hf => thZ_o hf
    have h7 : l2 = 7 → Q (Sum.inl (some (vI (S f_Md_hits u)))) (cn h0 T (thZ S)) → wpB PGm ρ (d + 1) m_Md_site 133 [(0, vR T), (1, vI (u : Int))] [] (cn h0 T (thZ S)) Q := fun _ q => b_Md_site_133 (by
      simp (decide := true) (disch := first | decide | omega) only [cnI, cnIe, cnR, cnK, cnl, cnA' G, cn_sI, cn_sIe, cn_sA' G, kT, kH, KN G, LN G, u2_f, u2_s, w32_aa, w32_ss, w32_p1, w32_m1, Int.toNat_natCast, true_and, and_true, false_and, and_false, or_false, false_or, ne_eq, not_false_eq_true, forall_const, implies_true, not_true_eq_false, false_implies, e2, bu]
      exact q)
    simp (decide := true) (disch := first | decide | omega) only [cnI, cnIe, cnR, cnK, cnl, cnA' G, cn_sI, cn_sIe, cn_sA' G, kT, kH, KN G, LN G, u2_f, u2_s, w32_aa, w32_ss, w32_p1, w32_m1, Int.toNat_natCast, true_and, and_true, false_and, and_false, or_false, false_or, ne_eq, not_false_eq_true, forall_const, implies_true, not_true_eq_false, false_implies, e2, bu]
    exact ⟨fun z => by rw [if_pos z] at q; exact q, fun z0 => ⟨fun z => by rw [if_neg z0, if_pos z] at q; exact q, fun z1 => ⟨fun z => by rw [if_neg z0, if_neg z1, if_pos z] at q; exact q, fun z2 => ⟨fun z => by rw [if_neg z0, if_neg z1, if_neg z2, if_pos z] at q; exact q, fun z3 => ⟨fun z => by rw [if_neg z0, if_neg z1, if_neg z2, if_neg z3, if_pos z] at q; exact q, fun z4 => ⟨fun z => by rw [if_neg z0, if_neg z1, if_neg z2, if_neg z3, if_neg z4, if_pos z] at q; exact q, fun z5 => ⟨fun z => by rw [if_neg z0, if_neg z1, if_neg z2, if_neg z3, if_neg z4, if_neg z5, if_pos z] at q; exact q, fun z6 => ⟨fun z => h7 z (by rw [if_neg z0, if_neg z1, if_neg z2, if_neg z3, if_neg z4, if_neg z5, if_neg z6, if_pos z] at q; exact q), fun z7 => ⟨fun z => by rw [if_neg z0, if_neg z1, if_neg z2, if_neg z3, if_neg z4, if_neg z5, if_neg z6, if_neg z7, if_pos z] at q; exact q, fun z8 => ⟨fun z => by rw [if_neg z0, if_neg z1, if_neg z2, if_neg z3, if_neg z4, if_neg z5, if_neg z6, if_neg z7, if_neg z8, if_pos z] at q; exact q, fun z9 => ⟨fun z => by rw [if_neg z0, if_neg z1, if_neg z2, if_neg z3, if_neg z4, if_neg z5, if_neg z6, if_neg z7, if_neg z8, if_neg z9, if_pos z] at q; exact t01 (P := fun x => Q (Sum.inl (some (vI x))) (cn h0 T (thZ S))) mg q, fun z10 => by rw [if_neg z0, if_neg z1, if_neg z2, if_neg z3, if_neg z4, if_neg z5, if_neg z6, if_neg z7, if_neg z8, if_neg z9, if_neg z10] at q; exact q⟩⟩⟩⟩⟩⟩⟩⟩⟩⟩⟩
  · rw [if_neg (by omega)] at q; exact q
/-- code -/
def cdA (S : SS) (l1 l2 l3 : Int) : Int := if (0 ≤ l1 ∧ l1 < S f_Md_functions 0) ∧ 0 ≤ l2 ∧ l2 < S f_Md_codeSize l1.toNat then (if l3 = 0 then S f_Md_codeOp ((S f_Md_codeFrom l1.toNat).toNat + l2.toNat) else if l3 = 1 then S f_Md_codeA ((S f_Md_codeFrom l1.toNat).toNat + l2.toNat) else if l3 = 2 then S f_Md_codeB ((S f_Md_codeFrom l1.toNat).toNat + l2.toNat) else -1) else -1
theorem c_code (A : ALL ρ Γ h C ho X Y S g N M hw ws) (LT : LTM h C) (q : Q (Sum.inl (some (vI (cdA S l1 l2 l3)))) (cc h C X Y)) : wpB PGm ρ (d + 12) m_LT_code 0 [(0, vR C), (1, vI l1), (2, vI l2), (3, vI l3)] [] (cc h C X Y) Q := by
  have G := A.1.1.1
  have F := A.1.1.2
  obtain ⟨fnn, fe, f400, flen, FN⟩ := id A.1.2.2.2.1
  have rm : hR (cc h C X Y) f_LT_machine C = C + 32 := by rw [ccRo (by decide)]; exact LT.2.1
  have rf : hR (cc h C X Y) f_Machine_functions (C + 32) = C + 56 := by rw [ccRo (by decide)]; exact F.2.1.2.2.2.2.2.2.2.1
  have lk : lok (cc h C X Y) (C + 56) := by rw [cclok]; exact F.2.2.2.1.2.2.1
  have lf : hl (cc h C X Y) (C + 56) = fnn := flen
  unfold cdA at q
  rw [fe] at q
  refine b_LT_code_0 (d := d + 12) (by omega) ⟨fun c => ?_, fun c => ⟨LT.1, ?_⟩⟩
  · rw [if_neg (by omega)] at q; exact q
  rw [rm, rf, lf, eFn F G]
  refine ⟨F.1.1, lk.1, lk, fun c2 => ?_, fun c2 => ?_⟩
  · rw [if_neg (by omega)] at q; exact q
  have ⟨u, eu⟩ : ∃ u : Nat, l1 = (u : Int) := ⟨l1.toNat, by omega⟩
  subst eu
  rw [Int.toNat_natCast] at q ⊢
  obtain ⟨⟨ka, az, a0⟩, -, -, -, -, b4, -, -, -, -, ⟨r0, rk⟩, kk, zz, ek, ez, z1, z2, z3, -, -, rows⟩ := FN u (by omega)
  have i4 : hI (cc h C X Y) f_Code_size (hB h (C + 56) u) = (zz : Int) := by rw [ccIo (by decide), b4, ez]
  have rr : hR (cc h C X Y) f_Code_rows (hB h (C + 56) u) = hR h f_Code_rows (hB h (C + 56) u) := ccRo (by decide)
  have aa : ∀ i, hA (cc h C X Y) (hR h f_Code_rows (hB h (C + 56) u)) i = hA h (hR h f_Code_rows (hB h (C + 56) u)) i := fun i => ccAo G (by decide) az
  rw [i4, rr, aa]
  rw [ek, ez, Int.toNat_natCast] at q
  have out : ¬ (0 ≤ l3 ∧ l3 ≤ 2) → Q (Sum.inl (some (vI (-1)))) (cc h C X Y) := fun n3 => by
    by_cases w : ((0 : Int) ≤ (u : Int) ∧ (u : Int) < (fnn : Int)) ∧ 0 ≤ l2 ∧ l2 < (zz : Int)
    · rw [if_pos w, if_neg (by omega), if_neg (by omega), if_neg (by omega)] at q; exact q
    · rw [if_neg w] at q; exact q
  refine ⟨fun c3 => out (by omega), fun c3 => ⟨fun c4 => ⟨lk.1, ⟨lk, c, c2⟩, Or.inr (by rw [ccK, ka]; decide), fun c5 => ?_, fun c5 => ⟨ka, fun c6 => ?_, fun c6 => ?_⟩⟩, fun c4 => out (by omega)⟩⟩
  · rw [if_neg (by omega)] at q; exact q
  · have ⟨v, ev⟩ : ∃ v : Nat, l2 = (v : Int) := ⟨l2.toNat, by omega⟩
    have ⟨w, ew⟩ : ∃ w : Nat, l3 = (w : Int) := ⟨l3.toNat, by omega⟩
    subst ev ew
    have hv : v < zz := by omega
    have hw3 : w = 0 ∨ w = 1 ∨ w = 2 := by omega
    rw [if_pos (by omega), Int.toNat_natCast] at q
    obtain ⟨y1, y2, y3, -⟩ := rows v hv
    have bb : 0 ≤ ((3 * v + w : Nat) : Int) ∧ ((3 * v + w : Nat) : Int) < (hl h (hR h f_Code_rows (hB h (C + 56) u)) : Int) := by omega
    have w2 : w32 (3 * (v : Int)) = ((3 * v : Nat) : Int) := by rw [w32_of (by omega) (by omega)]; omega
    have w3 : w32 (((3 * v : Nat) : Int) + (w : Int)) = ((3 * v + w : Nat) : Int) := by rw [w32_of (by omega) (by omega)]; omega
    rw [w2, w3, Int.toNat_natCast]
    refine ⟨⟨by show hK h _ ∈ _; rw [rk]; decide, bb⟩, ?_⟩
    rcases hw3 with rfl | rfl | rfl
    · rw [if_pos (show ((0 : Nat) : Int) = 0 from rfl)] at q; rw [show hA h (hR h f_Code_rows (hB h (C + 56) u)) (3 * v + 0) = S f_Md_codeOp (kk + v) from y1]; exact q
    · rw [if_neg (by decide), if_pos (show ((1 : Nat) : Int) = 1 from rfl)] at q; rw [y2]; exact q
    · rw [if_neg (by decide), if_neg (by decide), if_pos (show ((2 : Nat) : Int) = 2 from rfl)] at q; rw [y3]; exact q
  · rw [if_neg (by omega)] at q; exact q
theorem t_code (O : TOK h0 T) (en : S f_Md_functions 0 = (n : Int)) (hn : n ≤ 400) (er : ∀ u, u < n → ∃ k z : Nat, S f_Md_codeFrom u = (k : Int) ∧ S f_Md_codeSize u = (z : Int) ∧ k + z ≤ 20000) (q : Q (Sum.inl (some (vI (cdA S l1 l2 l3)))) (cn h0 T (thZ S))) : wpB PGm ρ (d + 1) m_Md_code 0 [(0, vR T), (1, vI l1), (2, vI l2), (3, vI l3)] [] (cn h0 T S) Q := by
  obtain ⟨kT, G, kH⟩ := O
  have kM : ∀ S : SS, hK (cn h0 T S) T = k_Md := fun S => by rw [cnK]; exact kT
  have e1 : hI (cn h0 T (thZ S)) f_Md_functions T = (n : Int) := by rw [cnI (by decide), thZ_o (by decide)]; exact en
  unfold cdA at q
  rw [en] at q
  refine b_Md_code_0 ⟨kM _, ?_⟩
  dsimp only
  rw [cn_th, e1]
  have wu : w32 ((n : Int) - 1) = (n : Int) - 1 := w32_of (by omega) (by omega)
  rw [wu]
  clear wu
  refine t_inF (fun a1 a2 => ⟨fun c => absurd c (by decide), fun _ => ⟨kM _, ?_⟩⟩) (fun a1 => ⟨fun _ => ?_, fun c => absurd rfl c⟩)
  · have ⟨u, eu⟩ : ∃ u : Nat, l1 = (u : Int) := ⟨l1.toNat, by omega⟩
    subst eu
    obtain ⟨kk, zz, ek, ez, kz⟩ := er u (by omega)
    clear er
    have bu : 0 ≤ (u : Int) ∧ (u : Int) < ((400 : Nat) : Int) := by omega
    rw [Int.toNat_natCast, ek, ez, Int.toNat_natCast] at q
    have e2 : thZ S f_Md_codeSize u = (zz : Int) := by rw [thZ_o (by decide), ez]
    have e3 : thZ S f_Md_codeFrom u = (kk : Int) := by rw [thZ_o (by decide), ek]
    simp (decide := true) (disch := first | decide | omega) only [cnI, cnIe, cnR, cnK, cnl, cnA' G, cn_sI, cn_sIe, cn_sA' G, kT, kH, KN G, LN G, u2_f, u2_s, w32_aa, w32_ss, w32_p1, w32_m1, Int.toNat_natCast, true_and, and_true, false_and, and_false, or_false, false_or, ne_eq, not_false_eq_true, forall_const, implies_true, not_true_eq_false, false_implies, e2, bu]
    have wu : w32 ((zz : Int) - 1) = (zz : Int) - 1 := w32_of (by omega) (by omega)
    rw [wu]
    clear wu
    refine t_inF (fun b1 b2 => ⟨fun _ => ?_, fun c => absurd c (by decide)⟩) (fun b1 => ⟨fun c => absurd rfl c, fun _ => ?_⟩)
    · have ⟨v, ev⟩ : ∃ v : Nat, l2 = (v : Int) := ⟨l2.toNat, by omega⟩
      subst ev
      rw [if_pos (by omega), Int.toNat_natCast] at q
      have bv : 0 ≤ ((kk + v : Nat) : Int) ∧ ((kk + v : Nat) : Int) < ((20000 : Nat) : Int) := by omega
      have wv : w32 ((kk : Int) + (v : Int)) = ((kk + v : Nat) : Int) := by rw [w32_of (by omega) (by omega)]; omega
      have e4 : ∀ f, f ≠ f_Md_thrown → thZ S f (kk + v) = S f (kk + v) := fun f hf => thZ_o hf
      have n2 : l3 = 2 → ¬ l3 = 0 ∧ ¬ l3 = 1 := fun z => by rw [z]; decide
      have h85 : l3 = 2 → wpB PGm ρ (d + 1) m_Md_code 85 [(0, vR T), (4, vI ((kk + v : Nat) : Int))] [] (cn h0 T (thZ S)) Q := fun z => b_Md_code_85 (by
        rw [if_neg (n2 z).1, if_neg (n2 z).2, if_pos z] at q
        simp (decide := true) (disch := first | decide | omega) only [cnI, cnIe, cnR, cnK, cnl, cnA' G, cn_sI, cn_sIe, cn_sA' G, kT, kH, KN G, LN G, u2_f, u2_s, w32_aa, w32_ss, w32_p1, w32_m1, Int.toNat_natCast, true_and, and_true, false_and, and_false, or_false, false_or, ne_eq, not_false_eq_true, forall_const, implies_true, not_true_eq_false, false_implies, e4, bv]
        exact q)
      have c0 : hA (cn h0 T (thZ S)) (hR (cn h0 T (thZ S)) f_Md_codeFrom T) u = (kk : Int) := by
        simp (decide := true) (disch := first | decide | omega) only [cnI, cnIe, cnR, cnK, cnl, cnA' G, cn_sI, cn_sIe, cn_sA' G, kT, kH, KN G, LN G, u2_f, u2_s, w32_aa, w32_ss, w32_p1, w32_m1, Int.toNat_natCast, true_and, and_true, false_and, and_false, or_false, false_or, ne_eq, not_false_eq_true, forall_const, implies_true, not_true_eq_false, false_implies, e3]
      rw [c0, wv]
      simp (decide := true) (disch := first | decide | omega) only [cnI, cnIe, cnR, cnK, cnl, cnA' G, cn_sI, cn_sIe, cn_sA' G, kT, kH, KN G, LN G, u2_f, u2_s, w32_aa, w32_ss, w32_p1, w32_m1, Int.toNat_natCast, true_and, and_true, false_and, and_false, or_false, false_or, ne_eq, not_false_eq_true, forall_const, implies_true, not_true_eq_false, false_implies, e4, bu, bv]
      exact ⟨fun z0 => ⟨fun z1 => ⟨fun z2 => by rw [if_neg z0, if_neg z1, if_neg z2] at q; exact q, fun z2 => h85 z2⟩, fun z1 => by rw [if_neg z0, if_pos z1] at q; exact q⟩, fun z0 => by rw [if_pos z0] at q; exact q⟩
    · rw [if_neg (by omega)] at q; exact q
  · rw [if_neg (by omega)] at q; exact q
end
