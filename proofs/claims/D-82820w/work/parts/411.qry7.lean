set_option maxRecDepth 20000
section
variable {ρ : Nat → Nat} {d : Nat} {Q : QT} {Γ Γ' Γ1 Γ2 : GH} {h h' h1 h2 H : ah} {C ho N M z s t o n c r i j k p a T cd fn ck mk vs rk np sn tn : Nat} {g g' : HG} {S S' S1 S2 : SS} {X X' X1 X2 : X3} {Y Y' Y1 Y2 : Y3} {ws ws' hw : List (List Int)} {x y ty v fl l1 l2 l3 l4 : Int} {h0 : ah}
theorem eTh (F : FC h C) (G : AC h C) {i : Nat} : hB (cc h C X Y) (C + 51) i = hB h (C + 51) i := by
  have gz := G.1
  have := ccBo (X := X) (Y := Y) (i := i) G (f := f_Heap_things) (b := C + 50) (by decide) (by omega)
  rw [F.2.2.1.2.1] at this
  exact this
theorem eSh (F : FC h C) (G : AC h C) {i : Nat} : hB (cc h C X Y) (C + 52) i = hB h (C + 52) i := by
  have gz := G.1
  have := ccBo (X := X) (Y := Y) (i := i) G (f := f_Heap_shapes) (b := C + 50) (by decide) (by omega)
  rw [F.2.2.1.2.2.1] at this
  exact this
/-- shapes -/
def shpA (S : SS) (l1 l2 : Int) : Int := if 0 ≤ l1 ∧ l1 < S f_Md_shapes 0 then (if l2 = 0 then S f_Md_shapeProto l1.toNat else if l2 = 1 then S f_Md_shapeCount l1.toNat else if 2 ≤ l2 ∧ l2 - 2 < S f_Md_shapeCount l1.toNat then S f_Md_shapeName (anc S l1.toNat ((S f_Md_shapeCount l1.toNat).toNat - 1 - (l2 - 2).toNat)) else -1) else -1
theorem c_shape (A : ALL ρ Γ h C ho X Y S g N M hw ws) (LT : LTM h C) (hl2 : l2 < 2147483648) (q : Q (Sum.inl (some (vI (shpA S l1 l2)))) (cc h C X Y)) : wpB PGm ρ (d + 12) m_LT_shape 0 [(0, vR C), (1, vI l1), (2, vI l2)] [] (cc h C X Y) Q := by
  have G := A.1.1.1
  have F := A.1.1.2
  obtain ⟨tn, sn, et, es, lt, ls, s1, t8, s4, TH, SH, -⟩ := id A.1.2.2.2.2.2.2.2.2.2.1
  have rm : hR (cc h C X Y) f_LT_machine C = C + 32 := by rw [ccRo (by decide)]; exact LT.2.1
  have rh : hR (cc h C X Y) f_Machine_heap (C + 32) = C + 50 := by rw [ccRo (by decide)]; exact F.2.1.2.2.2.2.1
  have rs : hR (cc h C X Y) f_Heap_shapes (C + 50) = C + 52 := by rw [ccRo (by decide)]; exact F.2.2.1.2.2.1
  have lk : lok (cc h C X Y) (C + 52) := by rw [cclok]; exact F.2.2.2.1.2.1
  have lf : hl (cc h C X Y) (C + 52) = sn := ls
  unfold shpA at q
  rw [es] at q
  refine b_LT_shape_0 (d := d + 11) (by omega) ⟨fun c => ?_, fun c => ⟨LT.1, ?_⟩⟩
  · rw [if_neg (by omega)] at q; exact q
  rw [rm, rh, rs, lf, eSh F G]
  refine ⟨F.1.1, F.1.2.2.2.2.2.1, lk.1, lk, fun c2 => ?_, fun c2 => ?_⟩
  · have ⟨u, eu⟩ : ∃ u : Nat, l1 = (u : Int) := ⟨l1.toNat, by omega⟩
    subst eu
    have hu : u < sn := by omega
    rw [if_pos (by omega), Int.toNat_natCast] at q
    rw [Int.toNat_natCast]
    obtain ⟨⟨ka, az, a0⟩, -, pr, -, -, sz, ⟨z0, z4⟩, -⟩ := SH u hu
    have isz : hI (cc h C X Y) f_Shape_size (hB h (C + 52) u) = S f_Md_shapeCount u := by rw [ccIo (by decide)]; exact sz
    have rpr : hR (cc h C X Y) f_Shape_prototype (hB h (C + 52) u) = hR h f_Shape_prototype (hB h (C + 52) u) := ccRo (by decide)
    rw [isz, rpr]
    refine ⟨lk.1, ⟨lk, c, c2⟩, Or.inr (by rw [ccK, ka]; decide), fun m0 => ⟨fun m1 => ⟨fun m2 => ?_, fun m2 => ⟨ka, ?_⟩⟩, fun m1 => ⟨ka, ?_⟩⟩, fun m0 => ⟨ka, ?_⟩⟩
    · rw [if_neg m0, if_neg m1, if_neg (by omega)] at q; exact q
    · rw [if_neg m0, if_neg m1] at q
      have ⟨w, ew⟩ : ∃ w : Nat, l2 - 2 = (w : Int) := ⟨(l2 - 2).toNat, by omega⟩
      have w2 : 2 ≤ l2 := by omega
      have x1 : -2147483648 ≤ l2 - 2 ∧ l2 - 2 < 2147483648 := by omega
      rw [w32_of x1.1 x1.2, ew]
      rw [ew, Int.toNat_natCast] at q
      refine ⟨fun c3 => ?_, fun c3 => ?_⟩
      · have ⟨n, en⟩ : ∃ n : Nat, S f_Md_shapeCount u = (n : Int) := ⟨(S f_Md_shapeCount u).toNat, by omega⟩
        rw [en] at c3 z4
        rw [en, if_pos ⟨w2, c3⟩, Int.toNat_natCast] at q
        exact r_nameAt0 (SHF.of SH) hu en (by omega) (by omega) (fun i _ => rfl) q
      · rw [if_neg (by omega)] at q; exact q
    · rw [if_neg m0, if_pos m1] at q; exact q
    · rw [if_pos m0] at q
      rcases pr with ⟨p1, p2⟩ | ⟨p1, p2, p3, p4⟩
      · rw [p2]
        exact ⟨fun c => absurd rfl c, fun _ => by rw [p1] at q; exact q⟩
      · rw [p4]
        have ⟨k, ek⟩ : ∃ k : Nat, S f_Md_shapeProto u = (k : Int) := ⟨(S f_Md_shapeProto u).toNat, by omega⟩
        rw [ek, Int.toNat_natCast] at p3 ⊢
        rw [ek] at q
        obtain ⟨-, ⟨kk, kz, k0⟩, num, -⟩ := (TH k (by omega)).p.1
        have inn : hI (cc h C X Y) f_Thing_number (hB h (C + 51) k) = (k : Int) := by rw [ccIo (by decide)]; exact num
        rw [inn]
        refine ⟨fun _ => ⟨?_, q⟩, fun c => absurd c k0⟩
        rw [ccK, kk]
        rcases p3 with e | e <;> rw [e] <;> decide
  · rw [if_neg (by omega)] at q; exact q
theorem t_shape (O : TOK h0 T) (en : S f_Md_shapes 0 = (sn : Int)) (hn : sn ≤ 4001) (SB : ∀ s, s < sn → (0 ≤ S f_Md_shapeCount s ∧ S f_Md_shapeCount s ≤ 4000) ∧ (1 ≤ S f_Md_shapeCount s → 0 ≤ S f_Md_shapeBefore s ∧ S f_Md_shapeBefore s < (s : Int) ∧ S f_Md_shapeCount s = S f_Md_shapeCount (S f_Md_shapeBefore s).toNat + 1)) (hl2 : l2 < 2147483648) (q : Q (Sum.inl (some (vI (shpA S l1 l2)))) (cn h0 T (thZ S))) : wpB PGm ρ (d + 1) m_Md_shape 0 [(0, vR T), (1, vI l1), (2, vI l2)] [] (cn h0 T S) Q := by
  obtain ⟨kT, G, kH⟩ := O
  have kM : ∀ S : SS, hK (cn h0 T S) T = k_Md := fun S => by rw [cnK]; exact kT
  have e1 : hI (cn h0 T (thZ S)) f_Md_shapes T = (sn : Int) := by rw [cnI (by decide), thZ_o (by decide)]; exact en
  unfold shpA at q
  rw [en] at q
  refine b_Md_shape_0 ⟨kM _, ?_⟩
  dsimp only
  rw [cn_th, e1]
  have wu : w32 ((sn : Int) - 1) = (sn : Int) - 1 := w32_of (by omega) (by omega)
  rw [wu]
  clear wu
  refine t_inF (fun a1 a2 => ⟨fun c => absurd c (by decide), fun _ => ?_⟩) (fun a1 => ⟨fun _ => ?_, fun c => absurd rfl c⟩)
  · have ⟨u, eu⟩ : ∃ u : Nat, l1 = (u : Int) := ⟨l1.toNat, by omega⟩
    subst eu
    have hu : u < sn := by omega
    have bu : 0 ≤ (u : Int) ∧ (u : Int) < ((4001 : Nat) : Int) := by omega
    rw [if_pos (by omega), Int.toNat_natCast] at q
    have e2 : ∀ f, f ≠ f_Md_thrown → ∀ i, thZ S f i = S f i := fun f hf i => thZ_o hf
    have lp : ∀ (i : Nat), i ≤ 5000 → ∀ m s, s < sn → S f_Md_shapeCount s = ((i + 1 + m : Nat) : Int) → Q (Sum.inl (some (vI (S f_Md_shapeName (anc S s m))))) (cn h0 T (thZ S)) → wpB PGm ρ (d + 1) m_Md_shape 71 [(0, vR T), (3, vI (i : Int)), (4, vI (s : Int))] [] (cn h0 T (thZ S)) Q := by
      intro i hi m
      induction m with
      | zero =>
        intro s hs ec q
        have bs : 0 ≤ (s : Int) ∧ (s : Int) < ((4001 : Nat) : Int) := by omega
        have x1 : -2147483648 ≤ (i : Int) + 1 ∧ (i : Int) + 1 < 2147483648 := by omega
        have x2 : S f_Md_shapeCount s ≤ (i : Int) + 1 := by omega
        have x3 : ¬ (i : Int) + 1 < S f_Md_shapeCount s := by omega
        refine b_Md_shape_71 ?_
        rw [w32_of x1.1 x1.2]
        clear SB
        simp (decide := true) (disch := first | decide | omega) only [cnI, cnIe, cnR, cnK, cnl, cnA' G, cn_sI, cn_sIe, cn_sA' G, kT, kH, KN G, LN G, u2_f, u2_s, w32_aa, w32_ss, w32_p1, w32_m1, Int.toNat_natCast, true_and, and_true, false_and, and_false, or_false, false_or, ne_eq, not_false_eq_true, forall_const, implies_true, not_true_eq_false, false_implies, e2, bs]
        exact ⟨fun _ => q, fun c => absurd c x3⟩
      | succ m ih =>
        intro s hs ec q
        have bs : 0 ≤ (s : Int) ∧ (s : Int) < ((4001 : Nat) : Int) := by omega
        have x1 : -2147483648 ≤ (i : Int) + 1 ∧ (i : Int) + 1 < 2147483648 := by omega
        have x2 : ¬ S f_Md_shapeCount s ≤ (i : Int) + 1 := by omega
        obtain ⟨-, sb⟩ := SB s hs
        obtain ⟨b1, b2, b3⟩ := sb (by omega)
        have ⟨w, ew⟩ : ∃ w : Nat, S f_Md_shapeBefore s = (w : Int) := ⟨(S f_Md_shapeBefore s).toNat, by omega⟩
        rw [ew] at b2
        rw [ew, Int.toNat_natCast] at b3
        have nx := ih w (by omega) (by omega) (by
          have : anc S s (m + 1) = anc S w m := by rw [anc_s, ew, Int.toNat_natCast]
          rw [← this]; exact q)
        have ew' : thZ S f_Md_shapeBefore s = (w : Int) := by rw [e2 _ (by decide)]; exact ew
        have e3 : thZ S f_Md_shapeCount s = S f_Md_shapeCount s := e2 _ (by decide) s
        refine b_Md_shape_71 ?_
        rw [w32_of x1.1 x1.2]
        clear SB ih sb
        simp (decide := true) (disch := first | decide | omega) only [cnI, cnIe, cnR, cnK, cnl, cnA' G, cn_sI, cn_sIe, cn_sA' G, kT, kH, KN G, LN G, u2_f, u2_s, w32_aa, w32_ss, w32_p1, w32_m1, Int.toNat_natCast, true_and, and_true, false_and, and_false, or_false, false_or, ne_eq, not_false_eq_true, forall_const, implies_true, not_true_eq_false, false_implies, e3, ew', bs]
        exact ⟨fun c => absurd c x2, fun _ => nx⟩
    refine ⟨fun m2 => ⟨fun m3 => ?_, fun m3 => ⟨fun m0 => ?_, fun m0 => ?_⟩⟩, fun m2 => ?_⟩
    · rw [if_neg (by omega), if_neg (by omega)] at q
      have ⟨w, ew⟩ : ∃ w : Nat, l2 - 2 = (w : Int) := ⟨(l2 - 2).toNat, by omega⟩
      have x1 : -2147483648 ≤ l2 - 2 ∧ l2 - 2 < 2147483648 := by omega
      rw [w32_of x1.1 x1.2, ew]
      rw [ew, Int.toNat_natCast] at q
      obtain ⟨⟨z0, z4⟩, -⟩ := SB u hu
      have ⟨n, en2⟩ : ∃ n : Nat, S f_Md_shapeCount u = (n : Int) := ⟨(S f_Md_shapeCount u).toNat, by omega⟩
      have q1 : (w : Int) < (n : Int) → wpB PGm ρ (d + 1) m_Md_shape 71 [(0, vR T), (3, vI (w : Int)), (4, vI (u : Int))] [] (cn h0 T (thZ S)) Q := fun c => by
        rw [en2, if_pos ⟨m3, c⟩, Int.toNat_natCast] at q
        exact lp w (by omega) (n - 1 - w) u hu (by omega) q
      have q2 : (n : Int) ≤ (w : Int) → Q (Sum.inl (some (vI (-1)))) (cn h0 T (thZ S)) := fun c => by
        rw [en2, if_neg (by omega)] at q; exact q
      have e3 : thZ S f_Md_shapeCount u = (n : Int) := by rw [e2 _ (by decide)]; exact en2
      clear SB lp q
      simp (decide := true) (disch := first | decide | omega) only [cnI, cnIe, cnR, cnK, cnl, cnA' G, cn_sI, cn_sIe, cn_sA' G, kT, kH, KN G, LN G, u2_f, u2_s, w32_aa, w32_ss, w32_p1, w32_m1, Int.toNat_natCast, true_and, and_true, false_and, and_false, or_false, false_or, ne_eq, not_false_eq_true, forall_const, implies_true, not_true_eq_false, false_implies, e3, bu]
      first | exact ⟨q1, q2⟩ | exact ⟨fun c => q1 (by omega), fun c => q2 (by omega)⟩
    · rw [if_neg m0, if_pos (by omega)] at q
      clear SB lp
      simp (decide := true) (disch := first | decide | omega) only [cnI, cnIe, cnR, cnK, cnl, cnA' G, cn_sI, cn_sIe, cn_sA' G, kT, kH, KN G, LN G, u2_f, u2_s, w32_aa, w32_ss, w32_p1, w32_m1, Int.toNat_natCast, true_and, and_true, false_and, and_false, or_false, false_or, ne_eq, not_false_eq_true, forall_const, implies_true, not_true_eq_false, false_implies, e2, bu]
      exact q
    · rw [if_pos m0] at q
      clear SB lp
      simp (decide := true) (disch := first | decide | omega) only [cnI, cnIe, cnR, cnK, cnl, cnA' G, cn_sI, cn_sIe, cn_sA' G, kT, kH, KN G, LN G, u2_f, u2_s, w32_aa, w32_ss, w32_p1, w32_m1, Int.toNat_natCast, true_and, and_true, false_and, and_false, or_false, false_or, ne_eq, not_false_eq_true, forall_const, implies_true, not_true_eq_false, false_implies, e2, bu]
      exact q
    · rw [if_neg (by omega), if_neg (by omega), if_neg (by omega)] at q; exact q
  · rw [if_neg (by omega)] at q; exact q
end
