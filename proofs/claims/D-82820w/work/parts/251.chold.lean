/-! C: guards of entries -/
set_option maxRecDepth 20000
/-- what a value is asked for, in C -/
def FDA (h : ah) (C ho : Nat) (X : X3) (Y : Y3) (S : SS) (κ ty v el nm : Int) (rr mn : Nat) : Prop :=
  (X 53 f_Found_linker 0 = if ty = 4 ∨ ty = 5 then 0 else gdL ty) ∧
  (ty = 4 ∨ ty = 5 → Y 53 f_Found_shape 0 = hB h (C + 52) (S f_Md_thingShape v.toNat).toNat ∧ X 53 f_Found_element 0 = (if κ = 2 ∨ κ = 3 then el else nm) ∧ Y 53 f_Found_code 0 = (if ty = 5 then hB h (C + 56) (S f_Md_thingFunction v.toNat).toNat else 0)) ∧
  (ty = 3 ∨ ty = 6 → X 53 f_Found_isText 0 = (if ty = 3 then 1 else 0)) ∧
  (ty = 7 ∨ ty = 8 → Y 53 f_Found_type 0 = hB h (ho + 2) (gdG S ty v).toNat ∧ X 53 f_Found_operands 0 = (opC κ mn : Int) ∧ ∀ i, i < opC κ mn → X 53 f_Found_classes i = clA (tyT S (S f_Md_pileType (rr + 1 + i)) (S f_Md_pileValue (rr + 1 + i))))
section
variable {ρ : Nat → Nat} {P : ah → Nat → Prop} {d : Nat} {Q : QT} {Γ : GH} {h h0 : ah} {C ho T k n m f i j N M b a s rr mn sn tn row e : Nat} {S S' S1 S2 SX : SS} {X : X3} {Y : Y3} {g : HG} {l L bs : List Int} {v p x y nm ty cnt κ hd w La bv el : Int} {r : ENT}
theorem clA_inj {a b : Int} (ha : 0 ≤ a) (hb : 0 ≤ b) : clA a = clA b ↔ a = b := by
  unfold clA
  constructor
  · intro z
    by_cases w1 : a = 0 <;> by_cases w2 : b = 0 <;> simp [w1, w2] at z <;> omega
  · rintro rfl; rfl
theorem CORE.sad (HC : CORE Γ h C ho X Y S N) (h1 : (k : Int) < S f_Md_shapes 0) (h2 : (j : Int) < S f_Md_shapes 0) (e : hB h (C + 52) k = hB h (C + 52) j) : k = j := by
  obtain ⟨tn, sn, sm, c1, c2, c5, c6', c3, c4, c6, c7, c8, U, m1, m2, m3, m4⟩ := HC.shp
  have t1 := (c8 k (by omega)).2.1
  have t2 := (c8 j (by omega)).2.1
  rw [e] at t1
  omega
theorem CORE.fad (HC : CORE Γ h C ho X Y S N) (h1 : (k : Int) < S f_Md_functions 0) (h2 : (j : Int) < S f_Md_functions 0) (e : hB h (C + 56) k = hB h (C + 56) j) : k = j := by
  obtain ⟨fn, k1, k2, k3, k4⟩ := HC.2.2.2.1
  have t1 := (k4 k (by omega)).2.1
  have t2 := (k4 j (by omega)).2.1
  rw [e] at t1
  omega
theorem CORE.fnz (HC : CORE Γ h C ho X Y S N) (h1 : (k : Int) < S f_Md_functions 0) : hB h (C + 56) k ≠ 0 := by
  obtain ⟨fn, k1, k2, k3, k4⟩ := HC.2.2.2.1
  exact (k4 k (by omega)).1.2.2
theorem tyT_0 (V : VO S N ty v) (hc : ty = 7 → 0 ≤ S f_Md_thingClass v.toNat ∧ S f_Md_thingClass v.toNat < (N : Int)) : 0 ≤ tyT S ty v := (tyT_b V hc).1
theorem gtA_0 {k : Nat} : 0 ≤ gtA w k := by unfold gtA; omega
theorem r_classes (HC : CORE Γ h C ho X Y S N) (E : ENO g h C ho S N M κ nm mn e r) (L12 : r f_Md_linker = 1 ∨ r f_Md_linker = 2) (eo : X 53 f_Found_operands 0 = (opC κ mn : Int)) (ec : ∀ i, i < opC κ mn → X 53 f_Found_classes i = clA (tyT S (S f_Md_pileType (rr + 1 + i)) (S f_Md_pileValue (rr + 1 + i)))) (pv : PVS S N rr (opC κ mn)) (q1 : (∀ k : Nat, (k : Int) < r f_Md_guardMany → gtA (r f_Md_guardTypes) k = tyT S (S f_Md_pileType (rr + 1 + k)) (S f_Md_pileValue (rr + 1 + k))) → Q (Sum.inl (some (vI 1))) (cc h C X Y)) (q0 : ¬ (∀ k : Nat, (k : Int) < r f_Md_guardMany → gtA (r f_Md_guardTypes) k = tyT S (S f_Md_pileType (rr + 1 + k)) (S f_Md_pileValue (rr + 1 + k))) → Q (Sum.inl (some (vI 0))) (cc h C X Y)) : wpB PGm ρ d m_Entry_hasClasses 0 [(0, vR e), (1, vR (C + 53))] [] (cc h C X Y) Q := by
  obtain ⟨⟨k1, k2, k3⟩, -, -, -, -, -, e5, -⟩ := E
  obtain ⟨-, -, -, -, op⟩ := e5 L12
  have G := HC.1.1
  have F := HC.1.2
  have f2 := F
  unfold FC at f2
  have i1 : hI (cc h C X Y) f_Entry_operands e = hI h f_Entry_operands e := ccIo (by decide)
  have r1 : hR (cc h C X Y) f_Entry_classes e = hR h f_Entry_classes e := ccRo (by decide)
  have ko : hK h (C + 53) = k_Found := f2.1.2.2.2.2.2.2.1
  rcases op with ⟨o1, o2⟩ | ⟨o1, o2, o3, ⟨o4, o5, o6⟩, o7⟩
  · refine b_Entry_hasClasses_0 ⟨k1, ?_⟩
    rw [i1, o1]
    exact ⟨fun c => absurd c (by decide), fun _ => q1 (fun k hk => by omega)⟩
  · have rd : ∀ i, hA (cc h C X Y) (hR h f_Entry_classes e) i = hA h (hR h f_Entry_classes e) i := fun i => ccAo G (by decide) k2
    have i2 : hI (cc h C X Y) f_Found_operands (C + 53) = X 53 f_Found_operands 0 := ccI (by decide)
    have r2 : hR (cc h C X Y) f_Found_classes (C + 53) = hR h f_Found_classes (C + 53) := ccRo (by decide)
    have rd2 : ∀ i, hA (cc h C X Y) (hR h f_Found_classes (C + 53)) i = X 53 f_Found_classes i := fun i => ccA G (by decide)
    have kc : hK h (hR h f_Found_classes (C + 53)) = 1 := by simp (decide := true) (disch := first | decide | omega) only [KC G]
    have lc : hl h (hR h f_Found_classes (C + 53)) = 9 := by simp (decide := true) (disch := first | decide | omega) only [f2]
    generalize opC κ mn = z at *
    have lp : ∀ mm j, j + mm = z → (∀ k, k < j → gtA (r f_Md_guardTypes) k = tyT S (S f_Md_pileType (rr + 1 + k)) (S f_Md_pileValue (rr + 1 + k))) → wpB PGm ρ d m_Entry_hasClasses 28 [(0, vR e), (1, vR (C + 53)), (2, vI 1), (3, vI (j : Int))] [] (cc h C X Y) Q := fun mm => by
      induction mm with
      | zero =>
        intro j hj hp
        refine b_Entry_hasClasses_28 ⟨k1, ?_⟩
        rw [i1, o1]
        exact ⟨fun _ => ⟨Or.inr rfl, q1 (fun k hk => hp k (by omega))⟩, fun c => absurd c (by omega)⟩
      | succ mm ih =>
        intro j hj hp
        have jz : j < z := by omega
        obtain ⟨V, hc⟩ := pv.2.2.2 j jz
        have ci := clA_inj (gtA_0 (w := r f_Md_guardTypes) (k := j)) (tyT_0 V hc)
        have m1 : j ≤ 2000000000 := by omega
        have b1 : 0 ≤ (j : Int) ∧ (j : Int) < ((8 : Nat) : Int) := by omega
        have b2 : 0 ≤ (j : Int) ∧ (j : Int) < ((9 : Nat) : Int) := by omega
        have n1 : ¬ (z : Int) ≤ (j : Int) := by omega
        refine b_Entry_hasClasses_28 ⟨k1, ?_⟩
        rw [i1, o1]
        refine ⟨fun c => absurd c n1, fun _ => ⟨fun c => absurd c (by decide), fun _ => ⟨⟨by rw [r1]; show hK h (hR h f_Entry_classes e) ∈ [1, 11]; rw [o5]; decide, b1.1, by rw [r1]; show (j : Int) < (hl h (hR h f_Entry_classes e) : Int); rw [o6]; exact b1.2⟩, ko, ⟨by rw [r2]; show hK h (hR h f_Found_classes (C + 53)) ∈ [1, 11]; rw [kc]; decide, b2.1, by rw [r2]; show (j : Int) < (hl h (hR h f_Found_classes (C + 53)) : Int); rw [lc]; exact b2.2⟩, ?_⟩⟩⟩
        rw [r1, r2, Int.toNat_natCast, rd, rd2, o7 j jz, ec j jz, ci]
        refine ⟨fun ne => b_Entry_hasClasses_60 ?_, fun eq => b_Entry_hasClasses_60 ?_⟩
        · have z0 := q0 (fun c => ne (c j (by omega)))
          refine b_Entry_hasClasses_28 ⟨k1, fun _ => ⟨Or.inl rfl, z0⟩, fun _ => ⟨fun _ => ⟨Or.inl rfl, z0⟩, fun c => absurd rfl c⟩⟩
        · rw [w32_p1 m1]
          exact ih (j + 1) (by omega) (fun k hk => by
            by_cases w : k = j
            · rw [w]; exact eq
            · exact hp k (by omega))
    refine b_Entry_hasClasses_0 ⟨k1, ?_⟩
    rw [i1, i2, o1, eo]
    exact ⟨fun _ => ⟨ko, fun c => absurd rfl c, fun _ => b_Entry_hasClasses_25 (lp z 0 (by omega) (fun k hk => absurd hk (by omega)))⟩, fun c => absurd c (by omega)⟩
theorem r_holds (HC : CORE Γ h C ho X Y S N) (E : ENO g h C ho S N M κ nm mn e r) (A : FDA h C ho X Y S κ ty v el nm rr mn) (hty : 0 ≤ ty ∧ ty ≤ 8) (tad : ∀ a b, a < N → b < N → hB h (ho + 2) a = hB h (ho + 2) b → a = b) (hv : ty = 4 ∨ ty = 5 → 0 ≤ v ∧ v < S f_Md_things 0 ∧ S f_Md_thingKind v.toNat = ty) (hel : ¬ (κ = 2 ∨ κ = 3) → el = -1) (hc : ty = 7 ∨ ty = 8 → 0 ≤ gdG S ty v ∧ gdG S ty v < (N : Int)) (pv : ty = 7 ∨ ty = 8 → PVS S N rr (opC κ mn)) (q1 : GDE S κ ty v el rr r → Q (Sum.inl (some (vI 1))) (cc h C X Y)) (q0 : ¬ GDE S κ ty v el rr r → Q (Sum.inl (some (vI 0))) (cc h C X Y)) : wpB PGm ρ (d + 1) m_Entry_holds 0 [(0, vR e), (1, vR (C + 53))] [] (cc h C X Y) Q := by
  obtain ⟨⟨k1, k2, k3⟩, e1, l03, e2, e3, e4, e5⟩ := id E
  obtain ⟨tn, sn, sm, c1, c2, c5, c6', c3, c4, c6, c7, c8, U, m1, m2, m3, m4⟩ := HC.shp
  obtain ⟨a1, a2, a3, a4⟩ := A
  have F := HC.1.2
  have f2 := F
  unfold FC at f2
  have ko : hK h (C + 53) = k_Found := f2.1.2.2.2.2.2.2.1
  have i1 : hI (cc h C X Y) f_Entry_linker e = hI h f_Entry_linker e := ccIo (by decide)
  have i2 : hI (cc h C X Y) f_Entry_element e = hI h f_Entry_element e := ccIo (by decide)
  have i3 : hI (cc h C X Y) f_Entry_isText e = hI h f_Entry_isText e := ccIo (by decide)
  have r1 : hR (cc h C X Y) f_Entry_code e = hR h f_Entry_code e := ccRo (by decide)
  have r2 : hR (cc h C X Y) f_Entry_shape e = hR h f_Entry_shape e := ccRo (by decide)
  have r3 : hR (cc h C X Y) f_Entry_type e = hR h f_Entry_type e := ccRo (by decide)
  have x1 : hI (cc h C X Y) f_Found_linker (C + 53) = X 53 f_Found_linker 0 := ccI (by decide)
  have x2 : hI (cc h C X Y) f_Found_element (C + 53) = X 53 f_Found_element 0 := ccI (by decide)
  have x3 : hI (cc h C X Y) f_Found_isText (C + 53) = X 53 f_Found_isText 0 := ccI (by decide)
  have y1 : hR (cc h C X Y) f_Found_code (C + 53) = Y 53 f_Found_code 0 := ccR (by decide)
  have y2 : hR (cc h C X Y) f_Found_shape (C + 53) = Y 53 f_Found_shape 0 := ccR (by decide)
  have y3 : hR (cc h C X Y) f_Found_type (C + 53) = Y 53 f_Found_type 0 := ccR (by decide)
  unfold GDE at q1 q0
  refine b_Entry_holds_0 ⟨k1, ko, ?_⟩
  rw [i1, x1, e1, a1]
  by_cases t45 : ty = 4 ∨ ty = 5
  · rw [if_pos t45]
    obtain ⟨v0, v1, v2⟩ := hv t45
    obtain ⟨b1, b2, b3⟩ := a2 t45
    refine ⟨fun l0 => ⟨fun _ => ?_, fun c => absurd l0 c⟩, fun c => q0 (fun z => by rcases z with ⟨-, z, -⟩ | ⟨z, -⟩; exact c z; exact z t45)⟩
    obtain ⟨d1, d2, d2', d3, d4, d5, d6, d7, d8, d9⟩ := e3 l0
    by_cases k46 : κ = 4 ∨ κ = 6
    · obtain ⟨f1, f2', f3⟩ := d8 k46
      have nz : hR h f_Entry_code e ≠ 0 := by rw [f3]; exact HC.fnz (by omega)
      rw [r1, y1, f3, b3]
      refine ⟨fun c => absurd c (by rw [f3] at nz; exact nz), fun _ => ⟨fun ne => q0 (fun z => ?_), fun eq => q1 (Or.inl ⟨t45, l0, Or.inl ⟨k46, ?_⟩⟩)⟩⟩
      · rcases z with ⟨-, -, ⟨-, z1, z2⟩ | ⟨z, -⟩⟩ | ⟨z, -⟩
        · rw [if_pos z1, z2] at ne; exact ne rfl
        · exact z k46
        · exact z t45
      · by_cases z5 : ty = 5
        · refine ⟨z5, ?_⟩
          rw [if_pos z5] at eq
          have TA := (c7 v.toNat (by omega)).p.1
          rcases TA.2.2.2.1 with z | z
          · rw [v2] at z; exact absurd z5 z.1
          · have := HC.fad (k := (r f_Md_guard).toNat) (j := (S f_Md_thingFunction v.toNat).toNat) (by omega) (by omega) eq
            omega
        · rw [if_neg z5] at eq; rw [f3] at nz; exact absurd eq nz
    · obtain ⟨f1, f2', f3, f4⟩ := d9 k46
      rw [r1, f1, r2, y2, f4, b1, i2, x2, d2, b2]
      have TC := (c7 v.toNat (by omega)).p.2.2.1.1 (by omega)
      have she : hB h (C + 52) (r f_Md_guard).toNat = hB h (C + 52) (S f_Md_thingShape v.toNat).toNat ↔ S f_Md_thingShape v.toNat = r f_Md_guard := by
        constructor
        · intro z
          have := HC.sad (k := (r f_Md_guard).toNat) (j := (S f_Md_thingShape v.toNat).toNat) (by omega) (by have := TC.1; omega) z
          have := TC.1
          omega
        · intro z; rw [z]
      have ele : (if κ = 2 ∨ κ = 3 then r f_Md_guardName else nm) = (if κ = 2 ∨ κ = 3 then el else nm) ↔ r f_Md_guardName = el := by
        by_cases k23 : κ = 2 ∨ κ = 3
        · rw [if_pos k23, if_pos k23]
        · rw [if_neg k23, if_neg k23, d2' k23, hel k23]; exact ⟨fun _ => rfl, fun _ => rfl⟩
      rw [she, ele]
      refine ⟨fun _ => ⟨fun ne => q0 (fun z => ?_), fun eq => ⟨fun ne => q0 (fun z => ?_), fun eq2 => q1 (Or.inl ⟨t45, l0, Or.inr ⟨k46, eq, eq2⟩⟩)⟩⟩, fun c => absurd rfl c⟩
      · rcases z with ⟨-, -, ⟨z, -⟩ | ⟨-, z, -⟩⟩ | ⟨z, -⟩
        · exact k46 z
        · exact ne z
        · exact z t45
      · rcases z with ⟨-, -, ⟨z, -⟩ | ⟨-, -, z⟩⟩ | ⟨z, -⟩
        · exact k46 z
        · exact ne z
        · exact z t45
  · rw [if_neg t45]
    have bad : ¬ (r f_Md_linker = gdL ty ∧ r f_Md_guard = gdG S ty v) → Q (Sum.inl (some (vI 0))) (cc h C X Y) := fun c => q0 (fun z => by
      rcases z with ⟨z, -⟩ | ⟨-, z1, z2, -⟩
      · exact t45 z
      · exact c ⟨z1, z2⟩)
    refine ⟨fun l0 => ⟨fun c => ?_, fun c => ⟨fun c3 => ?_, fun c3 => ?_⟩⟩, fun c => bad (fun z => c z.1)⟩
    · exfalso
      rw [c] at l0
      unfold gdL at l0
      split at l0
      · exact absurd l0 (by decide)
      · split at l0
        · exact absurd l0 (by decide)
        · split at l0
          · exact absurd l0 (by decide)
          · split at l0
            · exact absurd l0 (by decide)
            · exact absurd l0 (by decide)
    · have t36 : ty = 3 ∨ ty = 6 := by
        rw [c3] at l0
        unfold gdL at l0
        by_cases z7 : ty = 7
        · rw [if_pos z7] at l0; exact absurd l0 (by decide)
        · rw [if_neg z7] at l0
          by_cases z8 : ty = 8
          · rw [if_pos z8] at l0; exact absurd l0 (by decide)
          · rw [if_neg z8] at l0
            by_cases z6 : ty = 6
            · exact Or.inr z6
            · rw [if_neg z6] at l0
              by_cases z3 : ty = 3
              · exact Or.inl z3
              · rw [if_neg z3] at l0; exact absurd l0 (by decide)
      obtain ⟨g1, g2, g3⟩ := e4 c3
      rw [i3, x3, g1, a3 t36]
      have gg : gdG S ty v = if ty = 3 then 1 else 0 := by
        unfold gdG
        rcases t36 with z | z
        · rw [if_neg (by omega), if_neg (by omega), if_neg (by omega), if_pos z]
        · rw [if_neg (by omega), if_neg (by omega), if_pos z, if_neg (by omega)]
      refine ⟨fun ne => bad (fun z => ne (by rw [z.2, gg])), fun eq => q1 (Or.inr ⟨t45, l0, by rw [eq, gg], fun k hk => by omega⟩)⟩
    · have t78 : ty = 7 ∨ ty = 8 := by
        by_cases z7 : ty = 7
        · exact Or.inl z7
        · by_cases z8 : ty = 8
          · exact Or.inr z8
          · exfalso
            unfold gdL at l0
            rw [if_neg z7, if_neg z8] at l0
            by_cases z6 : ty = 6
            · rw [if_pos z6] at l0; exact c3 l0
            · rw [if_neg z6] at l0
              by_cases z3 : ty = 3
              · rw [if_pos z3] at l0; exact c3 l0
              · rw [if_neg z3] at l0; omega
      have L12 : r f_Md_linker = 1 ∨ r f_Md_linker = 2 := by omega
      obtain ⟨g1, g2, g3, g4, g5⟩ := e5.1 L12
      obtain ⟨b1, b2, b3⟩ := a4 t78
      rw [r3, y3, g2, b1]
      have te : hB h (ho + 2) (r f_Md_guard).toNat = hB h (ho + 2) (gdG S ty v).toNat ↔ r f_Md_guard = gdG S ty v := by
        constructor
        · intro z
          have h1 := hc t78
          have := tad _ _ (by omega) (by omega) z
          omega
        · intro z; rw [z]
      rw [te]
      refine ⟨fun ne => bad (fun z => ne z.2), fun eq => b_Entry_holds_126 ⟨k1, r_classes HC E L12 b2 b3 (pv t78) (fun z => ⟨fun c => absurd c (by decide), fun _ => q1 (Or.inr ⟨t45, l0, eq, z⟩)⟩) (fun z => ⟨fun _ => q0 (fun c => ?_), fun c => absurd rfl c⟩)⟩⟩
      rcases c with ⟨c, -⟩ | ⟨-, -, -, c⟩
      · exact t45 c
      · exact z c
end
