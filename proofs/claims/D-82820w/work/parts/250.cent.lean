/-! C: entries of sites -/
set_option maxRecDepth 20000
/-- what C does at an entry -/
def acE (g : HG) (κ : Int) (mn : Nat) (r : ENT) : Int :=
  if r f_Md_linker = 0 then (if κ = 4 then 4 else if κ = 6 then 5 else if κ = 1 ∨ κ = 3 then (if r f_Md_which < 0 then 2 else 1) else if κ = 5 then 3 else 0)
  else if r f_Md_linker = 3 then (if κ = 0 then 9 else if κ = 2 then 12 else if κ = 3 then 13 else if r f_Md_guard = 1 then 14 else if mn = 1 then 10 else 11)
  else if g.1 6 (r f_Md_which).toNat = 0 then (if κ = 0 then 6 else 7) else 8
/-- how many classes a host's guard may go by -/
def opC (κ : Int) (mn : Nat) : Nat := if κ = 1 then 1 else if κ = 5 ∨ κ = 6 then mn else 0
def clA (x : Int) : Int := if x = 0 then -1 else x
/-- what an entry of another linker does not have -/
def ENZ (h : ah) (e : Nat) (r : ENT) : Prop := (¬ r f_Md_linker = 0 → hR h f_Entry_holder e = 0 ∧ r f_Md_holder = -1 ∧ hR h f_Entry_to e = 0 ∧ r f_Md_toShape = -1) ∧ (r f_Md_linker = 3 → hR h f_Entry_member e = 0 ∧ r f_Md_which = -1)
/-- an entry of C stands for a row of T -/
def ENO (g : HG) (h : ah) (C ho : Nat) (S : SS) (N M : Nat) (κ nm : Int) (mn e : Nat) (r : ENT) : Prop :=
  (hK h e = k_Entry ∧ e < hz h ∧ e ≠ 0) ∧ hI h f_Entry_linker e = r f_Md_linker ∧ ((0 ≤ r f_Md_linker ∧ r f_Md_linker ≤ 3) ∧ (0 ≤ r f_Md_guardTypes ∧ r f_Md_guardTypes < 2 ^ 56) ∧ (r f_Md_linker = 0 → r f_Md_guardMany = 0)) ∧ hI h f_Entry_action e = acE g κ mn r ∧
  (r f_Md_linker = 0 → hI h f_Entry_place e = r f_Md_which ∧ hI h f_Entry_element e = (if κ = 2 ∨ κ = 3 then r f_Md_guardName else nm) ∧ (¬ (κ = 2 ∨ κ = 3) → r f_Md_guardName = -1) ∧ hR h f_Entry_holder e = prA h C (r f_Md_holder) ∧ PVL S (r f_Md_holder) ∧ hR h f_Entry_to e = crA h C (r f_Md_toShape) ∧ r f_Md_toShape < S f_Md_shapes 0 ∧ hI h f_Entry_ticks e = r f_Md_linkedAt ∧
    (κ = 4 ∨ κ = 6 → 0 ≤ r f_Md_guard ∧ r f_Md_guard < S f_Md_functions 0 ∧ hR h f_Entry_code e = hB h (C + 56) (r f_Md_guard).toNat) ∧ (¬ (κ = 4 ∨ κ = 6) → hR h f_Entry_code e = 0 ∧ 0 ≤ r f_Md_guard ∧ r f_Md_guard < S f_Md_shapes 0 ∧ hR h f_Entry_shape e = hB h (C + 52) (r f_Md_guard).toNat)) ∧
  (r f_Md_linker = 3 → hI h f_Entry_isText e = r f_Md_guard ∧ (r f_Md_guard = 0 ∨ r f_Md_guard = 1) ∧ r f_Md_guardMany = 0) ∧
  (r f_Md_linker = 1 ∨ r f_Md_linker = 2 → (0 ≤ r f_Md_guard ∧ r f_Md_guard < (N : Int)) ∧ hR h f_Entry_type e = hB h (ho + 2) (r f_Md_guard).toNat ∧ (0 ≤ r f_Md_which ∧ r f_Md_which < (M : Int)) ∧ hR h f_Entry_member e = hB h (ho + 3) (r f_Md_which).toNat ∧
    ((hI h f_Entry_operands e = -1 ∧ r f_Md_guardMany = 0) ∨ (hI h f_Entry_operands e = (opC κ mn : Int) ∧ r f_Md_guardMany = (opC κ mn : Int) ∧ opC κ mn ≤ 8 ∧ (hR h f_Entry_classes e ≠ 0 ∧ hK h (hR h f_Entry_classes e) = 1 ∧ hl h (hR h f_Entry_classes e) = 8) ∧ ∀ i, i < opC κ mn → hA h (hR h f_Entry_classes e) i = clA (gtA (r f_Md_guardTypes) i)))) ∧ ENZ h e r
section
variable {ρ : Nat → Nat} {P : ah → Nat → Prop} {d : Nat} {Q : QT} {Γ : GH} {h h0 : ah} {C ho T k n m f i j N M b a s rr mn sn tn row e : Nat} {S S' S1 S2 SX : SS} {X : X3} {Y : Y3} {g : HG} {l L bs : List Int} {v p x y nm ty cnt κ hd w La bv el : Int} {r : ENT}
theorem CORE.tad (HC : CORE Γ h C ho X Y S N) (h1 : (k : Int) < S f_Md_things 0) (h2 : (j : Int) < S f_Md_things 0) (e : hB h (C + 51) k = hB h (C + 51) j) : k = j := by
  obtain ⟨tn, sn, sm, c1, c2, c5, c6', c3, c4, c6, c7, c8, U, m1, m2, m3, m4⟩ := HC.shp
  have t1 := (c7 k (by omega)).p.1
  have t2 := (c7 j (by omega)).p.1
  have n1 := t1.2.2.1
  have n2 := t2.2.2.1
  rw [e] at n1
  omega
theorem r_stale39 (HC : CORE Γ h C ho X Y S N) (ke : hK h e = k_Entry) (et : hI h f_Entry_ticks e = La) (eh : hR h f_Entry_holder e = prA h C hd) (ph : PVL S hd) : ∀ j p, pcS S j p < 0 → PVL S p → (∀ bv, STL S La hd j p bv → (bv = 0 ∨ bv = 1) → Q (Sum.inl (some (vI bv))) (cc h C X Y)) → wpB PGm ρ d m_Entry_isStale 39 [(0, vR e), (1, vR (prA h C p))] [] (cc h C X Y) Q := by
  obtain ⟨tn, sn, sm, c1, c2, c5, c6', c3, c4, c6, c7, c8, U, m1, m2, m3, m4⟩ := HC.shp
  have wf := prS_wf c1 c7 c8
  have i1 : hI (cc h C X Y) f_Entry_ticks e = hI h f_Entry_ticks e := ccIo (by decide)
  have r3 : hR (cc h C X Y) f_Entry_holder e = hR h f_Entry_holder e := ccRo (by decide)
  intro j
  induction j with
  | zero =>
    intro p hj hp q
    have hj' : p < 0 := hj
    have e : prA h C p = 0 := if_pos hj'
    rw [e]
    exact b_Entry_isStale_39 ⟨fun _ => q 0 ⟨hj', rfl⟩ (Or.inl rfl), fun w => absurd rfl w⟩
  | succ j ih =>
    intro p hj hp q
    by_cases pz : p < 0
    · have e : prA h C p = 0 := if_pos pz
      rw [e]
      exact b_Entry_isStale_39 ⟨fun _ => q 0 (Or.inl ⟨pz, rfl⟩) (Or.inl rfl), fun w => absurd rfl w⟩
    · have p0 : 0 ≤ p := by omega
      unfold pcS at hj
      rw [if_neg pz] at hj
      have hp' := hp
      rcases hp with e | ⟨a1, a2, a3⟩
      · omega
      have hk : ((p.toNat : Nat) : Int) < S f_Md_things 0 := by omega
      obtain ⟨n', sn', s0, e1, L, e2, e3, e4, e5, hnm, dn, nmn, SF, b0, kk, nz⟩ := HC.sth hk a3
      have ks : hK h (hR h f_Obj_shape (hB h (C + 51) p.toNat)) = k_Shape := by rw [e5]; exact (SF s0 e3).1
      have ep0 : prA h C p = hB h (C + 51) p.toNat := if_neg pz
      have SH := c8 s0 (by omega)
      have ep : hR h f_Shape_prototype (hB h (C + 52) s0) = prA h C (prS S p.toNat) := by
        unfold prA prS
        rw [e2, Int.toNat_natCast]
        rcases SH.2.2.1 with y | ⟨y1, y2, y3, y4⟩
        · rw [y.1, y.2, if_pos (by decide)]
        · rw [if_neg (by omega)]; exact y4
      have ch : hI h f_Obj_changedAt (hB h (C + 51) p.toNat) = S f_Md_changedAt p.toNat := ((c7 p.toNat (by omega)).p.2.2.2.1 a3).2.1
      have i2 : hI (cc h C X Y) f_Obj_changedAt (hB h (C + 51) p.toNat) = hI h f_Obj_changedAt (hB h (C + 51) p.toNat) := ccIo (by decide)
      have r1 : hR (cc h C X Y) f_Obj_shape (hB h (C + 51) p.toNat) = hR h f_Obj_shape (hB h (C + 51) p.toNat) := ccRo (by decide)
      have r2 : hR (cc h C X Y) f_Shape_prototype (hB h (C + 52) s0) = hR h f_Shape_prototype (hB h (C + 52) s0) := ccRo (by decide)
      have same : hB h (C + 51) p.toNat = prA h C hd → p = hd := fun z => by
        unfold prA at z
        by_cases w : hd < 0
        · rw [if_pos w] at z; exact absurd z nz
        · rw [if_neg w] at z
          rcases ph with c | ⟨w1, w2, -⟩
          · omega
          · have := HC.tad hk (by omega) z; omega
      rw [ep0]
      refine b_Entry_isStale_39 ⟨fun w => absurd w nz, fun _ => ⟨kk, ke, ?_⟩⟩
      rw [i1, i2, et, ch, r3, eh, r1]
      refine ⟨fun z => ⟨fun z2 => ⟨ks, ?_⟩, fun z2 => q 0 (Or.inr ⟨p0, Or.inr (Or.inl ⟨z, same z2, rfl⟩)⟩) (Or.inl rfl)⟩, fun z => q 1 (Or.inr ⟨p0, Or.inl ⟨z, rfl⟩⟩) (Or.inr rfl)⟩
      rw [e5, r2, ep]
      exact ih (prS S p.toNat) hj (PVL.of wf p0 hp') (fun bv hb h01 => q bv (Or.inr ⟨p0, Or.inr (Or.inr ⟨z, fun c => z2 (by rw [← c, ep0]), hb⟩)⟩) h01)
theorem r_stale (HC : CORE Γ h C ho X Y S N) (E : ENO g h C ho S N M κ nm mn e r) (hκ : 0 ≤ κ ∧ κ ≤ 6) (q : ∀ bv, STE S κ r bv → (bv = 0 ∨ bv = 1) → Q (Sum.inl (some (vI bv))) (cc h C X Y)) : wpB PGm ρ d m_Entry_isStale 0 [(0, vR e)] [] (cc h C X Y) Q := by
  obtain ⟨⟨k1, k2, k3⟩, e1, l03, e2, e3, e4, e5, -⟩ := E
  obtain ⟨tn, sn, sm, c1, c2, c5, c6', c3, c4, c6, c7, c8, U, m1, m2, m3, m4⟩ := HC.shp
  have i1 : hI (cc h C X Y) f_Entry_action e = hI h f_Entry_action e := ccIo (by decide)
  have i2 : hI (cc h C X Y) f_Entry_place e = hI h f_Entry_place e := ccIo (by decide)
  have r1 : hR (cc h C X Y) f_Entry_holder e = hR h f_Entry_holder e := ccRo (by decide)
  have r2 : hR (cc h C X Y) f_Entry_shape e = hR h f_Entry_shape e := ccRo (by decide)
  have AY : ACY S := by obtain ⟨_, _, _, _, _, _, _, _, _, _, _, _, a⟩ := HC.2.2.2.2.2.2.2.2.2.1; exact a.2
  by_cases w : r f_Md_linker = 0 ∧ rdK κ
  · obtain ⟨w1, w2⟩ := w
    obtain ⟨b1, b2, -, b3, b4, b5, b6, b7, b8, b9⟩ := e3 w1
    have nk : ¬ (κ = 4 ∨ κ = 6) := by unfold rdK at w2; omega
    obtain ⟨d1, d2, d3, d4⟩ := b9 nk
    have ac : acE g κ mn r = 0 ∨ acE g κ mn r = 3 := by
      unfold acE
      rw [if_pos w1, if_neg (by omega), if_neg (by omega), if_neg (by unfold rdK at w2; omega)]
      by_cases z : κ = 5
      · rw [if_pos z]; exact Or.inr rfl
      · rw [if_neg z]; exact Or.inl rfl
    have SH := c8 (r f_Md_guard).toNat (by omega)
    have ep : hR h f_Shape_prototype (hB h (C + 52) (r f_Md_guard).toNat) = prA h C (S f_Md_shapeProto (r f_Md_guard).toNat) := by
      unfold prA
      rcases SH.2.2.1 with y | ⟨y1, y2, y3, y4⟩
      · rw [y.1, y.2, if_pos (by decide)]
      · rw [if_neg (by omega)]; exact y4
    have pv : PVL S (S f_Md_shapeProto (r f_Md_guard).toNat) := by
      rcases SH.2.2.1 with y | ⟨y1, y2, y3, y4⟩
      · exact Or.inl y.1
      · exact Or.inr ⟨y1, by omega, y3⟩
    have rp : hR (cc h C X Y) f_Shape_prototype (hB h (C + 52) (r f_Md_guard).toNat) = hR h f_Shape_prototype (hB h (C + 52) (r f_Md_guard).toNat) := ccRo (by decide)
    have ex : ∃ j, pcS S j (S f_Md_shapeProto (r f_Md_guard).toNat) < 0 := by
      rcases pv with z | ⟨a1, a2, a3⟩
      · exact ⟨0, by show S f_Md_shapeProto (r f_Md_guard).toNat < 0; omega⟩
      · obtain ⟨j, hj⟩ := AY (S f_Md_shapeProto (r f_Md_guard).toNat).toNat (by omega) a3
        exact ⟨j, by rw [show (((S f_Md_shapeProto (r f_Md_guard).toNat).toNat : Nat) : Int) = S f_Md_shapeProto (r f_Md_guard).toNat by omega] at hj; exact hj⟩
    obtain ⟨j, hj⟩ := ex
    have g31 : ¬ (0 ≤ r f_Md_which ∧ r f_Md_holder < 0) → wpB PGm ρ d m_Entry_isStale 31 [(0, vR e)] [] (cc h C X Y) Q := fun z => by
      refine b_Entry_isStale_31 ⟨k1, by rw [r2, d4]; exact SH.1.1, ?_⟩
      rw [r2, d4, rp, ep]
      exact r_stale39 HC k1 b7 b3 b4 j _ hj pv (fun bv hb h01 => q bv (Or.inl ⟨w1, w2, z, j, hb⟩) h01)
    have hn : hR h f_Entry_holder e = 0 ↔ r f_Md_holder < 0 := by
      rw [b3]; unfold prA
      constructor
      · intro z
        by_cases c : r f_Md_holder < 0
        · exact c
        · rw [if_neg c] at z
          rcases b4 with c2 | ⟨c2, c3, c4⟩
          · omega
          · obtain ⟨_, _, _, -, -, -, -, -, -, -, -, -, -, -, -, nz⟩ := HC.sth (k := (r f_Md_holder).toNat) (by omega) c4
            exact absurd z nz
      · intro z; rw [if_pos z]
    have g15 : wpB PGm ρ d m_Entry_isStale 15 [(0, vR e)] [] (cc h C X Y) Q := by
      refine b_Entry_isStale_15 ⟨k1, ?_⟩
      rw [r1, i2, b1]
      exact ⟨fun z => g31 (fun c => z (hn.mpr c.2)), fun z => ⟨fun z2 => g31 (fun c => by omega), fun z2 => q 0 (Or.inr ⟨fun c => c.2.2 ⟨z2, hn.mp z⟩, rfl⟩) (Or.inl rfl)⟩⟩
    refine b_Entry_isStale_0 ⟨k1, ?_⟩
    rw [i1, e2]
    refine ⟨fun _ => g15, fun z => ⟨fun z2 => ?_, fun _ => g15⟩⟩
    rcases ac with c | c
    · exact absurd c z
    · exact absurd c z2
  · have na : ¬ acE g κ mn r = 0 ∧ ¬ acE g κ mn r = 3 := by
      unfold acE
      by_cases w1 : r f_Md_linker = 0
      · have nr : ¬ rdK κ := fun c => w ⟨w1, c⟩
        unfold rdK at nr
        rw [if_pos w1]
        by_cases z4 : κ = 4
        · rw [if_pos z4]; decide
        · rw [if_neg z4]
          by_cases z6 : κ = 6
          · rw [if_pos z6]; decide
          · rw [if_neg z6, if_pos (by omega)]
            split <;> decide
      · rw [if_neg w1]
        split
        · split
          · decide
          · split
            · decide
            · split
              · decide
              · split
                · decide
                · split <;> decide
        · split
          · split <;> decide
          · decide
    refine b_Entry_isStale_0 ⟨k1, ?_⟩
    rw [i1, e2]
    exact ⟨fun z => absurd z na.1, fun z => ⟨fun z2 => q 0 (Or.inr ⟨fun c => w ⟨c.1, c.2.1⟩, rfl⟩) (Or.inl rfl), fun z2 => absurd z2 na.2⟩⟩
end
