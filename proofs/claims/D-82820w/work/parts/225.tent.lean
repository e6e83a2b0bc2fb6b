/-! T: entries of sites -/
set_option maxRecDepth 20000
/-- rows of an entry -/
def LRW : List Nat := [f_Md_linker, f_Md_guard, f_Md_guardName, f_Md_holder, f_Md_which, f_Md_toShape, f_Md_linkedAt, f_Md_guardMany, f_Md_guardTypes]
abbrev ENT : Type := Nat → Int
def rowE (S : SS) (r : Nat) : ENT := fun f => if LRW.elem f = true then S f r else 0
/-- whether a prototype that was gone through has changed since, from p on -/
def STL (S : SS) (La hd : Int) : Nat → Int → Int → Prop
  | 0, p, b => p < 0 ∧ b = 0
  | j + 1, p, b => (p < 0 ∧ b = 0) ∨ (0 ≤ p ∧ ((La < S f_Md_changedAt p.toNat ∧ b = 1) ∨ (S f_Md_changedAt p.toNat ≤ La ∧ p = hd ∧ b = 0) ∨ (S f_Md_changedAt p.toNat ≤ La ∧ ¬ p = hd ∧ STL S La hd j (prS S p.toNat) b)))
def rdK (κ : Int) : Prop := κ = 0 ∨ κ = 2 ∨ κ = 5
/-- an entry is stale (1) or not (0) -/
def STE (S : SS) (κ : Int) (e : ENT) (b : Int) : Prop := (e f_Md_linker = 0 ∧ rdK κ ∧ ¬ (0 ≤ e f_Md_which ∧ e f_Md_holder < 0) ∧ ∃ j, STL S (e f_Md_linkedAt) (e f_Md_holder) j (S f_Md_shapeProto (e f_Md_guard).toNat) b) ∨ (¬ (e f_Md_linker = 0 ∧ rdK κ ∧ ¬ (0 ≤ e f_Md_which ∧ e f_Md_holder < 0)) ∧ b = 0)
def gdL (ty : Int) : Int := if ty = 7 then 1 else if ty = 8 then 2 else if ty = 6 then 3 else if ty = 3 then 3 else -1
def gdG (S : SS) (ty v : Int) : Int := if ty = 7 then S f_Md_thingClass v.toNat else if ty = 8 then v else if ty = 6 then 0 else 1
/-- the guard of an entry holds -/
def GDE (S : SS) (κ ty v el : Int) (rr : Nat) (e : ENT) : Prop := ((ty = 4 ∨ ty = 5) ∧ e f_Md_linker = 0 ∧ (((κ = 4 ∨ κ = 6) ∧ ty = 5 ∧ S f_Md_thingFunction v.toNat = e f_Md_guard) ∨ (¬ (κ = 4 ∨ κ = 6) ∧ S f_Md_thingShape v.toNat = e f_Md_guard ∧ e f_Md_guardName = el))) ∨ (¬ (ty = 4 ∨ ty = 5) ∧ e f_Md_linker = gdL ty ∧ e f_Md_guard = gdG S ty v ∧ ∀ k : Nat, (k : Int) < e f_Md_guardMany → gtA (e f_Md_guardTypes) k = tyT S (S f_Md_pileType (rr + 1 + k)) (S f_Md_pileValue (rr + 1 + k)))
section
variable {ρ : Nat → Nat} {P : ah → Nat → Prop} {d : Nat} {Q : QT} {Γ : GH} {h h0 : ah} {C ho T k n m f i j N M b r a s rr mn sn tn row : Nat} {S S' S1 S2 SX : SS} {X : X3} {Y : Y3} {g : HG} {l L bs : List Int} {v p x y nm ty cnt κ u hd w La bv el : Int}
theorem rowE_g (e : LRW.elem f = true) : rowE S r f = S f r := if_pos e
theorem rowE_e (e : ∀ f, LRW.elem f = true → S1 f m = S f r) : rowE S1 m = rowE S r := by
  funext f
  unfold rowE
  split
  · rename_i h; exact e f h
  · rfl
theorem STL.fn : ∀ {j j' : Nat} {p b b' : Int}, STL S La hd j p b → STL S La hd j' p b' → b = b' := fun {j} => by
  induction j with
  | zero =>
    intro j' p b b' A B
    obtain ⟨pz, rfl⟩ := A
    cases j' with
    | zero => exact B.2.symm
    | succ j' =>
      rcases B with ⟨-, e⟩ | ⟨c, -⟩
      · exact e.symm
      · omega
  | succ j ih =>
    intro j' p b b' A B
    rcases A with ⟨pz, rfl⟩ | ⟨p0, A⟩
    · cases j' with
      | zero => exact B.2.symm
      | succ j' =>
        rcases B with ⟨-, e⟩ | ⟨c, -⟩
        · exact e.symm
        · omega
    · cases j' with
      | zero => have := B.1; omega
      | succ j' =>
        rcases B with ⟨c, -⟩ | ⟨-, B⟩
        · omega
        · rcases A with ⟨a1, rfl⟩ | ⟨a1, a2, rfl⟩ | ⟨a1, a2, a3⟩
          · rcases B with ⟨b1, rfl⟩ | ⟨b1, b2, rfl⟩ | ⟨b1, b2, b3⟩
            · rfl
            · omega
            · omega
          · rcases B with ⟨b1, rfl⟩ | ⟨b1, b2, rfl⟩ | ⟨b1, b2, b3⟩
            · omega
            · rfl
            · omega
          · rcases B with ⟨b1, rfl⟩ | ⟨b1, b2, rfl⟩ | ⟨b1, b2, b3⟩
            · omega
            · omega
            · exact ih a3 b3
theorem STL.b01 : ∀ {j : Nat} {p b : Int}, STL S La hd j p b → b = 0 ∨ b = 1 := fun {j} => by
  induction j with
  | zero => exact fun A => Or.inl A.2
  | succ j ih =>
    intro p b A
    rcases A with ⟨-, e⟩ | ⟨-, ⟨-, e⟩ | ⟨-, -, e⟩ | ⟨-, -, e⟩⟩
    · exact Or.inl e
    · exact Or.inr e
    · exact Or.inl e
    · exact ih e
theorem STE.b01 {e : ENT} (H : STE S κ e bv) : bv = 0 ∨ bv = 1 := by
  rcases H with ⟨-, -, -, j, H⟩ | ⟨-, H⟩
  · exact H.b01
  · exact Or.inl H
theorem s_st66 (O : TOK h0 T) (HC : CORE Γ h C ho X Y S N) (hr : row < 20000) : ∀ j p bv, STL S (S f_Md_linkedAt row) (S f_Md_holder row) j p bv → PVL S p → Q (Sum.inl (some (vI bv))) (cn h0 T S) → wpB PGm ρ (d + 1) m_Md_isStale 66 [(0, vR T), (1, vI (row : Int)), (4, vI p)] [] (cn h0 T S) Q := by
  obtain ⟨tn, sn, sm, c1, c2, c5, c6', c3, c4, c6, c7, c8, U, m1, m2, m3, m4⟩ := HC.shp
  have wf := prS_wf c1 c7 c8
  have kT := O.1
  have G := O.2.1
  have b1 : 0 ≤ (row : Int) ∧ (row : Int) < ((20000 : Nat) : Int) := by omega
  intro j
  induction j with
  | zero =>
    intro p bv hl hp q
    obtain ⟨pz, rfl⟩ := hl
    exact b_Md_isStale_66 ⟨fun _ => q, fun z => absurd pz (by omega)⟩
  | succ j ih =>
    intro p bv hl hp q
    rcases hl with ⟨pz, rfl⟩ | ⟨p0, hl⟩
    · exact b_Md_isStale_66 ⟨fun _ => q, fun z => absurd pz (by omega)⟩
    · have hp' := hp
      rcases hp with e | ⟨a1, a2, a3⟩
      · omega
      have hk' : ((p.toNat : Nat) : Int) < S f_Md_things 0 := by omega
      have ec : ((p.toNat : Nat) : Int) = p := by omega
      obtain ⟨n', sn', s0, e1, L, e2, e3, e4, e5, hnm, dn, nmn, SF, b0, kk, nz⟩ := HC.sth hk' a3
      have pb : 0 ≤ p ∧ p < ((8000 : Nat) : Int) := by have := L.1; omega
      have PR : STL S (S f_Md_linkedAt row) (S f_Md_holder row) j (prS S p.toNat) bv → wpB PGm ρ d m_Md_protoOf 0 [(0, vR T), (1, vI p)] [] (cn h0 T S) (cI (fun x22 h17 => wpB PGm ρ (d + 1) m_Md_isStale 66 [(0, vR T), (1, vI (row : Int)), (4, vI x22)] [] h17 Q) (fun e20 h19 => hK h19 e20 ≠ 0 ∧ Q (Sum.inr e20) h19)) := fun z => by
        have := s_protoOf (ρ := ρ) (d := d) (k := p.toNat) (S := S) (Q := cI (fun x22 h17 => wpB PGm ρ (d + 1) m_Md_isStale 66 [(0, vR T), (1, vI (row : Int)), (4, vI x22)] [] h17 Q) (fun e20 h19 => hK h19 e20 ≠ 0 ∧ Q (Sum.inr e20) h19)) O L.1 ⟨by omega, by omega⟩ (ih _ _ z (PVL.of wf p0 hp') q)
        rw [ec] at this; exact this
      have z1 : S f_Md_linkedAt row < S f_Md_changedAt p.toNat → Q (Sum.inl (some (vI 1))) (cn h0 T S) := fun z => by
        rcases hl with ⟨-, e⟩ | ⟨c, -⟩ | ⟨c, -⟩
        · rw [e] at q; exact q
        · omega
        · omega
      have z2 : S f_Md_changedAt p.toNat ≤ S f_Md_linkedAt row → p = S f_Md_holder row → Q (Sum.inl (some (vI 0))) (cn h0 T S) := fun z zz => by
        rcases hl with ⟨c, -⟩ | ⟨-, -, e⟩ | ⟨-, c, -⟩
        · omega
        · rw [e] at q; exact q
        · exact absurd zz c
      have z3 : S f_Md_changedAt p.toNat ≤ S f_Md_linkedAt row → ¬ p = S f_Md_holder row → STL S (S f_Md_linkedAt row) (S f_Md_holder row) j (prS S p.toNat) bv := fun z zz => by
        rcases hl with ⟨c, -⟩ | ⟨-, c, -⟩ | ⟨-, -, c⟩
        · omega
        · exact absurd c zz
        · exact c
      refine b_Md_isStale_66 ⟨fun z => absurd z (by omega), fun _ => ?_⟩
      have gg := fun a b => PR (z3 a b)
      clear ih hl PR z3 e5 hnm dn nmn SF b0 c7 c8 U HC wf hp'
      simp (decide := true) (disch := first | decide | omega) only [cnI, cnR, cnK, cnl, cnA' G, kT, KN G, LN G, Int.toNat_natCast, true_and, and_true]
      exact ⟨pb, b1, fun z => ⟨b1, fun zz => gg z zz, fun zz => z2 z zz⟩, z1⟩
theorem s_stale (O : TOK h0 T) (HC : CORE Γ h C ho X Y S N) (hr : row < 20000) (H : STE S κ (rowE S row) bv) (gd : S f_Md_linker row = 0 → rdK κ → 0 ≤ S f_Md_guard row ∧ S f_Md_guard row < S f_Md_shapes 0) (q : Q (Sum.inl (some (vI bv))) (cn h0 T S)) : wpB PGm ρ (d + 1) m_Md_isStale 0 [(0, vR T), (1, vI (row : Int)), (2, vI κ)] [] (cn h0 T S) Q := by
  obtain ⟨tn, sn, sm, c1, c2, c5, c6', c3, c4, c6, c7, c8, U, m1, m2, m3, m4⟩ := HC.shp
  have kT := O.1
  have G := O.2.1
  have b1 : 0 ≤ (row : Int) ∧ (row : Int) < ((20000 : Nat) : Int) := by omega
  unfold STE at H
  rw [rowE_g (by decide), rowE_g (by decide), rowE_g (by decide), rowE_g (by decide), rowE_g (by decide)] at H
  have g53 : S f_Md_linker row = 0 → rdK κ → ¬ (0 ≤ S f_Md_which row ∧ S f_Md_holder row < 0) → wpB PGm ρ (d + 1) m_Md_isStale 53 [(0, vR T), (1, vI (row : Int))] [] (cn h0 T S) Q := fun a1 a2 a3 => by
    obtain ⟨g1, g2⟩ := gd a1 a2
    rcases H with ⟨-, -, -, j, H⟩ | ⟨c, -⟩
    · have hs : (S f_Md_guard row).toNat < sn := by omega
      have pv : PVL S (S f_Md_shapeProto (S f_Md_guard row).toNat) := by
        rcases (c8 _ hs).2.2.1 with ⟨e, -⟩ | ⟨e1, e2, e3, -⟩
        · exact Or.inl e
        · exact Or.inr ⟨e1, by omega, e3⟩
      have g := s_st66 (ρ := ρ) (d := d) (Q := Q) O HC hr j _ bv H pv q
      have b2 : 0 ≤ S f_Md_guard row ∧ S f_Md_guard row < ((4001 : Nat) : Int) := by omega
      refine b_Md_isStale_53 ?_
      clear c7 c8 U HC H gd
      simp (decide := true) (disch := first | decide | omega) only [cnI, cnR, cnK, cnl, cnA' G, kT, KN G, LN G, Int.toNat_natCast, true_and, and_true]
      exact ⟨b1, b2, g⟩
    · exact absurd ⟨a1, a2, a3⟩ c
  have z0 : ¬ (S f_Md_linker row = 0 ∧ rdK κ ∧ ¬ (0 ≤ S f_Md_which row ∧ S f_Md_holder row < 0)) → Q (Sum.inl (some (vI 0))) (cn h0 T S) := fun z => by
    rcases H with ⟨h1, h2, h3, -⟩ | ⟨-, e⟩
    · exact absurd ⟨h1, h2, h3⟩ z
    · rw [e] at q; exact q
  have g28a : ¬ (S f_Md_linker row = 0 ∧ rdK κ) → wpB PGm ρ (d + 1) m_Md_isStale 28 [(0, vR T), (1, vI (row : Int))] [vI 0] (cn h0 T S) Q := fun z => b_Md_isStale_28 ⟨fun _ => z0 (fun c => z ⟨c.1, c.2.1⟩), fun c => absurd rfl c⟩
  have g28b : S f_Md_linker row = 0 → rdK κ → wpB PGm ρ (d + 1) m_Md_isStale 28 [(0, vR T), (1, vI (row : Int))] [vI 1] (cn h0 T S) Q := fun a1 a2 => by
    have y1 : S f_Md_which row < 0 → wpB PGm ρ (d + 1) m_Md_isStale 53 [(0, vR T), (1, vI (row : Int))] [] (cn h0 T S) Q := fun z => g53 a1 a2 (fun c => by omega)
    have y2 : 0 ≤ S f_Md_holder row → wpB PGm ρ (d + 1) m_Md_isStale 53 [(0, vR T), (1, vI (row : Int))] [] (cn h0 T S) Q := fun z => g53 a1 a2 (fun c => by omega)
    have y3 : 0 ≤ S f_Md_which row → S f_Md_holder row < 0 → Q (Sum.inl (some (vI 0))) (cn h0 T S) := fun z zz => z0 (fun c => c.2.2 ⟨z, zz⟩)
    refine b_Md_isStale_28 ⟨fun c => absurd c (by decide), fun _ => ?_⟩
    clear c7 c8 U HC H gd g53 z0 g28a
    simp (decide := true) (disch := first | decide | omega) only [cnI, cnR, cnK, cnl, cnA' G, kT, KN G, LN G, Int.toNat_natCast, true_and, and_true]
    exact ⟨b1, y1, fun z => ⟨b1, y2, fun zz => y3 z zz⟩⟩
  refine b_Md_isStale_0 ?_
  clear c7 c8 U HC H gd g53 z0
  simp (decide := true) (disch := first | decide | omega) only [cnI, cnR, cnK, cnl, cnA' G, kT, KN G, LN G, Int.toNat_natCast, true_and, and_true]
  refine ⟨b1, fun z => g28a (fun c => z c.1), fun z => ⟨fun e => g28b z (Or.inl e), fun e => ⟨fun e2 => g28b z (Or.inr (Or.inl e2)), fun e2 => ⟨fun e3 => g28a (fun c => ?_), fun e3 => g28b z (Or.inr (Or.inr e3))⟩⟩⟩⟩
  rcases c.2 with h | h | h
  · exact e h
  · exact e2 h
  · exact e3 h
end
