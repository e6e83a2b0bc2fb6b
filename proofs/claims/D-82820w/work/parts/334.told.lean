/-! C: the field that a method tells of -/
set_option maxRecDepth 20000
def adO (h : ah) (ho : Nat) (x : Option Nat) : Nat := match x with
  | none => 0
  | some f => hB h (ho + 3) f
section
variable {ρ : Nat → Nat} {d : Nat} {Q : QT} {h h1 h' : ah} {C ho N M k n m r i j nm nw : Nat} {g : HG} {pf L : List Int} {hw : List (List Int)} {F : Int → ah → Prop} {E : Nat → ah → Prop} {FR : Nat → ah → Prop} {ty c : Int}
theorem c_near2 (W : HGW g N) (W2 : HMW g N M) (HX : HCX ρ h ho g N M hw) (h1' : nw < hw.length) (h2' : hw.getD nw [] = L) : ∀ (b : Nat) (c : Int), c < (b : Int) → -1 ≤ c → c < (N : Int) → (∀ f, fldG g (-1) L (b + 1) c = some f → f < M → FR (hB h (ho + 3) f) h) → (fldG g (-1) L (b + 1) c = none → FR 0 h) → wpB PGm ρ (d + 11) m_HostType_nearest 2 [(1, vI (nw : Int)), (2, vR (hcA h ho c))] [] h (cR FR E) := fun b => by
  induction b with
  | zero =>
    intro c k1 k2 k3 q1 q0
    have e : hcA h ho c = 0 := if_pos (by omega)
    rw [e]
    exact b_HostType_nearest_2 (d := d + 10) ⟨fun _ => q0 (by unfold fldG chnG; rw [if_pos (by omega)]; rfl), fun z => absurd rfl z⟩
  | succ b ih =>
    intro c k1 k2 k3 q1 q0
    by_cases c0 : c < 0
    · have e : hcA h ho c = 0 := if_pos c0
      rw [e]
      exact b_HostType_nearest_2 (d := d + 10) ⟨fun _ => q0 (by unfold fldG chnG; rw [if_pos c0]; rfl), fun z => absurd rfl z⟩
    · have wa := (W c.toNat (by omega)).2.1
      have e : hcA h ho c = hB h (ho + 2) c.toNat := if_neg c0
      obtain ⟨⟨y1, y1', y0⟩, -, -, -, -, y5, -⟩ := HX.tp (i := c.toNat) (by omega)
      have ab : hR h f_HostType_above (hB h (ho + 2) c.toNat) = hcA h ho (g.1 2 c.toNat) := by
        unfold hcA
        rcases y5 with ⟨z1, z2⟩ | ⟨z1, z2, z3⟩
        · rw [if_pos (by omega)]; exact z2
        · rw [if_neg (by omega)]; exact z3
      have ef : fldG g (-1) L (b + 1 + 1) c = match (memG g c.toNat).find? (fbB g (-1) L) with
        | some f => some f
        | none => fldG g (-1) L (b + 1) (g.1 2 c.toNat) := by
        unfold fldG
        conv => lhs; unfold chnG
        rw [if_neg c0, List.findSome?_cons]
        cases (memG g c.toNat).find? (fbB g (-1) L) <;> rfl
      rw [ef] at q0
      rw [ef] at q1
      rw [e]
      refine b_HostType_nearest_2 (d := d + 10) ⟨fun z => absurd z y0, fun _ => ⟨y1, c_fld1 W2 (by omega) h1' h2' HX (by omega) (fun f hf fM => ?_) (fun hf => ?_)⟩⟩
      · have m3 := (HX.me fM).1.2.2
        refine ⟨fun z => absurd z m3, fun _ => q1 f ?_ fM⟩
        rw [hf]
      · refine ⟨fun _ => ⟨y1, ?_⟩, fun z => absurd rfl z⟩
        rw [ab]
        refine ih (g.1 2 c.toNat) (by omega) (by omega) (by omega) (fun f e2 fM => q1 f ?_ fM) (fun e2 => q0 ?_)
        · rw [hf]; exact e2
        · rw [hf]; exact e2
theorem c_near (W : HGW g N) (W2 : HMW g N M) (HX : HCX ρ h ho g N M hw) (h1' : nw < hw.length) (h2' : hw.getD nw [] = L) (hk : k < N) (q1 : ∀ f, fldG g (-1) L 61 (k : Int) = some f → f < M → FR (hB h (ho + 3) f) h) (q0 : fldG g (-1) L 61 (k : Int) = none → FR 0 h) : wpB PGm ρ (d + 11) m_HostType_nearest 0 [(0, vR (hB h (ho + 2) k)), (1, vI (nw : Int))] [] h (cR FR E) := by
  have N60 := HX.hh.2.2.2.2.2.2.2.2.2.1
  have e : hcA h ho (k : Int) = hB h (ho + 2) k := by unfold hcA; rw [if_neg (by omega), Int.toNat_natCast]
  have := c_near2 (ρ := ρ) (d := d) (FR := FR) (E := E) W W2 HX h1' h2' 60 (k : Int) (by omega) (by omega) (by omega) q1 q0
  rw [e] at this
  exact b_HostType_nearest_0 this
end
