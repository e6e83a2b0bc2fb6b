set_option maxRecDepth 20000
section
variable {ρ : Nat → Nat} {d : Nat} {Q : QT} {Γ : GH} {h h' h1 h2 : ah} {C ho k i j N M a b z s x y r f o c t n m mn m0 rr k0 : Nat} {g : HG} {v w hd ty κ nm el La p st : Int} {S S' S1 : SS} {X X' X1 X2 : X3} {Y Y' Y1 Y2 : Y3} {e : ENT} {L : List Int} {ws hw : List (List Int)}
/-- what is known of a host that was read -/
def HSF (g : HG) (N M : Nat) : Prop := HWF g N M ∧ HWX g N M ∧ HNQ g M ∧ HFQ g N M ∧ (∀ k, k < N → g.1 1 k = 1 → g.1 2 k = -1) ∧ ∀ i, i < N → NMW (g.2 0 i)
/-- the ghost's row of fields -/
def GLY (S : SS) (g : HG) (N : Nat) : Prop := ∀ c, c < N → S f_lay c = if g.1 1 c = 0 then ((layG g c).length : Int) else -1
/-- what was made by the host has its fields -/
def INL (S : SS) (g : HG) (N : Nat) : Prop := ∀ k : Nat, (k : Int) < S f_Md_things 0 → S f_Md_thingKind k = 7 → ∃ c : Nat, c < N ∧ S f_Md_thingClass k = (c : Int) ∧ S f_Md_thingCount k = ((layG g c).length : Int) ∧ g.1 1 c = 0
def IS7 (S : SS) : Prop := ∀ k : Nat, (k : Int) < S f_Md_things 0 → S f_Md_thingKind k = 7 → S f_Md_thingCount k = S f_lay (S f_Md_thingClass k).toNat
theorem IS7.chg (H : IS7 S) (c : CHG S S') : IS7 S' := fun k hk k7 => by
  obtain ⟨-, -, -, -, a6, b6, c6⟩ := c
  by_cases q : (k : Int) < S f_Md_things 0
  · obtain ⟨d1, d2⟩ := a6 k q
    rw [d1] at k7
    rw [(d2 k7).1, (d2 k7).2, c6]
    exact H k q k7
  · exact b6 k (by omega) hk k7
theorem INL.of (HC : CORE Γ h C ho X Y S N) (H : IS7 S) (GL : GLY S g N) : INL S g N := fun k hk k7 => by
  obtain ⟨-, -, -, -, -, -, -, -, -, q7, -⟩ := HC
  obtain ⟨tn, sn, c1, c2, c3, c4, c5, c6, c6', c7, c8, c9, c10⟩ := q7
  have T := (c7 k (by omega)).p
  have t1 := T.1.2.2.2.2
  have t2 := T.2.1.2.1
  have e := H k hk k7
  rw [GL _ (by omega)] at e
  refine ⟨(S f_Md_thingClass k).toNat, by omega, by omega, ?_⟩
  split at e
  · rename_i z
    exact ⟨e, z⟩
  · omega
theorem chn_sub (W : HGW g N) (hN : N ≤ 60) : ∀ (b : Nat) (c : Int), c < (b : Int) → c < (N : Int) → k0 ∈ chnG g (b + 1) c → ∀ x, x ∈ chnG g 61 (k0 : Int) → x ∈ chnG g 61 c := fun b => by
  induction b with
  | zero =>
    intro c h1 h2 h3
    unfold chnG at h3
    rw [if_pos (by omega)] at h3
    cases h3
  | succ b ih =>
    intro c h1 h2 h3 x hx
    unfold chnG at h3
    by_cases q : c < 0
    · rw [if_pos q] at h3; cases h3
    · rw [if_neg q] at h3
      rcases List.mem_cons.mp h3 with h3 | h3
      · have : (k0 : Int) = c := by omega
        rw [this] at hx
        exact hx
      · obtain ⟨-, ⟨w1, w2⟩, -⟩ := W c.toNat (by omega)
        have := ih _ (by omega) (by omega) h3 x hx
        show x ∈ chnG g (60 + 1) c
        unfold chnG
        rw [if_neg q, chnG_fu W 59 60 _ (by omega) (by omega) (by omega)]
        exact List.mem_cons_of_mem _ this
theorem to_mem {pf : List Int} (H : toG g m pf ty = some f) : ∃ L, fldG g (-1) L 61 (g.1 5 m) = some f ∧ g.1 7 f = g.1 7 m := by
  unfold toG at H
  split at H
  · split at H
    · cases H
    · rename_i f' e
      split at H
      · rename_i z
        cases H
        exact ⟨_, e, z.2⟩
      · cases H
  · cases H
theorem kw_mem (H : kwO g m = some f) : ∃ L, fldG g (-1) L 61 (g.1 5 m) = some f ∧ g.1 7 f = g.1 7 m := by
  unfold kwO at H
  split at H
  · split at H
    · rename_i f' e
      cases H
      exact to_mem e
    · split at H
      · exact to_mem H
      · cases H
  · split at H
    · exact to_mem H
    · cases H
theorem kw_plc (O : HSF g N M) (hc : c < N) (hk : k ∈ ordG g c) (hm : m ∈ memG g k) (H : kwO g m = some f) (f7 : g.1 7 f = 0) : ∃ i, PLC g c f i := by
  obtain ⟨W, WX, -, -, ab, -⟩ := O
  obtain ⟨L, e, -⟩ := kw_mem H
  have hkN := ord_lt W.1 hc k hk
  rw [W.2.2.2.1 k hkN m hm] at e
  obtain ⟨⟨k1, a1, a2⟩, a3, -⟩ := fld_mem e
  have hk1 : k1 < N := chn_lt W.1 _ _ (by omega) (by omega) k1 a1
  obtain ⟨r, er, hr⟩ := ord_ext W.1 hc
  rw [er] at hk
  rcases List.mem_append.mp hk with q | q
  · exact lay_plc (chn_sub W.1 W.2.2.2.2.1 60 _ (by have := W.2.2.2.2.1; omega) (by omega) q k1 a1) a2 a3 f7
  · have i1 := (hr k q).1
    have : k1 = k := by
      unfold chnG at a1
      rw [if_neg (by omega), Int.toNat_natCast, ab k hkN i1] at a1
      unfold chnG at a1
      simpa using a1
    subst this
    have := (WX.2.1 k1 hkN i1 f a2).1
    omega
theorem PVS.of (HC : CORE Γ h C ho X Y S N) (er : S f_Md_r 0 = (rr : Int)) (hr : rr + 1 + n ≤ 4200) (V : ∀ k, k < n → VO S N (S f_Md_pileType (rr + 1 + k)) (S f_Md_pileValue (rr + 1 + k))) : PVS S N rr n := by
  obtain ⟨-, -, -, -, -, -, -, -, -, q7, -⟩ := HC
  obtain ⟨tn, sn, c1, c2, c3, c4, c5, c6, c6', c7, c8, c9, c10⟩ := q7
  refine ⟨er, hr, by omega, fun k hk => ⟨V k hk, fun t7 => ?_⟩⟩
  have O := V k hk
  rw [t7] at O
  unfold VO at O
  have O' : 0 ≤ S f_Md_pileValue (rr + 1 + k) ∧ S f_Md_pileValue (rr + 1 + k) < S f_Md_things 0 ∧ S f_Md_thingKind (S f_Md_pileValue (rr + 1 + k)).toNat = 7 := by omega
  have T := (c7 (S f_Md_pileValue (rr + 1 + k)).toNat (by omega)).p.1.2.2.2.2
  omega
theorem PFX.pvs (P : PFX Γ h C ho X Y S N t o n c r s a κ mn m0 rr) (hn : i ≤ esK κ mn) : PVS S N rr i := by
  obtain ⟨g1, g2, g3, g4, g5, g6, -⟩ := P.2.2.1
  have := P.2.2.2.2.1
  refine PVS.of P.1 g3 (by omega) (fun k hk => ?_)
  have := (P.pl (i := 1 + k) (by omega)).2.2
  rw [← Nat.add_assoc] at this
  exact this
theorem PFD.toR (q : PFD ρ g N M hw Γ h C ho X Y S s Q) (HC : CORE Γ h C ho X Y S N) (U : HUS ρ Γ h ho S g N M hw) (K : MMO h ho g M) (W : HWF g N M) : PFR ρ g N M Γ h C ho X Y S s Q := fun e S' h' X' Y' T R => q e S' h' X' Y' T (RLD.of (RLH.mk (LYR.rf HC U) R) K U W HC.inj)
theorem PFD.toH (q : PFD ρ g N M hw Γ h C ho X Y S s Q) (HC : CORE Γ h C ho X Y S N) (U : HUS ρ Γ h ho S g N M hw) (K : MMO h ho g M) (W : HWF g N M) : PFH ρ g N M hw Γ h C ho X Y S s Q := fun e S' h' X' Y' T R => q e S' h' X' Y' T (RLD.of R K U W HC.inj)
theorem PFH.q7 (q : PFH ρ g N M hw Γ h C ho X Y S s Q) : PFH ρ g N M hw Γ h C ho X Y S s (q7T ρ d Q) := fun e S' h' X' Y' T R => by
  cases e with
  | none => exact b_Machine_perform_162 (q none S' h' X' Y' T R)
  | some v => exact q (some v) S' h' X' Y' T R
end
