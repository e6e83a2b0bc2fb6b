set_option maxRecDepth 20000
section
variable {ρ : Nat → Nat} {d : Nat} {Q : QT} {Γ Γ' Γ1 Γ2 : GH} {h h' h1 h2 : ah} {C ho N M z s t o n c r a mn m0 rr i : Nat} {g : HG} {S S' S1 S2 : SS} {X X' X1 X2 : X3} {Y Y' Y1 Y2 : Y3} {ws hw : List (List Int)} {L : List Int} {κ ty v el nm w0 x x' : Int} {e : ENT}
/-- T checks a hit: its look finds what the entry says -/
theorem hit_tlk (HC : CORE Γ h C ho X Y S N) (W : HWF g N M) (Z : SWH h C ho X Y S N M g ws κ ty v el nm rr mn s a L) (hty : 0 ≤ ty ∧ ty ≤ 8) (EV : ENV g S κ nm L mn e) (ST : STE S κ e 0) (GD : GDE S κ ty v el rr e) (el03 : 0 ≤ e f_Md_linker) : ∃ S1, TLK ρ g N M s 0 S (some none) S1 ∧ OFF (LFO ++ LHK) S S1 ∧ S1 f_Md_foundHolder 0 = e f_Md_holder ∧ S1 f_Md_foundWhich 0 = e f_Md_which ∧ S1 f_Md_foundShape 0 = e f_Md_toShape ∧ S1 f_Md_foundLinker 0 = e f_Md_linker := by
  obtain ⟨A, hκ, ⟨s4, sk, sm, en, m8⟩, ⟨ge1, ge2, ee⟩, ⟨ka, az, ak, anm, aop⟩, it, nl, ob, hst⟩ := Z
  by_cases q1 : ty = 4 ∨ ty = 5
  · obtain ⟨k, k1, k2, k3, k4⟩ := ob q1
    subst k1
    have l0 : e f_Md_linker = 0 := by
      rcases GD with ⟨-, g2, -⟩ | ⟨g1, -⟩
      · exact g2
      · exact absurd q1 g1
    have gn : ¬ (κ = 4 ∨ κ = 6) → e f_Md_guardName = el := fun nz => by
      rcases GD with ⟨-, -, g3⟩ | ⟨g1, -⟩
      · rcases g3 with g3 | g3
        · exact absurd g3.1 nz
        · exact g3.2.2
      · exact absurd q1 g1
    have EB := EV.1 l0
    have SM : ¬ (κ = 4 ∨ κ = 6) → SNM S s κ (if κ = 2 ∨ κ = 3 then e f_Md_guardName else nm) := fun nz => by
      refine ⟨fun z => ?_, fun z => ?_, ?_⟩
      · rw [if_neg (by omega)]; exact en
      · rw [if_pos z, gn nz]; exact ee
      · by_cases z : κ = 2 ∨ κ = 3
        · have := EB.1.2 z
          exact this
        · rw [if_neg z]
          obtain ⟨q, e1, -⟩ := nl (by omega)
          omega
    clear ob hst nl
    obtain ⟨S1, T, o1, r1, r2, r3, r4⟩ := EB.tlk (ρ := ρ) (g := g) (N := N) (M := M) (el := el) (rr := rr) HC ST s4 sk hκ ge1 q1 ge2 k2 k3 (by omega) GD SM
    exact ⟨S1, T, o1.le (by decide), r1, r2, r3, r4⟩
  · have GD' : e f_Md_linker = gdL ty ∧ e f_Md_guard = gdG S ty v ∧ ∀ k : Nat, (k : Int) < e f_Md_guardMany → gtA (e f_Md_guardTypes) k = tyT S (S f_Md_pileType (rr + 1 + k)) (S f_Md_pileValue (rr + 1 + k)) := by
      rcases GD with ⟨g1, -⟩ | ⟨-, g2, g3, g4⟩
      · exact absurd g1 q1
      · exact ⟨g2, g3, g4⟩
    by_cases q2 : ty = 3 ∨ ty = 6
    · have l3 : e f_Md_linker = 3 := by
        rw [GD'.1]; unfold gdL
        rcases q2 with z | z <;> simp [z]
      have gu : e f_Md_guard = if ty = 6 then 0 else 1 := by
        rw [GD'.2.1]; unfold gdG
        rw [if_neg (show ¬ ty = 7 by omega), if_neg (show ¬ ty = 8 by omega)]
      obtain ⟨S1, T, o1, r1, r2, r3, r4⟩ := EV.row (ρ := ρ) (N := N) (M := M) l3 s4 sk hκ ge1 q2 (fun z => by
        obtain ⟨q, e1, e2, e3, e4, -⟩ := nl (by rcases z with z | z <;> simp [z])
        exact ⟨q, by rw [en]; exact e1, e4⟩) sm gu
      exact ⟨S1, T, o1.le (by decide), r1, r2, r3, r4⟩
    · have q3 : ty = 7 ∨ ty = 8 := by
        have : gdL ty = e f_Md_linker := GD'.1.symm
        unfold gdL at this
        by_cases y7 : ty = 7
        · exact Or.inl y7
        · by_cases y8 : ty = 8
          · exact Or.inr y8
          · rw [if_neg y7, if_neg y8, if_neg (show ¬ ty = 6 by omega), if_neg (show ¬ ty = 3 by omega)] at this
            omega
      obtain ⟨pv, vb, c0, gc, hc0, -⟩ := hst q3
      have lk : e f_Md_linker = (ty - 7) + 1 := by
        rw [GD'.1]; unfold gdL
        rcases q3 with z | z <;> simp [z]
      have w := (lk10_off (S := S) (LL := (ty - 7) + 1)).ex (L' := [f_Md_siteMany, f_Md_siteName, f_Md_goesType, f_Md_goesValue, f_Md_thingClass, f_Md_nameSize, f_Md_nameSigns] ++ LPV) (by decide)
      have LQ : LHQ (lk1 S ((ty - 7) + 1) 0) N s rr mn c0 κ (ty - 7) L := by
        refine ⟨s4, by rw [w _ (by decide)]; exact sm, m8, pv.ex (w.le (by decide)), hc0, by omega, fun z => ?_, ?_, by rw [w _ (by decide), ge2]; exact vb, ?_⟩
        · obtain ⟨q, e1, e2, e3, e4, -⟩ := nl z
          exact ⟨q, by rw [w _ (by decide), en]; exact e1, e4.ex (w.le (by decide))⟩
        · rw [w _ (by decide), ge1]
          rcases q3 with z | z <;> simp [z]
        · unfold gdG at gc
          rcases q3 with z | z
          · rw [if_pos z] at gc
            rw [if_neg (by omega), w _ (by decide), w _ (by decide), ge2]
            exact gc
          · rw [if_neg (by omega), if_pos z] at gc
            rw [if_pos (by omega), w _ (by decide), ge2]
            exact gc
      obtain ⟨S1, T, o1, ch, r1, r2, r3, r4⟩ := EV.host (ρ := ρ) W lk (by omega) (by rw [GD'.2.1]; exact gc) s4 sk hκ (by rw [ge1]; rcases q3 with z | z <;> simp [z]) LQ GD'.2.2
      refine ⟨S1, T, fun f i hf => ?_, r1, r2, r3, r4⟩
      cases q : LCH3.elem f with
      | true => exact ch f q i
      | false => exact o1 f i (by
          have a1 : f ∉ LFO ++ LHK := by simpa using hf
          have a2 : f ∉ LCH3 := by simpa using q
          have : f ∉ LFO ++ LHK ++ LCH3 := fun c => (List.mem_append.mp c).elim a1 a2
          simpa using this)
/-- entries as T goes through them -/
theorem ENO.eok (E : ENO g h C ho S N M κ nm mn i e) (pv : ∀ k, k ≤ esK κ mn → PVS S N rr k) (hκ : 0 ≤ κ ∧ κ ≤ 6) (m8 : mn ≤ 8) : EOK S N rr κ ty e := by
  obtain ⟨-, -, ⟨⟨l1, l2⟩, ⟨g1, g2⟩, g3⟩, -, e5, e6, e7, -⟩ := E
  have oc := (es_opC (mn := mn) hκ).1
  have o8 := opC_8 (κ := κ) m8
  have gm : e f_Md_guardMany = 0 ∨ e f_Md_guardMany = (opC κ mn : Int) := by
    by_cases z : e f_Md_linker = 0
    · exact Or.inl (g3 z)
    · by_cases z3 : e f_Md_linker = 3
      · exact Or.inl (e6 z3).2.2
      · obtain ⟨-, -, -, -, q⟩ := e7 (by omega)
        rcases q with q | q
        · exact Or.inl q.2
        · exact Or.inr q.2.1
  refine ⟨fun z rd => ?_, by omega, fun _ _ => ?_⟩
  · obtain ⟨-, -, -, -, -, -, -, -, -, q⟩ := e5 z
    have := q (by unfold rdK at rd; omega)
    exact ⟨this.2.1, this.2.2.1⟩
  · rcases gm with z | z
    · exact ⟨0, by omega, by omega, pv 0 (Nat.zero_le _), (e f_Md_guardTypes).toNat, by omega, by omega⟩
    · exact ⟨opC κ mn, z, o8, pv _ oc, (e f_Md_guardTypes).toNat, by omega, by omega⟩
end
