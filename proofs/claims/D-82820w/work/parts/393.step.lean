set_option maxRecDepth 20000
section
variable {ρ : Nat → Nat} {d : Nat} {Q : QT} {Γ Γ' Γ1 Γ2 : GH} {h h' h1 h2 : ah} {C ho N M z s t o n c r i j k p a T : Nat} {g g' : HG} {S S' S1 S2 : SS} {X X' X1 X2 : X3} {Y Y' Y1 Y2 : Y3} {ws ws' hw : List (List Int)} {op b kz ks l2 l3 v : Int} {e : Option Int} {h0 : ah}
/-- all that both have in common -/
def ALL (ρ : Nat → Nat) (Γ : GH) (h : ah) (C ho : Nat) (X : X3) (Y : Y3) (S : SS) (g : HG) (N M : Nat) (hw ws : List (List Int)) : Prop := CORE Γ h C ho X Y S N ∧ EXT ρ Γ h C ho X Y S g N M hw ws ∧ MSC ρ Γ h C X S
theorem ALL.stg (A : ALL ρ Γ h C ho X Y S g N M hw ws) (ST : STG ρ Γ h C ho X Y S g N M hw ws Γ' h' X' Y' S' ws' kz ks) : ALL ρ Γ' h' C ho X' Y' S' g N M hw ws' := ⟨ST.1, ST.2.1, A.2.2.stg A.1 ST⟩
/-- C takes the instruction at hand -/
theorem r_step (G : AC h C) (F : FC h C) (ht : isT o) (e2 : X o f_Task_calls 0 = (c : Int)) (hc : 1 ≤ c ∧ c ≤ 200) (ep : X o f_Task_next (c - 1) = (p : Int)) (ea : Y o f_Task_code (c - 1) = a) (ka : hK h a = k_Code) (az : a < hz h) (kr : hK h (hR h f_Code_rows a) = 1) (la : 3 * p + 2 < hl h (hR h f_Code_rows a)) (lp : p < 20000) (q : wpB PGm ρ d m_Machine_instruct 0 [(0, vR (C + 32)), (1, vI (hA h (hR h f_Code_rows a) (3 * p))), (2, vI (hA h (hR h f_Code_rows a) (3 * p + 1))), (3, vI (hA h (hR h f_Code_rows a) (3 * p + 2)))] [] (cc h C X (u3 Y 32 f_Machine_t 0 (C + o))) (cV (fun h10 => Q (Sum.inl (some (vI 1))) h10) (fun e13 h12 => hK h12 e13 ≠ 0 ∧ hK h12 e13 = k_Signal ∧ wpB PGm ρ (d + 1) m_Machine_step 70 [(0, vR (C + 32))] [vR e13] h12 Q))) : wpB PGm ρ (d + 1) m_Machine_step 0 [(0, vR (C + 32)), (1, vR (C + o))] [] (cc h C X Y) Q := by
  have gz := G.1
  have oz : C + o < hz h := by rcases ht with rfl | rfl <;> omega
  have e0 : sR (cc h C X Y) f_Machine_t (C + 32) (C + o) = cc h C X (u3 Y 32 f_Machine_t 0 (C + o)) := cc_sR (by decide)
  have ea' : u3 Y 32 f_Machine_t 0 (C + o) o f_Task_code (c - 1) = a := by rw [u3_f (by decide)]; exact ea
  refine b_Machine_step_0 ⟨F.1.1, ?_⟩
  dsimp only
  rw [e0]
  generalize hY : u3 Y 32 f_Machine_t 0 (C + o) = Y0 at *
  have r1 : hR (cc h C X Y0) f_Machine_t (C + 32) = C + o := by rw [ccR (by decide), ← hY, u3_s]
  have kT : hK (cc h C X Y0) (C + o) = k_Task := (F.t ht).1
  have i1 : hI (cc h C X Y0) f_Task_calls (C + o) = (c : Int) := by rw [ccIt ht (by decide), e2]
  have r2 : hR (cc h C X Y0) f_Task_code (C + o) = hR h f_Task_code (C + o) := ccRo (by decide)
  have r3 : hR (cc h C X Y0) f_Task_next (C + o) = hR h f_Task_next (C + o) := ccRo (by decide)
  have K := KCt G ht
  have L := F.t ht
  have w1 : w32 ((c : Int) - 1) = ((c - 1 : Nat) : Int) := by rw [w32_of (by omega) (by omega)]; omega
  have b1 : hB (cc h C X Y0) (hR h f_Task_code (C + o)) (c - 1) = a := by rw [ccBt G ht (by decide)]; exact ea'
  have a1 : hA (cc h C X Y0) (hR h f_Task_next (C + o)) (c - 1) = (p : Int) := by rw [ccAt G ht (by decide)]; exact ep
  have r4 : hR (cc h C X Y0) f_Code_rows a = hR h f_Code_rows a := ccRo (by decide)
  have a2 : ∀ i, hA (cc h C X Y0) (hR h f_Code_rows a) i = hA h (hR h f_Code_rows a) i := fun i => ccAo G (by decide) az
  have w2 : w32 (3 * (p : Int)) = ((3 * p : Nat) : Int) := by rw [w32_of (by omega) (by omega)]; omega
  have w3 : w32 (((3 * p : Nat) : Int) + 1) = ((3 * p + 1 : Nat) : Int) := by rw [w32_of (by omega) (by omega)]; omega
  have w4 : w32 (((3 * p : Nat) : Int) + 2) = ((3 * p + 2 : Nat) : Int) := by rw [w32_of (by omega) (by omega)]; omega
  rw [r1, i1, w1, r2, r3, Int.toNat_natCast, b1, a1, r4, w2, w3, w4, Int.toNat_natCast, Int.toNat_natCast, Int.toNat_natCast, a2, a2, a2]
  have kc : hK (cc h C X Y0) (hR h f_Task_code (C + o)) = 23 := K.2.2.1
  have kn : hK (cc h C X Y0) (hR h f_Task_next (C + o)) = 1 := K.2.2.2.1
  have lc : hl (cc h C X Y0) (hR h f_Task_code (C + o)) = 200 := L.2.2.2.1
  have ln : hl (cc h C X Y0) (hR h f_Task_next (C + o)) = 200 := L.2.2.2.2.1
  have kr' : hK (cc h C X Y0) (hR h f_Code_rows a) = 1 := kr
  have lr : hl (cc h C X Y0) (hR h f_Code_rows a) = hl h (hR h f_Code_rows a) := rfl
  rw [kc, kn, lc, ln, kr', lr]
  exact ⟨kT, ⟨by decide, by decide, by omega, by omega⟩, ⟨by decide, by omega, by omega⟩, ka, ⟨by decide, by omega, by omega⟩, ⟨by decide, by omega, by omega⟩, ⟨by decide, by omega, by omega⟩, q⟩
/-- T takes the instruction at hand -/
def stS (S : SS) (t c p : Nat) : SS := u2 (u2 S f_Md_top 0 ((200 * t + (c - 1) : Nat) : Int)) f_Md_after 0 ((p + 1 : Nat) : Int)
theorem s_step (O : TOK h0 T) (ht : t ≤ 1) (et : S f_Md_t 0 = (t : Int)) (ef : S f_Md_f0 0 = ((200 * t : Nat) : Int)) (es : S f_Md_state t = 1) (ec : S f_Md_frames t = (c : Int)) (hc : 1 ≤ c ∧ c ≤ 200) (ep : S f_Md_frameAt (200 * t + (c - 1)) = (p : Int)) (hp : p < 20000) (hl : l3 < l2) (q : wpB PGm ρ d m_Md_does 0 [(0, vR T)] [] (cn h0 T (stS S t c p)) (cV (fun h15 => wpB PGm ρ (d + 1) m_Md_steps 58 [(0, vR T), (2, vI l2), (3, vI (w32 (l3 + 1)))] [] h15 Q) (fun e18 h17 => hK h17 e18 ≠ 0 ∧ hK h17 e18 = k_MdHalt ∧ wpB PGm ρ (d + 1) m_Md_steps 118 [(0, vR T), (2, vI l2), (3, vI l3)] [vR e18] h17 Q))) : wpB PGm ρ (d + 1) m_Md_steps 58 [(0, vR T), (2, vI l2), (3, vI l3)] [] (cn h0 T S) Q := by
  obtain ⟨kT, G, kH⟩ := O
  have e1 : S f_Md_frameAt (200 * t + (c - 1)) = ((p : Nat) : Int) := ep
  have hs2 : 200 * t + (c - 1) < 400 := by omega
  refine b_Md_steps_58 ⟨fun c => by omega, fun _ => ?_⟩
  have e9 : 200 * t + c - 1 = 200 * t + (c - 1) := by omega
  simp (decide := true) (disch := first | decide | omega) only [cnI, cnIe, cnR, cnK, cnl, cnA' G, cn_sI, cn_sIe, cn_sA' G, kT, kH, KN G, LN G, u2_f, u2_s, w32_aa, w32_ss, w32_p1, w32_m1, Int.toNat_natCast, true_and, and_true, false_and, and_false, or_false, false_or, ne_eq, not_false_eq_true, forall_const, implies_true, not_true_eq_false, false_implies, et, ef, es, ec]
  rw [e9, e1]
  have b1 : 0 ≤ (t : Int) ∧ (t : Int) < ((2 : Nat) : Int) := by omega
  have b2 : 0 ≤ ((200 * t + (c - 1) : Nat) : Int) ∧ ((200 * t + (c - 1) : Nat) : Int) < ((400 : Nat) : Int) := by omega
  have wp : w32 ((p : Int) + 1) = ((p + 1 : Nat) : Int) := by rw [w32_of (by omega) (by omega)]; omega
  rw [wp]
  first | exact q | exact ⟨b1, b1, b2, q⟩
end
