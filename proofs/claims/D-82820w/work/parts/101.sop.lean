/-! simple instructions of both -/
set_option maxRecDepth 20000
/-- T is at an instruction -/
def AT (S : SS) (t c : Nat) : Prop := S f_Md_t 0 = (t : Int) ∧ S f_Md_p0 0 = ((2100 * t : Nat) : Int) ∧ S f_Md_f0 0 = ((200 * t : Nat) : Int) ∧ S f_Md_top 0 = ((200 * t + (c - 1) : Nat) : Int) ∧ S f_Md_after 0 = ((psS S t (c - 1) + 1 : Nat) : Int)
def OPH (Γ : GH) (h : ah) (C : Nat) (X : X3) (Y : Y3) (S : SS) (N t o n c r : Nat) : Prop := AC h C ∧ FC h C ∧ CT Γ h C X Y S N t o n c r ∧ 1 ≤ c ∧ FNC Γ h C S ∧ Y 32 f_Machine_t 0 = C + o ∧ AT S t c
/-- numbers of errors -/
abbrev ern (x : Int) : Prop := x ≠ 0 ∧ -1000 ≤ x ∧ x ≤ 98
/-- the running task has a call -/
abbrev FTC (S : SS) : Prop := 1 ≤ S f_Md_frames (S f_Md_t 0).toNat
/-- how it came out: none, or an error (0: no memory) -/
def ER (e : Option Int) (X : X3) (S : SS) : Prop := match e with
  | none => True
  | some n => X 33 f_Signal_error 0 = n ∧ (S f_MdHalt_number 0 = if n = 0 then 99 else n) ∧ (-1000 ≤ n ∧ n ≤ 98) ∧ FTC S
def oE (e : Option Int) (x : Nat) : Out := match e with
  | none => Sum.inl none
  | some _ => Sum.inr x
def CRUN (ρ : Nat → Nat) (C : Nat) (op a b : Int) (h : ah) (X : X3) (Y : Y3) (e : Option Int) (h' : ah) (X' : X3) (Y' : Y3) : Prop := ∀ d Q, Q (oE e (C + 33)) (cc h' C X' Y') → wpB PGm ρ (d + 60) m_Machine_instruct 0 [(0, vR (C + 32)), (1, vI op), (2, vI a), (3, vI b)] [] (cc h C X Y) Q
def TRUN (ρ : Nat → Nat) (P : ah → Nat → Prop) (S : SS) (e : Option Int) (S' : SS) : Prop := ∀ d h0 T Q, P h0 T → Q (oE e (hR h0 f_Md_halt T)) (cn h0 T S') → wpB PGm ρ (d + 60) m_Md_does 0 [(0, vR T)] [] (cn h0 T S) Q
def SOP (ρ : Nat → Nat) (P : ah → Nat → Prop) (Γ : GH) (h : ah) (C : Nat) (X : X3) (Y : Y3) (S : SS) (N t o c : Nat) (op a b : Int) : Prop := ∃ e X' S' n' r', CT Γ h C X' Y S' N t o n' c r' ∧ NSt t S S' ∧ NXo o X X' ∧ ER e X' S' ∧ CRUN ρ C op a b h X Y e h X' Y ∧ TRUN ρ P S e S'
def LS8 : List Nat := LSF ++ LST ++ [f_Md_frameAt, f_Md_tries]
def LX8 : List Nat := LXF ++ LXT ++ [f_Task_next, f_Task_tries]
section
variable {ρ : Nat → Nat} {P : ah → Nat → Prop} {Γ Γ' : GH} {h h' : ah} {C : Nat} {X X' X1 : X3} {Y Y' : Y3} {S S' S1 : SS} {N t o n c r f i j k m n' p' : Nat} {op a b ty v x y : Int}
theorem oph_isN (H : OPH Γ h C X Y S N t o n c r) : S f_Md_state t = 1 ∨ S f_Md_state t = 4 := Classical.byContradiction fun q => by
  have := (H.2.2.1.2.1.2.2.2.2 q).2.1
  have := H.2.2.2.1
  omega
theorem OPH.ix (H : OPH Γ h C X Y S N t o n c r) : IX h C X Y o n c := by
  obtain ⟨G, F, K, hc, -, eY, -⟩ := H
  obtain ⟨a0, -, ⟨b1, b2, b3⟩, ⟨c1, c2, c3⟩, -⟩ := K
  exact ⟨G, F, a0.to.1, ⟨eY, b1, c1⟩, b3, hc, c3⟩
theorem OPH.df (H : OPH Γ h C X Y S N t o n c r) : ∃ k : Nat, DF S t n c (fsS S t (c - 1)) (psS S t (c - 1)) k (S f_Md_codeOp (k + psS S t (c - 1))) (S f_Md_codeA (k + psS S t (c - 1))) (S f_Md_codeB (k + psS S t (c - 1))) ∧ (n = bsS S t (c - 1) + ghs Γ (fsS S t (c - 1)) (psS S t (c - 1)) ∧ r = qsS S t (c - 1) + gtd Γ (fsS S t (c - 1)) (psS S t (c - 1))) ∧ OPT Γ S (fsS S t (c - 1)) (psS S t (c - 1)) (S f_Md_codeOp (k + psS S t (c - 1))) (S f_Md_codeA (k + psS S t (c - 1))) (S f_Md_codeB (k + psS S t (c - 1))) := by
  obtain ⟨G, F, K, hc, fnc, eY, t1, t2, t3, t4, t5⟩ := H
  obtain ⟨k, q1, q2, q3, q4, q5, q6, q7, q8⟩ := K.top hc fnc
  obtain ⟨a0, -, ⟨b1, b2, b3⟩, ⟨c1, c2, c3⟩, -⟩ := K
  exact ⟨k, ⟨⟨t1, t2, t3, b2, c2⟩, ⟨a0.to.2, b3, hc, c3, q1, q2⟩, t4, t5, q5.1.1, q5.2.1.1, q3, rfl, rfl, rfl⟩, q4, q7⟩
theorem CT.er (H : CT Γ h C X Y S N t o n c r) : CT Γ h C (erX X v) Y (erS S x) N t o n c r := by
  refine H.ext (GRO.nst (t := t) ?_) (fun f i hf => ?_) (fun f hf i => ?_) (fun _ _ _ => rfl) rfl rfl rfl
  · exact NSt.u (Or.inr (Or.inr (Or.inr (Or.inr (by decide))))) (NSt.u (Or.inr (Or.inr (Or.inr (Or.inr (by decide))))) NSt.rf)
  · have e1 : f ≠ f_MdHalt_number := by rintro rfl; unfold tkQ at hf; revert hf; rw [show L1.elem f_MdHalt_number = false by decide, show L2.elem f_MdHalt_number = false by decide, show L3.elem f_MdHalt_number = false by decide, show L4.elem f_MdHalt_number = false by decide]; simp
    have e2 : f ≠ f_MdHalt_place := by rintro rfl; unfold tkQ at hf; revert hf; rw [show L1.elem f_MdHalt_place = false by decide, show L2.elem f_MdHalt_place = false by decide, show L3.elem f_MdHalt_place = false by decide, show L4.elem f_MdHalt_place = false by decide]; simp
    unfold erS
    rw [u2_f e2, u2_f e1]
  · unfold erX
    rw [u3_f]
    rintro rfl; revert hf; decide
theorem NSt.er : NSt t S (erS S x) := NSt.u (Or.inr (Or.inr (Or.inr (Or.inr (by decide))))) (NSt.u (Or.inr (Or.inr (Or.inr (Or.inr (by decide))))) NSt.rf)
theorem FTC.er (q : FTC S) : FTC (erS S x) := by
  unfold FTC erS at *
  rw [u2_f (by decide), u2_f (by decide), u2_f (by decide), u2_f (by decide)]
  exact q
theorem OPH.fc (H : OPH Γ h C X Y S N t o n c r) : FTC S := by
  obtain ⟨G, F, K, hc, fnc, eY, t1, -⟩ := H
  obtain ⟨a0, -, -, ⟨c1, c2, c3⟩, -⟩ := K
  unfold FTC
  rw [t1, Int.toNat_natCast, c2]
  omega
theorem ER.mk (hx : ern x) (q : FTC S) : ER (some x) (erX X x) (erS S x) := ⟨u3_s, by unfold erS; rw [u2_f (by decide), u2_s, if_neg hx.1], hx.2, q.er⟩
theorem ER.mem (q : FTC S) : ER (some 0) (erX X 0) (erS S 99) := ⟨u3_s, by unfold erS; rw [u2_f (by decide), u2_s, if_pos rfl], ⟨by decide, by decide⟩, q.er⟩
/-- an error -/
theorem SOP.er (H : OPH Γ h C X Y S N t o n c r) (hx : ern x) (q1 : CRUN ρ C op a b h X Y (some x) h (erX X x) Y) (q2 : TRUN ρ P S (some x) (erS S x)) : SOP ρ P Γ h C X Y S N t o c op a b := ⟨some x, _, _, n, r, H.2.2.1.er, NSt.er, NXo.rf.e, ER.mk hx H.fc, q1, q2⟩
/-- the top call goes on at p' -/
theorem CT.fin (H : CT Γ h C X Y S N t o n c r) (hc : 1 ≤ c) (ns : NSt t S S1) (e1 : EXS LS8 S S1) (e2 : EXX LX8 X X1) (z1 : X1 o f_Task_size 0 = (n' : Int)) (z2 : S1 f_Md_height t = (n' : Int)) (z3 : n' ≤ 2000) (pl : PIL Γ X1 S1 N o t n') (y1 : n' = bsS S t (c - 1) + ghs Γ (fsS S t (c - 1)) p') (y2 : r = qsS S t (c - 1) + gtd Γ (fsS S t (c - 1)) p') (y3 : gtd Γ (fsS S t (c - 1)) p' ≤ 50) (y4 : (p' : Int) < S f_Md_codeSize (fsS S t (c - 1))) : CT Γ h C (u3 X1 o f_Task_next (c - 1) (p' : Int)) Y (atS S1 t c (p' : Int)) N t o n' c r ∧ NSt t S (atS S1 t c (p' : Int)) := by
  have hto := H.1.to.2
  have hc2 := H.2.2.2.1.2.2
  have mS : ∀ {L : List Nat}, L.all (fun f => LS8.elem f && !(Nat.beq f f_Md_frameAt)) = true → EXS L S (atS S1 t c (p' : Int)) := by
    intro L hL f hf i
    have hm := List.all_eq_true.mp hL f (by simpa using hf)
    rw [Bool.and_eq_true] at hm
    unfold atS
    rw [u2_f (by rintro rfl; have := hm.2; revert this; decide)]
    exact e1 f hm.1 i
  have mX : ∀ {L : List Nat}, L.all (fun f => LX8.elem f && !(Nat.beq f f_Task_next)) = true → EXX L X (u3 X1 o f_Task_next (c - 1) (p' : Int)) := by
    intro L hL f hf a i
    have hm := List.all_eq_true.mp hL f (by simpa using hf)
    rw [Bool.and_eq_true] at hm
    rw [u3_f (by rintro rfl; have := hm.2; revert this; decide)]
    exact e2 f hm.1 a i
  have ns2 : NSt t S (atS S1 t c (p' : Int)) := NSt.u (Or.inr (Or.inr (Or.inl ⟨by decide, by omega⟩))) ns
  refine ⟨H.step hc ns2 (mS (by decide)) (mX (by decide)) ?_ ?_ z3 ?_ ?_ ?_ (fun i => ?_) (fun i => ?_) y1 y2 y3 y4 (H.tr ns2 (mS (by decide)) (mS (by decide)) (mX (by decide)) (Nat.le_refl _)) (Or.inl (Nat.le_refl _)), ns2⟩
  · rw [u3_f (by decide)]; exact z1
  · unfold atS; rw [u2_f (by decide)]; exact z2
  · rw [u3_f (by decide), e2 _ (by decide)]; exact H.2.2.2.2.1.1
  · unfold atS; rw [u2_f (by decide), e1 _ (by decide)]; exact H.2.2.2.2.1.2
  · refine pl.ext (fun i _ => u3_f (by decide)) (fun i _ => u3_f (by decide)) (fun i _ => ?_) (fun i _ => ?_) (fun V => ?_)
    · unfold atS; rw [u2_f (by decide)]
    · unfold atS; rw [u2_f (by decide)]
    · refine V.ext ?_ ?_ ?_ (fun i => ?_) <;> (unfold atS; rw [u2_f (by decide)])
  · rw [u3_e, e2 _ (by decide)]
    by_cases q : i = c - 1
    · rw [if_pos ⟨rfl, rfl, q⟩, if_pos q]
    · rw [if_neg (fun z => q z.2.2), if_neg q]
  · unfold atS
    rw [u2_e, e1 _ (by decide)]
    by_cases q : i = 200 * t + (c - 1)
    · rw [if_pos ⟨rfl, q⟩, if_pos q]
    · rw [if_neg (fun z => q z.2), if_neg q]
theorem go_e (e : X1 o f_Task_next (c - 1) = (m : Int)) (hm : m ≤ 20000) : goX X1 o c = u3 X1 o f_Task_next (c - 1) ((m + 1 : Nat) : Int) := by
  unfold goX
  rw [e, w32_s (by omega)]
/-- the next instruction -/
theorem CT.nxt (H : OPH Γ h C X Y S N t o n c r) {p m : Nat} (nx : NXT Γ S (fsS S t (c - 1)) (psS S t (c - 1)) p m 0 0) (ns : NSt t S S1) (e1 : EXS LS8 S S1) (e2 : EXX LX8 X X1) (z1 : X1 o f_Task_size 0 = (n' : Int)) (z2 : S1 f_Md_height t = (n' : Int)) (z3 : n' ≤ 2000) (zn : n' + m = n + p) (pl : PIL Γ X1 S1 N o t n') : CT Γ h C (goX X1 o c) Y (atS S1 t c ((psS S t (c - 1) + 1 : Nat) : Int)) N t o n' c r ∧ NSt t S (atS S1 t c ((psS S t (c - 1) + 1 : Nat) : Int)) := by
  obtain ⟨k, D, ⟨d1, d2⟩, -⟩ := H.df
  obtain ⟨G, F, K, hc, -⟩ := H
  obtain ⟨n1, n2, n3, n4⟩ := nx
  have F1 := K.2.2.2.2.2.2.1 (c - 1) (by omega)
  have := D.2.1
  rw [go_e (m := psS S t (c - 1)) (by rw [e2 _ (by decide)]; exact F1.2.1.2.1) (by omega)]
  exact K.fin hc ns e1 e2 z1 z2 z3 pl (by omega) (by omega) (by omega) n1
end
