/-! jumps of both: joined -/
set_option maxRecDepth 20000
section
variable {ρ : Nat → Nat} {P : ah → Nat → Prop} {Γ Γ' : GH} {h h' : ah} {C : Nat} {X X' X1 : X3} {Y Y' : Y3} {S S' S1 : SS} {N t o n c r f i j k m n' p' : Nat} {op a b ty v x y : Int}
/-- the instruction at a place of the same function -/
theorem CT.jmp (H : OPH Γ h C X Y S N t o n c r) (J : JMP Γ S (fsS S t (c - 1)) a (n' - bsS S t (c - 1)) (gtd Γ (fsS S t (c - 1)) (psS S t (c - 1)))) (hb : bsS S t (c - 1) ≤ n') (ns : NSt t S S1) (e1 : EXS LS8 S S1) (e2 : EXX LX8 X X1) (z1 : X1 o f_Task_size 0 = (n' : Int)) (z2 : S1 f_Md_height t = (n' : Int)) (z3 : n' ≤ 2000) (pl : PIL Γ X1 S1 N o t n') : CT Γ h C (u3 X1 o f_Task_next (c - 1) a) Y (atS S1 t c a) N t o n' c r ∧ NSt t S (atS S1 t c a) := by
  obtain ⟨k, D, ⟨d1, d2⟩, -⟩ := H.df
  obtain ⟨G, F, K, hc, -⟩ := H
  obtain ⟨j1, j2, j3, j4, j5⟩ := J
  have ea : a = (a.toNat : Int) := by omega
  rw [ea]
  exact K.fin hc ns e1 e2 z1 z2 z3 pl (by omega) (by omega) j5 (by omega)
theorem op_JUMP (hP : ∀ h0 T, P h0 T → TOK h0 T) (H : OPH Γ h C X Y S N t o n c r) (O : OPT Γ S (fsS S t (c - 1)) (psS S t (c - 1)) 20 a b) (D : DF S t n c (fsS S t (c - 1)) (psS S t (c - 1)) k 20 a b) (hh : n = bsS S t (c - 1) + ghs Γ (fsS S t (c - 1)) (psS S t (c - 1))) : SOP ρ P Γ h C X Y S N t o c 20 a b := by
  have J := O.2.2.2.2.2.2.2.2.2.2.1 rfl
  have K := H.2.2.1
  have ns : NSt t S (u2 S f_Md_after 0 a) := NSt.u (tk5 (by decide)) NSt.rf
  obtain ⟨A, B⟩ := CT.jmp (n' := n) (S1 := u2 S f_Md_after 0 a) (X1 := X) H (by rw [show n - bsS S t (c - 1) = ghs Γ (fsS S t (c - 1)) (psS S t (c - 1)) by omega]; exact J) (by omega) ns (EXS.u (by decide) EXS.rf) EXX.rf K.2.2.1.1 (by rw [u2_f (by decide)]; exact K.2.2.1.2.1) K.2.2.1.2.2 (K.2.2.2.2.2.1.ns ns (fun _ _ => rfl) (fun _ _ => rfl) (fun _ _ => u2_f (by decide)) (fun _ _ => u2_f (by decide)))
  exact ⟨none, _, _, n, r, A, B, NXo.u (by decide) NXo.rf, trivial, fun d Q q => r_JUMP (d := d + 40) H.ix q, fun d h0 T Q p q => s_JUMP (d := d + 52) (hP _ _ p) D q⟩
theorem op_UNLESS (hP : ∀ h0 T, P h0 T → TOK h0 T) (H : OPH Γ h C X Y S N t o n c r) (O : OPT Γ S (fsS S t (c - 1)) (psS S t (c - 1)) 21 a b) (D : DF S t n c (fsS S t (c - 1)) (psS S t (c - 1)) k 21 a b) (hh : n = bsS S t (c - 1) + ghs Γ (fsS S t (c - 1)) (psS S t (c - 1))) : SOP ρ P Γ h C X Y S N t o c 21 a b := by
  obtain ⟨h1, nx, J⟩ := O.2.2.2.2.2.2.2.2.2.2.2.1 rfl
  have K := H.2.2.1
  have d2 := D.2.1
  have V := H.pl (i := n - 1) (by omega)
  have en : 2100 * t + n - 1 = 2100 * t + (n - 1) := by omega
  have et : isNo (tpS S t n) (vpS S t n) ↔ isNo (X o f_Task_tags (n - 1)) (X o f_Task_words (n - 1)) := by unfold tpS vpS; rw [en]; exact V.no.symm
  have nsg : ∀ v x y, NSt t S (u2 (isS (u2 S f_Md_height t ((n - 1 : Nat) : Int)) x y) f_Md_after 0 v) := fun v x y => NSt.u (tk5 (by decide)) (NSt.u (tk5 (by decide)) (NSt.u (tk5 (by decide)) (NSt.u (tk1 (by decide)) NSt.rf)))
  have esg : ∀ v x y, EXS LS8 S (u2 (isS (u2 S f_Md_height t ((n - 1 : Nat) : Int)) x y) f_Md_after 0 v) := fun v x y => EXS.u (by decide) (EXS.u (by decide) (EXS.u (by decide) (EXS.u (by decide) EXS.rf)))
  have hg : ∀ v x y, (u2 (isS (u2 S f_Md_height t ((n - 1 : Nat) : Int)) x y) f_Md_after 0 v) f_Md_height t = ((n - 1 : Nat) : Int) := fun v x y => by unfold isS; rw [u2_f (by decide), u2_f (by decide), u2_f (by decide), u2_s]
  have pg : ∀ v x y, PIL Γ (u3 X o f_Task_size 0 ((n - 1 : Nat) : Int)) (u2 (isS (u2 S f_Md_height t ((n - 1 : Nat) : Int)) x y) f_Md_after 0 v) N o t (n - 1) := fun v x y => (K.2.2.2.2.2.1.le (Nat.sub_le _ _)).ns (nsg v x y) (fun _ _ => u3_f (by decide)) (fun _ _ => u3_f (by decide)) (fun _ _ => by unfold isS; rw [u2_f (by decide), u2_f (by decide), u2_f (by decide), u2_f (by decide)]) (fun _ _ => by unfold isS; rw [u2_f (by decide), u2_f (by decide), u2_f (by decide), u2_f (by decide)])
  by_cases q : isNo (X o f_Task_tags (n - 1)) (X o f_Task_words (n - 1))
  · obtain ⟨A, B⟩ := CT.jmp (n' := n - 1) (a := a) (S1 := u2 (isS (u2 S f_Md_height t ((n - 1 : Nat) : Int)) (S f_Md_pileType (2100 * t + (n - 1))) (S f_Md_pileValue (2100 * t + (n - 1)))) f_Md_after 0 a) (X1 := u3 X o f_Task_size 0 ((n - 1 : Nat) : Int)) H (by rw [show n - 1 - bsS S t (c - 1) = ghs Γ (fsS S t (c - 1)) (psS S t (c - 1)) - 1 by omega]; exact J) (by omega) (nsg _ _ _) (esg _ _ _) (EXX.u (by decide) EXX.rf) u3_s (hg _ _ _) (by omega) (pg _ _ _)
    refine ⟨none, _, _, n - 1, r, A, B, NXo.u (by decide) (NXo.u (by decide) NXo.rf), trivial, fun d Q y => r_UNL (d := d + 40) H.ix (by omega) (Or.inl rfl) (fun _ _ => y) (fun _ z => absurd rfl z) (fun z => absurd ⟨fun z => absurd z (by decide), fun z => absurd q z⟩ z), fun d h0 T Q p y => s_UNLESS (d := d + 52) (hP _ _ p) D (by omega) (fun v v1 v2 => ?_)⟩
    rw [v1 (et.mpr q)]; exact y
  · obtain ⟨A, B⟩ := CT.nxt (n' := n - 1) (S1 := u2 (isS (u2 S f_Md_height t ((n - 1 : Nat) : Int)) (S f_Md_pileType (2100 * t + (n - 1))) (S f_Md_pileValue (2100 * t + (n - 1)))) f_Md_after 0 ((psS S t (c - 1) + 1 : Nat) : Int)) (X1 := u3 X o f_Task_size 0 ((n - 1 : Nat) : Int)) H nx (nsg _ _ _) (esg _ _ _) (EXX.u (by decide) EXX.rf) u3_s (hg _ _ _) (by omega) (by omega) (pg _ _ _)
    refine ⟨none, _, _, n - 1, r, A, B, go_nx (NXo.u (by decide) NXo.rf), trivial, fun d Q y => r_UNL (d := d + 40) H.ix (by omega) (Or.inl rfl) (fun z _ => absurd (z.mpr q) (by decide)) (fun z _ => absurd (z.mpr q) (by decide)) (fun _ => y), fun d h0 T Q p y => s_UNLESS (d := d + 52) (hP _ _ p) D (by omega) (fun v v1 v2 => ?_)⟩
    rw [v2 (fun z => q (et.mp z))]; exact y
theorem op_OR (hP : ∀ h0 T, P h0 T → TOK h0 T) (H : OPH Γ h C X Y S N t o n c r) (ho : op = 22 ∨ op = 23) (O : OPT Γ S (fsS S t (c - 1)) (psS S t (c - 1)) op a b) (D : DF S t n c (fsS S t (c - 1)) (psS S t (c - 1)) k op a b) (hh : n = bsS S t (c - 1) + ghs Γ (fsS S t (c - 1)) (psS S t (c - 1))) : SOP ρ P Γ h C X Y S N t o c op a b := by
  obtain ⟨h1, nx, J⟩ := O.2.2.2.2.2.2.2.2.2.2.2.2.1 ho
  have K := H.2.2.1
  have d2 := D.2.1
  have V := H.pl (i := n - 1) (by omega)
  have en : 2100 * t + n - 1 = 2100 * t + (n - 1) := by omega
  have et : isNo (tpS S t n) (vpS S t n) ↔ isNo (X o f_Task_tags (n - 1)) (X o f_Task_words (n - 1)) := by unfold tpS vpS; rw [en]; exact V.no.symm
  have ho3 : op = 21 ∨ op = 22 ∨ op = 23 := Or.inr ho
  have o21 : op ≠ 21 := by omega
  have eq : (op = 22 ↔ ¬ isNo (X o f_Task_tags (n - 1)) (X o f_Task_words (n - 1))) ↔ (isNo (tpS S t n) (vpS S t n) ↔ op = 23) := by
    rw [et]
    by_cases q : isNo (X o f_Task_tags (n - 1)) (X o f_Task_words (n - 1))
    · constructor
      · intro z; exact ⟨fun _ => by have : ¬ op = 22 := fun y => z.mp y q; omega, fun _ => q⟩
      · intro z; have := z.mp q; exact ⟨fun y => by omega, fun y => absurd q y⟩
    · constructor
      · intro z; have := z.mpr q; exact ⟨fun y => absurd y q, fun y => by omega⟩
      · intro z; exact ⟨fun _ => q, fun _ => by have : ¬ op = 23 := fun y => q (z.mpr y); omega⟩
  by_cases q : op = 22 ↔ ¬ isNo (X o f_Task_tags (n - 1)) (X o f_Task_words (n - 1))
  · have ns : NSt t S (u2 S f_Md_after 0 a) := NSt.u (tk5 (by decide)) NSt.rf
    obtain ⟨A, B⟩ := CT.jmp (n' := n) (S1 := u2 S f_Md_after 0 a) (X1 := X) H (by rw [show n - bsS S t (c - 1) = ghs Γ (fsS S t (c - 1)) (psS S t (c - 1)) by omega]; exact J) (by omega) ns (EXS.u (by decide) EXS.rf) EXX.rf K.2.2.1.1 (by rw [u2_f (by decide)]; exact K.2.2.1.2.1) K.2.2.1.2.2 (K.2.2.2.2.2.1.ns ns (fun _ _ => rfl) (fun _ _ => rfl) (fun _ _ => u2_f (by decide)) (fun _ _ => u2_f (by decide)))
    exact ⟨none, _, _, n, r, A, B, NXo.u (by decide) NXo.rf, trivial, fun d Q y => r_UNL (d := d + 40) H.ix (by omega) ho3 (fun _ z => absurd z o21) (fun _ _ => y) (fun z => absurd q z), fun d h0 T Q p y => s_OR (d := d + 52) (hP _ _ p) D ho (by omega) (fun _ => y) (fun z => absurd (eq.mp q) z)⟩
  · have ns : NSt t S (u2 S f_Md_height t ((n - 1 : Nat) : Int)) := NSt.u (tk1 (by decide)) NSt.rf
    obtain ⟨A, B⟩ := CT.nxt (n' := n - 1) (S1 := u2 S f_Md_height t ((n - 1 : Nat) : Int)) (X1 := u3 X o f_Task_size 0 ((n - 1 : Nat) : Int)) H nx ns (EXS.u (by decide) EXS.rf) (EXX.u (by decide) EXX.rf) u3_s u2_s (by omega) (by omega) ((K.2.2.2.2.2.1.le (Nat.sub_le _ _)).ns ns (fun _ _ => u3_f (by decide)) (fun _ _ => u3_f (by decide)) (fun _ _ => u2_f (by decide)) (fun _ _ => u2_f (by decide)))
    exact ⟨none, _, _, n - 1, r, A, B, go_nx (NXo.u (by decide) NXo.rf), trivial, fun d Q y => r_UNL (d := d + 40) H.ix (by omega) ho3 (fun z _ => absurd z q) (fun z _ => absurd z q) (fun _ => y), fun d h0 T Q p y => s_OR (d := d + 52) (hP _ _ p) D ho (by omega) (fun z => absurd (eq.mpr z) q) (fun _ => y)⟩
theorem op_TRIED (hP : ∀ h0 T, P h0 T → TOK h0 T) (H : OPH Γ h C X Y S N t o n c r) (O : OPT Γ S (fsS S t (c - 1)) (psS S t (c - 1)) 32 a b) (D : DF S t n c (fsS S t (c - 1)) (psS S t (c - 1)) k 32 a b) (hh : n = bsS S t (c - 1) + ghs Γ (fsS S t (c - 1)) (psS S t (c - 1)) ∧ r = qsS S t (c - 1) + gtd Γ (fsS S t (c - 1)) (psS S t (c - 1))) (hr : r ≤ 10000) : SOP ρ P Γ h C X Y S N t o c 32 a b := by
  obtain ⟨h1, n1, n2, n3, n4⟩ := O.2.2.2.2.2.2.2.2.2.2.2.2.2.2.2.2.2.2.2.2.1 rfl
  obtain ⟨hh1, hh2⟩ := hh
  have K := H.2.2.1
  have d2 := D.2.1
  have hc := H.2.2.2.1
  have hto := K.1.to.2
  have F1 := K.2.2.2.2.2.2.1 (c - 1) (by omega)
  have ns : NSt t S (atS (u2 S f_Md_tries t ((r - 1 : Nat) : Int)) t c ((psS S t (c - 1) + 1 : Nat) : Int)) := NSt.u (Or.inr (Or.inr (Or.inl ⟨by decide, by omega⟩))) (NSt.u (tk1 (by decide)) NSt.rf)
  have es : ∀ {L : List Nat}, (L.elem f_Md_frameAt || L.elem f_Md_tries) = false → EXS L S (atS (u2 S f_Md_tries t ((r - 1 : Nat) : Int)) t c ((psS S t (c - 1) + 1 : Nat) : Int)) := fun e => by
    simp only [Bool.or_eq_false_iff] at e
    exact EXS.u e.1 (EXS.u e.2 EXS.rf)
  have ex : ∀ {L : List Nat}, (L.elem f_Task_next || L.elem f_Task_tries) = false → EXX L X (u3 (u3 X o f_Task_tries 0 ((r - 1 : Nat) : Int)) o f_Task_next (c - 1) ((psS S t (c - 1) + 1 : Nat) : Int)) := fun e => by
    simp only [Bool.or_eq_false_iff] at e
    exact EXX.u e.1 (EXX.u e.2 EXX.rf)
  have A := K.step (n' := n) (r' := r - 1) (p' := psS S t (c - 1) + 1) hc ns (es (by decide)) (ex (by decide)) (by rw [u3_f (by decide), u3_f (by decide)]; exact K.2.2.1.1) (by unfold atS; rw [u2_f (by decide), u2_f (by decide)]; exact K.2.2.1.2.1) K.2.2.1.2.2 (by rw [u3_f (by decide), u3_s]) (by unfold atS; rw [u2_f (by decide), u2_s])
    (K.2.2.2.2.2.1.ns ns (fun _ _ => by rw [u3_f (by decide), u3_f (by decide)]) (fun _ _ => by rw [u3_f (by decide), u3_f (by decide)]) (fun _ _ => by unfold atS; rw [u2_f (by decide), u2_f (by decide)]) (fun _ _ => by unfold atS; rw [u2_f (by decide), u2_f (by decide)]))
    (fun i => by rw [u3_e, u3_f (by decide)]; by_cases q : i = c - 1; · rw [if_pos ⟨rfl, rfl, q⟩, if_pos q]
                 · rw [if_neg (fun z => q z.2.2), if_neg q])
    (fun i => by unfold atS; rw [u2_e, u2_f (by decide)]; by_cases q : i = 200 * t + (c - 1); · rw [if_pos ⟨rfl, q⟩, if_pos q]
                 · rw [if_neg (fun z => q z.2), if_neg q])
    (by omega) (by omega) n4 n1 (K.tr ns (es (by decide)) (es (by decide)) (ex (by decide)) (by omega)) (Or.inl (by omega))
  refine ⟨none, _, _, n, r - 1, A, ns, NXo.u (by decide) (NXo.u (by decide) NXo.rf), trivial, fun d Q q => r_TRIED (d := d + 40) H.ix K.2.2.2.2.1.1 (by omega) ?_, fun d h0 T Q p q => s_TRIED (d := d + 52) (hP _ _ p) D K.2.2.2.2.1.2 (by omega) q⟩
  rw [go_e (m := psS S t (c - 1)) (by rw [u3_f (by decide)]; exact F1.2.1.2.1) (by omega)]
  exact q
end
