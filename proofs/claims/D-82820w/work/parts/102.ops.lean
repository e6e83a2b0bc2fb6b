/-! simple instructions of both: joined -/
set_option maxRecDepth 20000
section
variable {ρ : Nat → Nat} {P : ah → Nat → Prop} {Γ Γ' : GH} {h h' : ah} {C : Nat} {X X' X1 : X3} {Y Y' : Y3} {S S' S1 : SS} {N t o n c r f i j k m n' p' : Nat} {op a b ty v x y : Int}
theorem tk5 {f : Nat} (e : L5.elem f = true) : tkR t f i := Or.inr (Or.inr (Or.inr (Or.inr e)))
theorem tk1 {f : Nat} (e : L1.elem f = true) : tkR t f t := Or.inl ⟨e, rfl⟩
theorem tk2 {f : Nat} (e : L2.elem f = true) (hi : i < 2100) : tkR t f (2100 * t + i) := Or.inr (Or.inl ⟨e, by omega⟩)
theorem psh_ns (hn : n < 2100) : NSt t S (pshS S t n ty v) := NSt.u (tk1 (by decide)) (NSt.u (tk2 (by decide) hn) (NSt.u (tk2 (by decide) hn) NSt.rf))
theorem psh_es {L : List Nat} (e : (L.elem f_Md_pileType || (L.elem f_Md_pileValue || L.elem f_Md_height)) = false) : EXS L S (pshS S t n ty v) := by
  simp only [Bool.or_eq_false_iff] at e
  exact EXS.u e.2.2 (EXS.u e.2.1 (EXS.u e.1 EXS.rf))
theorem psh_ex {L : List Nat} (e : (L.elem f_Task_tags || (L.elem f_Task_words || L.elem f_Task_size)) = false) : EXX L X (pshX X o n ty v) := by
  simp only [Bool.or_eq_false_iff] at e
  exact EXX.u e.2.2 (EXX.u e.2.1 (EXX.u e.1 EXX.rf))
theorem psh_nx : NXo o X (pshX X o n ty v) := NXo.u (by decide) (NXo.u (by decide) (NXo.u (by decide) NXo.rf))
theorem go_nx (H : NXo o X X1) : NXo o X (goX X1 o c) := NXo.u (by decide) H
theorem PIL.psh (H : PIL Γ X S N o t n) (hn : n < 2100) (V : VR Γ S N x y ty v) : PIL Γ (pshX X o n x y) (pshS S t n ty v) N o t (n + 1) := by
  intro i hi
  have ns : NSt t S (pshS S t n ty v) := psh_ns hn
  have e1 : pshS S t n ty v f_Md_pileType (2100 * t + i) = if i = n then ty else S f_Md_pileType (2100 * t + i) := by
    unfold pshS
    rw [u2_f (by decide), u2_f (by decide), u2_e]
    by_cases q : i = n
    · rw [if_pos ⟨rfl, by omega⟩, if_pos q]
    · rw [if_neg (fun z => q (by omega)), if_neg q]
  have e2 : pshS S t n ty v f_Md_pileValue (2100 * t + i) = if i = n then v else S f_Md_pileValue (2100 * t + i) := by
    unfold pshS
    rw [u2_f (by decide), u2_e]
    by_cases q : i = n
    · rw [if_pos ⟨rfl, by omega⟩, if_pos q]
    · rw [if_neg (fun z => q (by omega)), if_neg q, u2_f (by decide)]
  have e3 : pshX X o n x y o f_Task_tags i = if i = n then x else X o f_Task_tags i := by
    unfold pshX
    rw [u3_f (by decide), u3_f (by decide), u3_e]
    by_cases q : i = n
    · rw [if_pos ⟨rfl, rfl, q⟩, if_pos q]
    · rw [if_neg (fun z => q z.2.2), if_neg q]
  have e4 : pshX X o n x y o f_Task_words i = if i = n then y else X o f_Task_words i := by
    unfold pshX
    rw [u3_f (by decide), u3_e]
    by_cases q : i = n
    · rw [if_pos ⟨rfl, rfl, q⟩, if_pos q]
    · rw [if_neg (fun z => q z.2.2), if_neg q, u3_f (by decide)]
  rw [e1, e2, e3, e4]
  by_cases q : i = n
  · rw [if_pos q, if_pos q, if_pos q, if_pos q]
    exact ns.vr V
  · rw [if_neg q, if_neg q, if_neg q, if_neg q]
    exact ns.vr (H i (by omega))
/-- a value is pushed -/
theorem SOP.push (H : OPH Γ h C X Y S N t o n c r) (nx : NXT Γ S (fsS S t (c - 1)) (psS S t (c - 1)) 1 0 0 0) (V : VR Γ S N x y ty v) (hn : n < 2000) (q1 : CRUN ρ C op a b h X Y none h (goX (pshX X o n x y) o c) Y) (q2 : TRUN ρ P S none (atS (pshS S t n ty v) t c ((psS S t (c - 1) + 1 : Nat) : Int))) : SOP ρ P Γ h C X Y S N t o c op a b := by
  obtain ⟨A, B⟩ := CT.nxt (n' := n + 1) (S1 := pshS S t n ty v) (X1 := pshX X o n x y) H nx (psh_ns (by omega)) (psh_es (by decide)) (psh_ex (by decide)) (by unfold pshX; rw [u3_s]) (by unfold pshS; rw [u2_s]) (by omega) (by omega) (H.2.2.1.2.2.2.2.2.1.psh (by omega) V)
  exact ⟨none, _, _, n + 1, r, A, B, go_nx psh_nx, trivial, q1, q2⟩
theorem OPH.pl (H : OPH Γ h C X Y S N t o n c r) (hi : i < n) : VR Γ S N (X o f_Task_tags i) (X o f_Task_words i) (S f_Md_pileType (2100 * t + i)) (S f_Md_pileValue (2100 * t + i)) := H.2.2.1.2.2.2.2.2.1 i hi
theorem VR.no (V : VR Γ S N x y ty v) : isNo x y ↔ isNo ty v := by
  obtain ⟨rfl, rfl, V⟩ := V
  unfold isNo cw
  by_cases q : x = 3
  · subst q; constructor <;> (intro z; omega)
  · rw [if_neg q]
theorem op_PUSH (hP : ∀ h0 T, P h0 T → TOK h0 T) (H : OPH Γ h C X Y S N t o n c r) (O : OPT Γ S (fsS S t (c - 1)) (psS S t (c - 1)) 0 a b) (D : DF S t n c (fsS S t (c - 1)) (psS S t (c - 1)) k 0 a b) (lt : ∀ b : Nat, (b : Int) < S f_Md_sourceTexts 0 → X 32 f_Machine_literalText b = (gtn Γ b : Int) ∧ b < hl h (hR h f_Machine_literalText (C + 32))) : SOP ρ P Γ h C X Y S N t o c 0 a b := by
  obtain ⟨nx, a1, a2, a3, a4⟩ := O.2.1 rfl
  have hl4 : ¬ a = 0 → 3 ≤ a → ¬ a = 3 → 0 ≤ b ∧ b < (hl h (hR h f_Machine_literalText (C + 32)) : Int) := fun _ _ _ => by
    have := a4 (by omega)
    have := (lt b.toNat (by omega)).2
    omega
  by_cases hn : n < 2000
  · refine SOP.push (x := ctX a) (y := cvX X a b) (ty := cTy a) (v := cVa a b) H nx ?_ hn (fun d Q q => r_PUSH (d := d + 40) H.ix hl4 (fun _ => q) (fun z => by omega)) (fun d h0 T Q p q => s_PUSH (d := d + 52) (hP _ _ p) D (fun _ => q) (fun z => by omega))
    have : a = 0 ∨ a = 1 ∨ a = 2 ∨ a = 3 ∨ a = 4 := by omega
    rcases this with rfl | rfl | rfl | rfl | rfl
    · exact ⟨rfl, rfl, Or.inl ⟨rfl, rfl⟩⟩
    · exact ⟨rfl, show w32 (1 - 1) = 0 by decide, Or.inr (Or.inl ⟨rfl, Or.inl rfl⟩)⟩
    · exact ⟨rfl, show w32 (2 - 1) = 1 by decide, Or.inr (Or.inl ⟨rfl, Or.inr rfl⟩)⟩
    · have := a3 rfl
      refine ⟨rfl, rfl, Or.inr (Or.inr (Or.inl ⟨rfl, ?_, ?_⟩))⟩
      · show -9223372036854775808 ≤ b; omega
      · show b < 9223372036854775808; omega
    · have := a4 rfl
      refine ⟨rfl, ?_, Or.inr (Or.inr (Or.inr (Or.inl ⟨rfl, ?_, Or.inl ?_⟩)))⟩
      · show X 32 f_Machine_literalText b.toNat = (gtn Γ b.toNat : Int)
        exact (lt b.toNat (by omega)).1
      · show 0 ≤ b; omega
      · show (b.toNat : Int) < _; omega
  · have h0 : n = 2000 := by have := D.2.1; omega
    exact SOP.er (x := 11) H (by decide) (fun d Q q => r_PUSH (d := d + 40) H.ix hl4 (fun z => absurd z hn) (fun _ => q)) (fun d h0' T Q p q => s_PUSH (d := d + 52) (hP _ _ p) D (fun z => absurd z hn) (fun _ => q))
theorem op_DUP (hP : ∀ h0 T, P h0 T → TOK h0 T) (H : OPH Γ h C X Y S N t o n c r) (O : OPT Γ S (fsS S t (c - 1)) (psS S t (c - 1)) 6 a b) (D : DF S t n c (fsS S t (c - 1)) (psS S t (c - 1)) k 6 a b) (hh : n = bsS S t (c - 1) + ghs Γ (fsS S t (c - 1)) (psS S t (c - 1))) : SOP ρ P Γ h C X Y S N t o c 6 a b := by
  obtain ⟨h1, nx⟩ := O.2.2.2.2.2.2.2.1 rfl
  have V := H.pl (i := n - 1) (by omega)
  have hv : -128 ≤ X o f_Task_tags (n - 1) ∧ X o f_Task_tags (n - 1) ≤ 127 := by rw [V.1]; exact V.2.2.tag
  have en : 2100 * t + n - 1 = 2100 * t + (n - 1) := by omega
  by_cases hn : n < 2000
  · refine SOP.push H nx V hn (fun d Q q => r_DUP (d := d + 40) H.ix (by omega) hv (fun _ => q) (fun z => by omega)) (fun d h0 T Q p q => s_DUP (d := d + 52) (hP _ _ p) D (by omega) (fun _ => ?_) (fun z => by omega))
    unfold tpS vpS; rw [en]; exact q
  · have h0 : n = 2000 := by have := D.2.1; omega
    exact SOP.er (x := 11) H (by decide) (fun d Q q => r_DUP (d := d + 40) H.ix (by omega) hv (fun z => absurd z hn) (fun _ => q)) (fun d h0' T Q p q => s_DUP (d := d + 52) (hP _ _ p) D (by omega) (fun z => absurd z hn) (fun _ => q))
theorem op_THIS (hP : ∀ h0 T, P h0 T → TOK h0 T) (H : OPH Γ h C X Y S N t o n c r) (O : OPT Γ S (fsS S t (c - 1)) (psS S t (c - 1)) 33 a b) (D : DF S t n c (fsS S t (c - 1)) (psS S t (c - 1)) k 33 a b) : SOP ρ P Γ h C X Y S N t o c 33 a b := by
  have nx := O.2.2.2.2.2.2.2.2.2.2.2.2.2.2.2.2.2.2.2.2.2 rfl
  have V := (H.2.2.1.2.2.2.2.2.2.1 (c - 1) (by have := H.2.2.2.1; omega)).2.2.2.2.1
  have hv : -128 ≤ X o f_Task_thisTag (c - 1) ∧ X o f_Task_thisTag (c - 1) ≤ 127 := by rw [V.1]; exact V.2.2.tag
  by_cases hn : n < 2000
  · exact SOP.push H nx V hn (fun d Q q => r_THIS (d := d + 40) H.ix hv (fun _ => q) (fun z => by omega)) (fun d h0 T Q p q => s_THIS (d := d + 52) (hP _ _ p) D (fun _ => q) (fun z => by omega))
  · have h0 : n = 2000 := by have := D.2.1; omega
    exact SOP.er (x := 11) H (by decide) (fun d Q q => r_THIS (d := d + 40) H.ix hv (fun z => absurd z hn) (fun _ => q)) (fun d h0' T Q p q => s_THIS (d := d + 52) (hP _ _ p) D (fun z => absurd z hn) (fun _ => q))
theorem PIL.ns (H : PIL Γ X S N o t n) (ns : NSt t S S1) (e1 : ∀ i, i < n → X1 o f_Task_tags i = X o f_Task_tags i) (e2 : ∀ i, i < n → X1 o f_Task_words i = X o f_Task_words i) (e3 : ∀ i, i < n → S1 f_Md_pileType (2100 * t + i) = S f_Md_pileType (2100 * t + i)) (e4 : ∀ i, i < n → S1 f_Md_pileValue (2100 * t + i) = S f_Md_pileValue (2100 * t + i)) : PIL Γ X1 S1 N o t n := H.ext e1 e2 e3 e4 ns.vo
theorem op_POP (hP : ∀ h0 T, P h0 T → TOK h0 T) (H : OPH Γ h C X Y S N t o n c r) (O : OPT Γ S (fsS S t (c - 1)) (psS S t (c - 1)) 5 a b) (D : DF S t n c (fsS S t (c - 1)) (psS S t (c - 1)) k 5 a b) (hh : n = bsS S t (c - 1) + ghs Γ (fsS S t (c - 1)) (psS S t (c - 1))) : SOP ρ P Γ h C X Y S N t o c 5 a b := by
  obtain ⟨h1, nx⟩ := O.2.2.2.2.2.2.1 rfl
  have d2 := D.2.1
  have ns : NSt t S (u2 S f_Md_height t ((n - 1 : Nat) : Int)) := NSt.u (tk1 (by decide)) NSt.rf
  obtain ⟨A, B⟩ := CT.nxt (n' := n - 1) (S1 := u2 S f_Md_height t ((n - 1 : Nat) : Int)) (X1 := u3 X o f_Task_size 0 ((n - 1 : Nat) : Int)) H nx ns (EXS.u (by decide) EXS.rf) (EXX.u (by decide) EXX.rf) u3_s u2_s (by omega) (by omega) ((H.2.2.1.2.2.2.2.2.1.le (Nat.sub_le _ _)).ns ns (fun _ _ => u3_f (by decide)) (fun _ _ => u3_f (by decide)) (fun _ _ => u2_f (by decide)) (fun _ _ => u2_f (by decide)))
  exact ⟨none, _, _, n - 1, r, A, B, go_nx (NXo.u (by decide) NXo.rf), trivial, fun d Q q => r_POP (d := d + 40) H.ix (by omega) q, fun d h0 T Q p q => s_POP (d := d + 52) (hP _ _ p) D (by omega) q⟩
/-- the top of the pile is replaced -/
theorem SOP.put (H : OPH Γ h C X Y S N t o n c r) (hn1 : 1 ≤ n) (nx : NXT Γ S (fsS S t (c - 1)) (psS S t (c - 1)) 0 0 0 0) (ns : NSt t S S1) (e1 : EXS LS8 S S1) (e2 : EXX LX8 X X1) (nX : NXo o X X1) (z1 : X1 o f_Task_size 0 = X o f_Task_size 0) (z2 : S1 f_Md_height t = S f_Md_height t) (w : ∀ i, i < n - 1 → X1 o f_Task_tags i = X o f_Task_tags i ∧ X1 o f_Task_words i = X o f_Task_words i ∧ S1 f_Md_pileType (2100 * t + i) = S f_Md_pileType (2100 * t + i) ∧ S1 f_Md_pileValue (2100 * t + i) = S f_Md_pileValue (2100 * t + i)) (V : VR Γ S N (X1 o f_Task_tags (n - 1)) (X1 o f_Task_words (n - 1)) (S1 f_Md_pileType (2100 * t + (n - 1))) (S1 f_Md_pileValue (2100 * t + (n - 1)))) (q1 : CRUN ρ C op a b h X Y none h (goX X1 o c) Y) (q2 : TRUN ρ P S none (atS S1 t c ((psS S t (c - 1) + 1 : Nat) : Int))) : SOP ρ P Γ h C X Y S N t o c op a b := by
  have K := H.2.2.1
  obtain ⟨A, B⟩ := CT.nxt (n' := n) (S1 := S1) (X1 := X1) H nx ns e1 e2 (by rw [z1]; exact K.2.2.1.1) (by rw [z2]; exact K.2.2.1.2.1) K.2.2.1.2.2 rfl (fun i hi => by
    by_cases q : i = n - 1
    · subst q; exact ns.vr V
    · obtain ⟨w1, w2, w3, w4⟩ := w i (by omega)
      rw [w1, w2, w3, w4]; exact ns.vr (H.pl hi))
  exact ⟨none, _, _, n, r, A, B, go_nx nX, trivial, q1, q2⟩
theorem w64_rng (x : Int) : -9223372036854775808 ≤ w64 x ∧ w64 x < 9223372036854775808 := by
  unfold w64
  simp only [Int.bmod]
  omega
theorem op_MINUS (hP : ∀ h0 T, P h0 T → TOK h0 T) (H : OPH Γ h C X Y S N t o n c r) (O : OPT Γ S (fsS S t (c - 1)) (psS S t (c - 1)) 12 a b) (D : DF S t n c (fsS S t (c - 1)) (psS S t (c - 1)) k 12 a b) (hh : n = bsS S t (c - 1) + ghs Γ (fsS S t (c - 1)) (psS S t (c - 1))) : SOP ρ P Γ h C X Y S N t o c 12 a b := by
  obtain ⟨h1, nx⟩ := O.2.2.2.2.2.2.2.2.2.1 (Or.inl rfl)
  have d2 := D.2.1
  have V := H.pl (i := n - 1) (by omega)
  have en : 2100 * t + n - 1 = 2100 * t + (n - 1) := by omega
  have et : tpS S t n = X o f_Task_tags (n - 1) := by unfold tpS; rw [en, V.1]
  by_cases q : X o f_Task_tags (n - 1) = 2
  · have ew : vpS S t n = X o f_Task_words (n - 1) := by unfold vpS; rw [en, V.2.1, cw, if_neg (by rw [← V.1, q]; decide)]
    refine SOP.put (S1 := u2 S f_Md_pileValue (2100 * t + (n - 1)) (w64 (-(vpS S t n)))) (X1 := u3 X o f_Task_words (n - 1) (w64 (-(X o f_Task_words (n - 1))))) H (by omega) nx (NSt.u (tk2 (by decide) (by omega)) NSt.rf) (EXS.u (by decide) EXS.rf) (EXX.u (by decide) EXX.rf) (NXo.u (by decide) NXo.rf) (u3_f (by decide)) (u2_f (by decide)) (fun i hi => ⟨u3_f (by decide), ?_, u2_f (by decide), ?_⟩) ?_ (fun d Q y => r_MINUS (d := d + 40) H.ix (by omega) (fun _ => y) (fun z => absurd q z)) (fun d h0 T Q p y => s_MINUS (d := d + 52) (hP _ _ p) D (by omega) (fun _ => ?_) (fun z => absurd (et.trans q) z))
    · rw [u3_e, if_neg (by omega)]
    · rw [u2_e, if_neg (by omega)]
    · rw [u3_f (by decide), u3_s, u2_f (by decide), u2_s, ← V.1, q, ew]
      exact ⟨rfl, rfl, Or.inr (Or.inr (Or.inl ⟨rfl, w64_rng _⟩))⟩
    · rw [en]; exact y
  · exact SOP.er (x := 1) H (by decide) (fun d Q y => r_MINUS (d := d + 40) H.ix (by omega) (fun z => absurd z q) (fun _ => y)) (fun d h0' T Q p y => s_MINUS (d := d + 52) (hP _ _ p) D (by omega) (fun z => absurd (et.symm.trans z) q) (fun _ => y))
theorem op_NOT (hP : ∀ h0 T, P h0 T → TOK h0 T) (H : OPH Γ h C X Y S N t o n c r) (O : OPT Γ S (fsS S t (c - 1)) (psS S t (c - 1)) 13 a b) (D : DF S t n c (fsS S t (c - 1)) (psS S t (c - 1)) k 13 a b) (hh : n = bsS S t (c - 1) + ghs Γ (fsS S t (c - 1)) (psS S t (c - 1))) : SOP ρ P Γ h C X Y S N t o c 13 a b := by
  obtain ⟨h1, nx⟩ := O.2.2.2.2.2.2.2.2.2.1 (Or.inr rfl)
  have d2 := D.2.1
  have V := H.pl (i := n - 1) (by omega)
  have en : 2100 * t + n - 1 = 2100 * t + (n - 1) := by omega
  have et : isNo (tpS S t n) (vpS S t n) ↔ isNo (X o f_Task_tags (n - 1)) (X o f_Task_words (n - 1)) := by unfold tpS vpS; rw [en]; exact V.no.symm
  obtain ⟨w, w1, w2⟩ : ∃ w : Int, (isNo (X o f_Task_tags (n - 1)) (X o f_Task_words (n - 1)) → w = 1) ∧ (¬ isNo (X o f_Task_tags (n - 1)) (X o f_Task_words (n - 1)) → w = 0) := by
    by_cases q : isNo (X o f_Task_tags (n - 1)) (X o f_Task_words (n - 1))
    · exact ⟨1, fun _ => rfl, fun z => absurd q z⟩
    · exact ⟨0, fun z => absurd z q, fun _ => rfl⟩
  have uq : ∀ x : Int, (isNo (X o f_Task_tags (n - 1)) (X o f_Task_words (n - 1)) → x = 1) → (¬ isNo (X o f_Task_tags (n - 1)) (X o f_Task_words (n - 1)) → x = 0) → x = w := by
    intro x x1 x2
    by_cases q : isNo (X o f_Task_tags (n - 1)) (X o f_Task_words (n - 1))
    · rw [x1 q, w1 q]
    · rw [x2 q, w2 q]
  have w01 : w = 0 ∨ w = 1 := by
    by_cases q : isNo (X o f_Task_tags (n - 1)) (X o f_Task_words (n - 1))
    · exact Or.inr (w1 q)
    · exact Or.inl (w2 q)
  refine SOP.put (S1 := u2 (u2 S f_Md_pileType (2100 * t + (n - 1)) 1) f_Md_pileValue (2100 * t + (n - 1)) w) (X1 := u3 (u3 X o f_Task_words (n - 1) w) o f_Task_tags (n - 1) 1) H (by omega) nx (NSt.u (tk2 (by decide) (by omega)) (NSt.u (tk2 (by decide) (by omega)) NSt.rf)) (EXS.u (by decide) (EXS.u (by decide) EXS.rf)) (EXX.u (by decide) (EXX.u (by decide) EXX.rf)) (NXo.u (by decide) (NXo.u (by decide) NXo.rf)) ?_ ?_ (fun i hi => ⟨?_, ?_, ?_, ?_⟩) ?_ (fun d Q y => r_NOT (d := d + 40) H.ix (by omega) (fun v v1 v2 => ?_)) (fun d h0 T Q p y => s_NOT (d := d + 52) (hP _ _ p) D (by omega) (fun v v1 v2 => ?_))
  · rw [u3_f (by decide), u3_f (by decide)]
  · rw [u2_f (by decide), u2_f (by decide)]
  · rw [u3_e, if_neg (by omega), u3_f (by decide)]
  · rw [u3_f (by decide), u3_e, if_neg (by omega)]
  · rw [u2_f (by decide), u2_e, if_neg (by omega)]
  · rw [u2_e, if_neg (by omega), u2_f (by decide)]
  · rw [u3_s, u3_f (by decide), u3_s, u2_f (by decide), u2_s, u2_s]
    exact ⟨rfl, rfl, Or.inr (Or.inl ⟨rfl, w01⟩)⟩
  · rw [uq v v1 v2]; exact y
  · rw [uq v (fun z => v1 (et.mpr z)) (fun z => v2 (fun q => z (et.mp q))), en]; exact y
end
