/-! comparisons: joined -/
set_option maxRecDepth 20000
section
variable {ρ : Nat → Nat} {P : ah → Nat → Prop} {Γ Γ' : GH} {h h' : ah} {C : Nat} {X X' X1 : X3} {Y Y' : Y3} {S S' S1 : SS} {N t o n c r f i j k m n' p' : Nat} {op a b ty v x y ty2 v2 x2 y2 : Int}
theorem txO.lt {z : Nat} (K : TXC Γ h C X S) (H : txO S z) : z < 16000 := by
  obtain ⟨mn, us, sb, mb, tm, am, ab, -, ⟨a1, a2, a3, a4, a5⟩, ⟨b1, b2, b3, b4, b5⟩, ⟨c1, c2⟩, -⟩ := K
  unfold txO at H
  omega
/-- two texts compared -/
theorem TXC.cmp (K : TXC Γ h C X S) (G : AC h C) (F : FC h C) (V : VR Γ S N x y ty v) (V2 : VR Γ S N x2 y2 ty2 v2) (e1 : x = 3) (e2 : x2 = 3) : ∃ z : Int, (∀ d h0 T (Q' : QT), TOK h0 T → Q' (Sum.inl (some (vI z))) (cn h0 T S) → wpB PGm ρ d m_Md_compareTexts 0 [(0, vR T), (1, vI (w32 v)), (2, vI (w32 v2))] [] (cn h0 T S) Q') ∧ (∀ d (Q' : QT), 10 ≤ d → Q' (Sum.inl (some (vI z))) (cc h C X Y) → wpB PGm ρ d m_Texts_compare 0 [(0, vR (C + 46)), (1, vI (w32 y)), (2, vI (w32 y2))] [] (cc h C X Y) Q') := by
  obtain ⟨i1, i2, i3⟩ := V
  obtain ⟨j1, j2, j3⟩ := V2
  have t1 : ty = 3 := by omega
  have t2 : ty2 = 3 := by omega
  subst t1 t2
  have x1 : 0 ≤ v ∧ txO S v.toNat := by
    rcases i3 with q | q | q | q | q | q
    · omega
    · omega
    · omega
    · exact q.2
    · omega
    · omega
  have x2' : 0 ≤ v2 ∧ txO S v2.toNat := by
    rcases j3 with q | q | q | q | q | q
    · omega
    · omega
    · omega
    · exact q.2
    · omega
    · omega
  have l1 := x1.2.lt K
  have l2 := x2'.2.lt K
  obtain ⟨mn, us, sb, mb, tm, am, ab, -, -, ⟨b1, b2, b3, b4, b5⟩, -, ⟨k1, k2, k3, k4, k5⟩, -, kx⟩ := K
  obtain ⟨p, q, r, p1, p2, p3, p4, p5, p6, p7, p8⟩ := kx _ x1.2
  obtain ⟨p', q', r', p1', p2', p3', p4', p5', p6', p7', p8'⟩ := kx _ x2'.2
  have w1 : w32 v = (v.toNat : Int) := by rw [w32_of (by omega) (by omega)]; omega
  have w2 : w32 v2 = (v2.toNat : Int) := by rw [w32_of (by omega) (by omega)]; omega
  have y1 : y = (gtn Γ v.toNat : Int) := i2
  have y2' : y2 = (gtn Γ v2.toNat : Int) := j2
  have w3 : w32 y = (gtn Γ v.toNat : Int) := by rw [y1, w32_of (by omega) (by omega)]
  have w4 : w32 y2 = (gtn Γ v2.toNat : Int) := by rw [y2', w32_of (by omega) (by omega)]
  have hmn : mn ≤ hl h (hR h f_Texts_from (C + 46)) := k1
  refine ⟨cmpB (fun i => S f_Md_textSigns (p + i)) (fun i => S f_Md_textSigns (p' + i)) q q' (min q q') 0, fun d h0 T Q' O z => ?_, fun d Q' hd z => ?_⟩
  · rw [w1, w2]
    exact s_compareTexts O l1 l2 p1 p2 p1' p2' (by omega) (by omega) z
  · rw [w3, w4]
    refine r_compare G F hd (by omega) (by omega) k2 p3 p4 p3' p4' (by omega) (by omega) (by omega) ?_
    rw [cmpB_c (p := fun i => S f_Md_textSigns (p + i)) (q := fun i => S f_Md_textSigns (p' + i)) (by omega) (by omega) (fun i hi => (p7 i hi).1) (fun i hi => (p7' i hi).1)]
    exact z
/-- T's run up to a comparison -/
theorem trCmp (hP : ∀ h0 T, P h0 T → TOK h0 T) (D : DF S t n c (fsS S t (c - 1)) (psS S t (c - 1)) k op a b) (ho : 14 ≤ op ∧ op ≤ 19) (hn2 : 2 ≤ n) {e : Option Int} (g : ∀ d h0 T Q, P h0 T → Q (oE e (hR h0 f_Md_halt T)) (cn h0 T S') → wpB PGm ρ (d + 50) m_Md_compares 0 [(0, vR T), (1, vI op), (2, vI ((2100 * t + n - 1 - 1 : Nat) : Int)), (3, vI ((2100 * t + n - 1 : Nat) : Int))] [] (cn h0 T S) (cV (fun h31 => wpB PGm ρ (d + 51) m_Md_operators 171 [(0, vR T), (3, vI ((2100 * t + n - 1 - 1 : Nat) : Int))] [] h31 (dK ρ (d + 44) T Q)) (fun e h' => hK h' e ≠ 0 ∧ dK ρ (d + 44) T Q (Sum.inr e) h'))) : TRUN ρ P S e S' := by
  intro d h0 T Q p q
  have O' := hP _ _ p
  have g' := g (d + 8) h0 T Q p q
  clear g
  have d2 := D.2.1
  have hTF := D.1
  refine s_does_opr (d := d + 52) O' D (by omega) ?_
  refine b_Md_operators_0 ⟨O'.1, s_h O' hTF (by omega) (by omega) ?_⟩
  have w1 : w32 (((2100 * t + n : Nat) : Int) - 1) = ((2100 * t + n - 1 : Nat) : Int) := w32_m1 (by omega)
  have w2 : w32 (((2100 * t + n - 1 : Nat) : Int) - 1) = ((2100 * t + n - 1 - 1 : Nat) : Int) := w32_m1 (by omega)
  have n5 : ¬ op = 5 := by omega
  have n6 : ¬ op = 6 := by omega
  have n12 : ¬ op = 12 := by omega
  have n13 : ¬ op = 13 := by omega
  refine ⟨fun _ => ⟨fun _ => ⟨fun _ => ⟨fun _ => ⟨fun _ => ⟨O'.1, ?_⟩, fun z => by omega⟩, fun z => absurd z n13⟩, fun z => absurd z n12⟩, fun z => absurd z n6⟩, fun z => absurd z n5⟩
  rw [w1, w2]
  exact g'
/-- C's run up to an operator -/
theorem crBin (H : OPH Γ h C X Y S N t o n c r) (ho : (7 ≤ op ∧ op ≤ 11) ∨ (14 ≤ op ∧ op ≤ 19)) (hn2 : 2 ≤ n) {e : Option Int} (s : Int) (hs : (X o f_Task_tags (n - 1 - 1) = 2 ∧ X o f_Task_tags (n - 1) = 2 ∧ s = 1) ∨ (¬ (X o f_Task_tags (n - 1 - 1) = 2 ∧ X o f_Task_tags (n - 1) = 2) ∧ s = 0)) (g : ∀ d Q, Q (oE e (C + 33)) (cc h C X' Y) → wpB PGm ρ (d + 59) m_Machine_operate 53 [(0, vR (C + 32)), (1, vI op), (2, vI ((n - 1 - 1 : Nat) : Int)), (3, vI ((n - 1 : Nat) : Int)), (4, vL (X o f_Task_words (n - 1 - 1))), (6, vL (X o f_Task_words (n - 1)))] [vI s] (cc h C X Y) Q) : CRUN ρ C op a b h X Y e h X' Y := by
  intro d Q q
  have h20 := H.2.2.1.2.2.1.2.2
  refine r_opI (d := d + 40) H.ix hn2 ho (r_op0 (d := d + 58) H.ix (by omega) (by omega) hs (g d _ ?_))
  cases e with
  | none => exact q
  | some x =>
    refine ⟨?_, q⟩
    show hK h (C + 33) ≠ 0
    rw [H.2.1.1.2.1]; decide
theorem VR.same (V : VR Γ S N x y ty v) (V2 : VR Γ S N x2 y2 ty2 v2) (n3 : ¬ (x = 3 ∧ x2 = 3)) : (x = x2 ∧ (x = 0 ∨ y = y2)) ↔ (ty = ty2 ∧ v = v2) := by
  obtain ⟨rfl, rfl, i3⟩ := V
  obtain ⟨rfl, rfl, j3⟩ := V2
  unfold cw
  constructor
  · rintro ⟨rfl, q⟩
    refine ⟨rfl, ?_⟩
    rw [if_neg (by omega), if_neg (by omega)] at q
    rcases q with q | q
    · subst q
      unfold VO at i3 j3
      omega
    · exact q
  · rintro ⟨rfl, rfl⟩
    exact ⟨rfl, Or.inr rfl⟩
theorem op_SAME (hP : ∀ h0 T, P h0 T → TOK h0 T) (K : TXC Γ h C X S) (H : OPH Γ h C X Y S N t o n c r) (ho : op = 14 ∨ op = 15) (O : OPT Γ S (fsS S t (c - 1)) (psS S t (c - 1)) op a b) (D : DF S t n c (fsS S t (c - 1)) (psS S t (c - 1)) k op a b) (hh : n = bsS S t (c - 1) + ghs Γ (fsS S t (c - 1)) (psS S t (c - 1))) : SOP ρ P Γ h C X Y S N t o c op a b := by
  obtain ⟨h1, nx⟩ := O.2.2.2.2.2.2.2.2.1 (by omega)
  have d2 := D.2.1
  have hn2 : 2 ≤ n := by omega
  have V1 := H.pl (i := n - 1 - 1) (by omega)
  have V2 := H.pl (i := n - 1) (by omega)
  have I := H.ix
  have p1 : 2100 * t + n - 1 - 1 = 2100 * t + (n - 1 - 1) := by omega
  have p2 : 2100 * t + n - 1 = 2100 * t + (n - 1) := by omega
  have G := H.1
  have F := H.2.1
  -- whether they are the same
  obtain ⟨same, kT, kC⟩ : ∃ same : Prop, (∀ d h0 T (Q' : QT), TOK h0 T → (same → Q' (Sum.inl (some (vI 1))) (cn h0 T S)) → (¬ same → Q' (Sum.inl (some (vI 0))) (cn h0 T S)) → wpB PGm ρ (d + 1) m_Md_alike 0 [(0, vR T), (1, vI (S f_Md_pileType (2100 * t + n - 1 - 1))), (2, vL (S f_Md_pileValue (2100 * t + n - 1 - 1))), (4, vI (S f_Md_pileType (2100 * t + n - 1))), (5, vL (S f_Md_pileValue (2100 * t + n - 1)))] [] (cn h0 T S) Q') ∧ (∀ d (Q' : QT), (same → Q' (Sum.inl (some (vI 1))) (cc h C X Y)) → (¬ same → Q' (Sum.inl (some (vI 0))) (cc h C X Y)) → wpB PGm ρ (d + 21) m_Machine_isSame 0 [(0, vR (C + 32)), (1, vI ((n - 1 - 1 : Nat) : Int)), (2, vI ((n - 1 : Nat) : Int))] [] (cc h C X Y) Q') := by
    rw [p1, p2]
    by_cases q : X o f_Task_tags (n - 1 - 1) = 3 ∧ X o f_Task_tags (n - 1) = 3
    · obtain ⟨z, z1, z2⟩ := K.cmp (ρ := ρ) (Y := Y) G F V1 V2 q.1 q.2
      refine ⟨z = 0, fun d h0 T Q' O' k1 k0 => s_alike O' (fun c => absurd ⟨?_, ?_⟩ c) (fun c => absurd ⟨?_, ?_⟩ c) (fun _ _ => ⟨z, fun Q'' y => z1 _ _ _ _ O' y, k1, k0⟩), fun d Q' k1 k0 => r_isSame (d := d + 20) I (by omega) (by omega) (by omega) (fun c => absurd q c) (fun c => absurd q c) (fun _ _ => ⟨z, fun Q'' y => z2 _ _ (by omega) y, k1, k0⟩)⟩
      · rw [← V1.1]; exact q.1
      · rw [← V2.1]; exact q.2
      · rw [← V1.1]; exact q.1
      · rw [← V2.1]; exact q.2
    · have e := V1.same V2 q
      refine ⟨X o f_Task_tags (n - 1 - 1) = X o f_Task_tags (n - 1) ∧ (X o f_Task_tags (n - 1 - 1) = 0 ∨ X o f_Task_words (n - 1 - 1) = X o f_Task_words (n - 1)), fun d h0 T Q' O' k1 k0 => s_alike O' (fun _ z => k1 (e.mpr z)) (fun _ z => k0 (fun y => z (e.mp y))) (fun z z2 => absurd ⟨?_, ?_⟩ q), fun d Q' k1 k0 => r_isSame (d := d + 20) I (by omega) (by omega) (by omega) (fun _ => k1) (fun _ => k0) (fun z z2 => absurd ⟨z, z2⟩ q)⟩
      · rw [V1.1]; exact z
      · rw [V2.1]; exact z2
  obtain ⟨w, w1, w0, w01⟩ : ∃ w : Int, (same → w = if op = 14 then 1 else 0) ∧ (¬ same → w = if op = 14 then 0 else 1) ∧ (w = 0 ∨ w = 1) := by
    by_cases q : same
    · refine ⟨_, fun _ => rfl, fun z => absurd q z, ?_⟩
      split <;> omega
    · refine ⟨_, fun z => absurd z q, fun _ => rfl, ?_⟩
      split <;> omega
  have ho2 : (7 ≤ op ∧ op ≤ 11) ∨ (14 ≤ op ∧ op ≤ 19) := by omega
  have ho3 : 14 ≤ op ∧ op ≤ 19 := by omega
  obtain ⟨s, hs⟩ : ∃ s : Int, (X o f_Task_tags (n - 1 - 1) = 2 ∧ X o f_Task_tags (n - 1) = 2 ∧ s = 1) ∨ (¬ (X o f_Task_tags (n - 1 - 1) = 2 ∧ X o f_Task_tags (n - 1) = 2) ∧ s = 0) := by
    by_cases q : X o f_Task_tags (n - 1 - 1) = 2 ∧ X o f_Task_tags (n - 1) = 2
    · exact ⟨1, Or.inl ⟨q.1, q.2, rfl⟩⟩
    · exact ⟨0, Or.inr ⟨q, rfl⟩⟩
  have n16 : ¬ 16 ≤ op := by omega
  have n14 : ¬ op < 14 := by omega
  have n7 : ¬ op = 7 := by omega
  refine SOP.bin (x := 1) (y := w) (ty := 1) (v := w) H hn2 nx ⟨rfl, rfl, Or.inr (Or.inl ⟨rfl, w01⟩)⟩ (crBin H ho2 hn2 s hs (fun d Q q => r_op53 (d := d + 57) I (by omega) (by omega) (fun _ => r_op67 (d := d + 57) (same := same) I (by omega) ho (fun z => ?_) (fun z => ?_) (fun Q' k1 k0 => kC (d + 37) Q' k1 k0)) (fun z => absurd z n16) (fun z => absurd z n14) (fun z => absurd z n7))) (trCmp hP D ho3 hn2 (fun d h0 T Q p q => s_cmpS (d := d + 48) (same := same) (hP _ _ p) ho (by omega) (by omega) (fun z => ?_) (fun z => ?_) (fun Q' k1 k0 => kT (d + 48) h0 T Q' (hP _ _ p) k1 k0)))
  · rw [← w1 z]; exact q
  · rw [← w0 z]; exact q
  · rw [← w1 z]; exact s_171 (d := d + 44) (hP _ _ p) D hn2 q
  · rw [← w0 z]; exact s_171 (d := d + 44) (hP _ _ p) D hn2 q
theorem op_LESS (hP : ∀ h0 T, P h0 T → TOK h0 T) (K : TXC Γ h C X S) (H : OPH Γ h C X Y S N t o n c r) (ho : op = 16 ∨ op = 17 ∨ op = 18 ∨ op = 19) (O : OPT Γ S (fsS S t (c - 1)) (psS S t (c - 1)) op a b) (D : DF S t n c (fsS S t (c - 1)) (psS S t (c - 1)) k op a b) (hh : n = bsS S t (c - 1) + ghs Γ (fsS S t (c - 1)) (psS S t (c - 1))) : SOP ρ P Γ h C X Y S N t o c op a b := by
  obtain ⟨h1, nx⟩ := O.2.2.2.2.2.2.2.2.1 (by omega)
  have d2 := D.2.1
  have hn2 : 2 ≤ n := by omega
  have V1 := H.pl (i := n - 1 - 1) (by omega)
  have V2 := H.pl (i := n - 1) (by omega)
  have I := H.ix
  have p1 : 2100 * t + n - 1 - 1 = 2100 * t + (n - 1 - 1) := by omega
  have p2 : 2100 * t + n - 1 = 2100 * t + (n - 1) := by omega
  have G := H.1
  have F := H.2.1
  have ho2 : (7 ≤ op ∧ op ≤ 11) ∨ (14 ≤ op ∧ op ≤ 19) := by omega
  have ho3 : 14 ≤ op ∧ op ≤ 19 := by omega
  have n14 : ¬ (op = 14 ∨ op = 15) := by omega
  have nl : ¬ op < 14 := by omega
  have n7 : ¬ op = 7 := by omega
  have g16 : ¬ op < 16 := by omega
  -- an order is found, or none
  have fin : ∀ z : Int, (∀ d h0 T Q, TOK h0 T → wpB PGm ρ (d + 50) m_Md_compares 167 [(0, vR T), (1, vI op)] [vI z] (cn h0 T S) Q → wpB PGm ρ (d + 50) m_Md_compares 121 [(0, vR T), (1, vI op), (2, vI ((2100 * t + n - 1 - 1 : Nat) : Int)), (3, vI ((2100 * t + n - 1 : Nat) : Int))] [] (cn h0 T S) Q) → (S f_Md_pileType (2100 * t + n - 1 - 1) = S f_Md_pileType (2100 * t + n - 1) ∧ (S f_Md_pileType (2100 * t + n - 1 - 1) = 2 ∨ S f_Md_pileType (2100 * t + n - 1 - 1) = 3)) → (∃ s : Int, ((X o f_Task_tags (n - 1 - 1) = 2 ∧ X o f_Task_tags (n - 1) = 2 ∧ s = 1) ∨ (¬ (X o f_Task_tags (n - 1 - 1) = 2 ∧ X o f_Task_tags (n - 1) = 2) ∧ s = 0)) ∧ ∀ (u : Int), ((X o f_Task_tags (n - 1 - 1) = 3 ∧ X o f_Task_tags (n - 1) = 3 ∧ u = 1) ∨ (¬ (X o f_Task_tags (n - 1 - 1) = 3 ∧ X o f_Task_tags (n - 1) = 3) ∧ u = 0)) → ∀ d Q, wpB PGm ρ (d + 59) m_Machine_operate 185 [(0, vR (C + 32)), (1, vI op), (2, vI ((n - 1 - 1 : Nat) : Int))] [vI z] (cc h C X Y) Q → wpB PGm ρ (d + 59) m_Machine_operate 136 [(0, vR (C + 32)), (1, vI op), (2, vI ((n - 1 - 1 : Nat) : Int)), (4, vL (X o f_Task_words (n - 1 - 1))), (6, vL (X o f_Task_words (n - 1))), (8, vI s)] [vI u] (cc h C X Y) Q) → SOP ρ P Γ h C X Y S N t o c op a b := by
    intro z kT kt ⟨s, hs, kC⟩
    obtain ⟨w, w1, w0, w01⟩ : ∃ w : Int, (cmO op z → w = 1) ∧ (¬ cmO op z → w = 0) ∧ (w = 0 ∨ w = 1) := by
      by_cases q : cmO op z
      · exact ⟨1, fun _ => rfl, fun y => absurd q y, Or.inr rfl⟩
      · exact ⟨0, fun y => absurd y q, fun _ => rfl, Or.inl rfl⟩
    refine SOP.bin (x := 1) (y := w) (ty := 1) (v := w) H hn2 nx ⟨rfl, rfl, Or.inr (Or.inl ⟨rfl, w01⟩)⟩ (crBin H ho2 hn2 s hs (fun d Q q => r_op53 (d := d + 57) I (by omega) (by omega) (fun y => absurd y n14) (fun _ u hu => kC u hu d Q (r_op185 (d := d + 57) I (by omega) ho (fun y => ?_) (fun y => ?_))) (fun y => absurd y nl) (fun y => absurd y n7))) (trCmp hP D ho3 hn2 (fun d h0 T Q p q => s_cmpL (d := d + 49) (hP _ _ p) (by omega) ho (by omega) (by omega) (fun y => absurd kt y) (fun _ _ => kT d h0 T _ (hP _ _ p) (s_cmp167 (d := d + 49) (hP _ _ p) ho (fun y => ?_) (fun y => ?_)))))
    · have e := w1 y; subst e; exact q
    · have e := w0 y; subst e; exact q
    · have e := w1 y; subst e; exact s_171 (d := d + 44) (hP _ _ p) D hn2 q
    · have e := w0 y; subst e; exact s_171 (d := d + 44) (hP _ _ p) D hn2 q
  by_cases q : X o f_Task_tags (n - 1 - 1) = 2 ∧ X o f_Task_tags (n - 1) = 2
  · obtain ⟨u1, u2, u3⟩ := V1.num q.1
    obtain ⟨u4, u5, u6⟩ := V2.num q.2
    have b1 : S f_Md_pileType (2100 * t + n - 1 - 1) = 2 := by rw [p1]; exact u1
    have b2 : S f_Md_pileType (2100 * t + n - 1) = 2 := by rw [p2]; exact u4
    refine fin (if X o f_Task_words (n - 1 - 1) < X o f_Task_words (n - 1) then -1 else if X o f_Task_words (n - 1 - 1) = X o f_Task_words (n - 1) then 0 else 1) (fun d h0 T Q O' g => s_cmp121 (d := d + 49) O' (by omega) (by omega) (by omega) (fun _ => ?_) (fun c => absurd b1 c)) ⟨by rw [b1, b2], Or.inl b1⟩ ⟨1, Or.inl ⟨q.1, q.2, rfl⟩, fun u hu d Q g => r_op136 (d := d + 57) I (by omega) (by omega) ho (fun c => absurd c (by decide)) (fun _ => g) (fun c => absurd c (by decide))⟩
    rw [p1, p2, ← u2, ← u5]; exact g
  · by_cases q3 : X o f_Task_tags (n - 1 - 1) = 3 ∧ X o f_Task_tags (n - 1) = 3
    · obtain ⟨z, z1, z2⟩ := K.cmp (ρ := ρ) (Y := Y) G F V1 V2 q3.1 q3.2
      have b1 : S f_Md_pileType (2100 * t + n - 1 - 1) = 3 := by rw [p1, ← V1.1]; exact q3.1
      have b2 : S f_Md_pileType (2100 * t + n - 1) = 3 := by rw [p2, ← V2.1]; exact q3.2
      refine fin z (fun d h0 T Q O' g => s_cmp121 (d := d + 49) O' (by omega) (by omega) (by omega) (fun c => absurd c (by omega)) (fun _ => ⟨z, fun Q' y => ?_, g⟩)) ⟨by rw [b1, b2], Or.inr b1⟩ ⟨0, Or.inr ⟨q, rfl⟩, fun u hu d Q g => r_op136 (d := d + 57) I (by omega) (by omega) ho (fun _ c => ?_) (fun c => absurd rfl c) (fun _ _ => ⟨z, fun Q' y => z2 _ _ (by omega) y, g⟩)⟩
      · rw [p1, p2]; exact z1 _ _ _ _ O' y
      · rcases hu with ⟨-, -, e⟩ | ⟨e, -⟩
        · omega
        · exact absurd q3 e
    · refine SOP.er (x := 1) H (by decide) (crBin H ho2 hn2 0 (Or.inr ⟨q, rfl⟩) (fun d Q y => r_op53 (d := d + 57) I (by omega) (by omega) (fun y => absurd y n14) (fun _ u hu => r_op136 (d := d + 57) I (by omega) (by omega) ho (fun _ _ => y) (fun c => absurd rfl c) (fun _ c => absurd ?_ c)) (fun y => absurd y nl) (fun y => absurd y n7))) (trCmp hP D ho3 hn2 (fun d h0 T Q p y => s_cmpL (d := d + 49) (hP _ _ p) (by omega) ho (by omega) (by omega) (fun _ => ⟨?_, ?_, y⟩) (fun c c2 => ?_)))
      · rcases hu with ⟨e1, e2, -⟩ | ⟨-, e⟩
        · exact absurd ⟨e1, e2⟩ q3
        · exact e
      · show hK h0 _ ≠ 0; rw [(hP _ _ p).2.2]; decide
      · show hK h0 _ ≠ 0; rw [(hP _ _ p).2.2]; decide
      · rw [p1, p2, ← V1.1, ← V2.1] at c
        rw [p1, ← V1.1] at c2
        exfalso
        rcases c2 with c2 | c2
        · exact q ⟨c2, by rw [← c]; exact c2⟩
        · exact q3 ⟨c2, by rw [← c]; exact c2⟩
end
