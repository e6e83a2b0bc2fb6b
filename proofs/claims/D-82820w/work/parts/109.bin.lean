/-! operators of two values: joined -/
set_option maxRecDepth 20000
section
variable {ρ : Nat → Nat} {P : ah → Nat → Prop} {Γ Γ' : GH} {h h' : ah} {C : Nat} {X X' X1 : X3} {Y Y' : Y3} {S S' S1 : SS} {N t o n c r f i j k m n' p' : Nat} {op a b ty v x y : Int}
theorem SOP.bin (H : OPH Γ h C X Y S N t o n c r) (hn2 : 2 ≤ n) (nx : NXT Γ S (fsS S t (c - 1)) (psS S t (c - 1)) 0 1 0 0) (V : VR Γ S N x y ty v) (q1 : CRUN ρ C op a b h X Y none h (ansX X o (n - 1 - 1) c x y) Y) (q2 : TRUN ρ P S none (atS (binS S t n ty v) t c ((psS S t (c - 1) + 1 : Nat) : Int))) : SOP ρ P Γ h C X Y S N t o c op a b := by
  have K := H.2.2.1
  have h20 := K.2.2.1.2.2
  have e1 : 2100 * t + n - 1 - 1 = 2100 * t + (n - 1 - 1) := by omega
  have ns : NSt t S (binS S t n ty v) := by
    unfold binS isS
    rw [e1]
    exact NSt.u (tk2 (by decide) (by omega)) (NSt.u (tk2 (by decide) (by omega)) (NSt.u (tk1 (by decide)) (NSt.u (tk5 (by decide)) (NSt.u (tk5 (by decide)) NSt.rf))))
  have es : EXS LS8 S (binS S t n ty v) := by
    unfold binS isS
    exact EXS.u (by decide) (EXS.u (by decide) (EXS.u (by decide) (EXS.u (by decide) (EXS.u (by decide) EXS.rf))))
  have ex : EXX LX8 X (u3 (u3 (u3 X o f_Task_size 0 ((n - 1 - 1 + 1 : Nat) : Int)) o f_Task_tags (n - 1 - 1) x) o f_Task_words (n - 1 - 1) y) := EXX.u (by decide) (EXX.u (by decide) (EXX.u (by decide) EXX.rf))
  have pl : PIL Γ (u3 (u3 (u3 X o f_Task_size 0 ((n - 1 - 1 + 1 : Nat) : Int)) o f_Task_tags (n - 1 - 1) x) o f_Task_words (n - 1 - 1) y) (binS S t n ty v) N o t (n - 1) := by
    intro i hi
    have a1 : binS S t n ty v f_Md_pileType (2100 * t + i) = if i = n - 1 - 1 then ty else S f_Md_pileType (2100 * t + i) := by
      unfold binS isS
      rw [u2_f (by decide), u2_e]
      by_cases q : i = n - 1 - 1
      · rw [if_pos ⟨rfl, by omega⟩, if_pos q]
      · rw [if_neg (fun z => q (by omega)), if_neg q, u2_f (by decide), u2_f (by decide), u2_f (by decide)]
    have a2 : binS S t n ty v f_Md_pileValue (2100 * t + i) = if i = n - 1 - 1 then v else S f_Md_pileValue (2100 * t + i) := by
      unfold binS isS
      rw [u2_e]
      by_cases q : i = n - 1 - 1
      · rw [if_pos ⟨rfl, by omega⟩, if_pos q]
      · rw [if_neg (fun z => q (by omega)), if_neg q, u2_f (by decide), u2_f (by decide), u2_f (by decide), u2_f (by decide)]
    have a3 : u3 (u3 (u3 X o f_Task_size 0 ((n - 1 - 1 + 1 : Nat) : Int)) o f_Task_tags (n - 1 - 1) x) o f_Task_words (n - 1 - 1) y o f_Task_tags i = if i = n - 1 - 1 then x else X o f_Task_tags i := by
      rw [u3_f (by decide), u3_e]
      by_cases q : i = n - 1 - 1
      · rw [if_pos ⟨rfl, rfl, q⟩, if_pos q]
      · rw [if_neg (fun z => q z.2.2), if_neg q, u3_f (by decide)]
    have a4 : u3 (u3 (u3 X o f_Task_size 0 ((n - 1 - 1 + 1 : Nat) : Int)) o f_Task_tags (n - 1 - 1) x) o f_Task_words (n - 1 - 1) y o f_Task_words i = if i = n - 1 - 1 then y else X o f_Task_words i := by
      rw [u3_e]
      by_cases q : i = n - 1 - 1
      · rw [if_pos ⟨rfl, rfl, q⟩, if_pos q]
      · rw [if_neg (fun z => q z.2.2), if_neg q, u3_f (by decide), u3_f (by decide)]
    rw [a1, a2, a3, a4]
    by_cases q : i = n - 1 - 1
    · rw [if_pos q, if_pos q, if_pos q, if_pos q]
      exact ns.vr V
    · rw [if_neg q, if_neg q, if_neg q, if_neg q]
      exact ns.vr (H.pl (by omega))
  obtain ⟨A, B⟩ := CT.nxt (n' := n - 1) (S1 := binS S t n ty v) (X1 := u3 (u3 (u3 X o f_Task_size 0 ((n - 1 - 1 + 1 : Nat) : Int)) o f_Task_tags (n - 1 - 1) x) o f_Task_words (n - 1 - 1) y) H nx ns es ex (by rw [u3_f (by decide), u3_f (by decide), u3_s]; omega) (by unfold binS; rw [u2_f (by decide), u2_f (by decide), u2_s]) (by omega) (by omega) pl
  exact ⟨none, _, _, n - 1, r, A, B, go_nx (NXo.u (by decide) (NXo.u (by decide) (NXo.u (by decide) NXo.rf))), trivial, q1, q2⟩
theorem VR.num (V : VR Γ S N x y ty v) (e : x = 2) : ty = 2 ∧ y = v ∧ -9223372036854775808 ≤ v ∧ v < 9223372036854775808 := by
  obtain ⟨a1, a2, a3⟩ := V
  subst a1 e
  unfold VO at a3
  refine ⟨rfl, a2, ?_⟩
  omega
theorem o64_rng {g : Int64 → Int64 → Int64} {v w : Int} : -9223372036854775808 ≤ o64 g v w ∧ o64 g v w < 9223372036854775808 := by
  unfold o64
  have := (g (Int64.ofInt v) (Int64.ofInt w)).le_toInt
  have := (g (Int64.ofInt v) (Int64.ofInt w)).toInt_lt
  omega
theorem arN_rng {v w : Int} : -9223372036854775808 ≤ arN op v w ∧ arN op v w < 9223372036854775808 := by
  unfold arN
  repeat' split
  · exact w64_rng _
  · exact w64_rng _
  · exact w64_rng _
  · exact o64_rng
  · exact o64_rng
/-- arithmetic, but for texts -/
theorem op_ARI (hP : ∀ h0 T, P h0 T → TOK h0 T) (H : OPH Γ h C X Y S N t o n c r) (ho : op = 7 ∨ op = 8 ∨ op = 9 ∨ op = 10 ∨ op = 11) (O : OPT Γ S (fsS S t (c - 1)) (psS S t (c - 1)) op a b) (D : DF S t n c (fsS S t (c - 1)) (psS S t (c - 1)) k op a b) (hh : n = bsS S t (c - 1) + ghs Γ (fsS S t (c - 1)) (psS S t (c - 1))) (nj : ¬ (op = 7 ∧ ¬ (X o f_Task_tags (n - 1 - 1) = 2 ∧ X o f_Task_tags (n - 1) = 2))) : SOP ρ P Γ h C X Y S N t o c op a b := by
  obtain ⟨h1, nx⟩ := O.2.2.2.2.2.2.2.2.1 (by omega)
  have d2 := D.2.1
  have V1 := H.pl (i := n - 1 - 1) (by omega)
  have V2 := H.pl (i := n - 1) (by omega)
  have I := H.ix
  have p1 : 2100 * t + n - 1 - 1 = 2100 * t + (n - 1 - 1) := by omega
  have p2 : 2100 * t + n - 1 = 2100 * t + (n - 1) := by omega
  have hTF := D.1
  have ho2 : (7 ≤ op ∧ op ≤ 11) ∨ (14 ≤ op ∧ op ≤ 19) := by omega
  have ho5 : 5 ≤ op ∧ op < 20 := by omega
  have n14 : op < 14 := by omega
  have n67 : ¬ (op = 14 ∨ op = 15) := by omega
  have n16 : ¬ 16 ≤ op := by omega
  -- T's run up to the numbers
  have tr : ∀ {e : Option Int} {S' : SS}, (∀ d h0 T Q, P h0 T → Q (oE e (hR h0 f_Md_halt T)) (cn h0 T S') → wpB PGm ρ (d + 5 + 1) m_Md_numbers 95 [(0, vR T), (1, vI op), (2, vI ((2100 * t + n - 1 - 1 : Nat) : Int)), (3, vI ((2100 * t + n - 1 : Nat) : Int)), (4, vL (S f_Md_pileValue (2100 * t + n - 1 - 1))), (6, vL (S f_Md_pileValue (2100 * t + n - 1)))] [] (cn h0 T S) (cV (fun h38 => wpB PGm ρ (d + 7) m_Md_operators 171 [(0, vR T), (3, vI ((2100 * t + n - 1 - 1 : Nat) : Int))] [] h38 (dK ρ d T Q)) (fun e h' => hK h' e ≠ 0 ∧ dK ρ d T Q (Sum.inr e) h'))) → TRUN ρ P S e S' := by
    intro e S' g d h0 T Q p q
    have O' := hP _ _ p
    have g' := g (d + 52) h0 T Q p q
    have nj2 : ¬ (op = 7 ∧ jnO (S f_Md_pileType (2100 * t + n - 1 - 1)) (S f_Md_pileType (2100 * t + n - 1))) := by
      rintro ⟨z1, z2⟩
      refine nj ⟨z1, fun z3 => ?_⟩
      unfold jnO at z2
      rw [p1, p2, ← V1.1, ← V2.1] at z2
      omega
    clear nj g
    refine s_does_opr (d := d + 52) O' D ho5 ?_
    refine b_Md_operators_0 ⟨O'.1, s_h O' hTF (by omega) (by omega) ?_⟩
    have w1 : w32 (((2100 * t + n : Nat) : Int) - 1) = ((2100 * t + n - 1 : Nat) : Int) := w32_m1 (by omega)
    have w2 : w32 (((2100 * t + n - 1 : Nat) : Int) - 1) = ((2100 * t + n - 1 - 1 : Nat) : Int) := w32_m1 (by omega)
    have n5 : ¬ op = 5 := by omega
    have n6 : ¬ op = 6 := by omega
    have n12 : ¬ op = 12 := by omega
    have n13 : ¬ op = 13 := by omega
    refine ⟨fun _ => ⟨fun _ => ⟨fun _ => ⟨fun _ => ⟨fun z => by omega, fun _ => ⟨O'.1, ?_⟩⟩, fun z => absurd z n13⟩, fun z => absurd z n12⟩, fun z => absurd z n6⟩, fun z => absurd z n5⟩
    rw [w1, w2]
    exact s_numbers (d := d + 52 + 4) O' (by omega) (by omega) (fun _ => g') (fun z z2 => absurd ⟨z, z2⟩ nj2)
  -- C's run
  have cr : ∀ {e : Option Int} {X' : X3} (s : Int), ((X o f_Task_tags (n - 1 - 1) = 2 ∧ X o f_Task_tags (n - 1) = 2 ∧ s = 1) ∨ (¬ (X o f_Task_tags (n - 1 - 1) = 2 ∧ X o f_Task_tags (n - 1) = 2) ∧ s = 0)) → (∀ d Q, Q (oE e (C + 33)) (cc h C X' Y) → wpB PGm ρ (d + 57 + 2) m_Machine_operate 291 [(0, vR (C + 32)), (1, vI op), (2, vI ((n - 1 - 1 : Nat) : Int)), (4, vL (X o f_Task_words (n - 1 - 1))), (6, vL (X o f_Task_words (n - 1))), (8, vI s)] [] (cc h C X Y) Q) → CRUN ρ C op a b h X Y e h X' Y := by
    intro e X' s hs g d Q q
    refine r_opI (d := d + 40) I (by omega) ho2 (r_op0 (d := d + 58) I (by omega) (by omega) hs (r_op53 (d := d + 57) I (by omega) (by omega) (fun z => absurd z n67) (fun z => absurd z n16) (fun _ z => g d _ ?_) (fun z z2 => absurd ?_ nj)))
    · cases e with
      | none => exact q
      | some x =>
        refine ⟨?_, q⟩
        show hK h (C + 33) ≠ 0
        rw [H.2.1.1.2.1]; decide
    · rcases hs with ⟨-, -, c⟩ | ⟨c, -⟩
      · omega
      · exact ⟨z, c⟩
  by_cases hq : X o f_Task_tags (n - 1 - 1) = 2 ∧ X o f_Task_tags (n - 1) = 2
  · obtain ⟨u1, u2, u3⟩ := V1.num hq.1
    obtain ⟨u4, u5, u6⟩ := V2.num hq.2
    have hs : ((X o f_Task_tags (n - 1 - 1) = 2 ∧ X o f_Task_tags (n - 1) = 2 ∧ (1 : Int) = 1) ∨ (¬ (X o f_Task_tags (n - 1 - 1) = 2 ∧ X o f_Task_tags (n - 1) = 2) ∧ (1 : Int) = 0)) := Or.inl ⟨hq.1, hq.2, rfl⟩
    by_cases z : (op = 10 ∨ op = 11) ∧ X o f_Task_words (n - 1) = 0
    · refine SOP.er (x := 2) H (by decide) (cr 1 hs fun d Q q => r_op291 I (by omega) ho (fun _ c => absurd z c) (fun _ _ _ => q) (fun c => absurd c (by decide))) (tr fun d h0 T Q p q => s_n95 (hP _ _ p) (by omega) (by omega) (fun _ _ => s_n120 (hP _ _ p) (by rw [p1]; exact u3) ho (fun c => absurd ⟨z.1, by rw [p2, ← u5]; exact z.2⟩ c) (fun _ _ => ⟨?_, ?_, q⟩)) (fun c => absurd ?_ c))
      · show hK h0 _ ≠ 0; rw [(hP _ _ p).2.2]; decide
      · show hK h0 _ ≠ 0; rw [(hP _ _ p).2.2]; decide
      · rw [p1, p2]; exact ⟨u1, u4⟩
    · refine SOP.bin (x := 2) (y := arN op (X o f_Task_words (n - 1 - 1)) (X o f_Task_words (n - 1))) (ty := 2) (v := arN op (X o f_Task_words (n - 1 - 1)) (X o f_Task_words (n - 1))) H (by omega) nx ⟨rfl, rfl, Or.inr (Or.inr (Or.inl ⟨rfl, arN_rng⟩))⟩ (cr 1 hs fun d Q q => r_op291 I (by omega) ho (fun _ _ => q) (fun _ c c2 => absurd ⟨c, c2⟩ z) (fun c => absurd c (by decide))) (tr fun d h0 T Q p q => s_n95 (hP _ _ p) (by omega) (by omega) (fun _ _ => s_n120 (hP _ _ p) (by rw [p1]; exact u3) ho (fun c => s_171 (hP _ _ p) D (by omega) ?_) (fun c c2 => absurd ⟨c, ?_⟩ z)) (fun c => absurd ?_ c))
      · rw [p1, p2, ← u2, ← u5]; exact q
      · rw [p1, p2]; exact ⟨u1, u4⟩
      · rw [p2, ← u5] at c2; exact c2
  · have hs : ((X o f_Task_tags (n - 1 - 1) = 2 ∧ X o f_Task_tags (n - 1) = 2 ∧ (0 : Int) = 1) ∨ (¬ (X o f_Task_tags (n - 1 - 1) = 2 ∧ X o f_Task_tags (n - 1) = 2) ∧ (0 : Int) = 0)) := Or.inr ⟨hq, rfl⟩
    refine SOP.er (x := 1) H (by decide) (cr 0 hs fun d Q q => r_op291 I (by omega) ho (fun c => absurd rfl c) (fun c => absurd rfl c) (fun _ => q)) (tr fun d h0 T Q p q => s_n95 (hP _ _ p) (by omega) (by omega) (fun c c2 => absurd ?_ hq) (fun _ => ⟨?_, ?_, q⟩))
    · rw [p1, ← V1.1] at c; rw [p2, ← V2.1] at c2; exact ⟨c, c2⟩
    · show hK h0 _ ≠ 0; rw [(hP _ _ p).2.2]; decide
    · show hK h0 _ ≠ 0; rw [(hP _ _ p).2.2]; decide
end
