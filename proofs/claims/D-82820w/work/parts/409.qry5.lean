set_option maxRecDepth 20000
section
variable {ρ : Nat → Nat} {d : Nat} {Q : QT} {Γ Γ' Γ1 Γ2 : GH} {h h' h1 h2 H : ah} {C ho N M z s t o n c r i j k p a T cd fn ck mk vs rk np : Nat} {g g' : HG} {S S' S1 S2 : SS} {X X' X1 X2 : X3} {Y Y' Y1 Y2 : Y3} {ws ws' hw : List (List Int)} {x y ty v fl l1 l2 l3 l4 : Int} {h0 : ah}
/-- what is told of a value -/
def tdA (S : SS) (ty v w : Int) : Int := if w = 0 then ty else if ty = 3 then S f_Md_textLength v.toNat else if ty = 0 then 0 else v
theorem c_tell (A : ALL ρ Γ h C ho X Y S g N M hw ws) (LT : LTM h C) (V : VR Γ S N x y ty v) (q : Q (Sum.inl (some (vL (tdA S ty v l4)))) (cc h C X Y)) : wpB PGm ρ d m_LT_tell 0 [(0, vR C), (1, vI x), (2, vL y), (4, vI l4)] [] (cc h C X Y) Q := by
  have G := A.1.1.1
  have F := A.1.1.2
  unfold tdA at q
  have e1 := V.1
  refine b_LT_tell_0 ⟨fun m0 => ⟨fun m3 => ⟨fun m4 => ?_, fun m4 => ?_⟩, fun m3 => ⟨LT.1, ?_⟩⟩, fun m0 => ?_⟩
  · rw [if_neg m0, if_neg (by rw [← e1]; exact m3), if_neg (by rw [← e1]; exact m4)] at q
    have e2 := V.2.1
    unfold cw at e2
    rw [if_neg (by rw [← e1]; exact m3)] at e2
    rw [e2]; exact q
  · rw [if_neg m0, if_neg (by rw [← e1]; exact m3), if_pos (by rw [← e1]; exact m4)] at q; exact q
  · rw [if_neg m0, if_pos (by rw [← e1]; exact m3)] at q
    obtain ⟨m, l, em, ⟨a, tb1, tb2, tb3, tb4, tb5⟩, b, b', ey, c1, c2, c3, c4, c5, c6, c7, c8⟩ := A.1.2.2.2.2.1.find V (by rw [← e1]; exact m3)
    rw [em, Int.toNat_natCast, tb3] at q
    have rm : hR (cc h C X Y) f_LT_machine C = C + 32 := by rw [ccRo (by decide)]; exact LT.2.1
    have rt : hR (cc h C X Y) f_Machine_texts (C + 32) = C + 46 := by rw [ccRo (by decide)]; exact F.2.1.2.2.2.1
    have rs : hR (cc h C X Y) f_Texts_size (C + 46) = hR h f_Texts_size (C + 46) := ccRo (by decide)
    have ks : hK (cc h C X Y) (hR h f_Texts_size (C + 46)) = 1 := (G.2.2.2.1 (f_Texts_size, 46, 1) (by decide)).2
    have wy : w32 y = (b : Int) := by rw [ey]; exact w32_of (by omega) (by omega)
    have sa : hA (cc h C X Y) (hR h f_Texts_size (C + 46)) b = (l.length : Int) := by rw [ccA G (by decide)]; exact c5
    rw [rm, rt, rs, ks, wy, Int.toNat_natCast, sa]
    clear wy
    exact ⟨F.1.1, F.1.2.2.2.2.1, ⟨by decide, by omega, by show _ < (hl h _ : Int); omega⟩, q⟩
  · rw [if_pos m0, ← e1] at q; exact q
theorem t_told (O : TOK h0 T) (tx : ty = 3 → ∃ (m : Nat) (l : List Int), v = (m : Int) ∧ TTX S m l) (e : EXS [f_Md_textFrom, f_Md_textLength, f_Md_textSigns] S S1) (q : Q (Sum.inl (some (vL (tdA S ty v l4)))) (cn h0 T S1)) : wpB PGm ρ d m_Md_told 0 [(0, vR T), (1, vI ty), (2, vL v), (4, vI l4)] [] (cn h0 T S1) Q := by
  obtain ⟨kT, G, kH⟩ := O
  unfold tdA at q
  refine b_Md_told_0 ⟨fun m0 => ⟨fun m3 => ⟨fun m4 => ?_, fun m4 => ?_⟩, fun m3 => ?_⟩, fun m0 => ?_⟩
  · rw [if_neg m0, if_neg m3, if_neg m4] at q; exact q
  · rw [if_neg m0, if_neg m3, if_pos m4] at q; exact q
  · rw [if_neg m0, if_pos m3] at q
    obtain ⟨m, l, em, a, tb1, tb2, tb3, tb4, tb5⟩ := tx m3
    rw [em, Int.toNat_natCast] at q
    have b : 0 ≤ (m : Int) ∧ (m : Int) < ((16000 : Nat) : Int) := by omega
    have e2 : S1 f_Md_textLength m = S f_Md_textLength m := e _ (by decide) m
    have wy : w32 v = (m : Int) := by rw [em]; exact w32_of (by omega) (by omega)
    rw [wy]
    clear wy
    simp (decide := true) (disch := first | decide | omega) only [cnI, cnIe, cnR, cnK, cnl, cnA' G, cn_sI, cn_sIe, cn_sA' G, kT, kH, KN G, LN G, u2_f, u2_s, w32_aa, w32_ss, w32_p1, w32_m1, Int.toNat_natCast, true_and, and_true, false_and, and_false, or_false, false_or, ne_eq, not_false_eq_true, forall_const, implies_true, not_true_eq_false, false_implies, e2, b]
    exact q
  · rw [if_pos m0] at q; exact q
/-- results -/
def rsC (S : SS) (l1 l2 : Int) : Int := if (0 ≤ l1 ∧ l1 ≤ 1) ∧ 0 ≤ l2 ∧ l2 ≤ 1 then (if S f_Md_state l1.toNat = 2 ∨ S f_Md_state l1.toNat = 3 then 0 else 2) else 1
def rsA (S : SS) (l1 l2 : Int) : Int := tdA S (S f_Md_resultType l1.toNat) (S f_Md_resultValue l1.toNat) l2
theorem c_hasR (A : ALL ρ Γ h C ho X Y S g N M hw ws) (LT : LTM h C) (ht : t ≤ 1) (q : Q (Sum.inl (some (vI (if S f_Md_state t = 2 ∨ S f_Md_state t = 3 then 1 else 0)))) (cc h C X Y)) : wpB PGm ρ d m_LT_hasResult 0 [(0, vR C), (1, vI (t : Int))] [] (cc h C X Y) Q := by
  have G := A.1.1.1
  have F := A.1.1.2
  have rm : hR (cc h C X Y) f_LT_machine C = C + 32 := by rw [ccRo (by decide)]; exact LT.2.1
  have rf : hR (cc h C X Y) f_Machine_tasks (C + 32) = C + 61 := by rw [ccRo (by decide)]; exact F.2.1.2.2.2.2.2.2.2.2.2.2.1
  obtain ⟨o, hto⟩ := isTO.ex ht
  obtain ⟨-, io⟩ := hto.le
  obtain ⟨n, c, r, K⟩ := A.ct hto
  have i1 : hI (cc h C X Y) f_Task_state (C + o) = S f_Md_state t := by rw [ccIt io (by decide)]; exact K.2.1.1
  refine b_LT_hasResult_0 ⟨LT.1, ?_⟩
  rw [rm, rf, Int.toNat_natCast, eTk F G hto, i1]
  refine ⟨F.1.1, kTk F ht, (F.t io).1, fun z => ?_, fun z => ⟨kTk F ht, fun z2 => ?_, fun z2 => ?_⟩⟩
  · rw [if_pos (Or.inl z)] at q; exact q
  · rw [if_neg (fun c => c.elim z z2)] at q; exact q
  · rw [if_pos (Or.inr z2)] at q; exact q
theorem c_result (A : ALL ρ Γ h C ho X Y S g N M hw ws) (LT : LTM h C) (q0 : rsC S l1 l2 = 0 → Q (Sum.inl (some (vL (rsA S l1 l2)))) (cc h C X Y)) (q1 : rsC S l1 l2 = 1 → Q (Sum.inr (hz h)) (cc (hn h k_IndexOutOfBoundsException 6 0) C X Y)) (q2 : rsC S l1 l2 = 2 → Q (Sum.inr (hz h)) (cc (hn h k_IllegalStateException 6 0) C X Y)) : wpB PGm ρ (d + 12) m_LT_result 0 [(0, vR C), (1, vI l1), (2, vI l2)] [] (cc h C X Y) Q := by
  have G := A.1.1.1
  have F := A.1.1.2
  have rm : hR (cc h C X Y) f_LT_machine C = C + 32 := by rw [ccRo (by decide)]; exact LT.2.1
  have rf : hR (cc h C X Y) f_Machine_tasks (C + 32) = C + 61 := by rw [ccRo (by decide)]; exact F.2.1.2.2.2.2.2.2.2.2.2.2.1
  have e8 : wpB PGm ρ (d + 12) m_LT_result 18 [] [] (cc h C X Y) Q ∨ ¬ rsC S l1 l2 = 1 := by
    by_cases z : rsC S l1 l2 = 1
    · refine Or.inl (b_LT_result_18 (by omega) ?_)
      have q1 := q1 z
      dsimp only
      rw [cc_hn G, show hz (cc h C X Y) = hz h from rfl]
      have kk : hK (cc (hn h k_IndexOutOfBoundsException 6 0) C X Y) (hz h) = k_IndexOutOfBoundsException := by rw [ccK, g_hK_hn, if_pos rfl]
      rw [kk]
      exact ⟨by decide, by decide, q1⟩
    · exact Or.inr z
  have bad : ¬ ((0 ≤ l1 ∧ l1 ≤ 1) ∧ 0 ≤ l2 ∧ l2 ≤ 1) → wpB PGm ρ (d + 12) m_LT_result 18 [] [] (cc h C X Y) Q := fun z => e8.resolve_right (fun c => c (if_neg z))
  refine b_LT_result_0 (d := d + 11) (by omega) ⟨fun c => bad (by omega), fun a1 => ⟨fun c => bad (by omega), fun a2 => ⟨fun c => bad (by omega), fun a3 => ⟨fun a4 => ⟨LT.1, ?_⟩, fun c => bad (by omega)⟩⟩⟩⟩
  have ⟨t, et⟩ : ∃ t : Nat, l1 = (t : Int) := ⟨l1.toNat, by omega⟩
  subst et
  have ht : t ≤ 1 := by omega
  have ok : ((0 : Int) ≤ (t : Int) ∧ (t : Int) ≤ 1) ∧ 0 ≤ l2 ∧ l2 ≤ 1 := by omega
  unfold rsC at q0 q2
  unfold rsA at q0
  rw [if_pos ok, Int.toNat_natCast] at q0 q2
  clear q1 e8 bad
  refine c_hasR A LT ht ?_
  dsimp only [cI]
  refine ⟨fun z => ⟨LT.1, ?_⟩, fun z => ?_⟩
  · have st : S f_Md_state t = 2 ∨ S f_Md_state t = 3 := Classical.byContradiction fun c => z (if_neg c)
    obtain ⟨o, hto⟩ := isTO.ex ht
    obtain ⟨-, io⟩ := hto.le
    obtain ⟨n, c, r, K⟩ := A.ct hto
    have i1 : hI (cc h C X Y) f_Task_tag (C + o) = X o f_Task_tag 0 := by rw [ccIt io (by decide)]
    have i2 : hI (cc h C X Y) f_Task_word (C + o) = X o f_Task_word 0 := by rw [ccIt io (by decide)]
    rw [rm, rf, Int.toNat_natCast, eTk F G hto, i1, i2]
    exact ⟨F.1.1, kTk F ht, (F.t io).1, kTk F ht, c_tell A LT (K.2.2.2.2.2.2.2.2.2.1 st) (q0 (if_pos st))⟩
  · have st : ¬ (S f_Md_state t = 2 ∨ S f_Md_state t = 3) := fun c => by rw [if_pos c] at z; exact absurd z (by decide)
    have q2 := q2 (if_neg st)
    rw [cc_hn G, show hz (cc h C X Y) = hz h from rfl]
    have kk : hK (cc (hn h k_IllegalStateException 6 0) C X Y) (hz h) = k_IllegalStateException := by rw [ccK, g_hK_hn, if_pos rfl]
    rw [kk]
    exact ⟨by decide, by decide, q2⟩
def thQ (S : SS) (w : Int) : SS := u2 S f_Md_thrown 0 w
theorem cn_tq {w : Int} : sI (cn h0 T S) f_Md_thrown T w = cn h0 T (thQ S w) := cn_sI (by decide)
theorem t_result (O : TOK h0 T) (tx : ∀ t, t ≤ 1 → (S f_Md_state t = 2 ∨ S f_Md_state t = 3) → S f_Md_resultType t = 3 → ∃ (m : Nat) (l : List Int), S f_Md_resultValue t = (m : Int) ∧ TTX S m l) (q : Q (Sum.inl (some (vL (if rsC S l1 l2 = 0 then rsA S l1 l2 else 0)))) (cn h0 T (thQ S (rsC S l1 l2)))) : wpB PGm ρ (d + 2) m_Md_result 0 [(0, vR T), (1, vI l1), (2, vI l2)] [] (cn h0 T S) Q := by
  have O' := O
  obtain ⟨kT, G, kH⟩ := O
  have kM : ∀ S : SS, hK (cn h0 T S) T = k_Md := fun S => by rw [cnK]; exact kT
  have bad : ¬ ((0 ≤ l1 ∧ l1 ≤ 1) ∧ 0 ≤ l2 ∧ l2 ≤ 1) → wpB PGm ρ (d + 2) m_Md_result 20 [(0, vR T)] [] (cn h0 T S) Q := fun z => by
    have e : rsC S l1 l2 = 1 := if_neg z
    rw [e, if_neg (by decide)] at q
    refine b_Md_result_20 ⟨kM _, ?_⟩
    rw [cn_tq]
    exact q
  refine b_Md_result_0 (d := d + 1) (t_inF (fun a1 a2 => ⟨fun c => absurd c (by decide), fun _ => ?_⟩) (fun a1 => ⟨fun _ => bad (by omega), fun c => absurd rfl c⟩))
  refine t_inF (fun a3 a4 => ⟨fun _ => ⟨kM _, ?_⟩, fun c => absurd c (by decide)⟩) (fun a3 => ⟨fun c => absurd rfl c, fun _ => bad (by omega)⟩)
  have ⟨t, et⟩ : ∃ t : Nat, l1 = (t : Int) := ⟨l1.toNat, by omega⟩
  subst et
  have ht : t ≤ 1 := by omega
  have ok : ((0 : Int) ≤ (t : Int) ∧ (t : Int) ≤ 1) ∧ 0 ≤ l2 ∧ l2 ≤ 1 := by omega
  unfold rsC rsA at q
  rw [if_pos ok, Int.toNat_natCast] at q
  replace tx := tx t ht
  have bt : 0 ≤ (t : Int) ∧ (t : Int) < ((2 : Nat) : Int) := by omega
  clear bad
  have i0 : ∀ w, hI (cn h0 T (thQ S w)) f_Md_thrown T = w := fun w => by rw [cnI (by decide)]; exact u2_s
  have yes : (S f_Md_state t = 2 ∨ S f_Md_state t = 3) → wpB PGm ρ (d + 2) m_Md_result 53 [(0, vR T), (1, vI (t : Int)), (2, vI l2)] [vI 0, vR T] (cn h0 T S) Q := fun st => by
    rw [if_pos st, if_pos rfl] at q
    refine b_Md_result_53 (d := d + 1) ⟨kM _, ?_⟩
    rw [cn_tq]
    refine ⟨kM _, ?_⟩
    rw [i0]
    refine ⟨fun _ => ?_, fun c => absurd c (by decide)⟩
    have g1 := t_told (ρ := ρ) (d := d + 1) (Q := cL (fun x17 h12 => Q (Sum.inl (some (vL x17))) h12) (fun e15 h14 => hK h14 e15 ≠ 0 ∧ Q (Sum.inr e15) h14)) (S1 := thQ S 0) O' (tx st) (fun f hf i => u2_f (by rintro rfl; exact absurd hf (by decide))) q
    clear tx q
    have e2 : ∀ f, f ≠ f_Md_thrown → thQ S 0 f t = S f t := fun f hf => u2_f hf
    simp (decide := true) (disch := first | decide | omega) only [cnI, cnIe, cnR, cnK, cnl, cnA' G, cn_sI, cn_sIe, cn_sA' G, kT, kH, KN G, LN G, u2_f, u2_s, w32_aa, w32_ss, w32_p1, w32_m1, Int.toNat_natCast, true_and, and_true, false_and, and_false, or_false, false_or, ne_eq, not_false_eq_true, forall_const, implies_true, not_true_eq_false, false_implies, e2, bt]
    exact g1
  have no : ¬ (S f_Md_state t = 2 ∨ S f_Md_state t = 3) → wpB PGm ρ (d + 2) m_Md_result 53 [(0, vR T), (1, vI (t : Int)), (2, vI l2)] [vI 2, vR T] (cn h0 T S) Q := fun st => by
    rw [if_neg st, if_neg (by decide)] at q
    refine b_Md_result_53 (d := d + 1) ⟨kM _, ?_⟩
    rw [cn_tq]
    refine ⟨kM _, ?_⟩
    rw [i0]
    exact ⟨fun c => absurd c (by decide), fun _ => q⟩
  clear tx q
  simp (decide := true) (disch := first | decide | omega) only [cnI, cnIe, cnR, cnK, cnl, cnA' G, cn_sI, cn_sIe, cn_sA' G, kT, kH, KN G, LN G, u2_f, u2_s, w32_aa, w32_ss, w32_p1, w32_m1, Int.toNat_natCast, true_and, and_true, false_and, and_false, or_false, false_or, ne_eq, not_false_eq_true, forall_const, implies_true, not_true_eq_false, false_implies, bt]
  exact ⟨fun z => yes (Or.inl z), fun z => ⟨fun z2 => no (fun c => c.elim z z2), fun z2 => yes (Or.inr z2)⟩⟩
end
