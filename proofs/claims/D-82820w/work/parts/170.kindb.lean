/-! the builtin kind: T, and both -/
set_option maxRecDepth 20000
section
variable {ρ : Nat → Nat} {P : ah → Nat → Prop} {d : Nat} {Q : QT} {Γ Γ' : GH} {h h0 h1 h' : ah} {C ho T : Nat} {X X' X1 X2 : X3} {Y Y' : Y3} {S S' S1 S2 : SS} {N t o n c r f i j k m z s n' pu po p tn w sn mn us am ab tm mb A : Nat} {ty v x y op a b p' : Int} {L : List Nat} {bs cs : List Int}
theorem s_KIND (K : TKS ρ h0 T) (D : DF S t n c f p k 28 6 b) (n1 : 1 ≤ n) (V8 : 0 ≤ S f_Md_pileType (2100 * t + (n - 1)) ∧ S f_Md_pileType (2100 * t + (n - 1)) ≤ 8) (hk : (kdX (S f_Md_pileType (2100 * t + (n - 1))) (S f_Md_pileValue (2100 * t + (n - 1)))).2 = bs) (M : TMS S tm mb am ab) (q1 : am < 12000 → ab + bs.length ≤ 200000 → Q (Sum.inl none) (cn h0 T (atS (putS (mtS (spS (u2 S f_Md_spelling 0 0) 0 bs) tm mb am ab bs) (2100 * t + (n - 1)) 3 ((4000 + tm : Nat) : Int)) t c ((p + 1 : Nat) : Int)))) (q2 : ¬ (am < 12000 ∧ ab + bs.length ≤ 200000) → Q (Sum.inr (hR h0 f_Md_halt T)) (cn h0 T (erS (spS (u2 S f_Md_spelling 0 0) 0 bs) 99))) : wpB PGm ρ (d + 60) m_Md_does 0 [(0, vR T)] [] (cn h0 T S) Q := by
  have O' := K.1
  have d2 := D.2.1
  have ok := kdX_ok (x := S f_Md_pileType (2100 * t + (n - 1))) (y := S f_Md_pileValue (2100 * t + (n - 1)))
  rw [hk] at ok
  have l20 := ok.2.2
  have rg := ok.2.1
  have w2 : w32 (((2100 * t + n : Nat) : Int) - 1) = ((2100 * t + (n - 1) : Nat) : Int) := by
    have : 2100 * t + (n - 1) = 2100 * t + n - 1 := by omega
    rw [this]; exact w32_m1 (by omega)
  have sS : ∀ {f i}, f ≠ f_Md_spelt → f ≠ f_Md_spelling → spS (u2 S f_Md_spelling 0 0) 0 bs f i = S f i := fun {f i} h1 h2 => by unfold spS; rw [u2_f h2, sp1_o h1, u2_f h2]
  have c1' : 0 ≤ ((2100 * t + (n - 1) : Nat) : Int) ∧ ((2100 * t + (n - 1) : Nat) : Int) < ((4200 : Nat) : Int) := by omega
  have M2 : TMS (spS (u2 S f_Md_spelling 0 0) 0 bs) tm mb am ab := ⟨⟨by rw [sS (by decide) (by decide)]; exact M.1.1, by rw [sS (by decide) (by decide)]; exact M.1.2.1, by rw [sS (by decide) (by decide)]; exact M.1.2.2.1, by rw [sS (by decide) (by decide)]; exact M.1.2.2.2⟩, M.2⟩
  have kT := O'.1
  have G0 := O'.2.1
  have gg : wpB PGm ρ (d + 57) m_Md_spellKind 0 [(0, vR T), (1, vI (S f_Md_pileType (2100 * t + (n - 1)))), (2, vL (S f_Md_pileValue (2100 * t + (n - 1))))] [] (cn h0 T (u2 S f_Md_spelling 0 0)) (cV (fun h114 => hK h114 T = k_Md ∧ wpB PGm ρ (d + 57) m_Md_madeText 0 [(0, vR T)] [] h114 (cI (fun x126 h121 => hK h121 T = k_Md ∧ wpB PGm ρ (d + 57) m_Md_put 0 [(0, vR T), (1, vI ((2100 * t + (n - 1) : Nat) : Int)), (2, vI 3), (3, vL x126)] [] h121 (cV (fun h129 => bK ρ (d + 52) T Q (Sum.inl none) h129) (fun e132 h131 => hK h131 e132 ≠ 0 ∧ bK ρ (d + 52) T Q (Sum.inr e132) h131))) (fun e124 h123 => hK h123 e124 ≠ 0 ∧ bK ρ (d + 52) T Q (Sum.inr e124) h123))) (fun e117 h116 => hK h116 e117 ≠ 0 ∧ bK ρ (d + 52) T Q (Sum.inr e117) h116)) := by
    refine s_spellKind (d := d + 56) K V8 u2_s (by omega) ⟨kT, ?_⟩
    rw [hk]
    refine s_madeText (d := d + 54) O' M2 (by unfold spS; rw [u2_s, Nat.zero_add]) (fun i hi => ?_) rg (by omega) (fun r1 r2 => ⟨kT, s_putP O' (by omega) (bK_fin O' D ?_ ?_ (q1 r1 r2))⟩) (fun z => ⟨by rw [cnK, O'.2.2]; decide, bK_er O' (q2 z)⟩)
    · unfold spS
      rw [u2_f (by decide)]
      show (if f_Md_spelt = f_Md_spelt ∧ 0 ≤ i ∧ i < 0 + bs.length then bs.getD (i - 0) 0 else _) = _
      rw [if_pos ⟨rfl, by omega, by omega⟩]; rfl
    · unfold putS; rw [u2_f (by decide), u2_f (by decide), mtS_o (by decide), sS (by decide) (by decide)]
    · unfold putS; rw [u2_f (by decide), u2_f (by decide), mtS_o (by decide), sS (by decide) (by decide)]
  refine s_BLT (d := d + 52) O' D ?_
  refine b_Md_builtins_0 ⟨O'.1, s_h O' D.1 d2.1 (by omega) ?_⟩
  clear q1 q2 sS M2 M ok l20 rg
  simp (decide := true) only [cI, cnI, cnR, cnK, cnl, cnA' G0, cn_sI, kT, KN G0, LN G0, w2, u2_f, Int.toNat_natCast, true_and, and_true, false_implies, forall_const]
  exact ⟨c1', c1', gg⟩
theorem spk_o : ∀ f i, [f_Md_spelt, f_Md_spelling].elem f = false → spS (u2 S f_Md_spelling 0 0) 0 bs f i = S f i := fun f i hf => by
  have h1 : f ≠ f_Md_spelt := by rintro rfl; exact absurd hf (by decide)
  have h2 : f ≠ f_Md_spelling := by rintro rfl; exact absurd hf (by decide)
  unfold spS; rw [u2_f h2, sp1_o h1, u2_f h2]
theorem pshA_e (e : S1 f_Md_height t = (n : Int)) (n1 : 1 ≤ n) : putS S1 (2100 * t + (n - 1)) ty v = pshA S1 t (n - 1) ty v := by
  unfold pshA
  rw [u2_id (f := f_Md_height) (i := t) (S := S1) (v := ((n - 1 + 1 : Nat) : Int)) (by rw [e]; omega)]
theorem mtk_e : EXS (LTK ++ [f_Md_t, f_Md_p0, f_Md_f0, f_Md_top, f_Md_after, f_Md_codeSize, f_Md_height]) S (mtS (spS (u2 S f_Md_spelling 0 0) 0 bs) tm mb am ab cs) := fun f hf i => by
  have n : ∀ L : List Nat, (L.all fun f => !((LTK ++ [f_Md_t, f_Md_p0, f_Md_f0, f_Md_top, f_Md_after, f_Md_codeSize, f_Md_height]).elem f)) = true → L.elem f = false := fun L q => by
    cases w : L.elem f with
    | false => rfl
    | true =>
      have := List.all_eq_true.mp q f (by simpa using w)
      rw [hf] at this; cases this
  rw [mtS_o (n _ (by decide)), spk_o _ _ (n _ (by decide))]
theorem op_KIND (hP : ∀ h0 T, P h0 T → TKS ρ h0 T) (KS : STM ρ h) (KN : KND ρ h C) (HC : CORE Γ h C ho X Y S N) (H : OPH Γ h C X Y S N t o n c r) (O : OPT Γ S (fsS S t (c - 1)) (psS S t (c - 1)) 28 6 b) (D : DF S t n c (fsS S t (c - 1)) (psS S t (c - 1)) k 28 6 b) (hh : n = bsS S t (c - 1) + ghs Γ (fsS S t (c - 1)) (psS S t (c - 1))) : OPE ρ P Γ h C ho X Y S N 28 6 b := by
  obtain ⟨-, -, v1, nx⟩ := O.2.2.2.2.2.2.2.2.2.2.2.2.2.2.2.2.2.1 rfl
  have bw : bwN 6 = 1 := rfl
  rw [bw] at v1 nx
  have d2 := D.2.1
  have n1 : 1 ≤ n := by omega
  have V := H.pl (i := n - 1) (by omega)
  have V8 := V.2.2.rng8
  have ⟨VO1, VE⟩ := V.obj HC.2.2.2.2.2.2.2.2.2.1 (h := h) (C := C)
  have T7 := HC.2.2.2.2.2.2.2.2.2.1
  obtain ⟨tn, sn, c1, c2, c3, c4, c5, c6, c6', c7, c8, -⟩ := T7
  have VV : X o f_Task_tags (n - 1) = 4 ∨ X o f_Task_tags (n - 1) = 5 → 0 ≤ X o f_Task_words (n - 1) ∧ X o f_Task_words (n - 1) < (tn : Int) ∧ hK h (hB h (C + 51) (X o f_Task_words (n - 1)).toNat) ∈ [244, 245] := fun w => by
    obtain ⟨a1, a2, a3, a4, a5, a6⟩ := VO1 w
    exact ⟨by omega, by omega, a5⟩
  have VX : 0 ≤ X o f_Task_tags (n - 1) ∧ X o f_Task_tags (n - 1) ≤ 8 := by rw [VE]; exact V8
  obtain ⟨mn, us, sb, mb, tm, am, ab, TK⟩ := HC.2.2.2.2.1.kk
  have pl0 : PRL h C 0 := ⟨HC.2.2.2.2.2.2.2.1.2.2, Nat.zero_le _⟩
  have I := H.ix
  have ekd : kdX (S f_Md_pileType (2100 * t + (n - 1))) (S f_Md_pileValue (2100 * t + (n - 1))) = kdX (X o f_Task_tags (n - 1)) (X o f_Task_words (n - 1)) := by
    rw [V.1]
    by_cases t2 : S f_Md_pileType (2100 * t + (n - 1)) = 3
    · have e : ∀ y y' : Int, kdX 3 y = kdX 3 y' := fun y y' => by
        unfold kdX
        simp (decide := true) only [if_false, if_true]
      rw [t2]; exact e _ _
    · rw [V.2.1]; unfold cw; rw [if_neg t2]
  have ok := kdX_ok (x := X o f_Task_tags (n - 1)) (y := X o f_Task_words (n - 1))
  have l256 : (kdX (X o f_Task_tags (n - 1)) (X o f_Task_words (n - 1))).2.length ≤ 256 := Nat.le_trans ok.2.2 (by decide)
  have sk : SOK h (ρ (kdX (X o f_Task_tags (n - 1)) (X o f_Task_words (n - 1))).1) (kdX (X o f_Task_tags (n - 1)) (X o f_Task_words (n - 1))).2 := KS _ (by simpa using ok.1)
  have cr := fun (d : Nat) (Q : QT) q => r_KIND (d := d) (Q := Q) (b := b) I n1 KN VX c3 c6 VV q
  have cw' := fun (d : Nat) (Q : QT) q1 q2 => r_b324 (ρ := ρ) (d := d + 39) (Q := Q) (m := n - 1) I sk ok.2.1 l256 (by omega) TK.tmx TK.2.2.2.2.1 pl0 TK.rm.1 TK.rm.2 q1 q2
  have kk : (kdX (S f_Md_pileType (2100 * t + (n - 1))) (S f_Md_pileValue (2100 * t + (n - 1)))).2 = (kdX (X o f_Task_tags (n - 1)) (X o f_Task_words (n - 1))).2 := by rw [ekd]
  have tr := fun (d : Nat) (h0 : ah) (T : Nat) (Q : QT) (pp : P h0 T) q1 q2 => s_KIND (d := d) (Q := Q) (hP h0 T pp) D n1 V8 kk TK.tms q1 q2
  clear ekd kk
  generalize kdX (X o f_Task_tags (n - 1)) (X o f_Task_words (n - 1)) = kx at *
  by_cases rm : am < 12000 ∧ ab + kx.2.length ≤ 200000
  · refine ⟨none, _, fun d h0 T Q pp q => tr d h0 T Q pp (fun _ _ => q) (fun z => absurd rm z), fun d Q q => cr d Q (cw' d _ (fun _ h' X' J => ?_) (fun z => absurd rm z))⟩
    obtain ⟨z, s, ⟨M1, M2⟩, g, bd, nsc, nxc, fr, V3⟩ := HC.mkt TK rm ok.2.1 J (spk_o (S := S) (bs := kx.2))
    refine q _ _ _ ?_
    rw [pshA_e (n := n) (by rw [mtk_e _ (by decide)]; exact D.1.2.2.2.1) n1]
    exact RLC.ans H nx M1 (M2 H.2.2.1) g (fun f hf i => mtk_e f (by
      have : (LTK ++ [f_Md_t, f_Md_p0, f_Md_f0, f_Md_top, f_Md_after, f_Md_codeSize]).all (fun f => (LTK ++ [f_Md_t, f_Md_p0, f_Md_f0, f_Md_top, f_Md_after, f_Md_codeSize, f_Md_height]).elem f) = true := by decide
      exact List.all_eq_true.mp this f (by simpa using hf)) i) nsc nxc fr (bd.le (by decide) (by decide)) V3 (by omega) (by omega)
  · refine ⟨some 0, _, fun d h0 T Q pp q => tr d h0 T Q pp (fun z z2 => absurd ⟨z, z2⟩ rm) (fun _ => q), fun d Q q => cr d Q (cw' d _ (fun z => absurd z rm) (fun _ h' X' J => ?_))⟩
    obtain ⟨z, s, ⟨M1, M2⟩, g, bd, nsc, nxc, fr⟩ := HC.prt J (spk_o (S := S) (bs := kx.2))
    have fin := RLC.mem (v := 0) (x := 99) H M1 (M2 H.2.2.1) g (bd.le (by decide) (by decide)) nsc nxc fr (Or.inl ⟨rfl, rfl⟩)
    exact ⟨by rw [ccK, M1.1.2.1.2.1]; decide, q _ _ _ fin⟩
end
