/-! a member's work: the trace behind it -/
set_option maxRecDepth 20000
def LZT : List Nat := LWN ++ LFD ++ [f_Md_type, f_Md_value]
section
variable {ρ : Nat → Nat} {d : Nat} {Q : QT} {Γ Γ' : GH} {h h' h1 h2 H H1 : ah} {C ho k i j N M a z s r f o c t n m mn m0 rr l1 l2 p E : Nat} {g : HG} {v hd ty κ x y x' y' l4 l5 l6 : Int} {S S' S1 S2 S3 ST : SS} {X X' X1 X2 : X3} {Y Y' Y1 Y2 : Y3} {hw : List (List Int)} {e : Option Int} {L : List Nat} {w : Nat}
theorem ansX_o (hf : [f_Task_size, f_Task_tags, f_Task_words, f_Task_next].elem f = false) : ansX X o n c x y k f i = X k f i := by
  unfold ansX goX
  rw [u3_f (by rintro rfl; exact absurd hf (by decide)), u3_f (by rintro rfl; exact absurd hf (by decide)), u3_f (by rintro rfl; exact absurd hf (by decide)), u3_f (by rintro rfl; exact absurd hf (by decide))]
theorem ansX_c (e : ∀ o f i, [f_Machine_trace, f_Machine_traceSize].elem f = false → X1 o f i = X o f i) (hf : [f_Machine_trace, f_Machine_traceSize].elem f = false) : ansX X1 o n c x y k f i = ansX X o n c x y k f i := by
  unfold ansX goX
  simp only [u3_e]
  simp only [e k f i hf, e o f_Task_next (c - 1) (by decide)]
theorem ansX_2 (hc : 1 ≤ c) : u3 (u3 (ansX X o n c x y) o f_Task_tags n x') o f_Task_words n y' = ansX X o n c x' y' := by
  unfold ansX goX
  funext k f i
  simp only [u3_e]
  by_cases w1 : f = f_Task_words
  · subst w1; simp (decide := true)
    by_cases w2 : k = o ∧ i = n
    · rw [if_pos w2]; simp [w2]
    · rw [if_neg w2]; simp [w2]
  · by_cases w2 : f = f_Task_tags
    · subst w2; simp (decide := true)
      by_cases w2 : k = o ∧ i = n
      · rw [if_pos w2, if_pos w2]
      · rw [if_neg w2, if_neg w2, if_neg w2]
    · simp (decide := true) [w1, w2]
theorem NTE.ans (A : NTE h C (ansX X o n c x y) p v h' X') : ∃ X1, NTE h C X p v h' X1 ∧ X' = ansX X1 o n c x y := by
  obtain ⟨a1, a2, a3, a4, a5, a6, a7, a8, a9⟩ := A
  have eX : ∀ k f i, [f_Machine_trace, f_Machine_traceSize].elem f = false → (fun k f i => if [f_Machine_trace, f_Machine_traceSize].elem f = true then X' k f i else X k f i) k f i = X k f i := fun k f i hf => by
    show (if _ then _ else _) = _
    rw [hf]; rfl
  have eT : ∀ k f i, [f_Machine_trace, f_Machine_traceSize].elem f = true → (fun k f i => if [f_Machine_trace, f_Machine_traceSize].elem f = true then X' k f i else X k f i) k f i = X' k f i := fun k f i hf => if_pos hf
  refine ⟨fun k f i => if [f_Machine_trace, f_Machine_traceSize].elem f = true then X' k f i else X k f i, ⟨a1, a2, a3, a4, a5, ?_, ?_, ?_, eX⟩, ?_⟩
  · rw [eT _ _ _ (by decide)]; exact a6
  · intro i hi
    rw [eT _ _ _ (by decide), a7 i hi, ansX_o (by decide)]
  · rw [eT _ _ _ (by decide)]; exact a8
  · funext k f i
    cases w : [f_Machine_trace, f_Machine_traceSize].elem f with
    | true =>
      rw [ansX_o (by
        have : f = f_Machine_trace ∨ f = f_Machine_traceSize := by simpa using w
        rcases this with rfl | rfl <;> decide)]
      exact (eT k f i w).symm
    | false =>
      rw [ansX_c eX w]
      exact a9 k f i w
theorem r_does104 (P : PFX Γ h C ho X Y S N t o n c r s a κ mn m0 rr) (M1 : CORE Γ' h1 C ho X1 Y S1 N) (K1 : CT Γ' h1 C X1 Y S1 N t o n c r) (g1 : GRO Γ Γ' h h1 C S S1) (e0 : EXS (LTK ++ [f_Md_t, f_Md_p0, f_Md_f0, f_Md_top, f_Md_after, f_Md_codeSize]) S S1) (nsc : NSc S S1) (nxc : NXc X X1) (fr : Fr LHc [] z j h h1) (bd : BND h C S h1 S1 1 8) (km : hK h1 l1 = k_Member) (en : hI h1 f_Member_number l1 = (m : Int)) (ew : S1 f_Md_traced 0 = (w : Int)) (hw2 : w + 2 ≤ 100000) (oT : OFF LZT (trS S1 w (m : Int) (E : Int)) ST) (V : VR Γ' S1 N x' y' ty v) (c4 : l4 = 0 → x' = x ∧ y' = y) (c5 : ¬ l4 = 0 → x' = l5 ∧ y' = l6) (q : ∀ h3 X3, RLC Γ h C ho X Y S N none (gvS ST t m0 c (psS S t (c - 1)) ty v) h3 X3 Y → Q (Sum.inl none) (cc h3 C X3 Y)) : wpB PGm ρ (d + 12) m_Machine_does 104 [(0, vR (C + 32)), (1, vR l1), (2, vI (m0 : Int)), (3, vI (E : Int)), (4, vI l4), (5, vI l5), (6, vL l6)] [] (cc h1 C (ansX X1 o m0 c x y) Y) Q := by
  have hc1 : 1 ≤ c := P.2.1.2.2.2.1
  obtain ⟨w0, lo, b1, b2, b3, b4, b5, b6, -⟩ := M1.2.2.2.2.2.2.2.1.2.1
  have ew0 : w0 = w := by omega
  subst ew0
  have TK1 : TCK h1 C := by unfold TCK; rw [b4]; exact b6
  refine b_Machine_does_104 (d := d + 11) ⟨km, M1.1.2.1.1, ?_⟩
  have eN : hI (cc h1 C (ansX X1 o m0 c x y) Y) f_Member_number l1 = (m : Int) := by rw [ccIo (by decide)]; exact en
  rw [eN]
  refine r_note (p := w0) (d := d + 10) M1.1.1 M1.1.2 (by rw [ansX_o (by decide)]; exact b1) TK1 (by rw [b4]; exact b5) (by omega) (by omega) (fun h2 X2' AA2 => ?_)
  obtain ⟨X2, A2, rfl⟩ := AA2.ans
  clear AA2
  obtain ⟨z2, s2, ⟨M2, K2⟩, g2, bd2, fr2⟩ := M1.nte b1 A2 (by omega)
  refine ⟨A2.2.1.1.1, ?_⟩
  refine r_note (p := w0 + 1) (d := d + 10) M2.1.1 M2.1.2 (by rw [ansX_o (by decide)]; exact A2.2.2.2.2.2.1) A2.2.2.2.2.1.1 A2.2.2.2.2.1.2 (by omega) (by omega) (fun h3 X3' AA3 => ?_)
  obtain ⟨Xc, A3, rfl⟩ := AA3.ans
  clear AA3
  obtain ⟨z3, s3, ⟨M3, K3⟩, g3, bd3, fr3⟩ := M2.nte A2.2.2.2.2.2.1 A3 (by omega)
  rw [tr1_2] at M3 g3 bd3
  have K3' : ∀ {t o n c r : Nat}, CT Γ' h2 C X2 Y (tr1 S1 w0 (m : Int)) N t o n c r → CT Γ' h3 C Xc Y (trS S1 w0 (m : Int) (E : Int)) N t o n c r := fun K => by
    have := K3 K
    rw [tr1_2] at this
    exact this
  obtain ⟨⟨M4, K4⟩, g4, bd4⟩ := M3.fzz (L := []) (Pp := []) (h' := h3) (X' := Xc) (Y' := Y) (S' := ST) Fr.r0 (by unfold DJ; decide +kernel) (fun y c => by simp at c) (oT.ex (by decide)) (Int.le_of_eq (oT _ _ (by decide)).symm) EXX.rf (fun _ _ _ _ => rfl)
  have oo : OFF (LZT ++ [f_Md_trace, f_Md_traced]) S1 ST := (trS_off.le (by decide)).tr (oT.le (by decide))
  have nx3 : NXc X Xc := fun o f i hf => by
    have e1 : ∀ {L : List Nat}, [f_Machine_trace, f_Machine_traceSize].elem f = false := fun {L} => by
      cases w : [f_Machine_trace, f_Machine_traceSize].elem f with
      | false => rfl
      | true =>
        have : f = f_Machine_trace ∨ f = f_Machine_traceSize := by simpa using w
        rcases this with rfl | rfl <;> exact absurd hf (by decide)
    rw [A3.2.2.2.2.2.2.2.2 o f i (e1 (L := [])), A2.2.2.2.2.2.2.2.2 o f i (e1 (L := []))]
    exact nxc o f i hf
  have gG := ((g1.tr g2).tr g3).tr g4
  have RL := P.ach M4 (K4 (K3' (K2 K1))) gG (fun f hf i => (oo.ex (L' := LTK ++ [f_Md_t, f_Md_p0, f_Md_f0, f_Md_top, f_Md_after, f_Md_codeSize]) (by decide) f hf i).trans (e0 f hf i)) (fun f i hf => (oo.le (L' := LSc) (by decide) f i hf).trans (nsc f i hf)) nx3 ((fr.trans fr2).trans fr3) ((((bd.tr bd2).tr bd3).tr (bd4 (oT.ex (by decide)))).le (by decide) (by decide)) (g4.vr (g3.vr (g2.vr V)))
  have gq := q _ _ RL
  refine ⟨fun l => ?_, fun l => ?_⟩
  · obtain ⟨rfl, rfl⟩ := c5 l
    have F3 := M4.1.2
    have G3 := M4.1.1
    have ht := P.2.1.ix.2.2.1
    have e1 : Y 32 f_Machine_t 0 = C + o := P.2.1.ix.2.2.2.1.1
    have hmn : m0 < n := P.2.2.1.2.2.2.2.1
    have hn := P.2.1.ix.2.2.2.2.1
    have rt : ∀ {X' : X3}, hR (cc h3 C X' Y) f_Machine_t (C + 32) = C + o := fun {X'} => by rw [ccR (by decide)]; exact e1
    have ft := F3.t ht
    unfold FCt at ft
    have b1 : 0 ≤ (m0 : Int) ∧ (m0 : Int) < ((2001 : Nat) : Int) := by omega
    have tg := V.tg
    refine ⟨F3.1.1, ?_⟩
    rw [rt, Int.toNat_natCast]
    have kt : ∀ {X' : X3}, hR (cc h3 C X' Y) f_Task_tags (C + o) = hR h3 f_Task_tags (C + o) := fun {X'} => ccRo (by decide)
    have kw : ∀ {X' : X3}, hR (cc h3 C X' Y) f_Task_words (C + o) = hR h3 f_Task_words (C + o) := fun {X'} => ccRo (by decide)
    rw [kt, cc_sAt G3 ht (by decide)]
    dsimp only
    rw [rt, kw, cc_sAt G3 ht (by decide), ansX_2 hc1]
    refine ⟨ft.1, ⟨Or.inl ⟨by rw [ccK]; exact (KCt G3 ht).2.1, tg.1, tg.2⟩, b1.1, by rw [ccl, ft.2.2.1]; exact b1.2⟩, ft.1, ⟨by rw [ccK]; exact (KCt G3 ht).1, b1.1, by rw [ccl, ft.2.1]; exact b1.2⟩, gq⟩
  · obtain ⟨rfl, rfl⟩ := c4 l
    exact gq
end
