/-! something is thrown: joined -/
set_option maxRecDepth 20000
def LSR : List Nat := LSG ++ LST ++ [f_Md_frameAt, f_Md_tries, f_Md_frames, f_Md_pileType, f_Md_pileValue, f_Md_t, f_Md_p0, f_Md_f0]
section
variable {ρ : Nat → Nat} {P : ah → Nat → Prop} {Γ : GH} {h h' : ah} {C : Nat} {X X' X1 : X3} {Y Y' : Y3} {S S' S1 : SS} {N t o n c r i j k m p' n' r' c' : Nat} {ty v x y s a b op : Int}
theorem EXS.sub {L L' : List Nat} (H : EXS L S S') (e : L'.all (fun f => L.elem f) = true) : EXS L' S S' := fun f hf i => H f (List.all_eq_true.mp e f (by simpa using hf)) i
theorem EXS.tr {L : List Nat} (H : EXS L S S1) (H2 : EXS L S1 S') : EXS L S S' := fun f hf i => (H2 f hf i).trans (H f hf i)
theorem CT.raise (H : CT Γ h C X Y S N t o n c r) (G : AC h C) (F : FC h C) (hc : 1 ≤ c) (ns1 : NSt t S S1) (e : EXS LSR S S1) (t1 : S f_Md_t 0 = (t : Int)) (t2 : S f_Md_p0 0 = ((2100 * t : Nat) : Int)) (t3 : S f_Md_f0 0 = ((200 * t : Nat) : Int)) (n1 : Nat) (t4 : S1 f_Md_height t = (n1 : Int)) (V : VR Γ S N x y ty v) :
    ∃ X' S' n' c' r', CT Γ h C X' Y S' N t o n' c' r' ∧ NSt t S S' ∧ NXo o X X' ∧ (∀ d Q, Q (Sum.inl none) (cc h C X' Y) → wpB PGm ρ (d + 1) m_Task_raise 0 [(0, vR (C + o)), (1, vI x), (2, vL y)] [] (cc h C X Y) Q) ∧ (∀ d h0 T Q, TOK h0 T → Q (Sum.inl none) (cn h0 T S') → wpB PGm ρ (d + 2) m_Md_thrownIs 0 [(0, vR T), (1, vI ty), (2, vL v)] [] (cn h0 T S1) Q) := by
  have r50 := H.r_le
  have hto := H.1.to
  have c200 := H.2.2.2.1.2.2
  have hv : -128 ≤ x ∧ x ≤ 127 := by rw [V.1]; exact V.2.2.tag
  have er : X o f_Task_tries 0 = (r : Int) := H.2.2.2.2.1.1
  have er2 : S1 f_Md_tries t = (r : Int) := by rw [e _ (by decide)]; exact H.2.2.2.2.1.2
  have et1 : S1 f_Md_t 0 = (t : Int) := by rw [e _ (by decide)]; exact t1
  by_cases hr : r = 0
  · subst hr
    exact ⟨endX X o 3 x y, finS S1 t 3 ty v, 0, 0, 0, H.finish ns1 V (Or.inr rfl), fin_ns ns1, end_nx NXo.rf, fun d Q q => r_raise0 G F hto.1 er hv q, fun d h0 T Q O q => s_thrown0 O et1 hto.2 er2 q⟩
  · obtain ⟨l, l1, l2, l3, l4, l5, l6⟩ := H.2.2.2.2.2.2.2.2.2.2
    obtain ⟨j, a, q1, q2, q3, q4, q5, q6, q7, q8, q9, q10, q11, q12⟩ := H.2.2.2.2.2.2.2.2.1 (r - 1) (by omega)
    have F1 := H.2.2.2.2.2.2.1 j q2
    have STAm := H.2.2.2.2.2.2.2.1
    have bj := F1.2.2.1.2.2
    have cu : c - 1 < c := by omega
    have nt : NSt t S (thrS S1 t r j a (bsS S t j) ty v) := by
      unfold thrS pshS
      exact NSt.u (tk1 (by decide)) (NSt.u (tk2 (by decide) (by omega)) (NSt.u (tk2 (by decide) (by omega)) (NSt.u (tk1 (by decide)) (NSt.u (Or.inr (Or.inr (Or.inl ⟨by decide, by omega⟩))) (NSt.u (tk5 (by decide)) (NSt.u (tk1 (by decide)) (NSt.u (tk1 (by decide)) ns1)))))))
    have nx : NXo o X (rsX X o r j a (bsS S t j) x y) := by
      unfold rsX pshX
      exact NXo.u (by decide) (NXo.u (by decide) (NXo.u (by decide) (NXo.u (by decide) (NXo.u (by decide) (NXo.u (by decide) (NXo.u (by decide) NXo.rf))))))
    have es : ∀ {L : List Nat}, L.all (fun f => LSR.elem f) = true → (L.elem f_Md_height || (L.elem f_Md_pileValue || (L.elem f_Md_pileType || (L.elem f_Md_frameAt || (L.elem f_Md_top || (L.elem f_Md_frames || L.elem f_Md_tries)))))) = false → EXS L S (thrS S1 t r j a (bsS S t j) ty v) := by
      intro L hL h2
      simp only [Bool.or_eq_false_iff] at h2
      obtain ⟨b1, b2, b3, b4, b5, b6, b7⟩ := h2
      unfold thrS pshS
      exact EXS.u b1 (EXS.u b2 (EXS.u b3 (EXS.u b1 (EXS.u b4 (EXS.u b5 (EXS.u b6 (EXS.u b7 (e.sub hL))))))))
    have ex : ∀ {L : List Nat}, (L.elem f_Task_size || (L.elem f_Task_words || (L.elem f_Task_tags || (L.elem f_Task_next || (L.elem f_Task_calls || L.elem f_Task_tries))))) = false → EXX L X (rsX X o r j a (bsS S t j) x y) := by
      intro L h2
      simp only [Bool.or_eq_false_iff] at h2
      obtain ⟨b1, b2, b3, b4, b5, b6⟩ := h2
      unfold rsX pshX
      exact EXX.u b1 (EXX.u b2 (EXX.u b3 (EXX.u b4 (EXX.u b1 (EXX.u b5 (EXX.u b6 EXX.rf))))))
    have pl : PIL Γ (rsX X o r j a (bsS S t j) x y) (thrS S1 t r j a (bsS S t j) ty v) N o t (bsS S t j + 1) := by
      unfold rsX thrS
      have nsm : NSt t S (u2 (u2 (u2 (u2 (u2 S1 f_Md_tries t ((r - 1 : Nat) : Int)) f_Md_frames t ((j + 1 : Nat) : Int)) f_Md_top 0 ((200 * t + j : Nat) : Int)) f_Md_frameAt (200 * t + j) (a : Int)) f_Md_height t (bsS S t j : Int)) := NSt.u (tk1 (by decide)) (NSt.u (Or.inr (Or.inr (Or.inl ⟨by decide, by omega⟩))) (NSt.u (tk5 (by decide)) (NSt.u (tk1 (by decide)) (NSt.u (tk1 (by decide)) ns1))))
      refine PIL.psh ?_ (by omega) (nsm.vr V)
      -- the pile below
      have hb : bsS S t j ≤ n := by
        have : ∀ i, i < c → bsS S t i ≤ n ∧ ∀ k, i ≤ k → k < c → bsS S t i ≤ bsS S t k := by
          intro i hi
          have up : ∀ k, i ≤ k → k < c → bsS S t i ≤ bsS S t k := by
            intro k
            induction k with
            | zero => intro z _; have : i = 0 := by omega
                      rw [this]; exact Nat.le_refl _
            | succ k ih =>
              intro z1 z2
              by_cases w : i = k + 1
              · rw [w]; exact Nat.le_refl _
              · have := ih (by omega) (by omega)
                have := (STAm.1 k (by omega)).2.2.2 (by omega)
                omega
          refine ⟨?_, up⟩
          have := up (c - 1) (by omega) cu
          obtain ⟨b, -, -⟩ := STAm.1 (c - 1) cu
          rw [if_pos (by omega)] at b
          omega
        exact (this j q2).1
      refine (H.2.2.2.2.2.1.le hb).ns nsm (fun i _ => ?_) (fun i _ => ?_) (fun i _ => ?_) (fun i _ => ?_)
      · rw [u3_f (by decide), u3_f (by decide), u3_f (by decide), u3_f (by decide)]
      · rw [u3_f (by decide), u3_f (by decide), u3_f (by decide), u3_f (by decide)]
      · rw [u2_f (by decide), u2_f (by decide), u2_f (by decide), u2_f (by decide), u2_f (by decide), e _ (by decide)]
      · rw [u2_f (by decide), u2_f (by decide), u2_f (by decide), u2_f (by decide), u2_f (by decide), e _ (by decide)]
    have td50 : gtd Γ (fsS S t j) a ≤ 50 := by
      rw [q11]
      obtain ⟨-, b, b2⟩ := STAm.1 j q2
      by_cases w : j + 1 = c
      · rw [if_pos w] at b q12; omega
      · rw [if_neg w] at b q12; omega
    have A := H.cut (n' := bsS S t j + 1) (c' := j + 1) (r' := r - 1) (p' := a) (by omega) nt (es (by decide) (by decide)) (ex (by decide)) (by unfold rsX pshX; rw [u3_f (by decide), u3_f (by decide), u3_f (by decide), u3_f (by decide), u3_f (by decide), u3_s]) (by unfold thrS pshS; rw [u2_f (by decide), u2_f (by decide), u2_f (by decide), u2_f (by decide), u2_f (by decide), u2_f (by decide), u2_s]) (by unfold rsX pshX; rw [u3_s]) (by unfold thrS pshS; rw [u2_s]) (by omega) (by unfold rsX pshX; rw [u3_f (by decide), u3_f (by decide), u3_f (by decide), u3_f (by decide), u3_f (by decide), u3_f (by decide), u3_s]) (by unfold thrS pshS; rw [u2_f (by decide), u2_f (by decide), u2_f (by decide), u2_f (by decide), u2_f (by decide), u2_f (by decide), u2_f (by decide), u2_s]) pl
      (fun i => by
        unfold rsX pshX
        rw [u3_f (by decide), u3_f (by decide), u3_f (by decide), u3_e, u3_f (by decide), u3_f (by decide), u3_f (by decide)]
        by_cases w : i = j
        · rw [if_pos ⟨rfl, rfl, w⟩, if_pos (by omega)]
        · rw [if_neg (fun z => w z.2.2), if_neg (by omega)])
      (fun i => by
        unfold thrS pshS
        rw [u2_f (by decide), u2_f (by decide), u2_f (by decide), u2_f (by decide), u2_e, u2_f (by decide), u2_f (by decide), u2_f (by decide), e _ (by decide)]
        by_cases w : i = 200 * t + j
        · rw [if_pos ⟨rfl, w⟩, if_pos (by omega)]
        · rw [if_neg (fun z => w z.2), if_neg (by omega)])
      (by rw [show j + 1 - 1 = j by omega, q9]) (by rw [show j + 1 - 1 = j by omega, q11]; omega) (by rw [show j + 1 - 1 = j by omega]; exact td50) (by rw [show j + 1 - 1 = j by omega]; exact q8) (es (by decide) (by decide)) (ex (by decide)) (by omega) (by
        by_cases w : j + 1 = c
        · exact Or.inl w
        · rw [if_neg w] at q12; exact Or.inr (by omega))
    refine ⟨_, _, _, _, _, A, nt, nx, fun d Q q => r_raise (r := r) (a := a) (m := bsS S t j) G F hto.1 er (by omega) (by omega) (by omega) (by omega) q3 (by omega) q5 q7 (by omega) hv q, fun d h0 T Q O q => s_thrown (r := r) (j := j) (a := a) (m := bsS S t j) (n := n1) (c := c) O ⟨et1, ?_, ?_, t4, ?_⟩ hto.2 er2 (by omega) ?_ (by omega) ?_ ?_ (by omega) q⟩
    · rw [e _ (by decide)]; exact t2
    · rw [e _ (by decide)]; exact t3
    · rw [e _ (by decide)]; exact H.2.2.2.1.2.1
    · rw [e _ (by decide)]; exact q1
    · rw [e _ (by decide)]; exact q4
    · rw [e _ (by decide)]; exact q6
end
