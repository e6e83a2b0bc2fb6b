/-! GSTORE: joined -/
set_option maxRecDepth 20000
section
variable {ρ : Nat → Nat} {P : ah → Nat → Prop} {d : Nat} {Q : QT} {Γ Γ' : GH} {h h' : ah} {C ho : Nat} {X X' : X3} {Y Y' : Y3} {S S' : SS} {N t o n c r f i j k m z s l : Nat} {L : List Nat} {ty v x y op a b : Int}
theorem r_GSTORE (I : IX h C X Y o n c) (hn1 : 1 ≤ n) (q : wpB PGm ρ (d + 19) m_Machine_storeGlobal 0 [(0, vR (C + 32)), (1, vI a), (2, vI (X o f_Task_tags (n - 1))), (3, vL (X o f_Task_words (n - 1)))] [] (cc h C X Y) (cV (fun h3 => Q (Sum.inl none) h3) (fun e h' => ¬ hK h' e = 0 ∧ Q (Sum.inr e) h'))) : wpB PGm ρ (d + 20) m_Machine_instruct 0 [(0, vR (C + 32)), (1, vI 4), (2, vI a), (3, vI b)] [] (cc h C X Y) Q := by
  obtain ⟨G, F, ht, e0, hn, hc1, hc2⟩ := I
  have f1 := F.t ht
  unfold FCt at f1
  have f2 := F
  unfold FC at f2
  obtain ⟨e1, e2, e3⟩ := e0
  have g := q
  clear q
  refine b_Machine_instruct_0 (by omega) ?_
  simp (decide := true) (disch := first | decide | omega) only [ccI, ccR, ccIt ht, ccRo, ccK, ccl, ccA G, ccAt G ht, ccB G, ccBt G ht, cc_sI, cc_sR, cc_sIt ht, cc_sA G, cc_sAt G ht, cc_sB G, cc_sBt G ht, f1, f2, u3_f, u3_s, KCt G ht, KC G, w32_aa, w32_ss, w32_p1, w32_m1, Int.toNat_natCast, true_and, and_true, false_and, and_false, or_false, false_or, ne_eq, not_false_eq_true, forall_const, implies_true, not_true_eq_false, false_implies, e1, e2]
  exact ⟨by omega, by omega, g⟩
/-- a task whose rows stay, where C's machine may lie elsewhere -/
theorem CT.gr (H : CT Γ h C X Y S N t o n c r) (g : GRO Γ Γ' h h' C S S') (eS : EXS LTK S S') (eX : EXX L6 X X') (hl' : ∀ f, [f_Task_tryCall, f_Task_tryTo, f_Task_trySize].elem f = true → hl h' (hR h' f (C + o)) = hl h (hR h f (C + o))) : CT Γ' h' C X' Y S' N t o n c r := H.ext g (fun f i hf => eS f (tkQ_mem hf) i) (fun f hf i => eX f hf o i) (fun _ _ _ => rfl) (hl' _ (by decide)) (hl' _ (by decide)) (hl' _ (by decide))
/-- the core when rows beside the tasks change, and C's machine may lie elsewhere -/
theorem CORE.gs (H : CORE Γ h C ho X Y S N) (G' : AC h' C) (F' : FC h' C) (fr : Fr L [] z s h h') (g : GRO Γ Γ' h h' C S S') (eS : EXS LTK S S') (eX : EXX L6 X X') (hl' : ∀ o, isT o → ∀ f, [f_Task_tryCall, f_Task_tryTo, f_Task_trySize].elem f = true → hl h' (hR h' f (C + o)) = hl h (hR h f (C + o))) (es1 : EXS LFN S S') (hn : S f_Md_names 0 ≤ S' f_Md_names 0) (dC : DJ LCH L []) (dC1 : DJ LCH1 L []) (dO : DJ [f_Host_types, f_Host_types + 1] L []) (k2 : TXC Γ' h' C X' S') (k3 : VRC Γ' h' S' N) (k4 : GLB Γ' h' C X' S' N) (k5 : OUT h' C X' S') (k6 : MEM X' S') (k7 : THC Γ' h' C ho S' N) : CORE Γ' h' C ho X' Y S' N ∧ ∀ {t o n c r : Nat}, CT Γ h C X Y S N t o n c r → CT Γ' h' C X' Y S' N t o n c r := by
  obtain ⟨⟨G, F⟩, ⟨n0, c0, r0, K0⟩, ⟨n1, c1, r1, K1⟩, a1, -, -, -, -, -, -, a8⟩ := H
  have tk : ∀ {t o n c r : Nat}, CT Γ h C X Y S N t o n c r → CT Γ' h' C X' Y S' N t o n c r := fun K => K.gr g eS eX (hl' _ K.1.to.1)
  exact ⟨⟨⟨G', F'⟩, ⟨n0, c0, r0, tk K0⟩, ⟨n1, c1, r1, tk K1⟩, a1.ext G F g es1 hn fr dC dC1 (by simp), k2, k3, k4, k5, k6, k7, a8.fr fr dO⟩, tk⟩
/-- T and C go on behind an instruction that leaves the pile as it is -/
theorem OPC.go (H : OPH Γ h C X Y S N t o n c r) (nx : NXT Γ S (fsS S t (c - 1)) (psS S t (c - 1)) 0 0 0 0) {S1 : SS} {X1 : X3} {h1 : ah} (M1 : CORE Γ' h1 C ho X1 Y S1 N) (K1 : CT Γ' h1 C X1 Y S1 N t o n c r) (g : GRO Γ Γ' h h1 C S S1) (e0 : EXS (LTK ++ [f_Md_t, f_Md_p0, f_Md_f0, f_Md_top, f_Md_after, f_Md_codeSize]) S S1) (nsc : NSc S S1) (nxc : NXc X X1) (fr : Fr L [] z s h h1) (hL : ∀ f, f ∈ L → f ∈ LHc) (bd : BND h C S h1 S1 1 8) (q1 : CRUN ρ C op a b h X Y none h1 (goX X1 o c) Y) (q2 : TRUN ρ P S none (atS S1 t c ((psS S t (c - 1) + 1 : Nat) : Int))) : OPC ρ P Γ h C ho X Y S N op a b := by
  have w : ∀ f, (LTK ++ [f_Md_t, f_Md_p0, f_Md_f0, f_Md_top, f_Md_after, f_Md_codeSize]).elem f = true → ∀ i, S1 f i = S f i := e0
  have ef : fsS S1 t (c - 1) = fsS S t (c - 1) := by unfold fsS; rw [w _ (by decide)]
  have ep : psS S1 t (c - 1) = psS S t (c - 1) := by unfold psS; rw [w _ (by decide)]
  have aT : AT S1 t c := by
    obtain ⟨t1, t2, t3, t4, t5⟩ := H.2.2.2.2.2.2
    exact ⟨by rw [w _ (by decide)]; exact t1, by rw [w _ (by decide)]; exact t2, by rw [w _ (by decide)]; exact t3, by rw [w _ (by decide)]; exact t4, by rw [w _ (by decide), ep]; exact t5⟩
  have H1 := M1.oph K1 H.2.2.2.1 H.2.2.2.2.2.1 aT
  have fl := (H.2.2.1.2.2.2.2.2.2.1 (c - 1) (by have := H.2.2.2.1; omega)).1.2.1
  obtain ⟨-, -, g3, g4, -⟩ := g.1.2 _ fl
  have nx1 : NXT Γ' S1 (fsS S1 t (c - 1)) (psS S1 t (c - 1)) 0 0 0 0 := by
    rw [ef, ep]; unfold NXT at nx ⊢; rw [w _ (by decide), g3, g4]; exact nx
  obtain ⟨A, B⟩ := CT.nxt (n' := n) (S1 := S1) (X1 := X1) H1 nx1 NSt.rf EXS.rf EXX.rf K1.2.2.1.1 K1.2.2.1.2.1 K1.2.2.1.2.2 rfl K1.2.2.2.2.2.1
  rw [ep] at A B
  exact ⟨none, Γ', h1, goX X1 o c, Y, _, z, s, M1.task K1.1 A B (go_nx NXo.rf), g.tr (GRO.nst B), fun f i hf => (B.co f i hf).trans (nsc f i hf), fun a' f i hf => ((go_nx NXo.rf).co a' f i hf).trans (nxc a' f i hf), fun _ _ _ _ => rfl, fr.mono hL (fun q hq => by cases hq), (bd.tr (BND.rows (B.ex (by decide)))).le (by decide) (by decide), trivial, q1, q2⟩
theorem op_GSTORE (hP : ∀ h0 T, P h0 T → TOK h0 T) (hN : S f_Md_names 0 ≤ 4000) (HC : CORE Γ h C ho X Y S N) (H : OPH Γ h C X Y S N t o n c r) (O : OPT Γ S (fsS S t (c - 1)) (psS S t (c - 1)) 4 a b) (D : DF S t n c (fsS S t (c - 1)) (psS S t (c - 1)) k 4 a b) (hh : n = bsS S t (c - 1) + ghs Γ (fsS S t (c - 1)) (psS S t (c - 1))) : OPC ρ P Γ h C ho X Y S N 4 a b := by
  obtain ⟨h1', nx, v1, v2⟩ := O.2.2.2.2.2.1 rfl
  have d2 := D.2.1
  have hn1 : 1 ≤ n := by omega
  have HC0 := HC
  obtain ⟨-, -, -, -, q2, q3, q4, q5, q6, q7, q8⟩ := HC
  have Kg := q4
  obtain ⟨l, l1, l2, l3, l4, l5, l6⟩ := q4
  have G := H.1
  have F := H.2.1
  have K := H.2.2.1
  have V := H.pl (i := n - 1) (by omega)
  have VV : VR Γ S N (X o f_Task_tags (n - 1)) (X o f_Task_words (n - 1)) (tpS S t n) (vpS S t n) := by
    have : 2100 * t + n - 1 = 2100 * t + (n - 1) := by omega
    unfold tpS vpS; rw [this]; exact V
  have hv : -128 ≤ X o f_Task_tags (n - 1) ∧ X o f_Task_tags (n - 1) ≤ 127 := by rw [V.1]; exact V.2.2.tag
  have ea : a = (a.toNat : Int) := by omega
  have a4 : a.toNat < 4000 := by omega
  obtain ⟨h1, Xg, l', z, s, G1, F1, R1, ⟨m1, m2, m3, m4, m5, m6⟩, ex, ez, hol, gb, run⟩ := r_storeGlobal (ρ := ρ) (Y := Y) (n := n) (c := c) (ty := X o f_Task_tags (n - 1)) (v := X o f_Task_words (n - 1)) K.1.to.1 ⟨H.2.2.2.1, K.2.2.2.1.2.2⟩ hv a4 _ l h X (Nat.lt_succ_self _) G F ⟨H.2.2.2.2.2.1, K.2.2.1.1, K.2.2.2.1.1⟩ l1 l2 l3 l4 l5
  rw [ea] at D ⊢
  have e0 : ∀ {L : List Nat}, L.all (fun f => !([f_Md_isGlobal, f_Md_globalType, f_Md_globalValue].elem f)) = true → EXS L S (gstS S a.toNat (tpS S t n) (vpS S t n)) := fun {L} q => by
    have nn : ∀ g, [f_Md_isGlobal, f_Md_globalType, f_Md_globalValue].elem g = true → L.elem g = false := fun g hg => by
      cases w : L.elem g with
      | false => rfl
      | true =>
        have := List.all_eq_true.mp q g (by simpa using w)
        rw [hg] at this; cases this
    unfold gstS
    exact EXS.u (nn _ (by decide)) (EXS.u (nn _ (by decide)) (EXS.u (nn _ (by decide)) EXS.rf))
  have x0 : ∀ {L : List Nat}, L.all (fun f => !(LG3.elem f)) = true → EXX L X (stX Xg a.toNat (X o f_Task_tags (n - 1)) (X o f_Task_words (n - 1))) := fun {L} q f hf a' i => by
    have := List.all_eq_true.mp q f (by simpa using hf)
    simp only [Bool.not_eq_true'] at this
    have nn : ∀ g, LG3.elem g = true → f ≠ g := by rintro g hg rfl; rw [hg] at this; cases this
    unfold stX
    rw [u3_f (nn _ (by decide)), u3_f (nn _ (by decide)), u3_f (nn _ (by decide)), ex _ _ _ (fun w => by rw [this] at w; cases w.2.1)]
  have g : GRO Γ Γ h h1 C S (gstS S a.toNat (tpS S t n) (vpS S t n)) := GRO.fr (e0 (by decide)) G F R1 (by unfold DJ; decide) (by simp)
  have lw : ∀ g o', inA arC g o' = true → (LCC.elem g = false ∧ LG3.elem g = false) → o' ≤ 101 → hl h1 (hR h1 g (C + o')) = hl h (hR h g (C + o')) := fun g o' q1 q2 q3 => hol g o' q1 q3 q2.1 q2.2
  have kg : GLB Γ h1 C (stX Xg a.toNat (X o f_Task_tags (n - 1)) (X o f_Task_words (n - 1))) (gstS S a.toNat (tpS S t n) (vpS S t n)) N := by
    refine ⟨l', m1, m2, m3, by omega, m6, fun i hi => ?_⟩
    obtain ⟨b1, b2, b3, b4⟩ := l6 i hi
    have en : gstS S a.toNat (tpS S t n) (vpS S t n) f_Md_names 0 = S f_Md_names 0 := e0 (L := [f_Md_names]) (by decide) _ (by decide) _
    have y1 : gstS S a.toNat (tpS S t n) (vpS S t n) f_Md_isGlobal i = if i = a.toNat then 1 else S f_Md_isGlobal i := by
      unfold gstS
      rw [u2_f (by decide), u2_f (by decide), u2_e]
      by_cases q : i = a.toNat
      · rw [if_pos ⟨rfl, q⟩, if_pos q]
      · rw [if_neg (fun w => q w.2), if_neg q]
    have y2 : stX Xg a.toNat (X o f_Task_tags (n - 1)) (X o f_Task_words (n - 1)) 32 f_Machine_isGlobal i = if i = a.toNat then 1 else Xg 32 f_Machine_isGlobal i := by
      unfold stX
      rw [u3_e]
      by_cases q : i = a.toNat
      · rw [if_pos ⟨rfl, rfl, q⟩, if_pos q]
      · rw [if_neg (fun w => q w.2.2), if_neg q, u3_f (by decide), u3_f (by decide)]
    rw [y1, y2]
    by_cases q : i = a.toNat
    · rw [if_pos q, if_pos q]
      refine ⟨Or.inr rfl, fun _ => rfl, fun _ => ⟨by omega, ?_⟩, fun z => by exfalso; omega⟩
      subst q
      have w1 : gstS S a.toNat (tpS S t n) (vpS S t n) f_Md_globalType a.toNat = tpS S t n := by unfold gstS; rw [u2_f (by decide), u2_s]
      have w2 : gstS S a.toNat (tpS S t n) (vpS S t n) f_Md_globalValue a.toNat = vpS S t n := by unfold gstS; rw [u2_s]
      have w3 : stX Xg a.toNat (X o f_Task_tags (n - 1)) (X o f_Task_words (n - 1)) 32 f_Machine_globalTags a.toNat = X o f_Task_tags (n - 1) := by unfold stX; rw [u3_f (by decide), u3_f (by decide), u3_s]
      have w4 : stX Xg a.toNat (X o f_Task_tags (n - 1)) (X o f_Task_words (n - 1)) 32 f_Machine_globalWords a.toNat = X o f_Task_words (n - 1) := by unfold stX; rw [u3_f (by decide), u3_s]
      rw [w1, w2, w3, w4]
      exact g.vr VV
    · rw [if_neg q, if_neg q]
      refine ⟨b1, fun w => ?_, fun w => ?_, fun z => b4 (by omega)⟩
      · by_cases il : i < l
        · rw [ex _ _ _ (fun y => by have := y.2.2; omega)]; exact b2 il
        · rw [ez i (by omega) w]
          by_cases y : S f_Md_isGlobal i = 1
          · have := (b3 y).1; omega
          · omega
      · obtain ⟨c1, c2⟩ := b3 w
        have w1 : gstS S a.toNat (tpS S t n) (vpS S t n) f_Md_globalType i = S f_Md_globalType i := by unfold gstS; rw [u2_f (by decide), u2_e, if_neg (fun w => q w.2), u2_f (by decide)]
        have w2 : gstS S a.toNat (tpS S t n) (vpS S t n) f_Md_globalValue i = S f_Md_globalValue i := by unfold gstS; rw [u2_e, if_neg (fun w => q w.2), u2_f (by decide), u2_f (by decide)]
        have w3 : stX Xg a.toNat (X o f_Task_tags (n - 1)) (X o f_Task_words (n - 1)) 32 f_Machine_globalTags i = X 32 f_Machine_globalTags i := by unfold stX; rw [u3_f (by decide), u3_f (by decide), u3_e, if_neg (fun w => q w.2.2), ex _ _ _ (fun y => by have := y.2.2; omega)]
        have w4 : stX Xg a.toNat (X o f_Task_tags (n - 1)) (X o f_Task_words (n - 1)) 32 f_Machine_globalWords i = X 32 f_Machine_globalWords i := by unfold stX; rw [u3_f (by decide), u3_e, if_neg (fun w => q w.2.2), u3_f (by decide), ex _ _ _ (fun y => by have := y.2.2; omega)]
        rw [w1, w2, w3, w4]
        exact ⟨by omega, g.vr c2⟩
  have dT : ∀ o, isT o → ∀ f, [f_Task_tryCall, f_Task_tryTo, f_Task_trySize].elem f = true → hl h1 (hR h1 f (C + o)) = hl h (hR h f (C + o)) := by
    intro o ho f hf
    have : f = f_Task_tryCall ∨ f = f_Task_tryTo ∨ f = f_Task_trySize := by simpa using hf
    rcases ho with rfl | rfl <;> rcases this with rfl | rfl | rfl <;> exact lw _ _ (by decide) (by decide) (by decide)
  obtain ⟨M1, M2⟩ := HC0.gs (S' := gstS S a.toNat (tpS S t n) (vpS S t n)) (X' := stX Xg a.toNat (X o f_Task_tags (n - 1)) (X o f_Task_words (n - 1))) G1 F1 R1 g (e0 (by decide)) (x0 (by decide)) dT (e0 (by decide)) (Int.le_of_eq (e0 (L := [f_Md_names]) (by decide) _ (by decide) _).symm) (by unfold DJ; decide) (by unfold DJ; decide) (by unfold DJ; decide) (q2.ext g (e0 (by decide)) (x0 (by decide)) (lw _ _ (by decide) (by decide) (by decide)) (lw _ _ (by decide) (by decide) (by decide)) (lw _ _ (by decide) (by decide) (by decide))) (q3.ext (C := C) G.2.1 g (e0 (by decide)) R1 (by unfold DJ; decide) (by unfold DJ; decide) (by simp)) kg (q5.ext (e0 (by decide)) (x0 (by decide)) (lw _ _ (by decide) (by decide) (by decide)) (lw _ _ (by decide) (by decide) (by decide)) (lw _ _ (by decide) (by decide) (by decide))) (q6.ext (e0 (by decide)) (x0 (by decide))) (q7.ext G F g (e0 (by decide)) R1 (by unfold DJ; decide) (by unfold DJ; decide) (by simp) (fun i _ => q8.eq G.2.1 R1 (by unfold DJ; decide) (by simp) i))
  refine OPC.go H nx M1 (M2 K) g (e0 (by decide)) (fun f i hf => ?_) (fun a' f i hf => ?_) R1 (fun f hf => ?_) ((gb S _ (q7.thk G) (e0 (by decide))).1.le (by decide) (by decide)) (fun d Q q => r_GSTORE (d := d + 40) H.ix hn1 (run (d + 58) _ (by omega) q)) (fun d h0 T Q p q => s_GSTORE (d := d + 52) (hP _ _ p) D a4 hn1 q)
  · have nn : ∀ g, LSc.elem g = true → f ≠ g := by rintro g hg rfl; rw [hg] at hf; cases hf
    unfold gstS
    rw [u2_f (nn _ (by decide)), u2_f (nn _ (by decide)), u2_f (nn _ (by decide))]
  · have nn : ∀ g, LXc.elem g = true → f ≠ g := by rintro g hg rfl; rw [hg] at hf; cases hf
    unfold stX
    rw [u3_f (nn _ (by decide)), u3_f (nn _ (by decide)), u3_f (nn _ (by decide)), ex _ _ _ (fun w => ?_)]
    have : f = f_Machine_globalWords ∨ f = f_Machine_globalTags ∨ f = f_Machine_isGlobal := by have := w.2.1; unfold LG3 at this; simpa using this
    rcases this with rfl | rfl | rfl <;> (revert hf; decide)
  · unfold LHc
    simp only [List.mem_append] at hf ⊢
    rcases hf with hf | hf
    · exact Or.inl (Or.inl (Or.inl (Or.inl (Or.inl hf))))
    · refine Or.inr ?_
      unfold LG3 at hf
      simp only [List.mem_cons, List.not_mem_nil, or_false] at hf ⊢
      rcases hf with rfl | rfl | rfl <;> simp
end
