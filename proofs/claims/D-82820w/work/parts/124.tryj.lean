/-! TRY: joined -/
set_option maxRecDepth 20000
section
variable {ρ : Nat → Nat} {P : ah → Nat → Prop} {d : Nat} {Q : QT} {Γ Γ' : GH} {h h' : ah} {C ho : Nat} {X X' : X3} {Y Y' : Y3} {S S' : SS} {N t o n c r f i j k m z s l : Nat} {L : List Nat} {Pp : List (Nat × Nat)} {ty v x y op a b : Int}
theorem r_TRY (I : IX h C X Y o n c) (q : wpB PGm ρ (d + 19) m_Task_addTry 0 [(0, vR (C + o)), (1, vI a)] [] (cc h C X Y) (cV (fun h366 => hK h366 (C + 32) = k_Machine ∧ wpB PGm ρ (d + 19) m_Machine_go 0 [(0, vR (C + 32))] [] h366 (cV (fun h3 => Q (Sum.inl none) h3) (fun e h' => ¬ hK h' e = 0 ∧ Q (Sum.inr e) h'))) (fun e h' => ¬ hK h' e = 0 ∧ Q (Sum.inr e) h'))) : wpB PGm ρ (d + 20) m_Machine_instruct 0 [(0, vR (C + 32)), (1, vI 31), (2, vI a), (3, vI b)] [] (cc h C X Y) Q := by
  obtain ⟨G, F, ht, e0, hn, hc1, hc2⟩ := I
  have f1 := F.t ht
  unfold FCt at f1
  have f2 := F
  unfold FC at f2
  obtain ⟨e1, e2, e3⟩ := e0
  have g := q
  clear q
  refine b_Machine_instruct_0 (by omega) ?_
  simp (decide := true) (disch := first | decide | omega) only [ccI, ccR, ccIt ht, ccRo, ccK, ccl, ccA G, ccAt G ht, ccB G, ccBt G ht, cc_sI, cc_sR, cc_sIt ht, cc_sA G, cc_sAt G ht, cc_sB G, cc_sBt G ht, f1, f2, u3_f, u3_s, KCt G ht, KC G, w32_aa, w32_ss, w32_p1, w32_m1, Int.toNat_natCast, true_and, and_true, false_and, and_false, or_false, false_or, ne_eq, not_false_eq_true, forall_const, implies_true, not_true_eq_false, false_implies, e1, e2]
  exact g
/-- the rows of C's machine may lie elsewhere now: all else stays -/
theorem CORE.gr (H : CORE Γ h C ho X Y S N) (G' : AC h' C) (F' : FC h' C) (fr : Fr L [] z s h h') (g : GRO Γ Γ h h' C S S) (K0 : ∃ n c r, CT Γ h' C X' Y S N 0 62 n c r) (K1 : ∃ n c r, CT Γ h' C X' Y S N 1 75 n c r) (dC : DJ LCH L []) (dC1 : DJ LCH1 L []) (dV : DJ LVH L []) (dV1 : DJ LVH1 L []) (dH : DJ LHH L []) (dH1 : DJ LHH1 L []) (dO : DJ [f_Host_types, f_Host_types + 1] L []) (k2 : TXC Γ h' C X' S) (k4 : GLB Γ h' C X' S N) (k5 : OUT h' C X' S) (k6 : MEM X' S) : CORE Γ h' C ho X' Y S N := by
  obtain ⟨⟨G, F⟩, -, -, a1, -, a3, -, -, -, a7, a8⟩ := H
  exact ⟨⟨G', F'⟩, K0, K1, a1.ext G F g EXS.rf (Int.le_refl _) fr dC dC1 (by simp), k2, a3.ext (C := C) G.2.1 g EXS.rf fr dV dV1 (by simp), k4, k5, k6, a7.ext G F g EXS.rf fr dH dH1 (by simp) (fun i _ => a8.eq G.2.1 fr dO (by simp) i), a8.fr fr dO⟩
theorem op_TRY (hP : ∀ h0 T, P h0 T → TOK h0 T) (HC : CORE Γ h C ho X Y S N) (H : OPH Γ h C X Y S N t o n c r) (O : OPT Γ S (fsS S t (c - 1)) (psS S t (c - 1)) 31 a b) (D : DF S t n c (fsS S t (c - 1)) (psS S t (c - 1)) k 31 a b) (hh : n = bsS S t (c - 1) + ghs Γ (fsS S t (c - 1)) (psS S t (c - 1)) ∧ r = qsS S t (c - 1) + gtd Γ (fsS S t (c - 1)) (psS S t (c - 1))) : OPC ρ P Γ h C ho X Y S N 31 a b := by
  obtain ⟨v1, v2, ⟨n1, n2, n3, n4⟩, ⟨j1, j2, j3, j4, j5⟩⟩ := O.2.2.2.2.2.2.2.2.2.2.2.2.2.2.2.2.2.2.2.1 rfl
  obtain ⟨hh1, hh2⟩ := hh
  have K := H.2.2.1
  have hc := H.2.2.2.1
  have r50 := K.r_le
  have hto := K.1
  have hto2 := K.1.to
  have c200 := K.2.2.2.1.2.2
  have G := H.1
  have F := H.2.1
  have F1 := K.2.2.2.2.2.2.1 (c - 1) (by omega)
  obtain ⟨l, l1, l2, l3, l4, l5, l6⟩ := K.2.2.2.2.2.2.2.2.2.2
  have rlt : r < 10000 := by
    have sm : qsS S t (c - 1) ≤ 50 * (c - 1) := by
      have STAm := K.2.2.2.2.2.2.2.1
      have hq : ∀ i, i < c → qsS S t i ≤ 50 * i := by
        intro i
        induction i with
        | zero => intro _; have := STAm.2.2; rw [Nat.mul_eq_zero] at this; omega
        | succ i ih =>
          intro hi
          have := ih (by omega)
          obtain ⟨-, q1, q2, -⟩ := STAm.1 i (by omega)
          rw [if_neg (by omega)] at q1
          omega
      exact hq (c - 1) (by omega)
    omega
  obtain ⟨h1, Xg, z1, s1, G1, F1', R1, ⟨l', m1, m2, m3, m4, m5, m6⟩, ex, hol, gb, run⟩ := r_addTry (ρ := ρ) (Y := Y) (X := X) (c := c) (n := n) (r := r) G F hto2.1 l1 l2 l3 ⟨l4, l5, l6⟩ rlt K.2.2.2.2.1.1 K.2.2.2.1.1 K.2.2.1.1 a
  have g1 := G.1
  have s56 : ∀ i, hB h1 (C + 56) i = hB h (C + 56) i := (R1.ar G.2.1 (f := f_Machine_functions) (by unfold own; decide) (x := C + 32) (by omega) F.2.1.2.2.2.2.2.2.2.1 (by omega) (nok (by decide) (by decide) rfl rfl) (by simp)).2.2
  have s51 : ∀ i, hB h1 (C + 51) i = hB h (C + 51) i := (R1.ar G.2.1 (f := f_Heap_things) (by unfold own; decide) (x := C + 50) (by omega) F.2.2.1.2.1 (by omega) (nok (by decide) (by decide) rfl rfl) (by simp)).2.2
  have g : GRO Γ Γ h h1 C S S := GRO.fr EXS.rf G F R1 (by unfold DJ; decide) (by simp)
  have exo : ∀ {L : List Nat}, L.all (fun f => !(LXT.elem f)) = true → EXX L X Xg := fun q f hf a i => ex a f i (fun w => by
    have := List.all_eq_true.mp q f (by simpa using hf)
    rw [w.2.1] at this; cases this)
  have Kg : CT Γ h1 C Xg Y S N t o n c r := K.grow s56 s51 (fun f i _ hi => ex o f i (fun w => by have := hi w.2.1; omega)) ⟨l', m1, m2, m3, by omega, m5, m6⟩
  have oth : ∀ {t' o' n' c' r' : Nat}, CT Γ h C X Y S N t' o' n' c' r' → o' ≠ o → CT Γ h1 C Xg Y S N t' o' n' c' r' := fun {t' o' n' c' r'} K' ne => by
    have hq := hol o' K'.1.to.1 ne
    obtain ⟨l, q1, q2, q3, q4, q5, q6⟩ := K'.2.2.2.2.2.2.2.2.2.2
    exact K'.grow s56 s51 (fun f i _ _ => ex o' f i (fun w => ne w.1)) ⟨l, by rw [hq _ (by decide)]; exact q1, by rw [hq _ (by decide)]; exact q2, by rw [hq _ (by decide)]; exact q3, q4, q5, q6⟩
  have HC1 : CORE Γ h1 C ho Xg Y S N := by
    have HC0 := HC
    obtain ⟨-, ⟨n0, c0, r0, K0⟩, ⟨n1', c1, r1, K1⟩, -, q2, -, q4, q5, q6, -, -⟩ := HC
    refine HC0.gr G1 F1' R1 g ?_ ?_ (by unfold DJ; decide) (by unfold DJ; decide) (by unfold DJ; decide) (by unfold DJ; decide) (by unfold DJ; decide) (by unfold DJ; decide) (by unfold DJ; decide) (q2.ext g EXS.rf (exo (by decide)) (ac_len G R1 (by decide) (by unfold DJ; decide)) (ac_len G R1 (by decide) (by unfold DJ; decide)) (ac_len G R1 (by decide) (by unfold DJ; decide))) (q4.ext g EXS.rf (exo (by decide)) (ac_len G R1 (by decide) (by unfold DJ; decide)) (ac_len G R1 (by decide) (by unfold DJ; decide)) (ac_len G R1 (by decide) (by unfold DJ; decide))) (q5.ext EXS.rf (exo (by decide)) (ac_len G R1 (by decide) (by unfold DJ; decide)) (ac_len G R1 (by decide) (by unfold DJ; decide)) (ac_len G R1 (by decide) (by unfold DJ; decide))) (q6.ext EXS.rf (exo (by decide)))
    · rcases hto with ⟨rfl, rfl⟩ | ⟨rfl, rfl⟩
      · exact ⟨n, c, r, Kg⟩
      · exact ⟨n0, c0, r0, oth K0 (by decide)⟩
    · rcases hto with ⟨rfl, rfl⟩ | ⟨rfl, rfl⟩
      · exact ⟨n1', c1, r1, oth K1 (by decide)⟩
      · exact ⟨n, c, r, Kg⟩
  -- the try is added
  have ns : NSt t S (atS (u2 (u2 (u2 (u2 S f_Md_tryAt (10000 * t + r) a) f_Md_tryHeight (10000 * t + r) (n : Int)) f_Md_tryFrame (10000 * t + r) ((c - 1 : Nat) : Int)) f_Md_tries t ((r + 1 : Nat) : Int)) t c ((psS S t (c - 1) + 1 : Nat) : Int)) := NSt.u (Or.inr (Or.inr (Or.inl ⟨by decide, by omega⟩))) (NSt.u (tk1 (by decide)) (NSt.u (Or.inr (Or.inr (Or.inr (Or.inl ⟨by decide, by omega⟩)))) (NSt.u (Or.inr (Or.inr (Or.inr (Or.inl ⟨by decide, by omega⟩)))) (NSt.u (Or.inr (Or.inr (Or.inr (Or.inl ⟨by decide, by omega⟩)))) NSt.rf))))
  have es : ∀ {L : List Nat}, L.all (fun f => !([f_Md_frameAt, f_Md_tries, f_Md_tryAt, f_Md_tryHeight, f_Md_tryFrame].elem f)) = true → EXS L S (atS (u2 (u2 (u2 (u2 S f_Md_tryAt (10000 * t + r) a) f_Md_tryHeight (10000 * t + r) (n : Int)) f_Md_tryFrame (10000 * t + r) ((c - 1 : Nat) : Int)) f_Md_tries t ((r + 1 : Nat) : Int)) t c ((psS S t (c - 1) + 1 : Nat) : Int)) := by
    intro L q f hf i
    have := List.all_eq_true.mp q f (by simpa using hf)
    simp only [Bool.not_eq_true'] at this
    have nn : ∀ g, [f_Md_frameAt, f_Md_tries, f_Md_tryAt, f_Md_tryHeight, f_Md_tryFrame].elem g = true → f ≠ g := by
      rintro g hg rfl; rw [hg] at this; cases this
    unfold atS
    rw [u2_f (nn _ (by decide)), u2_f (nn _ (by decide)), u2_f (nn _ (by decide)), u2_f (nn _ (by decide)), u2_f (nn _ (by decide))]
  have exx : ∀ {L : List Nat}, L.all (fun f => !([f_Task_next, f_Task_tries, f_Task_tryCall, f_Task_tryTo, f_Task_trySize].elem f)) = true → EXX L Xg (u3 (adX Xg o r c n a) o f_Task_next (c - 1) ((psS S t (c - 1) + 1 : Nat) : Int)) := by
    intro L q f hf a' i
    have := List.all_eq_true.mp q f (by simpa using hf)
    simp only [Bool.not_eq_true'] at this
    have nn : ∀ g, [f_Task_next, f_Task_tries, f_Task_tryCall, f_Task_tryTo, f_Task_trySize].elem g = true → f ≠ g := by
      rintro g hg rfl; rw [hg] at this; cases this
    unfold adX
    rw [u3_f (nn _ (by decide)), u3_f (nn _ (by decide)), u3_f (nn _ (by decide)), u3_f (nn _ (by decide)), u3_f (nn _ (by decide))]
  have eS : ∀ f i, [f_Md_tryAt, f_Md_tryHeight, f_Md_tryFrame].elem f = true → i ≠ 10000 * t + r → (atS (u2 (u2 (u2 (u2 S f_Md_tryAt (10000 * t + r) a) f_Md_tryHeight (10000 * t + r) (n : Int)) f_Md_tryFrame (10000 * t + r) ((c - 1 : Nat) : Int)) f_Md_tries t ((r + 1 : Nat) : Int)) t c ((psS S t (c - 1) + 1 : Nat) : Int)) f i = S f i := by
    intro f i hf hi
    have q : f ≠ f_Md_frameAt ∧ f ≠ f_Md_tries := by constructor <;> (rintro rfl; revert hf; decide)
    unfold atS
    rw [u2_f q.1, u2_f q.2, u2_e, if_neg (fun w => hi w.2), u2_e, if_neg (fun w => hi w.2), u2_e, if_neg (fun w => hi w.2)]
  have eX : ∀ f i, [f_Task_tryCall, f_Task_tryTo, f_Task_trySize].elem f = true → i ≠ r → (u3 (adX Xg o r c n a) o f_Task_next (c - 1) ((psS S t (c - 1) + 1 : Nat) : Int)) o f i = Xg o f i := by
    intro f i hf hi
    have q : f ≠ f_Task_next ∧ f ≠ f_Task_tries := by constructor <;> (rintro rfl; revert hf; decide)
    unfold adX
    rw [u3_f q.1, u3_f q.2, u3_e, if_neg (fun w => hi w.2.2), u3_e, if_neg (fun w => hi w.2.2), u3_e, if_neg (fun w => hi w.2.2)]
  have ea : a = (a.toNat : Int) := by omega
  have A := Kg.step (n' := n) (r' := r + 1) (p' := psS S t (c - 1) + 1) hc ns (es (by decide)) (exx (by decide)) (by unfold adX; rw [u3_f (by decide), u3_f (by decide), u3_f (by decide), u3_f (by decide), u3_f (by decide)]; exact Kg.2.2.1.1) (by rw [es (L := [f_Md_height]) (by decide) _ (by decide)]; exact Kg.2.2.1.2.1) Kg.2.2.1.2.2 (by unfold adX; rw [u3_f (by decide), u3_s]) (by unfold atS; rw [u2_f (by decide), u2_s])
    (Kg.2.2.2.2.2.1.ns ns (fun _ _ => exx (L := [f_Task_tags]) (by decide) _ (by decide) _ _) (fun _ _ => exx (L := [f_Task_words]) (by decide) _ (by decide) _ _) (fun _ _ => es (L := [f_Md_pileType]) (by decide) _ (by decide) _) (fun _ _ => es (L := [f_Md_pileValue]) (by decide) _ (by decide) _))
    (fun i => by
      rw [u3_e]
      by_cases q : i = c - 1
      · rw [if_pos ⟨rfl, rfl, q⟩, if_pos q]
      · rw [if_neg (fun w => q w.2.2), if_neg q]
        unfold adX
        rw [u3_f (by decide), u3_f (by decide), u3_f (by decide), u3_f (by decide)])
    (fun i => by
      unfold atS
      rw [u2_e]
      by_cases q : i = 200 * t + (c - 1)
      · rw [if_pos ⟨rfl, q⟩, if_pos q]
      · rw [if_neg (fun w => q w.2), if_neg q, u2_f (by decide), u2_f (by decide), u2_f (by decide), u2_f (by decide)])
    (by omega) (by omega) n4 n1 (fun k hk => by
      by_cases q : k = r
      · subst q
        refine ⟨c - 1, a.toNat, ?_, by omega, ?_, ?_, ?_, ?_, ?_, ?_, ?_, ?_, ?_, ?_⟩
        · unfold atS; rw [u2_f (by decide), u2_f (by decide), u2_s]
        · unfold adX; rw [u3_f (by decide), u3_f (by decide), u3_f (by decide), u3_f (by decide), u3_s]; omega
        · unfold atS; rw [u2_f (by decide), u2_f (by decide), u2_f (by decide), u2_f (by decide), u2_s]; exact ea
        · unfold adX; rw [u3_f (by decide), u3_f (by decide), u3_f (by decide), u3_s]; exact ea
        · unfold atS; rw [u2_f (by decide), u2_f (by decide), u2_f (by decide), u2_s]
          have : bsS (u2 (u2 (u2 (u2 (u2 S f_Md_tryAt (10000 * t + k) a) f_Md_tryHeight (10000 * t + k) (n : Int)) f_Md_tryFrame (10000 * t + k) ((c - 1 : Nat) : Int)) f_Md_tries t ((k + 1 : Nat) : Int)) f_Md_frameAt (200 * t + (c - 1)) ((psS S t (c - 1) + 1 : Nat) : Int)) t (c - 1) = bsS S t (c - 1) := bs_e (es (L := LSF) (by decide))
          rw [this]; omega
        · unfold adX; rw [u3_f (by decide), u3_f (by decide), u3_s, bs_e (es (L := LSF) (by decide))]; omega
        · rw [es (L := [f_Md_codeSize]) (by decide) _ (by decide), fs_e (es (L := LSF) (by decide))]; omega
        · rw [fs_e (es (L := LSF) (by decide))]; exact j3
        · rw [qs_e (es (L := LSF) (by decide))]; omega
        · rw [fs_e (es (L := LSF) (by decide)), qs_e (es (L := LSF) (by decide)), j4]; omega
        · rw [if_pos (by omega)]; omega
      · obtain ⟨j, a', q1, q2, q3, q4, q5, q6, q7, q8, q9, q10, q11, q12⟩ := Kg.2.2.2.2.2.2.2.2.1 k (by omega)
        refine ⟨j, a', ?_, q2, ?_, ?_, ?_, ?_, ?_, ?_, ?_, ?_, ?_, ?_⟩
        · rw [eS _ _ (by decide) (by omega)]; exact q1
        · rw [eX _ _ (by decide) q]; exact q3
        · rw [eS _ _ (by decide) (by omega)]; exact q4
        · rw [eX _ _ (by decide) q]; exact q5
        · rw [eS _ _ (by decide) (by omega), bs_e (es (L := LSF) (by decide))]; exact q6
        · rw [eX _ _ (by decide) q, bs_e (es (L := LSF) (by decide))]; exact q7
        · rw [es (L := [f_Md_codeSize]) (by decide) _ (by decide), fs_e (es (L := LSF) (by decide))]; exact q8
        · rw [fs_e (es (L := LSF) (by decide))]; exact q9
        · rw [qs_e (es (L := LSF) (by decide))]; exact q10
        · rw [fs_e (es (L := LSF) (by decide)), qs_e (es (L := LSF) (by decide))]; exact q11
        · rw [qs_e (es (L := LSF) (by decide))]
          by_cases w : j + 1 = c
          · rw [if_pos w]; omega
          · rw [if_neg w] at q12 ⊢; exact q12) (Or.inr (by omega))
  have nxo : NXo o Xg (u3 (adX Xg o r c n a) o f_Task_next (c - 1) ((psS S t (c - 1) + 1 : Nat) : Int)) := by
    unfold adX
    exact NXo.u (by decide) (NXo.u (by decide) (NXo.u (by decide) (NXo.u (by decide) (NXo.u (by decide) NXo.rf))))
  refine ⟨none, Γ, h1, _, Y, _, z1, s1, HC1.task hto A ns nxo, g.tr (GRO.nst ns), ns.co, fun a' f i hf => ?_, fun _ _ _ _ => rfl, R1.mono (fun f hf => ?_) (fun q hq => by cases hq), (gb S _ (HC.2.2.2.2.2.2.2.2.2.1.thk G) (ns.ex (by decide))).1.le (by decide) (by decide), trivial, fun d Q q => ?_, fun d h0 T Q p q => s_TRY (d := d + 52) (hP _ _ p) D K.2.2.2.2.1.2 rlt q⟩
  · rw [nxo.co a' f i hf, ex a' f i]
    intro w
    have : f = f_Task_tryCall ∨ f = f_Task_tryTo ∨ f = f_Task_trySize := by have := w.2.1; unfold LXT at this; simpa using this
    rcases this with rfl | rfl | rfl <;> (revert hf; decide)
  · unfold LHc
    simp only [List.mem_append] at hf ⊢
    rcases hf with hf | hf
    · exact Or.inl (Or.inl (Or.inl (Or.inl (Or.inl hf))))
    · refine Or.inr ?_
      simp only [List.mem_cons, List.not_mem_nil, or_false] at hf ⊢
      rcases hf with rfl | rfl | rfl <;> simp
  · refine r_TRY (d := d + 40) H.ix (run (d + 59) _ (by omega) ⟨F1'.1.1, ?_⟩)
    refine r_go (n := n) (c := c) G1 F1' hto2.1 ⟨H.2.2.2.2.2.1, ?_, ?_⟩ ⟨hc, c200⟩ ?_
    · unfold adX; rw [u3_f (by decide), u3_f (by decide), u3_f (by decide), u3_f (by decide)]; exact Kg.2.2.1.1
    · unfold adX; rw [u3_f (by decide), u3_f (by decide), u3_f (by decide), u3_f (by decide)]; exact Kg.2.2.2.1.1
    · rw [go_e (m := psS S t (c - 1)) (by unfold adX; rw [u3_f (by decide), u3_f (by decide), u3_f (by decide), u3_f (by decide), ex _ _ _ (fun w => absurd w.2.1 (by decide))]; exact F1.2.1.2.1) (by have := D.2.1; omega)]
      exact q
end
