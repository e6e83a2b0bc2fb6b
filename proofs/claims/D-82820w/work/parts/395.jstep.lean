set_option maxRecDepth 20000
section
variable {ρ : Nat → Nat} {d : Nat} {Q : QT} {Γ Γ' Γ1 Γ2 : GH} {h h' h1 h2 : ah} {C ho N M z s t o n c r i j k p a T : Nat} {g g' : HG} {S S' S1 S2 : SS} {X X' X1 X2 : X3} {Y Y' Y1 Y2 : Y3} {ws ws' hw : List (List Int)} {x y ty v fl : Int} {h0 : ah}
/-- T's step: a turn of its loop -/
def TST (ρ : Nat → Nat) (P : ah → Nat → Prop) (S : SS) (fl : Int) (S' : SS) : Prop := ∀ (d : Nat) (h0 : ah) (T : Nat) (Q : QT) (l2 l3 : Int), P h0 T → l3 < l2 → wpB PGm ρ (d + 201) m_Md_steps 58 [(0, vR T), (2, vI l2), (3, vI (if fl = 0 then w32 (w32 (l3 + -1) + 1) else w32 (l3 + 1)))] [] (cn h0 T S') Q → wpB PGm ρ (d + 201) m_Md_steps 58 [(0, vR T), (2, vI l2), (3, vI l3)] [] (cn h0 T S) Q
/-- the task that T is at -/
def TAT (S : SS) (t : Nat) : Prop := S f_Md_t 0 = (t : Int) ∧ S f_Md_p0 0 = ((2100 * t : Nat) : Int) ∧ S f_Md_f0 0 = ((200 * t : Nat) : Int) ∧ S f_Md_thrown 0 = 0
theorem TAT.off {L : List Nat} (H : TAT S t) (o : OFF L S S') (e : [f_Md_t, f_Md_p0, f_Md_f0, f_Md_thrown].all (fun f => !(L.elem f)) = true) : TAT S' t := by
  have w := o.ex (L' := [f_Md_t, f_Md_p0, f_Md_f0, f_Md_thrown]) e
  unfold TAT
  rw [w _ (by decide), w _ (by decide), w _ (by decide), w _ (by decide)]
  exact H
theorem ALL.ct (A : ALL ρ Γ h C ho X Y S g N M hw ws) (hto : isTO t o) : ∃ n c r, CT Γ h C X Y S N t o n c r := by
  rcases hto with ⟨rfl, rfl⟩ | ⟨rfl, rfl⟩
  · exact A.1.2.1
  · exact A.1.2.2.1
theorem isTO.le (hto : isTO t o) : t ≤ 1 ∧ isT o := by
  unfold isTO at hto
  unfold isT
  omega
/-- rows that steps may change -/
def LSw : List Nat := [f_Md_thrown, f_Md_t, f_Md_p0, f_Md_f0] ++ LSs
/-- from one state to the next, between steps -/
def STW (ρ : Nat → Nat) (Γ : GH) (h : ah) (C ho : Nat) (S : SS) (g : HG) (N M : Nat) (hw : List (List Int)) (Γ' : GH) (h' : ah) (X' : X3) (Y' : Y3) (S' : SS) (ws' : List (List Int)) (kz ks : Int) : Prop := ALL ρ Γ' h' C ho X' Y' S' g N M hw ws' ∧ GRO Γ Γ' h h' C S S' ∧ OFF LSw S S' ∧ (∃ z s, Fr LHs (PSs C ho) z s h h') ∧ BNA h C ho N S h' S' kz ks
theorem STW.tr {kz ks kz2 ks2 : Int} {ws1 ws2 : List (List Int)} (A : STW ρ Γ h C ho S g N M hw Γ1 h1 X1 Y1 S1 ws1 kz ks) (B : STW ρ Γ1 h1 C ho S1 g N M hw Γ2 h2 X2 Y2 S2 ws2 kz2 ks2) : STW ρ Γ h C ho S g N M hw Γ2 h2 X2 Y2 S2 ws2 (kz + kz2) (ks + ks2) := by
  obtain ⟨-, a3, a4, ⟨z, s, a7⟩, a8⟩ := A
  obtain ⟨b1, b3, b4, ⟨z2, s2, b7⟩, b8⟩ := B
  exact ⟨b1, a3.tr b3, a4.tr b4, ⟨_, _, a7.trans b7⟩, a8.tr b8⟩
theorem STW.le {kz ks kz2 ks2 : Int} (A : STW ρ Γ h C ho S g N M hw Γ1 h1 X1 Y1 S1 ws kz ks) (q1 : kz ≤ kz2) (q2 : ks ≤ ks2) : STW ρ Γ h C ho S g N M hw Γ1 h1 X1 Y1 S1 ws kz2 ks2 := by
  obtain ⟨a1, a3, a4, a7, a8⟩ := A
  exact ⟨a1, a3, a4, a7, a8.le q1 q2⟩
theorem STG.stw {kz ks : Int} (A : ALL ρ Γ h C ho X Y S g N M hw ws) (ST : STG ρ Γ h C ho X Y S g N M hw ws Γ' h' X' Y' S' ws' kz ks) : STW ρ Γ h C ho S g N M hw Γ' h' X' Y' S' ws' kz ks := ⟨A.stg ST, ST.2.2.1, ST.2.2.2.1.le (by decide +kernel), ST.2.2.2.2.2.2.1, ST.2.2.2.2.2.2.2⟩
theorem MSC.rows (H : MSC ρ Γ h C X S) (g1 : GRO Γ Γ h h C S S') (e : EXS [f_Md_sourceTexts, f_Md_units, f_Md_unitFunction, f_Md_instructions, f_Md_siteKind, f_Md_siteName, f_Md_siteMany, f_Md_sites, f_Md_descriptor, f_Md_descriptors] S S') (x : EXX [f_Machine_literalText, f_Machine_units, f_Machine_mains, f_Machine_instructions, f_Machine_literalsKnown] X X') : MSC ρ Γ h C X' S' := by
  obtain ⟨h1, h2, h3, h4, h5, lits, w, l2, l3, l4, l5⟩ := H
  exact ⟨fun b hb => by rw [x _ (by decide)]; exact h1 b (by rw [← e _ (by decide)]; exact hb), h2, h3.mv g1 (e.le (by decide)) (fun f hf o i => x f (by
    have : f = f_Machine_units ∨ f = f_Machine_mains := by simpa using hf
    rcases this with rfl | rfl <;> decide) o i), by rw [x _ (by decide), e _ (by decide)]; exact h4, h5.mv (e.le (by decide)) (fun _ => rfl) ⟨rfl, fun _ => rfl⟩, lits, w, by rw [e _ (by decide)]; exact l2, by rw [x _ (by decide)]; exact l3, l4, fun b hb => (l5 b hb).src g1.2.2.2.2.2.2 (by omega)⟩
theorem STW.any (A : ALL ρ Γ h C ho X Y S g N M hw ws) (c1 : CORE Γ h C ho X' Y' S' N) (x : OFX LXa X X') (y : OFX LYa Y Y') (o : OFF LSb S S') (it : X' 53 f_Found_isText 0 = 0 ∨ X' 53 f_Found_isText 0 = 1) : STW ρ Γ h C ho S g N M hw Γ h X' Y' S' ws 0 0 := by
  obtain ⟨E1, g1, b1⟩ := EXT.any A.2.1 A.1 x y o it
  exact ⟨⟨c1, E1, A.2.2.rows g1 (o.ex (by decide +kernel)) (x.exx (by decide))⟩, g1, o.le (by decide +kernel), ⟨0, 0, Fr.r0⟩, b1⟩
/-- one step, by both -/
theorem j_step (A : ALL ρ Γ h C ho X Y S g N M hw ws) (O : HSF g N M) (hto : isTO t o) (ta : TAT S t) (run : S f_Md_state t = 1) (hc : S f_Md_changes 0 + 1 ≤ 1000000)
    (q : ∀ fl Γ' S' h' X' Y' ws', (fl = 0 ∧ S' f_Md_state t = 4 ∨ fl = 1) → TST ρ (PTO ρ g N M) S fl S' → STW ρ Γ h C ho S g N M hw Γ' h' X' Y' S' ws' 3 31 → TAT S' t → Q (Sum.inl (some (vI fl))) (cc h' C X' Y')) : wpB PGm ρ (d + 201) m_Machine_step 0 [(0, vR (C + 32)), (1, vR (C + o))] [] (cc h C X Y) Q := by
  obtain ⟨n, c, r, K⟩ := A.ct hto
  obtain ⟨ht, io⟩ := hto.le
  obtain ⟨HC, E, MS⟩ := id A
  have G := HC.1.1
  have F := HC.1.2
  have W := O.1
  have c1 : 1 ≤ c := K.2.1.2.2.2.1 (Or.inl run)
  have c2 : c ≤ 200 := K.2.2.2.1.2.2
  have ec : S f_Md_frames t = (c : Int) := K.2.2.2.1.2.1
  obtain ⟨⟨f1, f2, f3⟩, ⟨f4, f5, f6⟩, -⟩ := K.2.2.2.2.2.2.1 (c - 1) (by omega)
  obtain ⟨fn, fe, f400, flen, FN⟩ := HC.2.2.2.1
  have FF := FN (fsS S t (c - 1)) (by omega)
  rw [← f3] at FF
  obtain ⟨⟨ka, az, a0⟩, -, -, -, -, -, -, -, -, -, ⟨r0, rk⟩, k, z, k1, k2, k3, k4, k5, k6, k7, rows⟩ := FF
  have pz : psS S t (c - 1) < z := by omega
  obtain ⟨w1, w2, w3, OT⟩ := rows _ pz
  -- the state at the beginning of the step
  have oS : OFF LSa S (stS S t c (psS S t (c - 1))) := by unfold stS; exact (OFF.rf.u (by decide +kernel)).u (by decide +kernel)
  have oY : OFX LYa Y (u3 Y 32 f_Machine_t 0 (C + o)) := OFX.rf.u (by decide)
  have eY : ∀ a f, L7.elem f = true → ∀ i, u3 Y 32 f_Machine_t 0 (C + o) a f i = Y a f i := fun a f hf i => u3_f (by rintro rfl; exact absurd hf (by decide))
  obtain ⟨⟨C0, cm⟩, -⟩ := HC.fzz (L := []) (Pp := []) (X' := X) (Y' := u3 Y 32 f_Machine_t 0 (C + o)) (S' := stS S t c (psS S t (c - 1))) (Fr.r0 : Fr [] [] 0 0 h h) (by unfold DJ; decide +kernel) (fun y c => by cases c) (by unfold stS; exact EXS.u (by decide +kernel) (EXS.u (by decide +kernel) EXS.rf)) (Int.le_of_eq (by unfold stS; rw [u2_f (by decide), u2_f (by decide)])) EXX.rf eY
  have K0 := cm K
  have ST0 := STW.any (S' := stS S t c (psS S t (c - 1))) A C0 OFX.rf oY (oS.le (by decide +kernel)) E.1.2.2.2.2.2.2.2.1
  have A0 := ST0.1
  have ta0 : TAT (stS S t c (psS S t (c - 1))) t := ta.off oS (by decide +kernel)
  have ep0 : psS (stS S t c (psS S t (c - 1))) t (c - 1) = psS S t (c - 1) := by unfold stS psS; rw [u2_f (by decide), u2_f (by decide)]
  have aT : AT (stS S t c (psS S t (c - 1))) t c := by
    refine ⟨ta0.1, ta0.2.1, ta0.2.2.1, ?_, ?_⟩
    · unfold stS; rw [u2_f (by decide), u2_s]
    · rw [ep0]; unfold stS; rw [u2_s]
  have H0 := C0.oph K0 c1 u3_s aT
  obtain ⟨k', D, hh, OT0⟩ := H0.df
  have ef0 : fsS (stS S t c (psS S t (c - 1))) t (c - 1) = fsS S t (c - 1) := by unfold stS fsS; rw [u2_f (by decide), u2_f (by decide)]
  have kk : k' = k := by
    have := D.2.2.2.2.2.2.1
    rw [ef0] at this
    unfold stS at this
    rw [u2_f (by decide), u2_f (by decide)] at this
    omega
  subst kk
  have hc0 : stS S t c (psS S t (c - 1)) f_Md_changes 0 + 1 ≤ 1000000 := by unfold stS; rw [u2_f (by decide), u2_f (by decide)]; exact hc
  have OP := op_ALL C0 H0 A0.2.1 O A0.2.2 D OT0 hh hc0
  have eop : ∀ f, [f_Md_codeOp, f_Md_codeA, f_Md_codeB].elem f = true → ∀ i, stS S t c (psS S t (c - 1)) f i = S f i := fun f hf i => by
    unfold stS
    rw [u2_f (by rintro rfl; exact absurd hf (by decide)), u2_f (by rintro rfl; exact absurd hf (by decide))]
  rw [ep0, eop _ (by decide), eop _ (by decide), eop _ (by decide)] at OP
  refine r_step (d := d + 200) (c := c) (p := psS S t (c - 1)) G F io K.2.2.2.1.1 ⟨c1, c2⟩ f5 rfl ka az rk (by omega) (by omega) ?_
  rw [w1, w2, w3]
  refine OP d _ (fun e Γ' S' h' X' Y' ws' T ST er => ?_)
  have ST1 := (ST0.tr (ST.stw A0)).le (kz2 := 3) (ks2 := 31) (by omega) (by omega)
  have A1 := ST1.1
  have G1 := A1.1.1.1
  have F1 := A1.1.1.2
  have ta1 : TAT S' t := ta0.off ST.2.2.2.1 (by decide +kernel)
  have yt : Y' 32 f_Machine_t 0 = C + o := by rw [ST.2.2.2.2.2.1 _ _ _ (by decide +kernel), u3_s]
  have hs : ∀ {d h0 T Q l2 l3}, TOK h0 T → l3 < l2 → wpB PGm ρ d m_Md_does 0 [(0, vR T)] [] (cn h0 T (stS S t c (psS S t (c - 1)))) (cV (fun h15 => wpB PGm ρ (d + 1) m_Md_steps 58 [(0, vR T), (2, vI l2), (3, vI (w32 (l3 + 1)))] [] h15 Q) (fun e18 h17 => hK h17 e18 ≠ 0 ∧ hK h17 e18 = k_MdHalt ∧ wpB PGm ρ (d + 1) m_Md_steps 118 [(0, vR T), (2, vI l2), (3, vI l3)] [vR e18] h17 Q)) → wpB PGm ρ (d + 1) m_Md_steps 58 [(0, vR T), (2, vI l2), (3, vI l3)] [] (cn h0 T S) Q := fun O hl q => s_step O ht ta.1 ta.2.2.1 run ec ⟨c1, c2⟩ f4 (by omega) hl q
  cases e with
  | none =>
    refine q 1 Γ' S' h' X' Y' ws' (Or.inr rfl) (fun d' h0 T' Q' l2 l3 PT hl q' => ?_) ST1 ta1
    refine hs (d := d' + 200) PT.1.1 hl (T d' h0 T' _ PT ?_)
    rw [if_neg (by decide)] at q'
    exact q'
  | some x =>
    obtain ⟨er1, er2, er3, efc⟩ := er
    have kS : hK (cc h' C X' Y') (C + 33) = k_Signal := F1.1.2.1
    have ie : hI (cc h' C X' Y') f_Signal_error (C + 33) = x := by rw [ccI (by decide)]; exact er1
    have rt : hR (cc h' C X' Y') f_Machine_t (C + 32) = C + o := by rw [ccR (by decide), yt]
    have kT : hK (cc h' C X' Y') (C + o) = k_Task := (F1.t io).1
    refine ⟨by rw [kS]; decide, kS, b_Machine_step_70 (d := d + 200) ⟨kS, ?_⟩⟩
    rw [ie]
    obtain ⟨n1, c3, r1, K1⟩ := A1.ct hto
    have hT : ∀ {d' h0 T' Q' l2 l3}, PTO ρ g N M h0 T' → l3 < l2 → wpB PGm ρ (d' + 201) m_Md_steps 118 [(0, vR T'), (2, vI l2), (3, vI l3)] [vR (hR h0 f_Md_halt T')] (cn h0 T' S') Q' → wpB PGm ρ (d' + 201) m_Md_steps 58 [(0, vR T'), (2, vI l2), (3, vI l3)] [] (cn h0 T' S) Q' := fun {d' h0 T' Q' l2 l3} PT hl q' => by
      have kH : hK (cn h0 T' S') (hR h0 f_Md_halt T') = k_MdHalt := by
        obtain ⟨kT, G, kH⟩ := PT.1.1
        rw [cnK]; exact kH
      exact hs (d := d' + 200) PT.1.1 hl (T d' h0 T' _ PT ⟨by rw [kH]; decide, kH, q'⟩)
    refine ⟨fun x0 => ⟨F1.1.1, ?_⟩, fun x0 => ⟨F1.1.1, ?_⟩⟩
    · rw [rt]
      refine ⟨kT, ?_⟩
      have ee : S' f_MdHalt_number 0 = x := by rw [er2, if_neg x0]
      obtain ⟨X2, S2, n2, c4, r2, K2, ns, nx, rc, tc⟩ := K1.raise2 (ρ := ρ) G1 F1 ta1.1 ta1.2.1 ta1.2.2.1 (VR.two (v := x) (by omega) (by omega)) ⟨by decide, by decide⟩
      have C2 := A1.1.task hto K2 ns nx
      have ST2 := STW.any A1 C2 nx.ofx OFX.rf (ns.off.le (by decide +kernel)) (by rw [nx.it io]; exact A1.2.1.1.2.2.2.2.2.2.2.1)
      refine rc (d + 199) _ ?_
      refine q 1 Γ' S2 h' X2 Y' ws' (Or.inr rfl) (fun d' h0 T' Q' l2 l3 PT hl q' => ?_) ((ST1.tr ST2).le (by omega) (by omega)) (ta1.off ns.off (by decide +kernel))
      refine hT PT hl ?_
      rw [if_neg (by decide)] at q'
      have g1 := tc (d' + 198) h0 T' (cV (fun h9 => wpB PGm ρ (d' + 201) m_Md_steps 58 [(0, vR T'), (2, vI l2), (3, vI (w32 (l3 + 1)))] [] h9 Q') (fun e12 h11 => hK h11 e12 ≠ 0 ∧ Q' (Sum.inr e12) h11)) PT.1.1 q'
      have n99 : ¬ x = 99 := by omega
      clear tc rc hT hs q q' T
      obtain ⟨kT', G', kH⟩ := PT.1.1
      refine b_Md_steps_118 (d := d' + 200) ?_
      have i1 : hI (cn h0 T' S') f_MdHalt_number (hR h0 f_Md_halt T') = S' f_MdHalt_number 0 := cnIe (by decide)
      rw [i1, ee]
      exact ⟨by rw [cnK]; exact kH, fun _ => ⟨by rw [cnK]; exact kT', g1⟩, fun c => absurd c n99⟩
    · rw [rt]
      refine ⟨kT, ?_⟩
      have ee : S' f_MdHalt_number 0 = 99 := by rw [er2, if_pos x0]
      have xs : sI (cc h' C X' Y') f_Task_state (C + o) 4 = cc h' C (u3 X' o f_Task_state 0 4) Y' := cc_sIt io (by decide)
      have h1c : 1 ≤ c3 := by
        have := K1.2.2.2.1.2.1
        unfold FTC at efc
        rw [ta1.1, Int.toNat_natCast, this] at efc
        omega
      have K2 := K1.stop h1c
      have ns : NSt t S' (u2 S' f_Md_state t 4) := NSt.u (tk1 (by decide)) NSt.rf
      have nx : NXo o X' (u3 X' o f_Task_state 0 4) := fun a f i hf => by
        rw [u3_e, if_neg (fun c => hf (Or.inl ⟨c.1, by rw [c.2.1]; decide⟩))]
      have C2 := A1.1.task hto K2 ns nx
      have ST2 := STW.any A1 C2 nx.ofx OFX.rf (ns.off.le (by decide +kernel)) (by rw [nx.it io]; exact A1.2.1.1.2.2.2.2.2.2.2.1)
      show Q (Sum.inl (some (vI 0))) (sI (cc h' C X' Y') f_Task_state (C + o) 4)
      rw [xs]
      refine q 0 Γ' (u2 S' f_Md_state t 4) h' _ Y' ws' (Or.inl ⟨rfl, u2_s⟩) (fun d' h0 T' Q' l2 l3 PT hl q' => ?_) ((ST1.tr ST2).le (by omega) (by omega)) (ta1.off ns.off (by decide +kernel))
      refine hT PT hl ?_
      rw [if_pos rfl] at q'
      exact s_oom (d := d' + 200) PT.1.1 ht ee ta1.1 q'
end
