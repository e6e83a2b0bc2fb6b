/-! two values are joined to a text: both machines -/
set_option maxRecDepth 20000
section
variable {ρ : Nat → Nat} {P : ah → Nat → Prop} {d : Nat} {Q : QT} {Γ Γ' : GH} {h h1 h' : ah} {C ho : Nat} {X X' X1 X2 : X3} {Y Y' : Y3} {S S' S1 S2 : SS} {N t o n c r f i j k m z s n' pu po p : Nat} {ty v x y op a b kz ks : Int} {L : List Nat} {bs cs : List Int}
theorem TF.eq (H : TF S t n c) (o0 : ∀ f i, LXS2.elem f = false → S' f i = S f i) : TF S' t n c := by
  obtain ⟨a1, a2, a3, a4, a5⟩ := H
  exact ⟨by rw [o0 _ _ (by decide)]; exact a1, by rw [o0 _ _ (by decide)]; exact a2, by rw [o0 _ _ (by decide)]; exact a3, by rw [o0 _ _ (by decide)]; exact a4, by rw [o0 _ _ (by decide)]; exact a5⟩
theorem DF.eq (H : DF S t n c f p k op a b) (o0 : ∀ f i, LXS2.elem f = false → S' f i = S f i) : DF S' t n c f p k op a b := by
  obtain ⟨a1, a2, a3, a4, a5, a6, a7, a8, a9, a10⟩ := H
  exact ⟨a1.eq o0, a2, by rw [o0 _ _ (by decide)]; exact a3, by rw [o0 _ _ (by decide)]; exact a4, by rw [o0 _ _ (by decide)]; exact a5, by rw [o0 _ _ (by decide)]; exact a6, by rw [o0 _ _ (by decide)]; exact a7, by rw [o0 _ _ (by decide)]; exact a8, by rw [o0 _ _ (by decide)]; exact a9, by rw [o0 _ _ (by decide)]; exact a10⟩
/-- there is no room, after some printing -/
theorem RLC.mem (H : OPH Γ h C X Y S N t o n c r) (M : CORE Γ' h1 C ho X1 Y S1 N) (K : CT Γ' h1 C X1 Y S1 N t o n c r) (g : GRO Γ Γ' h h1 C S S1) (bd : BND h C S h1 S1 1 8) (nsc : NSc S S1) (nxc : NXc X X1) (fr : Fr LHc [] z s h h1) (ex : (v = 0 ∧ x = 99) ∨ (ern v ∧ x = v)) : RLC Γ h C ho X Y S N (some v) (erS S1 x) h1 (erX X1 v) Y := by
  refine ⟨Γ', z, s, M.task H.2.2.1.1 K.er NSt.er NXo.rf.e, g.tr (GRO.nst (t := t) NSt.er), fun f i hf => ?_, fun o' f i hf => ?_, fun _ _ _ _ => rfl, fr, (bd.tr (BND.rows ((NSt.er (t := t)).ex (by decide)))).le (by omega) (by omega), u3_s, ?_, ⟨by rcases ex with z | z <;> omega, by rcases ex with z | z <;> omega⟩, FTC.er ?_⟩
  · rw [(NSt.er (t := t) (S := S1) (x := x)).co f i hf, nsc f i hf]
  · rw [(NXo.rf (o := o) (X := X1)).e.co o' f i hf, nxc o' f i hf]
  · unfold erS
    rw [u2_f (by decide), u2_s]
    rcases ex with ⟨rfl, rfl⟩ | ⟨w, rfl⟩
    · rw [if_pos rfl]
    · rw [if_neg w.1]
  · have fc := H.fc
    have e1 := H.2.2.2.2.2.2.1
    have e2 := K.2.2.2.1.2.1
    have hc := H.2.2.2.1
    unfold FTC
    rw [nsc f_Md_t 0 (by decide), e1, Int.toNat_natCast, e2]
    omega
/-- only what is spelt changes, on T's side -/
theorem CORE.spl (H : CORE Γ h C ho X Y S N) (o0 : ∀ f i, [f_Md_spelt, f_Md_spelling].elem f = false → S' f i = S f i) : (CORE Γ h C ho X Y S' N ∧ ∀ {t o n c r : Nat}, CT Γ h C X Y S N t o n c r → CT Γ h C X Y S' N t o n c r) ∧ GRO Γ Γ h h C S S' ∧ BND h C S h S' 0 0 ∧ NSc S S' := by
  have o1 : ∀ f i, LXS2.elem f = false → S' f i = S f i := fun f i hf => o0 f i (by
    cases q : [f_Md_spelt, f_Md_spelling].elem f with
    | false => rfl
    | true =>
      have : f = f_Md_spelt ∨ f = f_Md_spelling := by simpa using q
      rcases this with rfl | rfl <;> exact absurd hf (by decide))
  have ⟨G, F⟩ := H.1
  have g : GRO Γ Γ h h C S S' := GRO.fr (L := []) (Pp := []) (exs_of o0 (by decide)) G F Fr.r0 (by unfold DJ; decide) (by simp)
  obtain ⟨M1, M2, M3, M4, M5⟩ := H.txs (S' := S') (X' := X) G F (Fr.r0 (L := LTP) (P := [])) GRB.rf g o1 (fun _ _ _ _ => rfl) (H.2.2.2.2.1.ext g (exs_of o0 (by decide)) EXX.rf rfl rfl rfl) (p := 0) ⟨H.2.2.2.2.2.2.2.1.2.2, Nat.zero_le _⟩
  exact ⟨M1, g, M2, M3⟩
theorem spj_oo : ∀ f i, [f_Md_spelt, f_Md_spelling].elem f = false → spj S ty bs v cs f i = S f i := fun f i hf => spj_o (by rintro rfl; exact absurd hf (by decide)) (by rintro rfl; exact absurd hf (by decide))
theorem op_JOIN (hP : ∀ h0 T, P h0 T → TKS ρ h0 T) (KS : STM ρ h) (HC : CORE Γ h C ho X Y S N) (H : OPH Γ h C X Y S N t o n c r) (O : OPT Γ S (fsS S t (c - 1)) (psS S t (c - 1)) 7 a b) (D : DF S t n c (fsS S t (c - 1)) (psS S t (c - 1)) k 7 a b) (hh : n = bsS S t (c - 1) + ghs Γ (fsS S t (c - 1)) (psS S t (c - 1))) (hq : ¬ (X o f_Task_tags (n - 1 - 1) = 2 ∧ X o f_Task_tags (n - 1) = 2)) : OPE ρ P Γ h C ho X Y S N 7 a b := by
  obtain ⟨h1, nx⟩ := O.2.2.2.2.2.2.2.2.1 (by omega)
  have d2 := D.2.1
  have V1 := H.pl (i := n - 1 - 1) (by omega)
  have V2 := H.pl (i := n - 1) (by omega)
  have I := H.ix
  have p1 : 2100 * t + n - 1 - 1 = 2100 * t + (n - 1 - 1) := by omega
  have p2 : 2100 * t + n - 1 = 2100 * t + (n - 1) := by omega
  have hTF := D.1
  have hs : ((X o f_Task_tags (n - 1 - 1) = 2 ∧ X o f_Task_tags (n - 1) = 2 ∧ (0 : Int) = 1) ∨ (¬ (X o f_Task_tags (n - 1 - 1) = 2 ∧ X o f_Task_tags (n - 1) = 2) ∧ (0 : Int) = 0)) := Or.inr ⟨hq, rfl⟩
  have kS : hK h (C + 33) ≠ 0 := by rw [H.2.1.1.2.1]; decide
  -- T's run up to the numbers
  have tr : ∀ (d : Nat) (h0 : ah) (T : Nat) (Q : QT), P h0 T → (¬ jnO (X o f_Task_tags (n - 1 - 1)) (X o f_Task_tags (n - 1)) → wpB PGm ρ (d + 56 + 2) m_Md_numbers 95 [(0, vR T), (1, vI 7), (2, vI ((2100 * t + n - 1 - 1 : Nat) : Int)), (3, vI ((2100 * t + n - 1 : Nat) : Int)), (4, vL (S f_Md_pileValue (2100 * t + n - 1 - 1))), (6, vL (S f_Md_pileValue (2100 * t + n - 1)))] [] (cn h0 T S) (cV (fun h38 => wpB PGm ρ (d + 59) m_Md_operators 171 [(0, vR T), (3, vI ((2100 * t + n - 1 - 1 : Nat) : Int))] [] h38 (dK ρ (d + 52) T Q)) (fun e h' => hK h' e ≠ 0 ∧ dK ρ (d + 52) T Q (Sum.inr e) h'))) → (jnO (X o f_Task_tags (n - 1 - 1)) (X o f_Task_tags (n - 1)) → wpB PGm ρ (d + 56 + 1) m_Md_joined 0 [(0, vR T), (1, vI (S f_Md_pileType (2100 * t + n - 1 - 1))), (2, vL (S f_Md_pileValue (2100 * t + n - 1 - 1))), (4, vI (S f_Md_pileType (2100 * t + n - 1))), (5, vL (S f_Md_pileValue (2100 * t + n - 1)))] [] (cn h0 T S) (jK ρ (d + 56) T (cV (fun h38 => wpB PGm ρ (d + 59) m_Md_operators 171 [(0, vR T), (3, vI ((2100 * t + n - 1 - 1 : Nat) : Int))] [] h38 (dK ρ (d + 52) T Q)) (fun e h' => hK h' e ≠ 0 ∧ dK ρ (d + 52) T Q (Sum.inr e) h')))) → wpB PGm ρ (d + 60) m_Md_does 0 [(0, vR T)] [] (cn h0 T S) Q := by
    intro d h0 T Q p g1 g2
    have O' := (hP _ _ p).1
    rw [V1.1, V2.1, ← p1, ← p2] at g1 g2
    refine s_does_opr (d := d + 52) O' D (by decide) ?_
    refine b_Md_operators_0 ⟨O'.1, s_h O' hTF (by omega) (by omega) ?_⟩
    have w1 : w32 (((2100 * t + n : Nat) : Int) - 1) = ((2100 * t + n - 1 : Nat) : Int) := w32_m1 (by omega)
    have w2 : w32 (((2100 * t + n - 1 : Nat) : Int) - 1) = ((2100 * t + n - 1 - 1 : Nat) : Int) := w32_m1 (by omega)
    refine ⟨fun _ => ⟨fun _ => ⟨fun _ => ⟨fun _ => ⟨fun z => absurd z (by decide), fun _ => ⟨O'.1, ?_⟩⟩, fun z => absurd z (by decide)⟩, fun z => absurd z (by decide)⟩, fun z => absurd z (by decide)⟩, fun z => absurd z (by decide)⟩
    rw [w1, w2]
    exact s_numbers (d := d + 56) O' (by omega) (by omega) (fun z => g1 (fun c => z ⟨rfl, c⟩)) (fun _ z2 => g2 z2)
  -- C's run up to the join
  have cr : ∀ (d : Nat) (Q : QT), wpB PGm ρ (d + 58) m_Machine_join 0 [(0, vR (C + 32)), (1, vI ((n - 1 - 1 : Nat) : Int)), (2, vI ((n - 1 : Nat) : Int))] [] (cc h C X Y) (cV (fun h23 => cV (fun h3 => Q (Sum.inl none) h3) (fun e h' => hK h' e ≠ 0 ∧ Q (Sum.inr e) h') (Sum.inl none) h23) (fun e h' => hK h' e ≠ 0 ∧ cV (fun h3 => Q (Sum.inl none) h3) (fun e h' => hK h' e ≠ 0 ∧ Q (Sum.inr e) h') (Sum.inr e) h')) → wpB PGm ρ (d + 60) m_Machine_instruct 0 [(0, vR (C + 32)), (1, vI 7), (2, vI a), (3, vI b)] [] (cc h C X Y) Q := by
    intro d Q g
    exact r_opI (d := d + 40) I (by omega) (by decide) (r_op0 (d := d + 58) I (by omega) (by omega) hs (r_op53 (d := d + 57) I (by omega) (by omega) (fun z => absurd z (by decide)) (fun z => absurd z (by decide)) (fun _ z => absurd ⟨rfl, rfl⟩ z) (fun _ _ => g)))
  by_cases jn : jnO (X o f_Task_tags (n - 1 - 1)) (X o f_Task_tags (n - 1))
  · obtain ⟨mn, us, sb, mb, tm, am, ab, TK⟩ := HC.2.2.2.2.1.kk
    obtain ⟨bs, A1, B1⟩ := TK.ops V1 (by rw [← V1.1]; have := jn.2.1; omega)
    obtain ⟨cs, A2, B2⟩ := TK.ops V2 (by rw [← V2.1]; have := jn.2.2; omega)
    have one : S f_Md_pileType (2100 * t + (n - 1 - 1)) = 3 ∨ S f_Md_pileType (2100 * t + (n - 1)) = 3 := by rw [← V1.1, ← V2.1]; exact jn.1
    have lap : (bs ++ cs).length = bs.length + cs.length := List.length_append
    have rg : ∀ i, i < (bs ++ cs).length → -128 ≤ (bs ++ cs).getD i 0 ∧ (bs ++ cs).getD i 0 ≤ 127 := fun i hi => by
      rw [List.getD_eq_getElem?_getD, List.getElem?_append]
      by_cases w : i < bs.length
      · rw [if_pos w, ← List.getD_eq_getElem?_getD]; exact A1.1 i w
      · rw [if_neg w, ← List.getD_eq_getElem?_getD]; exact A2.1 _ (by omega)
    have pl0 : PRL h C 0 := ⟨HC.2.2.2.2.2.2.2.1.2.2, Nat.zero_le _⟩
    by_cases rm : am < 12000 ∧ ab + (bs.length + cs.length) ≤ 200000
    · refine ⟨none, atS (binS (mtS (spj S (S f_Md_pileType (2100 * t + (n - 1 - 1))) bs (S f_Md_pileType (2100 * t + (n - 1))) cs) tm mb am ab (bs ++ cs)) t n 3 ((4000 + tm : Nat) : Int)) t c ((psS S t (c - 1) + 1 : Nat) : Int), fun d h0 T Q p q => tr d h0 T Q p (fun z => absurd jn z) (fun _ => ?_), fun d Q q => cr d Q (r_join0 I (by omega) (by omega) (fun _ => r_join57 (d := d + 57) I (by omega) (by omega) B1 B2 (r_join141 (d := d + 38) I KS (by omega) (by omega) B1 B2 jn.1 TK.tmx TK.2.2.2.2.1 pl0 TK.rm.1 TK.rm.2 (fun _ h' X' J => ?_) (fun z => absurd rm z))) (fun z => absurd jn z))⟩
      · rw [p1, p2]
        refine s_joined (d := d + 37) (hP _ _ p) TK.tms A1 A2 one (fun _ _ => ⟨(hP _ _ p).1.1, ?_⟩) (fun z => absurd rm z)
        refine s_is (hP _ _ p).1 ?_
        have D2 : DF (mtS (spj S (S f_Md_pileType (2100 * t + (n - 1 - 1))) bs (S f_Md_pileType (2100 * t + (n - 1))) cs) tm mb am ab (bs ++ cs)) t n c (fsS S t (c - 1)) (psS S t (c - 1)) k 7 a b := D.eq (fun f i hf => by
          have n : ∀ L : List Nat, (L.all fun f => LXS2.elem f) = true → L.elem f = false := fun L q => by
            cases w : L.elem f with
            | false => rfl
            | true => rw [List.all_eq_true.mp q f (by simpa using w)] at hf; cases hf
          rw [mtS_o (n _ (by decide)), spj_oo _ _ (n _ (by decide))])
        have := s_171 (ρ := ρ) (d := d + 52) (ty := 3) (v := ((4000 + tm : Nat) : Int)) (Q := Q) (hP _ _ p).1 D2 (by omega) q
        rw [p1] at this
        rw [← lap]
        exact this
      · obtain ⟨z, s, ⟨M1, M2⟩, g, bd, nsc, nxc, fr, V⟩ := HC.mkt TK (by rw [lap]; exact rm) rg J (spj_oo (S := S) (ty := S f_Md_pileType (2100 * t + (n - 1 - 1))) (bs := bs) (v := S f_Md_pileType (2100 * t + (n - 1))) (cs := cs))
        have e0 : EXS (LTK ++ [f_Md_t, f_Md_p0, f_Md_f0, f_Md_top, f_Md_after, f_Md_codeSize]) S (mtS (spj S (S f_Md_pileType (2100 * t + (n - 1 - 1))) bs (S f_Md_pileType (2100 * t + (n - 1))) cs) tm mb am ab (bs ++ cs)) := fun f hf i => by
          have n : ∀ L : List Nat, (L.all fun f => !((LTK ++ [f_Md_t, f_Md_p0, f_Md_f0, f_Md_top, f_Md_after, f_Md_codeSize]).elem f)) = true → L.elem f = false := fun L q => by
            cases w : L.elem f with
            | false => rfl
            | true =>
              have := List.all_eq_true.mp q f (by simpa using w)
              rw [hf] at this; cases this
          rw [mtS_o (n _ (by decide)), spj_oo _ _ (n _ (by decide))]
        generalize mtS (spj S (S f_Md_pileType (2100 * t + (n - 1 - 1))) bs (S f_Md_pileType (2100 * t + (n - 1))) cs) tm mb am ab (bs ++ cs) = S1 at *
        have K1 := M2 H.2.2.1
        have ns : NSt t S1 (binS S1 t n 3 ((4000 + tm : Nat) : Int)) := by
          unfold binS isS
          rw [p1]
          exact NSt.u (tk2 (by decide) (by omega)) (NSt.u (tk2 (by decide) (by omega)) (NSt.u (tk1 (by decide)) (NSt.u (tk5 (by decide)) (NSt.u (tk5 (by decide)) NSt.rf))))
        have es : EXS LS8 S1 (binS S1 t n 3 ((4000 + tm : Nat) : Int)) := by
          unfold binS isS
          exact EXS.u (by decide) (EXS.u (by decide) (EXS.u (by decide) (EXS.u (by decide) (EXS.u (by decide) EXS.rf))))
        refine q _ _ _ (RLC.fin (n' := n - 1) H nx M1 K1 g e0 nsc nxc fr (fun _ w => w) (bd.le (by decide) (by decide)) ns es (EXX.u (by decide) (EXX.u (by decide) (EXX.u (by decide) EXX.rf))) (NXo.u (by decide) (NXo.u (by decide) (NXo.u (by decide) NXo.rf))) ?_ ?_ (by omega) (by omega) (PIL.bin K1.2.2.2.2.2.1 (by omega) V))
        · rw [u3_f (by decide), u3_f (by decide), u3_s]; omega
        · unfold binS; rw [u2_f (by decide), u2_f (by decide), u2_s]
    · refine ⟨some 0, erS (spj S (S f_Md_pileType (2100 * t + (n - 1 - 1))) bs (S f_Md_pileType (2100 * t + (n - 1))) cs) 99, fun d h0 T Q p q => tr d h0 T Q p (fun z => absurd jn z) (fun _ => ?_), fun d Q q => cr d Q (r_join0 I (by omega) (by omega) (fun _ => r_join57 (d := d + 57) I (by omega) (by omega) B1 B2 (r_join141 (d := d + 38) I KS (by omega) (by omega) B1 B2 jn.1 TK.tmx TK.2.2.2.2.1 pl0 TK.rm.1 TK.rm.2 (fun z => absurd z rm) (fun _ h' X' J => ?_))) (fun z => absurd jn z))⟩
      · rw [p1, p2]
        have kH : hK h0 (hR h0 f_Md_halt T) ≠ 0 := by rw [(hP _ _ p).1.2.2]; decide
        exact s_joined (d := d + 37) (hP _ _ p) TK.tms A1 A2 one (fun z z2 => absurd ⟨z, z2⟩ rm) (fun _ => ⟨kH, kH, kH, q⟩)
      · have fin : RLC Γ h C ho X Y S N (some 0) (erS (spj S (S f_Md_pileType (2100 * t + (n - 1 - 1))) bs (S f_Md_pileType (2100 * t + (n - 1))) cs) 99) h' (erX X' 0) Y := by
          rcases J with ⟨rfl, rfl⟩ | J
          · obtain ⟨⟨M1, M2⟩, g, bd, nsc⟩ := HC.spl (spj_oo (S := S) (ty := S f_Md_pileType (2100 * t + (n - 1 - 1))) (bs := bs) (v := S f_Md_pileType (2100 * t + (n - 1))) (cs := cs))
            exact RLC.mem H M1 (M2 H.2.2.1) g (bd.le (by decide) (by decide)) nsc (fun _ _ _ _ => rfl) (Fr.r0 (L := LHc) (P := [])) (Or.inl ⟨rfl, rfl⟩)
          · obtain ⟨z, s, ⟨M1, M2⟩, g, bd, nsc, nxc, fr⟩ := HC.prt J (spj_oo (S := S) (ty := S f_Md_pileType (2100 * t + (n - 1 - 1))) (bs := bs) (v := S f_Md_pileType (2100 * t + (n - 1))) (cs := cs))
            exact RLC.mem H M1 (M2 H.2.2.1) g (bd.le (by decide) (by decide)) nsc nxc fr (Or.inl ⟨rfl, rfl⟩)
        have kS' : hK h' (C + 33) ≠ 0 := by
          obtain ⟨_, _, _, cc, _⟩ := fin
          rw [cc.1.2.1.2.1]; decide
        exact ⟨kS', kS', q _ _ _ fin⟩
  · exact (OPC.er (x := 1) HC H (by decide) (fun d Q q => cr d Q (r_join0 I (by omega) (by omega) (fun z => absurd z jn) (fun _ => r_join57e (d := d + 57) H.1 H.2.1 ⟨kS, kS, q⟩))) (fun d h0 T Q p q => tr d h0 T Q p (fun _ => s_n95 (hP _ _ p).1 (by omega) (by omega) (fun c c2 => absurd (by rw [p1, ← V1.1] at c; rw [p2, ← V2.1] at c2; exact ⟨c, c2⟩) hq) (fun _ => by
      have kH : hK h0 (hR h0 f_Md_halt T) ≠ 0 := by rw [(hP _ _ p).1.2.2]; decide
      exact ⟨kH, kH, q⟩)) (fun z => absurd z jn))).e
end
