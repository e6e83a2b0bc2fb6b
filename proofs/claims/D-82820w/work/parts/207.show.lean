/-! the builtin show: T, and both -/
set_option maxRecDepth 20000
section
variable {ρ : Nat → Nat} {P : ah → Nat → Prop} {d : Nat} {Q : QT} {Γ Γ' : GH} {h h0 h1 h' : ah} {C ho T : Nat} {X X' X1 X2 : X3} {Y Y' : Y3} {S S' S1 S2 : SS} {N t o n c r f i j k m z s n' pu po tn w sn sm l1 s0 nn p0 kk kx M p x : Nat} {ty v y op a b : Int} {L : List Nat} {ws : List (List Int)} {l bs cs : List Int} {g : HG}
theorem s_SHOW (K : PTH ρ g N M h0 T) (gn : ∀ i, i < N → NMW (g.2 0 i)) (D : DF S t n c f p0 kk 28 0 b) (n1 : 1 ≤ n) (B : (S f_Md_pileType (2100 * t + (n - 1)) = 3 ∧ ∃ m : Nat, S f_Md_pileValue (2100 * t + (n - 1)) = (m : Int) ∧ TTX S m bs) ∨ (S f_Md_pileType (2100 * t + (n - 1)) ≠ 3 ∧ TVA g N S (S f_Md_pileType (2100 * t + (n - 1))) (S f_Md_pileValue (2100 * t + (n - 1))) bs ∧ bs.length ≤ 100)) (ew : S f_Md_shown 0 = (w : Int)) (hw : w ≤ 65536) (hb : bs.length ≤ 200000) (rg : ∀ i, i < bs.length → -128 ≤ bs.getD i 0 ∧ bs.getD i 0 ≤ 127) (q1 : w + (bs.length + 1) ≤ 65536 → Q (Sum.inl none) (cn h0 T (atS (putS (ouS (spq S (S f_Md_pileType (2100 * t + (n - 1))) bs) w bs) (2100 * t + (n - 1)) 0 0) t c ((p0 + 1 : Nat) : Int)))) (q0 : ¬ w + (bs.length + 1) ≤ 65536 → Q (Sum.inr (hR h0 f_Md_halt T)) (cn h0 T (erS (spq S (S f_Md_pileType (2100 * t + (n - 1))) bs) 99))) : wpB PGm ρ (d + 60) m_Md_does 0 [(0, vR T)] [] (cn h0 T S) Q := by
  have O' := K.1.1
  have d2 := D.2.1
  have w2 : w32 (((2100 * t + n : Nat) : Int) - 1) = ((2100 * t + (n - 1) : Nat) : Int) := by
    have : 2100 * t + (n - 1) = 2100 * t + n - 1 := by omega
    rw [this]; exact w32_m1 (by omega)
  have c1' : 0 ≤ ((2100 * t + (n - 1) : Nat) : Int) ∧ ((2100 * t + (n - 1) : Nat) : Int) < ((4200 : Nat) : Int) := by omega
  have l42 : 2100 * t + (n - 1) < 4200 := by omega
  have hb' : n ≤ 2100 := by omega
  have kT := O'.1
  have G0 := O'.2.1
  have kH : hK h0 (hR h0 f_Md_halt T) ≠ 0 := by rw [O'.2.2]; decide
  have g : wpB PGm ρ (d + 57) m_Md_shows 0 [(0, vR T), (1, vI (S f_Md_pileType (2100 * t + (n - 1)))), (2, vL (S f_Md_pileValue (2100 * t + (n - 1))))] [] (cn h0 T S) (cV (fun h17 => hK h17 T = k_Md ∧ wpB PGm ρ (d + 57) m_Md_put 0 [(0, vR T), (1, vI ((2100 * t + (n - 1) : Nat) : Int)), (2, vI 0), (3, vL 0)] [] h17 (cV (fun h24 => bK ρ (d + 52) T Q (Sum.inl none) h24) (fun e27 h26 => hK h26 e27 ≠ 0 ∧ bK ρ (d + 52) T Q (Sum.inr e27) h26))) (fun e20 h19 => hK h19 e20 ≠ 0 ∧ bK ρ (d + 52) T Q (Sum.inr e20) h19)) := by
    refine s_shows (d := d + 37) K gn B ew hw hb rg (fun rm => ⟨kT, s_putP O' l42 (bK_fin O' D ?_ ?_ (q1 rm))⟩) (fun rm => ⟨kH, bK_er O' (q0 rm)⟩)
    · unfold putS; rw [u2_f (by decide), u2_f (by decide), ouS_o (by decide), spq_o _ _ (by decide)]
    · unfold putS; rw [u2_f (by decide), u2_f (by decide), ouS_o (by decide), spq_o _ _ (by decide)]
  refine s_BLT (d := d + 52) O' D (b_Md_builtins_0 ⟨O'.1, s_h O' D.1 d2.1 hb' ?_⟩)
  clear q1 q0 B d2
  simp (decide := true) only [cI, cnI, cnR, cnK, cnl, cnA' G0, kT, KN G0, LN G0, w2, Int.toNat_natCast, true_and, and_true, false_implies, forall_const]
  exact ⟨c1', c1', g⟩
theorem op_SHOW (hP : ∀ h0 T, P h0 T → PTH ρ g N M h0 T) (KS : STM ρ h) (HH : HCM ρ h ho g N M ws) (yh : YHO Y ho) (gn : ∀ i, i < N → NMW (g.2 0 i)) (HC : CORE Γ h C ho X Y S N) (H : OPH Γ h C X Y S N t o n c r) (O : OPT Γ S (fsS S t (c - 1)) (psS S t (c - 1)) 28 0 b) (D : DF S t n c (fsS S t (c - 1)) (psS S t (c - 1)) k 28 0 b) (hh : n = bsS S t (c - 1) + ghs Γ (fsS S t (c - 1)) (psS S t (c - 1))) : OPF ρ P Γ h C ho X Y S N 28 0 b := by
  obtain ⟨-, -, v1, nx⟩ := O.2.2.2.2.2.2.2.2.2.2.2.2.2.2.2.2.2.1 rfl
  have bw : bwN 0 = 1 := rfl
  rw [bw] at v1 nx
  have d2 := D.2.1
  have n1 : 1 ≤ n := by omega
  have V := H.pl (i := n - 1) (by omega)
  have VE := V.1
  obtain ⟨VO1, -⟩ := V.obj HC.2.2.2.2.2.2.2.2.2.1 (h := h) (C := C)
  obtain ⟨tn, sn, sm, c1, c2, c5, c6', c3, c4, c6, c7, c8, U, m1, m2, m3, m4⟩ := HC.shp
  have VV : X o f_Task_tags (n - 1) = 4 ∨ X o f_Task_tags (n - 1) = 5 → 0 ≤ X o f_Task_words (n - 1) ∧ X o f_Task_words (n - 1) < (tn : Int) ∧ hK h (hB h (C + 51) (X o f_Task_words (n - 1)).toNat) ∈ [244, 245] := fun w => by
    obtain ⟨a1, a2, a3, a4, a5, a6⟩ := VO1 w
    exact ⟨by omega, by omega, a5⟩
  obtain ⟨bs, B, CV, rg, hb⟩ := HC.opa gn V
  have I := H.ix
  obtain ⟨w, lo, u1, u2', u3', u4, u5, u6, -⟩ := HC.2.2.2.2.2.2.2.1.1
  have pl0 : PRL h C 0 := ⟨HC.2.2.2.2.2.2.2.1.2.2, Nat.zero_le _⟩
  have la : (bs ++ [10]).length = bs.length + 1 := by simp
  have nS : NSc S (spq S (S f_Md_pileType (2100 * t + (n - 1))) bs) := fun f i hf => spq_o _ _ (by
    cases e : [f_Md_spelt, f_Md_spelling].elem f with
    | false => rfl
    | true =>
      have : f = f_Md_spelt ∨ f = f_Md_spelling := by simpa using e
      rcases this with rfl | rfl <;> exact absurd hf (by decide))
  intro d Q q
  refine r_SHOW (w := w) I KS HH yh gn n1 c3 c6 VV CV rg hb pl0 u1 (by omega) (by omega) (fun rm h1 X1 h2 X2 A1 A2 le => ?_) (fun rm h1 X1 A1 => ?_)
  · obtain ⟨z, s, ⟨M1, M2⟩, g1, bd, nsc, nxc, fr⟩ := HC.prt A1 (spq_o (S := S) (ty := S f_Md_pileType (2100 * t + (n - 1))) (bs := bs))
    have ew1 : X1 32 f_Machine_outputSize 0 = (w : Int) := by
      have := nxc
      obtain ⟨w', lo', a1, a2, -⟩ := M1.2.2.2.2.2.2.2.1.1
      rw [spq_o _ _ (by decide), u2'] at a2
      rw [a1]; omega
    obtain ⟨z2, s2, ⟨M3, M4⟩, g2, bd2, fr2⟩ := M1.out ew1 A2 le rm
    have K1 := M4 (M2 H.2.2.1)
    have e0 : EXS (LTK ++ [f_Md_t, f_Md_p0, f_Md_f0, f_Md_top, f_Md_after, f_Md_codeSize]) S (ouS (spq S (S f_Md_pileType (2100 * t + (n - 1))) bs) w bs) := fun f hf i => by
      have n : ∀ L : List Nat, (L.all fun f => !((LTK ++ [f_Md_t, f_Md_p0, f_Md_f0, f_Md_top, f_Md_after, f_Md_codeSize]).elem f)) = true → L.elem f = false := fun L q => by
        cases w : L.elem f with
        | false => rfl
        | true =>
          have := List.all_eq_true.mp q f (by simpa using w)
          rw [hf] at this; cases this
      rw [ouS_o (n _ (by decide)), spq_o _ _ (n _ (by decide))]
    have nsc2 : NSc S (ouS (spq S (S f_Md_pileType (2100 * t + (n - 1))) bs) w bs) := fun f i hf => by
      rw [ouS_o, nS f i hf]
      cases e : LSO.elem f with
      | false => rfl
      | true =>
        have : f = f_Md_output ∨ f = f_Md_shown := by simpa [LSO] using e
        rcases this with rfl | rfl <;> exact absurd hf (by decide)
    have nxc2 : NXc X (u3 (oX X2 w (bs ++ [10])) 32 f_Machine_outputSize 0 ((w + (bs ++ [10]).length : Nat) : Int)) := fun o f i hf => by
      have f1 : f ≠ f_Machine_outputSize := fun e => by subst e; exact absurd hf (by decide)
      have f2 : f ≠ f_Machine_output := fun e => by subst e; exact absurd hf (by decide)
      rw [u3_f f1, oX_o f2, A2.2.2.2.2.2.2.2 o f i f2, nxc o f i hf]
    have fin := RLC.ans (x := 0) (y := 0) (ty := 0) (v := 0) (m := n - 1) H nx M3 K1 (g1.tr g2) e0 nsc2 nxc2 (fr.trans fr2) ((bd.tr bd2).le (by decide) (by decide)) ⟨rfl, rfl, Or.inl ⟨rfl, rfl⟩⟩ (by omega) (by omega)
    refine q none _ _ _ _ (fun d h0 T Q pp qq => s_SHOW (hP _ _ pp) gn D n1 B u2' u3' hb rg (fun _ => ?_) (fun z => absurd (by rw [la] at rm; exact rm) z)) fin
    have hh : (ouS (spq S (S f_Md_pileType (2100 * t + (n - 1))) bs) w bs) f_Md_height t = (n : Int) := by
      rw [ouS_o (by decide), spq_o _ _ (by decide)]; exact D.1.2.2.2.1
    rw [pshA_e hh n1]; exact qq
  · obtain ⟨z, s, ⟨M1, M2⟩, g1, bd, nsc, nxc, fr⟩ := HC.prt A1 (spq_o (S := S) (ty := S f_Md_pileType (2100 * t + (n - 1))) (bs := bs))
    refine q (some 0) _ _ _ _ (fun d h0 T Q pp qq => s_SHOW (hP _ _ pp) gn D n1 B u2' u3' hb rg (fun z => absurd (by rw [la]; exact z) rm) (fun _ => qq)) (RLC.mem (v := 0) (x := 99) H M1 (M2 H.2.2.1) g1 (bd.le (by decide) (by decide)) nsc nxc fr (Or.inl ⟨rfl, rfl⟩))
end
