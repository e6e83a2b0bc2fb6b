/-! a member's work: its end -/
set_option maxRecDepth 20000
def LEND : List Nat := LTK ++ [f_Md_t, f_Md_p0, f_Md_f0, f_Md_top, f_Md_after, f_Md_codeSize, f_Md_r]
section
variable {ρ : Nat → Nat} {d : Nat} {Q : QT} {Γ Γ' : GH} {h h' h1 h2 H H1 : ah} {C ho k i j N M a z s r f o c t n m mn m0 rr l1 l2 p E : Nat} {g : HG} {v hd ty κ x y x' y' l4 l5 l6 : Int} {S S' S1 S2 S3 ST : SS} {X X' X1 X2 : X3} {Y Y' Y1 Y2 : Y3} {hw : List (List Int)} {e : Option Int} {L : List Nat} {w : Nat}
theorem trS_cong (o1 : OFF L S S1) : OFF L (trS S w x y) (trS S1 w x y) := fun f i hf => by
  unfold trS
  simp only [u2_e]
  rw [o1 f i hf]
theorem pf_end (P : PFX Γ h C ho X Y S N t o n c r s a κ mn m0 rr) (A : DMX ρ Γ h C ho X Y S g N M hw S2 H X2) (W : HWF g N M) (U : HUS ρ Γ h ho S g N M hw) (hm : m < M) (k6 : ¬ g.1 6 m = 0) (ahq : AHQ S s m κ) (eE : E = esK κ mn) (M1 : CORE Γ' h1 C ho X1 Y S1 N) (K1 : CT Γ' h1 C X1 Y S1 N t o n c r) (g1 : GRO Γ Γ' H h1 C S2 S1) (eG : EXS LEND S2 S1) (nsc : NSc S2 S1) (nxc : NXc X2 X1) (fr : Fr LHc [] z j H h1) (bd : BND H C S2 h1 S1 1 8) (ew : S1 f_Md_traced 0 = (w : Int)) (hw2 : w + 2 ≤ 100000) (D : TDM ρ g N M m S (some none) ST) (oT : OFF LZT (trS S1 w (m : Int) (E : Int)) ST) (et : ST f_Md_type 0 = ty) (ev : ST f_Md_value 0 = v) (V : VR Γ' S1 N x y ty v) (q : PFD ρ g N M hw Γ h C ho X Y S s Q) : wpB PGm ρ (d + 12) m_Machine_does 104 [(0, vR (C + 32)), (1, vR (hB h (ho + 3) m)), (2, vI (m0 : Int)), (3, vI (E : Int)), (4, vI (if κ = 1 then 1 else 0)), (5, vI (X o f_Task_tags (n - 1))), (6, vL (X o f_Task_words (n - 1)))] [] (cc h1 C (ansX X1 o m0 c x y) Y) (pK Q) := by
  obtain ⟨⟨mk, mz, -⟩, mn', -⟩ := U.1.me hm
  obtain ⟨P2, ep⟩ := P.dmx A
  obtain ⟨el, z', s', ⟨a1, a2⟩, a3, a4, a5, a6, a7, a8, a9, a10⟩ := id A
  have mz2 := a5.lt mz
  have km : hK h1 (hB h (ho + 3) m) = k_Member := by rw [fr.K mz2, a5.K mz]; exact mk
  have en : hI h1 f_Member_number (hB h (ho + 3) m) = (m : Int) := by rw [fr.I mz2 (by decide) (nokW (by decide) rfl), a5.I mz (by decide) (nokW (by decide) rfl)]; exact mn'
  have oo : OFF (LZT ++ [f_Md_trace, f_Md_traced]) S1 ST := (trS_off.le (by decide)).tr (oT.le (by decide))
  have ll : (LTK ++ [f_Md_t, f_Md_p0, f_Md_f0, f_Md_top, f_Md_after, f_Md_codeSize]).all (fun f => LEND.elem f) = true := by decide
  have e0 : EXS (LTK ++ [f_Md_t, f_Md_p0, f_Md_f0, f_Md_top, f_Md_after, f_Md_codeSize]) S2 S1 := fun f hf i => eG f (List.all_eq_true.mp ll f (by simpa using hf)) i
  have eST : EXS LEND S ST := fun f hf i => (oo.ex (L' := LEND) (by decide) f hf i).trans ((eG f hf i).trans (a10.ex (L' := LEND) (by decide) f hf i))
  have eS1 : EXS LEND S S1 := fun f hf i => (eG f hf i).trans (a10.ex (L' := LEND) (by decide) f hf i)
  have gf : GFR ST t n c rr m0 (psS S t (c - 1)) := GFR.ex P.2.2.1 (fun f hf i => eST f (by
    have l2 : LGF.all (fun f => LEND.elem f) = true := by decide
    exact List.all_eq_true.mp l2 f (by simpa using hf)) i)
  have hmn := P.2.2.2.2.1
  have hn := P.2.1.ix.2.2.2.2.1
  have t1 := P.2.2.1.2.1
  have r4 : rr = 2100 * t + m0 := P.2.2.1.2.2.2.1
  by_cases k1 : κ = 1
  · have eE1 : esK κ mn = 1 := by unfold esK; rw [if_neg (by omega), if_neg (by omega), if_pos (by omega)]
    have en1 : n - 1 = m0 + 1 := by omega
    have V1 := P.pl (i := 1) (by rw [eE1]; omega)
    have V2 : VR Γ' S1 N (X o f_Task_tags (m0 + 1)) (X o f_Task_words (m0 + 1)) (ST f_Md_pileType (rr + 1)) (ST f_Md_pileValue (rr + 1)) := by
      rw [eST _ (by decide), eST _ (by decide)]
      exact g1.vr (a3.vr V1)
    have T := TAC.doesW (ρ := ρ) ahq hm k6 D k1 gf (by omega)
    have oT2 : OFF LZT (trS S1 w (m : Int) (E : Int)) (isS ST (ST f_Md_pileType (rr + 1)) (ST f_Md_pileValue (rr + 1))) := oT.tr (isS_off.le (by decide))
    rw [en1]
    refine r_does104 P2 M1 K1 g1 e0 nsc nxc fr bd km en ew hw2 oT2 V2 (fun c => by rw [if_pos k1] at c; exact absurd c (by decide)) (fun _ => ⟨rfl, rfl⟩) (fun h3 X3 RL => ?_)
    rw [ep] at RL
    exact q none _ _ _ Y T (RLD.mk A W RL)
  · have T := TAC.does (ρ := ρ) ahq hm k6 D k1 gf
    rw [et, ev] at T
    refine r_does104 P2 M1 K1 g1 e0 nsc nxc fr bd km en ew hw2 oT V (fun _ => ⟨rfl, rfl⟩) (fun c => absurd (if_neg k1) c) (fun h3 X3 RL => ?_)
    rw [ep] at RL
    exact q none _ _ _ Y T (RLD.mk A W RL)
end
