set_option maxRecDepth 20000
section
variable {ρ : Nat → Nat} {d : Nat} {Q K : QT} {Γ Γ' Γ1 Γ2 : GH} {h h' h1 h2 H : ah} {C ho N M z s t o n c r i j k p a T cd fn ck mk vs rk np sn tn : Nat} {g g' : HG} {S S' S1 S2 : SS} {X X' X1 X2 : X3} {Y Y' Y1 Y2 : Y3} {ws ws' hw : List (List Int)} {x y ty v fl l1 l2 l3 l4 kd : Int} {h0 : ah} {tp : List Int}
/-- globals -/
def gbC (S : SS) (v l1 : Int) : Int := if 0 ≤ l1 ∧ l1 ≤ 1 then (if v < 0 ∨ S f_Md_isGlobal v.toNat = 0 then 2 else 0) else 1
def gbA (S : SS) (v l1 : Int) : Int := tdA S (S f_Md_globalType v.toNat) (S f_Md_globalValue v.toNat) l1
theorem c_global (A : ALL ρ Γ h C ho X Y S g N M hw ws) (W : HWF g N M) (LT : LTM h C) (kt : hK h (hR h f_LT_tape C) ∈ [3, 4, 13]) (R : RW h (hR h f_LT_tape C) 0 tp) (tl : tp.length ≤ 65536) (td : hI h f_LT_taped C = (tp.length : Int)) (hv : FWI ws tp v)
    (q0 : gbC S v l1 = 0 → Q (Sum.inl (some (vL (gbA S v l1)))) (cc (sI h f_LT_taped C 0) C X Y)) (q1 : gbC S v l1 = 1 → Q (Sum.inr (hz h)) (cc (hn (sI h f_LT_taped C 0) k_IndexOutOfBoundsException 6 0) C X Y)) (q2 : gbC S v l1 = 2 → Q (Sum.inr (hz h)) (cc (hn (sI h f_LT_taped C 0) k_NoSuchElementException 6 0) C X Y)) : wpB PGm ρ (d + 12) m_LT_global 0 [(0, vR C), (1, vI l1)] [] (cc h C X Y) Q := by
  have td' : hI (cc h C X Y) f_LT_taped C = (tp.length : Int) := by rw [ccIo (by decide)]; exact td
  refine b_LT_global_0 (d := d + 11) ⟨LT.1, b_LT_useTape_0 ⟨LT.1, ?_⟩⟩
  dsimp only
  rw [td', cc_sIo (by decide)]
  have fr : Fr [f_LT_taped] [] 0 0 h (sI h f_LT_taped C 0) := Fr.r0.wI (by decide) (Or.inl (by decide))
  obtain ⟨A1, -⟩ := A.mv W (S' := S) fr (by unfold DJ; decide +kernel) (fun y c => by cases c) EXS.rf
  have LT1 : LTM (sI h f_LT_taped C 0) C := LT
  have rt : hR (sI h f_LT_taped C 0) f_LT_tape C = hR h f_LT_tape C := rfl
  have R1 : RW (sI h f_LT_taped C 0) (hR (sI h f_LT_taped C 0) f_LT_tape C) 0 tp := R
  have kt1 : hK (sI h f_LT_taped C 0) (hR (sI h f_LT_taped C 0) f_LT_tape C) ∈ [3, 4, 13] := kt
  have ez : hz (sI h f_LT_taped C 0) = hz h := rfl
  rw [← ez] at q1 q2
  clear rt ez fr R kt td td' A LT
  generalize sI h f_LT_taped C 0 = h1 at *
  have G := A1.1.1.1
  have F := A1.1.1.2
  have NM := A1.2.1.2.1.1
  obtain ⟨by_, fr, sz, nx, hd, Wd⟩ := NM.wd (X := X) (Y := Y) G
  have nd := NM.2.1
  have n4 := NM.2.2.2.1
  obtain ⟨l, b1, b2, b3, b4, b5, gl⟩ := A1.1.2.2.2.2.2.2.1
  have rm : hR (cc h1 C X Y) f_LT_machine C = C + 32 := by rw [ccRo (by decide)]; exact LT1.2.1
  have rn : hR (cc h1 C X Y) f_Machine_names (C + 32) = C + 34 := by rw [ccRo (by decide)]; exact F.2.1.2.1
  have rtp : hR (cc h1 C X Y) f_LT_tape C = hR h1 f_LT_tape C := ccRo (by decide)
  have k1 : hK (cc (hn h1 k_IndexOutOfBoundsException 6 0) C X Y) (hz h1) = k_IndexOutOfBoundsException := by rw [ccK, g_hK_hn, if_pos rfl]
  have k2 : hK (cc (hn h1 k_NoSuchElementException 6 0) C X Y) (hz h1) = k_NoSuchElementException := by rw [ccK, g_hK_hn, if_pos rfl]
  have bad : ¬ (0 ≤ l1 ∧ l1 ≤ 1) → wpB PGm ρ (d + 12) m_LT_global 14 [] [] (cc h1 C X Y) Q := fun z => by
    refine b_LT_global_14 (by omega) ?_
    dsimp only
    rw [cc_hn G, show hz (cc h1 C X Y) = hz h1 from rfl, k1]
    exact ⟨by decide, by decide, q1 (if_neg z)⟩
  have none : 0 ≤ l1 ∧ l1 ≤ 1 → (v < 0 ∨ S f_Md_isGlobal v.toNat = 0) → wpB PGm ρ (d + 12) m_LT_global 67 [] [] (cc h1 C X Y) Q := fun z z2 => by
    refine b_LT_global_67 (by omega) ?_
    dsimp only
    rw [cc_hn G, show hz (cc h1 C X Y) = hz h1 from rfl, k2]
    exact ⟨by decide, by decide, q2 (by unfold gbC; rw [if_pos z, if_pos z2])⟩
  have RC : RW (cc h1 C X Y) (hR h1 f_LT_tape C) 0 tp := ⟨R1.1, fun i hi => by rw [ccAo G (by decide) LT1.2.2]; exact R1.2 i hi⟩
  refine ⟨fun c => bad (by omega), fun a1 => ⟨fun a2 => ⟨LT1.1, ?_⟩, fun c => bad (by omega)⟩⟩
  rw [rm, rn, rtp]
  refine ⟨F.1.1, F.1.2.2.1, c_find (d := d + 10) (at_ := 0) Wd kt1 RC (by omega) (fun k hk ek => ?_) (fun nw => ?_)⟩
  · have e := FWI.uq nd hv (FWI.of hk ek)
    subst e
    have rg : hR (cc h1 C X Y) f_Machine_isGlobal (C + 32) = hR h1 f_Machine_isGlobal (C + 32) := ccRo (by decide)
    have r2 : hR (cc h1 C X Y) f_Machine_globalTags (C + 32) = hR h1 f_Machine_globalTags (C + 32) := ccRo (by decide)
    have r3 : hR (cc h1 C X Y) f_Machine_globalWords (C + 32) = hR h1 f_Machine_globalWords (C + 32) := ccRo (by decide)
    have kg : hK (cc h1 C X Y) (hR h1 f_Machine_isGlobal (C + 32)) = 4 := (G.2.2.2.1 (f_Machine_isGlobal, 32, 4) (by decide)).2
    have kg2 : hK (cc h1 C X Y) (hR h1 f_Machine_globalTags (C + 32)) = 3 := (G.2.2.2.1 (f_Machine_globalTags, 32, 3) (by decide)).2
    have kg3 : hK (cc h1 C X Y) (hR h1 f_Machine_globalWords (C + 32)) = 2 := (G.2.2.2.1 (f_Machine_globalWords, 32, 2) (by decide)).2
    have lg : hl (cc h1 C X Y) (hR h1 f_Machine_isGlobal (C + 32)) = l := b1
    have lg2 : hl (cc h1 C X Y) (hR h1 f_Machine_globalTags (C + 32)) = l := b2
    have lg3 : hl (cc h1 C X Y) (hR h1 f_Machine_globalWords (C + 32)) = l := b3
    have ag : ∀ i, hA (cc h1 C X Y) (hR h1 f_Machine_isGlobal (C + 32)) i = X 32 f_Machine_isGlobal i := fun i => ccA G (by decide)
    have ag2 : ∀ i, hA (cc h1 C X Y) (hR h1 f_Machine_globalTags (C + 32)) i = X 32 f_Machine_globalTags i := fun i => ccA G (by decide)
    have ag3 : ∀ i, hA (cc h1 C X Y) (hR h1 f_Machine_globalWords (C + 32)) i = X 32 f_Machine_globalWords i := fun i => ccA G (by decide)
    obtain ⟨g1, g2, g3, -⟩ := gl k (by omega)
    rw [rm, rg, r2, r3, kg, kg2, kg3, lg, lg2, lg3, Int.toNat_natCast, ag, ag2, ag3]
    rw [Int.toNat_natCast] at none
    refine ⟨fun c => by omega, fun _ => ⟨LT1.1, F.1.1, ⟨by decide, by decide⟩, fun c => none ⟨a1, a2⟩ (Or.inr ?_), fun c => ⟨⟨by decide, by omega, c⟩, fun c2 => ⟨⟨by decide, by omega, c⟩, ⟨by decide, by omega, c⟩, ?_⟩, fun c2 => none ⟨a1, a2⟩ (Or.inr ?_)⟩⟩⟩
    · rcases g1 with z | z
      · exact z
      · have := (g3 z).1; omega
    · have kl : k < l := by omega
      rw [g2 kl] at c2
      have z1 : S f_Md_isGlobal k = 1 := g1.resolve_left c2
      refine c_tell A1 LT1 (g3 z1).2 (q0 ?_)
      unfold gbC
      rw [if_pos ⟨a1, a2⟩, Int.toNat_natCast, if_neg (by rw [z1]; omega)]
    · rw [← g2 (by omega)]; exact c2
  · have e := FWI.uq nd hv (Or.inr ⟨rfl, nw⟩)
    subst e
    exact ⟨fun _ => none ⟨a1, a2⟩ (Or.inl (by decide)), fun c => absurd c (by decide)⟩
/-- T's tape is used -/
def tpZ (S : SS) (w : Int) : SS := u2 (u2 S f_Md_taped 0 0) f_Md_thrown 0 w
theorem t_global (O : TOK h0 T) (NM : NMR h C S ws) (R : RW (cn h0 T S) (hR h0 f_Md_tape T) 0 tp) (tl : tp.length ≤ 65536) (td : S f_Md_taped 0 = (tp.length : Int)) (hv : FWI ws tp v) (tx : ∀ k : Nat, v = (k : Int) → S f_Md_isGlobal k ≠ 0 → S f_Md_globalType k = 3 → ∃ (m : Nat) (l : List Int), S f_Md_globalValue k = (m : Int) ∧ TTX S m l) (q : Q (Sum.inl (some (vL (if gbC S v l1 = 0 then gbA S v l1 else 0)))) (cn h0 T (tpZ S (gbC S v l1)))) : wpB PGm ρ (d + 1) m_Md_global 0 [(0, vR T), (1, vI l1)] [] (cn h0 T S) Q := by
  have O' := O
  obtain ⟨kT, G, kH⟩ := O
  have kM : ∀ S : SS, hK (cn h0 T S) T = k_Md := fun S => by rw [cnK]; exact kT
  have n4 := NM.2.2.2.1
  have td' : hI (cn h0 T S) f_Md_taped T = (tp.length : Int) := by rw [cnI (by decide)]; exact td
  have rt : hR (cn h0 T S) f_Md_tape T = hR h0 f_Md_tape T := rfl
  have kt : hK h0 (hR h0 f_Md_tape T) ∈ [3, 4, 13] := by rw [(KN G).1]; decide
  have s1 : ∀ w : Int, sI (cn h0 T (u2 S f_Md_taped 0 0)) f_Md_thrown T w = cn h0 T (tpZ S w) := fun w => cn_sI (by decide)
  have s0 : sI (cn h0 T S) f_Md_taped T 0 = cn h0 T (u2 S f_Md_taped 0 0) := cn_sI (by decide)
  have i0 : ∀ w, hI (cn h0 T (tpZ S w)) f_Md_thrown T = w := fun w => by rw [cnI (by decide)]; exact u2_s
  have g60 : ∀ w : Int, w = 1 ∨ w = 2 → gbC S v l1 = w → wpB PGm ρ (d + 1) m_Md_global 60 [(0, vR T), (1, vI l1), (2, vI v)] [vI w, vR T] (cn h0 T (u2 S f_Md_taped 0 0)) Q := fun w hw e => by
    rw [e, if_neg (by omega)] at q
    refine b_Md_global_60 ⟨kM _, ?_⟩
    dsimp only
    rw [s1, i0]
    exact ⟨kM _, fun c => by omega, fun _ => q⟩
  refine b_Md_global_0 ⟨kM _, ?_⟩
  rw [rt, td']
  refine s_findName (at_ := 0) O' NM kt R (by omega) hv ⟨kM _, ?_⟩
  dsimp only
  rw [s0]
  refine t_inF (fun a1 a2 => ⟨fun _ => ⟨fun c => g60 2 (Or.inr rfl) ?_, fun c => ⟨kM _, fun _ => ?_, fun c2 => by omega⟩⟩, fun c => absurd c (by decide)⟩) (fun a1 => ⟨fun c => absurd rfl c, fun _ => g60 1 (Or.inl rfl) (if_neg a1)⟩)
  · unfold gbC; rw [if_pos ⟨a1, a2⟩, if_pos (Or.inl c)]
  have ⟨k, ek⟩ : ∃ k : Nat, v = (k : Int) := ⟨v.toNat, by omega⟩
  have hk : k < ws.length := by
    rcases hv with ⟨k', e, hk', -⟩ | ⟨e, -⟩
    · omega
    · omega
  subst ek
  have bk : 0 ≤ (k : Int) ∧ (k : Int) < ((4000 : Nat) : Int) := by omega
  have tx := tx k rfl
  have e1 : u2 S f_Md_taped 0 0 f_Md_isGlobal k = S f_Md_isGlobal k := u2_f (by decide)
  have yes : ¬ S f_Md_isGlobal k = 0 → wpB PGm ρ (d + 1) m_Md_global 60 [(0, vR T), (1, vI l1), (2, vI (k : Int))] [vI 0, vR T] (cn h0 T (u2 S f_Md_taped 0 0)) Q := fun z => by
    have e : gbC S (k : Int) l1 = 0 := by unfold gbC; rw [if_pos ⟨a1, a2⟩, Int.toNat_natCast, if_neg (fun c => c.elim (by omega) z)]
    rw [e, if_pos rfl] at q
    unfold gbA at q
    rw [Int.toNat_natCast] at q
    refine b_Md_global_60 ⟨kM _, ?_⟩
    dsimp only
    rw [s1, i0]
    refine ⟨kM _, fun _ => ?_, fun c => absurd c (by decide)⟩
    have g1 := t_told (ρ := ρ) (d := d) (Q := cL (fun x17 h12 => Q (Sum.inl (some (vL x17))) h12) (fun e15 h14 => hK h14 e15 ≠ 0 ∧ Q (Sum.inr e15) h14)) (S1 := tpZ S 0) O' (tx z) (fun f hf i => by
      unfold tpZ
      rw [u2_f (by rintro rfl; exact absurd hf (by decide)), u2_f (by rintro rfl; exact absurd hf (by decide))]) q
    have e2 : ∀ f, f ≠ f_Md_thrown → f ≠ f_Md_taped → tpZ S 0 f k = S f k := fun f h1 h2 => by unfold tpZ; rw [u2_f h1, u2_f h2]
    clear tx q g60 hv R NM
    simp (decide := true) (disch := first | decide | omega) only [cnI, cnIe, cnR, cnK, cnl, cnA' G, cn_sI, cn_sIe, cn_sA' G, kT, kH, KN G, LN G, u2_f, u2_s, w32_aa, w32_ss, w32_p1, w32_m1, Int.toNat_natCast, true_and, and_true, false_and, and_false, or_false, false_or, ne_eq, not_false_eq_true, forall_const, implies_true, not_true_eq_false, false_implies, e2, bk]
    exact g1
  have no : S f_Md_isGlobal k = 0 → wpB PGm ρ (d + 1) m_Md_global 60 [(0, vR T), (1, vI l1), (2, vI (k : Int))] [vI 2, vR T] (cn h0 T (u2 S f_Md_taped 0 0)) Q := fun z => g60 2 (Or.inr rfl) (by unfold gbC; rw [if_pos ⟨a1, a2⟩, Int.toNat_natCast, if_pos (Or.inr z)])
  refine b_Md_global_51 ?_
  clear tx q g60 hv R NM
  simp (decide := true) (disch := first | decide | omega) only [cnI, cnIe, cnR, cnK, cnl, cnA' G, cn_sI, cn_sIe, cn_sA' G, kT, kH, KN G, LN G, u2_f, u2_s, w32_aa, w32_ss, w32_p1, w32_m1, Int.toNat_natCast, true_and, and_true, false_and, and_false, or_false, false_or, ne_eq, not_false_eq_true, forall_const, implies_true, not_true_eq_false, false_implies, e1, bk]
  exact ⟨yes, no⟩
end
