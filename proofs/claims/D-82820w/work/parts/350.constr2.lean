/-! C: a new instance gets the values that it is made with: the search -/
set_option maxRecDepth 20000
section
variable {ρ : Nat → Nat} {d : Nat} {Q : QT} {Γ Γ' : GH} {h h' h1 h2 H H1 : ah} {C ho i j N M a z s r f o c t n m mn m0 rr l l1 l2 la p E mk rm sk tn sn c0 : Nat} {g : HG} {v w hd ty κ x y : Int} {S S' S1 S2 S0 : SS} {X X' X1 X2 X0 : X3} {Y Y' Y1 Y2 : Y3} {hw : List (List Int)} {e : Option Int} {LL : List Nat} {ls : List Nat}
theorem r_con76 (P : PFX Γ h C ho X Y S N t o n c r s a κ mn m0 rr) (U : HUS ρ Γ h ho S g N M hw) (hm : m < M) (eE : E = esK κ mn) (p1 : 0 < E → 1 ≤ (g.2 2 m).length) (L0 : LYA h ho la (layG g c0)) (hc0 : c0 < N)
  (eS : EXS [f_Md_pileType, f_Md_pileValue] S S0) (eX : ∀ f, [f_Task_tags, f_Task_words].elem f = true → ∀ i, X0 o f i = X o f i) (t0 : S0 f_Md_things 0 = ((tn + 1 : Nat) : Int)) (t1 : S0 f_Md_thingKind tn = 7) (t2 : S0 f_Md_thingCount tn = ((layG g c0).length : Int)) (t3 : ∀ i, i < (layG g c0).length → slS S0 tn i = sk + i) (t4 : ∀ {H : ah} {X' : X3} {A : Nat → Option Nat}, CIV Γ h C ho X Y S N H X' (flS S0 (layG g c0).length sk rr A) → ∀ i, i < E → VR Γ (flS S0 (layG g c0).length sk rr A) N (X o f_Task_tags (m0 + 1 + i)) (X o f_Task_words (m0 + 1 + i)) (S f_Md_pileType (rr + 1 + i)) (S f_Md_pileValue (rr + 1 + i)))
  (q : ∀ H, CIV Γ h C ho X Y S N H (mrX X0 (layG g c0).length (mkA (layG g c0).length (tyL g c0) (parG g m) E)) (flS S0 (layG g c0).length sk rr (mkA (layG g c0).length (tyL g c0) (parG g m) E)) → hB H (C + 51) tn = l → wpB PGm ρ (d + 12) m_Machine_construct 201 [(0, vR (C + 32)), (2, vI (m0 : Int)), (4, vR la), (5, vR l), (8, vI 0)] [] (cc H C (mrX X0 (layG g c0).length (mkA (layG g c0).length (tyL g c0) (parG g m) E)) Y) Q) : ∀ mm k H, k + mm = E → CIV Γ h C ho X Y S N H (mrX X0 (layG g c0).length (mkA (layG g c0).length (tyL g c0) (parG g m) k)) (flS S0 (layG g c0).length sk rr (mkA (layG g c0).length (tyL g c0) (parG g m) k)) → hB H (C + 51) tn = l → wpB PGm ρ (d + 12) m_Machine_construct 76 [(0, vR (C + 32)), (1, vR (hB h (ho + 3) m)), (2, vI (m0 : Int)), (3, vI (E : Int)), (4, vR la), (5, vR l), (8, vI (k : Int))] [] (cc H C (mrX X0 (layG g c0).length (mkA (layG g c0).length (tyL g c0) (parG g m) k)) Y) Q := by
  have l4 := U.2.2.2.2 c0 hc0
  generalize hnn : (layG g c0).length = nn at *
  have G0 := P.1.1.1
  intro mm
  induction mm with
  | zero =>
    intro k H hk I el
    have ek : k = E := by omega
    subst ek
    have b1 : ¬ (k : Int) < (k : Int) := by omega
    exact b_Machine_construct_76 (by omega) ⟨fun _ => q H I el, fun z => absurd z b1⟩
  | succ mm ih =>
    intro k H hk I el
    have kE : k < E := by omega
    have g1 := ih (k + 1)
    clear ih q
    generalize eA : mkA nn (tyL g c0) (parG g m) k = A at *
    have mkK : mkA nn (tyL g c0) (parG g m) (k + 1) = match (List.range nn).find? (fun f => (A f).isNone && decide (tyL g c0 f = parG g m k)) with | some f => fun x => if x = f then some k else A x | none => A := by
      rw [← eA]; rfl
    obtain ⟨z, s', fr⟩ := I.2.2.2
    have HC := I.1.1
    have G := HC.1.1
    have F0 := HC.1.2
    have HX : HCX ρ H ho g N M hw := U.1.fr fr (by unfold DJ; decide +kernel) (fun y c => by simp at c)
    obtain ⟨LH, eb3⟩ := L0.fr U.1 G0.2.1 fr (by unfold DJ; decide +kernel)
    have I9 := P.2.1.ix
    have ht := I9.2.2.1
    have e1 : Y 32 f_Machine_t 0 = C + o := I9.2.2.2.1.1
    have hmn := P.2.2.2.2.1
    have hn0 := I9.2.2.2.2.1
    have XA : ∀ {X' : X3}, (∀ i, X' o f_Task_tags i = X o f_Task_tags i) → (∀ i, X' o f_Task_words i = X o f_Task_words i) → True := fun _ _ => trivial
    clear XA
    -- the member
    have me : hK (cc H C (mrX X0 nn A) Y) (hB h (ho + 3) m) = k_Member ∧ (hK (cc H C (mrX X0 nn A) Y) (hR (cc H C (mrX X0 nn A) Y) f_Member_parameters (hB h (ho + 3) m)) = 1 ∧ hl (cc H C (mrX X0 nn A) Y) (hR (cc H C (mrX X0 nn A) Y) f_Member_parameters (hB h (ho + 3) m)) = (g.2 2 m).length ∧ (g.2 2 m).length ≤ 8 ∧ ∀ k, k < (g.2 2 m).length → hA (cc H C (mrX X0 nn A) Y) (hR (cc H C (mrX X0 nn A) Y) f_Member_parameters (hB h (ho + 3) m)) k = (g.2 2 m).getD k 0) := by
      obtain ⟨⟨w1, -, -⟩, -, -, -, -, -, -, -, -, -, -, -, ⟨-, -, -, w4, w5, w6, w7⟩⟩ := (HX.ccx (X := mrX X0 nn A) (Y := Y) G).me hm
      rw [(HX.ccB G).2, eb3] at w1 w4 w5 w7
      exact ⟨w1, w4, w5, w6, w7⟩
    -- the layout
    have ly : ∀ {X' : X3}, hK (cc H C X' Y) la = 24 ∧ hl (cc H C X' Y) la = nn ∧ ∀ x, x < nn → hK (cc H C X' Y) (hB (cc H C X' Y) la x) = k_Member ∧ hI (cc H C X' Y) f_Member_type (hB (cc H C X' Y) la x) = tyL g c0 x := fun {X'} => by
      obtain ⟨⟨w1, w2, w3, w4⟩, w5, w6⟩ := LH
      refine ⟨w1, by rw [ccl, w5]; exact hnn, fun x hx => ?_⟩
      obtain ⟨⟨v1, -, -⟩, -, -, -, v2, -⟩ := HX.me (l4.2 x (by omega))
      rw [uno_B G w4, w6 x (by omega)]
      exact ⟨v1, by rw [ccIo (by decide)]; exact v2⟩
    have rmk : ∀ {X' : X3}, hR (cc H C X' Y) f_Machine_marks (C + 32) = hR H f_Machine_marks (C + 32) := fun {X'} => ccRo (by decide)
    have km : hK H (hR H f_Machine_marks (C + 32)) = 4 := (KC G).2.2.2.2.2.2.2.2.2.1
    have lmk : hl H (hR H f_Machine_marks (C + 32)) = 400 := F0.2.2.2.2.2.2.1.2.2.2.2.2.2
    have n4 : nn ≤ 400 := l4.1
    -- none fits
    have endN : (∀ i, i < nn → ¬ ((A i).isNone = true ∧ tyL g c0 i = parG g m k)) → wpB PGm ρ (d + 12) m_Machine_construct 140 [(0, vR (C + 32)), (1, vR (hB h (ho + 3) m)), (2, vI (m0 : Int)), (3, vI (E : Int)), (4, vR la), (5, vR l), (8, vI (k : Int)), (10, vI (nn : Int))] [] (cc H C (mrX X0 nn A) Y) Q := fun no => by
      have fn : (List.range nn).find? (fun f => (A f).isNone && decide (tyL g c0 f = parG g m k)) = none := by
        rw [List.find?_eq_none]
        intro i hi
        rw [List.mem_range] at hi
        have := no i hi
        simpa using this
      rw [mkK, fn] at g1
      have k2 : k ≤ 2000000000 := by omega
      refine b_Machine_construct_140 (d := d + 11) ⟨by rw [ly.1]; decide, fun c => absurd (by rw [ly.2.1]) c, fun _ => ?_⟩
      rw [w32_p1 k2]
      exact g1 H (by omega) I el
    -- one fits
    have endS : ∀ x, x < nn → (A x).isNone = true → tyL g c0 x = parG g m k → (∀ i, i < x → ¬ ((A i).isNone = true ∧ tyL g c0 i = parG g m k)) → wpB PGm ρ (d + 12) m_Machine_construct 140 [(0, vR (C + 32)), (1, vR (hB h (ho + 3) m)), (2, vI (m0 : Int)), (3, vI (E : Int)), (4, vR la), (5, vR l), (8, vI (k : Int)), (10, vI (x : Int))] [] (cc H C (mrX X0 nn A) Y) Q := fun x hx an tx no => by
      have fnd : (List.range nn).find? (fun f => (A f).isNone && decide (tyL g c0 f = parG g m k)) = some x := by
        rw [List.find?_range_eq_some]
        exact ⟨by simp [an, tx], by rw [List.mem_range]; exact hx, fun i hi => by
          have := no i hi
          cases hA : A i with
          | none => simp [hA] at this ⊢; exact this
          | some _ => simp⟩
      rw [mkK, fnd] at g1
      have V := t4 I k kE
      have oF := flS_off (S := S0) (n := nn) (sk := sk) (rr := rr) (A := A)
      have sl : slS (flS S0 nn sk rr A) tn x = sk + x := by rw [slS_off oF (by decide) (by decide)]; exact t3 x hx
      have u := flS_u (S := S0) (n := nn) (sk := sk) (rr := rr) (A := A) (k := k) hx
      rw [eS _ (by decide), eS _ (by decide)] at u
      -- used, marked
      have J1 : CIV Γ h C ho X Y S N H (mrX X0 nn (fun y => if y = x then some k else A y)) (u2 (flS S0 nn sk rr A) f_Md_used1 x 1) := I.fz (LL := [f_Md_used1]) (OFF.rf.u (by decide)) (by decide +kernel) (fun f hf o i => by
        have hne : f ≠ f_Machine_marks := by rintro rfl; exact absurd hf (by decide +kernel)
        rw [mrX_o hne, mrX_o hne])
      have sl2 : slS (u2 (flS S0 nn sk rr A) f_Md_used1 x 1) tn x = sk + x := by rw [slS_off (OFF.rf.u (L := [f_Md_used1]) (by decide)) (by decide) (by decide)]; exact sl
      have th : (tn : Int) < u2 (flS S0 nn sk rr A) f_Md_used1 x 1 f_Md_things 0 := by rw [u2_f (by decide), oF _ _ (by decide), t0]; omega
      have tc : (x : Int) < u2 (flS S0 nn sk rr A) f_Md_used1 x 1 f_Md_thingCount tn := by rw [u2_f (by decide), oF _ _ (by decide), t2]; omega
      have V2 : VR Γ (u2 (flS S0 nn sk rr A) f_Md_used1 x 1) N (X o f_Task_tags (m0 + 1 + k)) (X o f_Task_words (m0 + 1 + k)) (S f_Md_pileType (rr + 1 + k)) (S f_Md_pileValue (rr + 1 + k)) := by
        obtain ⟨v1, v2, v3⟩ := V
        refine ⟨v1, v2, ?_⟩
        unfold VO txO at v3 ⊢
        simp only [u2_f (show f_Md_things ≠ f_Md_used1 by decide), u2_f (show f_Md_thingKind ≠ f_Md_used1 by decide), u2_f (show f_Md_sourceTexts ≠ f_Md_used1 by decide), u2_f (show f_Md_madeTexts ≠ f_Md_used1 by decide)]
        exact v3
      have J2 := J1.slw th tc V2
      rw [el] at J2
      have eSl : slwS (u2 (flS S0 nn sk rr A) f_Md_used1 x 1) tn x (S f_Md_pileType (rr + 1 + k)) (S f_Md_pileValue (rr + 1 + k)) = flS S0 nn sk rr (fun y => if y = x then some k else A y) := by
        unfold slwS
        rw [sl2]; exact u
      rw [eSl] at J2
      have el2 : hB (slwH H l x (X o f_Task_tags (m0 + 1 + k)) (X o f_Task_words (m0 + 1 + k))) (C + 51) tn = l := el
      have gg := g1 _ (by omega) J2 el2
      have ka : hK H l = k_Instance := by
        obtain ⟨tn', sn, sm', d1, d2, d5, d6', d3, d4, d6, d7, -⟩ := HC.shp
        have e0 : flS S0 nn sk rr A f_Md_things 0 = ((tn + 1 : Nat) : Int) := by rw [oF _ _ (by decide)]; exact t0
        have T := (d7 tn (by omega)).p.1
        have := T.2.1.1
        rw [el, oF _ _ (by decide), t1] at this
        exact this
      have rs := r_slw (ρ := ρ) (d := d + 11) (Q := cV (fun h18 => wpB PGm ρ (d + 12) m_Machine_construct 76 [(0, vR (C + 32)), (1, vR (hB h (ho + 3) m)), (2, vI (m0 : Int)), (3, vI (E : Int)), (4, vR la), (5, vR l), (8, vI ((k + 1 : Nat) : Int))] [] h18 Q) (fun e21 h20 => hK h20 e21 ≠ 0 ∧ Q (Sum.inr e21) h20)) (y := X o f_Task_words (m0 + 1 + k)) J1.1.1 th tc V2.tg (by rw [el]; exact gg)
      rw [el] at rs
      have k2 : k ≤ 2000000000 ∧ m0 ≤ 2000000000 ∧ m0 + 1 + k ≤ 2000000000 ∧ ¬ (x : Int) = (nn : Int) ∧ 0 ≤ (x : Int) ∧ (x : Int) < ((400 : Nat) : Int) ∧ 0 ≤ ((m0 + 1 + k : Nat) : Int) ∧ ((m0 + 1 + k : Nat) : Int) < ((2001 : Nat) : Int) := by omega
      have ft := F0.t ht
      unfold FCt at ft
      have rt : ∀ {X' : X3}, hR (cc H C X' Y) f_Machine_t (C + 32) = C + o := fun {X'} => by rw [ccR (by decide)]; exact e1
      have ta : ∀ {X' : X3}, (∀ i, X' o f_Task_tags i = X o f_Task_tags i) → ∀ i, hA (cc H C X' Y) (hR (cc H C X' Y) f_Task_tags (C + o)) i = X o f_Task_tags i := fun {X'} w i => by rw [ccRo (by decide), ccAt G ht (by decide)]; exact w i
      have tw : ∀ {X' : X3}, (∀ i, X' o f_Task_words i = X o f_Task_words i) → ∀ i, hA (cc H C X' Y) (hR (cc H C X' Y) f_Task_words (C + o)) i = X o f_Task_words i := fun {X'} w i => by rw [ccRo (by decide), ccAt G ht (by decide)]; exact w i
      have wt : ∀ i, mrX X0 nn (fun y => if y = x then some k else A y) o f_Task_tags i = X o f_Task_tags i := fun i => by rw [mrX_o (by decide)]; exact eX _ (by decide) i
      have ww : ∀ i, mrX X0 nn (fun y => if y = x then some k else A y) o f_Task_words i = X o f_Task_words i := fun i => by rw [mrX_o (by decide)]; exact eX _ (by decide) i
      refine b_Machine_construct_140 (d := d + 11) ⟨by rw [ly.1]; decide, fun _ => ⟨F0.1.1, ?_⟩, fun c => absurd c (by rw [ly.2.1]; exact k2.2.2.2.1)⟩
      refine b_Machine_mark_0 ⟨F0.1.1, ?_⟩
      rw [rmk, Int.toNat_natCast]
      refine ⟨⟨Or.inr ⟨km, Or.inr rfl⟩, k2.2.2.2.2.1, by rw [ccl, lmk]; exact k2.2.2.2.2.2.1⟩, ?_⟩
      rw [cc_sA G (by decide), mrX_u (k := k) hx]
      refine ⟨F0.1.1, ?_⟩
      rw [rt, w32_p1 k2.2.1, w32_aa k2.2.2.1, Int.toNat_natCast, ta wt, tw ww, w32_p1 k2.1]
      refine ⟨ft.1, ⟨?_, k2.2.2.2.2.2.2.1, ?_⟩, ⟨?_, k2.2.2.2.2.2.2.1, ?_⟩, ka, rs⟩
      · simp (decide := true) only [ccRo, ccK, KCt G ht]
      · rw [ccRo (by decide), ccl, ft.2.2.1]; exact k2.2.2.2.2.2.2.2
      · simp (decide := true) only [ccRo, ccK, KCt G ht]
      · rw [ccRo (by decide), ccl, ft.2.1]; exact k2.2.2.2.2.2.2.2
    -- the search
    have lp : ∀ m2 x, x + m2 = nn → (∀ i, i < x → ¬ ((A i).isNone = true ∧ tyL g c0 i = parG g m k)) → wpB PGm ρ (d + 12) m_Machine_construct 104 [(0, vR (C + 32)), (1, vR (hB h (ho + 3) m)), (2, vI (m0 : Int)), (3, vI (E : Int)), (4, vR la), (5, vR l), (8, vI (k : Int)), (9, vI (parG g m k)), (10, vI (x : Int))] [] (cc H C (mrX X0 nn A) Y) Q := fun m2 => by
      induction m2 with
      | zero =>
        intro x hx no
        have ex : x = nn := by omega
        subst ex
        have b1 : ¬ (x : Int) < (x : Int) := by omega
        exact b_Machine_construct_104 (d := d + 11) ⟨by rw [ly.1]; decide, fun _ => endN no, fun z => absurd z (by rw [ly.2.1]; exact b1)⟩
      | succ m2 ih2 =>
        intro x hx no
        have xn : x < nn := by omega
        have b1 : ¬ (nn : Int) ≤ (x : Int) ∧ 0 ≤ (x : Int) ∧ (x : Int) < (nn : Int) ∧ x ≤ 2000000000 ∧ (x : Int) < ((400 : Nat) : Int) := by omega
        obtain ⟨y1, y2⟩ := (ly (X' := mrX X0 nn A)).2.2 x xn
        have nxt : ¬ ((A x).isNone = true ∧ tyL g c0 x = parG g m k) → wpB PGm ρ (d + 12) m_Machine_construct 104 [(0, vR (C + 32)), (1, vR (hB h (ho + 3) m)), (2, vI (m0 : Int)), (3, vI (E : Int)), (4, vR la), (5, vR l), (8, vI (k : Int)), (9, vI (parG g m k)), (10, vI (w32 ((x : Int) + 1)))] [] (cc H C (mrX X0 nn A) Y) Q := fun w => by
          rw [w32_p1 b1.2.2.2.1]
          refine ih2 (x + 1) (by omega) (fun i hi => ?_)
          by_cases c : i = x
          · rw [c]; exact w
          · exact no i (by omega)
        refine b_Machine_construct_104 (d := d + 11) ⟨by rw [ly.1]; decide, fun z => absurd z (by rw [ly.2.1]; exact b1.1), fun _ => ⟨⟨by rw [ly.1]; decide, by rw [ly.1]; decide, b1.2.1, by rw [ly.2.1]; exact b1.2.2.1⟩, ?_⟩⟩
        rw [Int.toNat_natCast, y2]
        refine ⟨y1, fun c => nxt (fun w => c w.2), fun c => ⟨F0.1.1, ?_⟩⟩
        have rd : hA (cc H C (mrX X0 nn A) Y) (hR H f_Machine_marks (C + 32)) x = if (A x).isNone = true then 0 else 1 := by rw [ccA G (by decide)]; exact mrX_g xn
        refine b_Machine_isMarked_0 ⟨F0.1.1, ?_⟩
        rw [rmk, Int.toNat_natCast, rd]
        refine ⟨⟨by rw [ccK, km]; decide, b1.2.1, by rw [ccl, lmk]; exact b1.2.2.2.2⟩, by split <;> omega, ?_⟩
        by_cases w : (A x).isNone = true
        · rw [if_pos w]
          exact ⟨fun _ => endS x xn w c no, fun z => absurd rfl z⟩
        · rw [if_neg w]
          exact ⟨fun z => absurd z (by decide), fun _ => nxt (fun v => w v.1)⟩
    -- the type
    have pl := p1 (by omega)
    obtain ⟨w1, w4, w5, w6, w7⟩ := me
    have b1 : ¬ (E : Int) ≤ (k : Int) ∧ (k : Int) < (E : Int) ∧ (1 ≤ (g.2 2 m).length ∧ (g.2 2 m).length ≤ 2000000000) := by omega
    have ix : (if ((((g.2 2 m).length - 1 : Nat)) : Int) < (k : Int) then ((((g.2 2 m).length - 1 : Nat)) : Int) else (k : Int)) = (((if k < (g.2 2 m).length then k else (g.2 2 m).length - 1) : Nat) : Int) := by
      by_cases c : k < (g.2 2 m).length
      · rw [if_pos c, if_neg (by omega)]
      · rw [if_neg c, if_pos (by omega)]
    have ib : (if k < (g.2 2 m).length then k else (g.2 2 m).length - 1) < (g.2 2 m).length := by split <;> omega
    have ib2 : 0 ≤ (((if k < (g.2 2 m).length then k else (g.2 2 m).length - 1) : Nat) : Int) ∧ (((if k < (g.2 2 m).length then k else (g.2 2 m).length - 1) : Nat) : Int) < ((g.2 2 m).length : Int) := by omega
    have pg : (g.2 2 m).getD (if k < (g.2 2 m).length then k else (g.2 2 m).length - 1) 0 = parG g m k := rfl
    have dd : 10 ≤ d + 12 := by omega
    refine b_Machine_construct_76 dd ⟨fun z => absurd z b1.1, fun _ => ⟨w1, ⟨by rw [w4]; decide, by rw [w4]; decide⟩, ?_⟩⟩
    rw [w5, w32_m1 b1.2.2, ix, Int.toNat_natCast, w7 _ ib, pg]
    exact ⟨⟨by rw [w4]; decide, ib2⟩, lp nn 0 (by omega) (fun i hi => absurd hi (by omega))⟩
end
