/-! perform: parts of texts -/
set_option maxRecDepth 20000
section
variable {ρ : Nat → Nat} {d : Nat} {Q : QT} {Γ Γ' : GH} {h h' h1 h2 H : ah} {C ho k i j N M a z s r f o c t n mn us am ab m0 rr l4 tm mb sb tx sz E : Nat} {g : HG} {v w hd ty κ x y : Int} {S S' S1 : SS} {X X' X1 X2 : X3} {Y Y' Y1 Y2 : Y3} {l : List Int}
/-- the text that the site works on -/
theorem PFX.txt (P : PFX Γ h C ho X Y S N t o n c r s a κ mn m0 rr) (gt : S f_Md_pileType rr = 3) (gv : S f_Md_pileValue rr = (k : Int)) : ∃ (mn us sb mb tm am ab : Nat) (l : List Int) (tx a : Nat), TXK Γ h C X S mn us sb mb tm am ab ∧ (k < 4000 + tm ∧ S f_Md_textFrom k = (a : Int) ∧ S f_Md_textLength k = (l.length : Int) ∧ a + l.length ≤ 69632 + mb ∧ ∀ i, i < l.length → S f_Md_textSigns (a + i) = l.getD i 0) ∧ (∀ i, i < l.length → -128 ≤ l.getD i 0 ∧ l.getD i 0 ≤ 127) ∧ l.length ≤ 200000 ∧ X o f_Task_words m0 = (tx : Int) ∧ CTX h C X (tx : Int) l := by
  have V0 := P.pl (i := 0) (by omega)
  rw [Nat.add_zero, Nat.add_zero, gt, gv] at V0
  obtain ⟨mn, us, sb, mb, tm, am, ab, TK⟩ := P.1.2.2.2.2.1.kk
  obtain ⟨bs, A, B⟩ := TK.ops V0 (by decide)
  have e' : X o f_Task_tags m0 = 3 := V0.1
  rcases A.2 with ⟨-, xx, aa, a1, a2, a3, a4, a5, a6⟩ | ⟨a1, -⟩
  · rcases B.2 with ⟨-, x', a', b2, b3, b4, b5, b6, b7, b8, b9, b10⟩ | ⟨b1, -⟩
    · have exk : xx = k := by omega
      subst exk
      have tb := TK.2.2.1
      have ll : bs.length ≤ 200000 := by
        have o3 : txO S xx := by
          rcases V0.2.2 with z | z | z | z | z | z <;> first | omega | skip
          have := z.2.2
          rw [Int.toNat_natCast] at this
          exact this
        obtain ⟨a9, n9, b9', y1, y2, -, -, -, -, -, y8⟩ := TK.2.2.2.2.2.2 xx o3
        omega
      exact ⟨mn, us, sb, mb, tm, am, ab, bs, x', aa, TK, ⟨a2, a3, a4, a5, a6⟩, A.1, ll, b2, ⟨x', a', rfl, b8, b3, b4, b5, b6, b7, b9, b10⟩⟩
    · exact absurd e' b1
  · exact absurd rfl a1
theorem pf_sub (P : PFX Γ h C ho X Y S N t o n c r s a κ mn m0 rr) (gt : S f_Md_pileType rr = 3) (gv : S f_Md_pileValue rr = (k : Int)) (ec : S f_Md_textLength k = (sz : Int)) (hij : i ≤ j) (hj : j ≤ sz) (tac : ∀ e S', (e = none ∨ e = some none) → TSB ρ g N M k i j S e S' → TAC ρ g N M s S e S') (q : PFR ρ g N M Γ h C ho X Y S s Q) : wpB PGm ρ (d + 20) m_Machine_part 0 [(0, vR (C + 32)), (1, vI (m0 : Int)), (2, vI (X o f_Task_words m0)), (3, vI (i : Int)), (4, vI (j : Int))] [] (cc h C X Y) (pK Q) := by
  have HC := P.1
  have I := P.2.1.ix
  have hn := I.2.2.2.2.1
  have hm : m0 < n := P.2.2.1.2.2.2.2.1
  obtain ⟨mn', us, sb, mb, tm, am, ab, l, tx, a', TK, ⟨x1, x2, x3, x4, x5⟩, rg, ll, etx, CX⟩ := P.txt gt gv
  have el : l.length = sz := by omega
  have pl0 : PRL h C 0 := ⟨HC.2.2.2.2.2.2.2.1.2.2, Nat.zero_le _⟩
  have sl := subL_l (l := l) hij (by omega)
  have rg2 : ∀ k, k < (subL l i j).length → -128 ≤ (subL l i j).getD k 0 ∧ (subL l i j).getD k 0 ≤ 127 := fun k hk => by
    rw [subL_g hij (by omega) (by omega)]
    exact rg _ (by omega)
  rw [etx]
  refine r_part (d := d) I (by omega) CX rg hij (by omega) ll TK.tmx TK.2.2.2.2.1 pl0 TK.rm.1 TK.rm.2 (fun rm h' X' J => ?_) (fun w h' X' A => ?_)
  · obtain ⟨z, s9, ⟨M1, M2⟩, g1, bd, nsc, nxc, fr, V⟩ := HC.mkt (S0 := S) TK (by rw [sl]; exact rm) rg2 J (fun _ _ _ => rfl)
    have T := tac (some none) _ (Or.inr rfl) (TSB.ok (ρ := ρ) (g := g) (N := N) (M := M) TK.tms hij x1 x2 x3 (by omega) x4 x5 rg rm P.2.2.1)
    have e0 : EXS (LTK ++ [f_Md_t, f_Md_p0, f_Md_f0, f_Md_top, f_Md_after, f_Md_codeSize]) S (mtS S tm mb am ab (subL l i j)) := fun f hf i => by
      refine mtS_o ?_
      cases w : [f_Md_textFrom, f_Md_textLength, f_Md_textSigns, f_Md_madeBytes, f_Md_madeTexts, f_Md_allTexts, f_Md_allBytes].elem f with
      | false => rfl
      | true =>
        have q : [f_Md_textFrom, f_Md_textLength, f_Md_textSigns, f_Md_madeBytes, f_Md_madeTexts, f_Md_allTexts, f_Md_allBytes].all (fun f => !((LTK ++ [f_Md_t, f_Md_p0, f_Md_f0, f_Md_top, f_Md_after, f_Md_codeSize]).elem f)) = true := by decide
        have := List.all_eq_true.mp q f (by simpa using w)
        rw [hf] at this; cases this
    exact (q.pk) none _ _ _ Y T (P.ach M1 (M2 P.2.1.2.2.1) g1 e0 nsc nxc fr (bd.le (by decide) (by decide)) V)
  · obtain ⟨z, s9, ⟨M1, M2⟩, g1, bd, nsc, nxc, fr⟩ := HC.prt (S' := S) A (fun _ _ _ => rfl)
    have T := tac none _ (Or.inl rfl) (TSB.full (ρ := ρ) (g := g) (N := N) (M := M) TK.tms hij (by omega) w)
    have RL : RLC Γ h C ho X Y S N (some 0) (erS S 99) h' (erX X' 0) Y := RLC.mem (v := 0) (x := 99) P.2.1 M1 (M2 P.2.1.2.2.1) g1 (bd.le (by decide) (by decide)) nsc nxc fr (Or.inl ⟨rfl, rfl⟩)
    exact ⟨kSg M1.1.2, (q.pk) (some 0) _ _ _ Y T RL⟩
theorem pf_atT (P : PFX Γ h C ho X Y S N t o n c r s a κ mn m0 rr) (hκ : κ = 2) (ea : X 53 f_Found_action 0 = 12) (f3 : S f_Md_foundLinker 0 = 3) (gt : S f_Md_pileType rr = 3) (gv : S f_Md_pileValue rr = (k : Int)) (q : PFR ρ g N M Γ h C ho X Y S s Q) : wpB PGm ρ (d + 21) m_Machine_row 0 [(0, vR (C + 32)), (1, vI (m0 : Int))] [] (cc h C X Y) (pK Q) := by
  have HC := P.1
  have G := HC.1.1
  have F := HC.1.2
  have I := P.2.1.ix
  have hn := I.2.2.2.2.1
  have hm : m0 < n := P.2.2.1.2.2.2.2.1
  obtain ⟨mn', us, sb, mb, tm, am, ab, l, tx, a', TK, ⟨x1, x2, x3, x4, x5⟩, rg, ll, etx, CX⟩ := P.txt gt gv
  have eE : esK κ mn = 1 := by unfold esK; rw [if_neg (by omega), if_neg (by omega), if_pos (by omega)]
  have hmn := P.2.2.2.2.1
  rw [eE] at hmn
  have tma : tm ≤ 12000 := by have := TK.2.2.1; omega
  have Z := P.rwq f3 gv (Or.inr ⟨gt, by omega, x3⟩) (by omega)
  have V1 := P.pl (i := 1) (by rw [eE]; omega)
  obtain ⟨n1, n2⟩ := V1.n2
  have r0 : hR (cc h C X Y) f_Machine_found (C + 32) = C + 53 := by rw [ccRo (by decide)]; exact F.2.1.2.2.2.2.2.1
  have r1 : hI (cc h C X Y) f_Found_action (C + 53) = 12 := by rw [ccI (by decide)]; exact ea
  have b3 : m0 ≤ 2000000000 := by omega
  have lm : (l.length : Int) - 1 < 2147483648 := by omega
  have hp : m0 + 1 < n := by omega
  have good : X o f_Task_tags (m0 + 1) = 2 → 0 ≤ X o f_Task_words (m0 + 1) → X o f_Task_words (m0 + 1) ≤ (l.length : Int) - 1 → wpB PGm ρ (d + 20) m_Machine_part 0 [(0, vR (C + 32)), (1, vI (m0 : Int)), (2, vI (X o f_Task_words m0)), (3, vI (X o f_Task_words (m0 + 1))), (4, vI (w32 (X o f_Task_words (m0 + 1) + 1)))] [] (cc h C X Y) (pK (pK Q)) := fun y1 y2 y3 => by
    obtain ⟨i, ei⟩ : ∃ i : Nat, X o f_Task_words (m0 + 1) = (i : Int) := ⟨(X o f_Task_words (m0 + 1)).toNat, by omega⟩
    have hi : i < l.length := by omega
    have bi : i ≤ 2000000000 := by omega
    have g1 := pf_sub (ρ := ρ) (d := d) (g := g) (M := M) (Q := pK Q) (i := i) (j := i + 1) P gt gv x3 (by omega) (by omega) (fun e S' he SB => TAC.atT he Z hκ eE gt (n1.mp y1) (by rw [← n2 y1]; exact ei) hi SB) q.pk
    have w1 : w32 ((i : Int) + 1) = ((i + 1 : Nat) : Int) := w32_p1 bi
    rw [ei, w1]
    exact g1
  have bad : ¬ (X o f_Task_tags (m0 + 1) = 2 ∧ 0 ≤ X o f_Task_words (m0 + 1) ∧ X o f_Task_words (m0 + 1) ≤ (l.length : Int) - 1) → hK (cc h C (erX X 6) Y) (C + 33) ≠ 0 ∧ pK Q (Sum.inr (C + 33)) (cc h C (erX X 6) Y) := fun w => by
    have T := TAC.at6 (ρ := ρ) (g := g) (N := N) (M := M) Z hκ eE (fun z => w ⟨n1.mpr z.1, by rw [n2 (n1.mpr z.1)]; omega, by rw [n2 (n1.mpr z.1)]; omega⟩)
    exact ⟨kSg F, (q.pk) (some 6) _ h _ Y T (P.err (by decide))⟩
  have w1 : w32 ((m0 : Int) + 1) = ((m0 + 1 : Nat) : Int) := w32_p1 b3
  have w2 : w32 ((l.length : Int) - 1) = (l.length : Int) - 1 := w32_of (by omega) (by omega)
  rw [← etx] at CX
  refine r_rowT (d := d + 1) P gt CX (b_Machine_row_81 (d := d + 20) ⟨F.1.1, ?_⟩)
  rw [r0, r1, w1, w2]
  refine ⟨F.1.2.2.2.2.2.2.1, fun z => absurd z (by decide), fun _ => ⟨fun z => absurd z (by decide), fun _ => ⟨fun z => absurd z (by decide), fun _ => ⟨fun _ => ?_, fun z => absurd rfl z⟩⟩⟩⟩
  refine r_idx (d := d + 19) G F I hp lm (fun y1 y2 y3 => ?_) bad
  exact ⟨fun _ => ⟨F.1.1, good y1 y2 y3⟩, fun z => absurd rfl z⟩
theorem pf_part (P : PFX Γ h C ho X Y S N t o n c r s a κ mn m0 rr) (hκ : κ = 5) (hmn : mn = 2) (ea : X 53 f_Found_action 0 = 14) (f3 : S f_Md_foundLinker 0 = 3) (gt : S f_Md_pileType rr = 3) (gv : S f_Md_pileValue rr = (k : Int)) (q : PFR ρ g N M Γ h C ho X Y S s Q) : wpB PGm ρ (d + 21) m_Machine_row 0 [(0, vR (C + 32)), (1, vI (m0 : Int))] [] (cc h C X Y) (pK Q) := by
  have HC := P.1
  have G := HC.1.1
  have F := HC.1.2
  have I := P.2.1.ix
  have hn := I.2.2.2.2.1
  have hm : m0 < n := P.2.2.1.2.2.2.2.1
  obtain ⟨mn', us, sb, mb, tm, am, ab, l, tx, a', TK, ⟨x1, x2, x3, x4, x5⟩, rg, ll, etx, CX⟩ := P.txt gt gv
  have eE : esK κ mn = 2 := by unfold esK; rw [if_neg (by omega), if_neg (by omega), if_neg (by omega)]; exact hmn
  have hmn2 := P.2.2.2.2.1
  rw [eE] at hmn2
  have tma : tm ≤ 12000 := by have := TK.2.2.1; omega
  have Z := P.rwq f3 gv (Or.inr ⟨gt, by omega, x3⟩) (by omega)
  have V1 := P.pl (i := 1) (by rw [eE]; omega)
  have V2 := P.pl (i := 2) (by rw [eE]; omega)
  obtain ⟨n1, n2⟩ := V1.n2
  obtain ⟨k1, k2⟩ := V2.n2
  have r0 : hR (cc h C X Y) f_Machine_found (C + 32) = C + 53 := by rw [ccRo (by decide)]; exact F.2.1.2.2.2.2.2.1
  have r1 : hI (cc h C X Y) f_Found_action (C + 53) = 14 := by rw [ccI (by decide)]; exact ea
  have b3 : m0 ≤ 2000000000 := by omega
  have b4 : m0 + 2 ≤ 2000000000 := by omega
  have lm : (l.length : Int) < 2147483648 := by omega
  have hp : m0 + 1 < n := by omega
  have hp2 : m0 + 2 < n := by omega
  have bad : ¬ (X o f_Task_tags (m0 + 1) = 2 ∧ X o f_Task_tags (m0 + 2) = 2 ∧ 0 ≤ X o f_Task_words (m0 + 1) ∧ X o f_Task_words (m0 + 1) ≤ X o f_Task_words (m0 + 2) ∧ X o f_Task_words (m0 + 2) ≤ (l.length : Int)) → hK (cc h C (erX X 6) Y) (C + 33) ≠ 0 ∧ pK Q (Sum.inr (C + 33)) (cc h C (erX X 6) Y) := fun w => by
    have T := TAC.part6 (ρ := ρ) (g := g) (N := N) (M := M) Z hκ eE gt (fun z => w ⟨n1.mpr z.1, k1.mpr z.2.1, by rw [n2 (n1.mpr z.1)]; exact z.2.2.1, by rw [n2 (n1.mpr z.1), k2 (k1.mpr z.2.1)]; exact z.2.2.2.2.1, by rw [k2 (k1.mpr z.2.1)]; exact z.2.2.2.2.2⟩)
    exact ⟨kSg F, (q.pk) (some 6) _ h _ Y T (P.err (by decide))⟩
  have good : X o f_Task_tags (m0 + 2) = 2 → 0 ≤ X o f_Task_words (m0 + 2) → X o f_Task_words (m0 + 2) ≤ (l.length : Int) → X o f_Task_tags (m0 + 1) = 2 → 0 ≤ X o f_Task_words (m0 + 1) → X o f_Task_words (m0 + 1) ≤ X o f_Task_words (m0 + 2) → wpB PGm ρ (d + 20) m_Machine_part 0 [(0, vR (C + 32)), (1, vI (m0 : Int)), (2, vI (X o f_Task_words m0)), (3, vI (X o f_Task_words (m0 + 1))), (4, vI (X o f_Task_words (m0 + 2)))] [] (cc h C X Y) (pK (pK Q)) := fun y1 y2 y3 y4 y5 y6 => by
    obtain ⟨i, ei⟩ : ∃ i : Nat, X o f_Task_words (m0 + 1) = (i : Int) := ⟨(X o f_Task_words (m0 + 1)).toNat, by omega⟩
    obtain ⟨j, ej⟩ : ∃ j : Nat, X o f_Task_words (m0 + 2) = (j : Int) := ⟨(X o f_Task_words (m0 + 2)).toNat, by omega⟩
    rw [ei, ej]
    exact pf_sub (ρ := ρ) (d := d) (g := g) (M := M) (Q := pK Q) (i := i) (j := j) P gt gv x3 (by omega) (by omega) (fun e S' he SB => TAC.part he Z hκ eE gt (n1.mp y4) (k1.mp y1) (by rw [← n2 y4]; exact ei) (by rw [← k2 y1]; exact ej) (by omega) (by omega) SB) q.pk
  have le2 : X o f_Task_words (m0 + 2) ≤ (l.length : Int) → X o f_Task_words (m0 + 2) < 2147483648 := fun z => by omega
  have bd1 : ¬ (X o f_Task_tags (m0 + 2) = 2 ∧ 0 ≤ X o f_Task_words (m0 + 2) ∧ X o f_Task_words (m0 + 2) ≤ (l.length : Int)) → ¬ (X o f_Task_tags (m0 + 1) = 2 ∧ X o f_Task_tags (m0 + 2) = 2 ∧ 0 ≤ X o f_Task_words (m0 + 1) ∧ X o f_Task_words (m0 + 1) ≤ X o f_Task_words (m0 + 2) ∧ X o f_Task_words (m0 + 2) ≤ (l.length : Int)) := fun w z => w ⟨z.2.1, by omega, z.2.2.2.2⟩
  have w1 : w32 ((m0 : Int) + 1) = ((m0 + 1 : Nat) : Int) := w32_p1 b3
  have w2 : w32 ((m0 : Int) + 2) = ((m0 + 2 : Nat) : Int) := w32_aa b4
  rw [← etx] at CX
  refine r_rowT (d := d + 1) P gt CX (b_Machine_row_81 (d := d + 20) ⟨F.1.1, ?_⟩)
  rw [r0, r1, w1, w2]
  refine ⟨F.1.2.2.2.2.2.2.1, fun z => absurd z (by decide), fun _ => ⟨fun z => absurd z (by decide), fun _ => ⟨fun z => absurd z (by decide), fun _ => ⟨fun z => absurd z (by decide), fun _ => ⟨fun z => absurd z (by decide), fun _ => ?_⟩⟩⟩⟩⟩
  refine r_idx (d := d + 19) G F I hp2 lm (fun y1 y2 y3 => ⟨F.1.1, ?_⟩) (fun w => bad (bd1 w))
  refine r_idx (d := d + 19) G F I hp (le2 y3) (fun y4 y5 y6 => ⟨F.1.1, good y1 y2 y3 y4 y5 y6⟩) (fun w => bad (fun z => w ⟨z.1, z.2.2.1, z.2.2.2.1⟩))
end
