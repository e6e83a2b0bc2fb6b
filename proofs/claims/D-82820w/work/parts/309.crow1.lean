/-! perform: size, at, put, push, pop -/
set_option maxRecDepth 20000
section
variable {ρ : Nat → Nat} {d : Nat} {Q : QT} {Γ Γ' : GH} {h h' h1 h2 H : ah} {C ho k i j N M a z s r f o c t n mn m0 rr sk rk l cd nv np E va ma mk ck jm vs fm po fn pp tn wi sz pl l2 : Nat} {g : HG} {v w hd ty κ nm x y x1 nw ac p u ar lm l3 : Int} {S S' S1 : SS} {X X' X1 X2 : X3} {Y Y' Y1 Y2 : Y3} {b : Bool} {tg wd : Nat → Int} {L : List Nat} {fi ca m q : Int} {ws : List (List Int)} {l1 : List Int}
theorem r_rowT (P : PFX Γ h C ho X Y S N t o n c r s a κ mn m0 rr) (gt : S f_Md_pileType rr = 3) (CB : CTX h C X (X o f_Task_words m0) l1) (q : wpB PGm ρ (d + 20) m_Machine_row 81 [(0, vR (C + 32)), (1, vI (m0 : Int)), (2, vR 0), (3, vI (X o f_Task_words m0))] [vI (l1.length : Int)] (cc h C X Y) Q) : wpB PGm ρ (d + 20) m_Machine_row 0 [(0, vR (C + 32)), (1, vI (m0 : Int))] [] (cc h C X Y) Q := by
  have HC := P.1
  have G := HC.1.1
  have F := HC.1.2
  have I := P.2.1.ix
  have ht := I.2.2.1
  have e1 : Y 32 f_Machine_t 0 = C + o := I.2.2.2.1.1
  have hn := I.2.2.2.2.1
  have hm : m0 < n := P.2.2.1.2.2.2.2.1
  have V0 := P.pl (i := 0) (by omega)
  rw [Nat.add_zero, Nat.add_zero, gt] at V0
  obtain ⟨x, b, c1, c2, c3, c4, c5, c6, c7, c8, c9⟩ := CB
  have r2 : hR (cc h C X Y) f_Machine_t (C + 32) = C + o := by rw [ccR (by decide)]; exact e1
  have r9 : hA (cc h C X Y) (hR (cc h C X Y) f_Task_words (C + o)) m0 = X o f_Task_words m0 := by rw [ccRo (by decide), ccAt G ht (by decide)]
  have r8 : hA (cc h C X Y) (hR (cc h C X Y) f_Task_tags (C + o)) m0 = 3 := by rw [ccRo (by decide), ccAt G ht (by decide)]; exact V0.1
  have r5 : hR (cc h C X Y) f_Machine_texts (C + 32) = C + 46 := by rw [ccRo (by decide)]; exact F.2.1.2.2.2.1
  have r6 : hA (cc h C X Y) (hR (cc h C X Y) f_Texts_size (C + 46)) x = (l1.length : Int) := by rw [ccRo (by decide), ccA G (by decide)]; exact c6
  have ft := F.t ht
  unfold FCt at ft
  have b1 : 0 ≤ (m0 : Int) ∧ (m0 : Int) < ((2001 : Nat) : Int) := by omega
  have b2 : 0 ≤ (x : Int) ∧ (x : Int) < (hl h (hR h f_Texts_size (C + 46)) : Int) := by omega
  have dd : 10 ≤ d + 20 := by omega
  have w3 : w32 (x : Int) = (x : Int) := w32_of (by omega) (by omega)
  rw [c1] at q
  have g60 : wpB PGm ρ (d + 20) m_Machine_row 60 [(0, vR (C + 32)), (1, vI (m0 : Int)), (2, vR 0)] [vI (x : Int)] (cc h C X Y) Q := by
    refine b_Machine_row_60 ⟨fun z => absurd rfl z, fun _ => ⟨F.1.1, ?_⟩⟩
    rw [r5, Int.toNat_natCast, r6]
    refine ⟨F.1.2.2.2.2.1, ⟨?_, b2.1, ?_⟩, q⟩
    · simp (decide := true) only [ccRo, ccK, KC G]
    · rw [ccRo (by decide), ccl]; exact b2.2
  refine b_Machine_row_0 dd ⟨F.1.1, ?_⟩
  rw [r2, Int.toNat_natCast, r8]
  refine ⟨ft.1, ⟨?_, b1.1, ?_⟩, fun _ => b_Machine_row_41 ⟨fun z => absurd rfl z, fun _ => ⟨F.1.1, ?_⟩⟩, fun z => absurd z (by decide)⟩
  · simp (decide := true) only [ccRo, ccK, KCt G ht]
  · rw [ccRo (by decide), ccl, ft.2.2.1]; exact b1.2
  · rw [r2, Int.toNat_natCast, r9, c1, w3]
    refine ⟨ft.1, ⟨?_, b1.1, ?_⟩, g60⟩
    · simp (decide := true) only [ccRo, ccK, KCt G ht]
    · rw [ccRo (by decide), ccl, ft.2.1]; exact b1.2
theorem r_idx (G : AC h C) (F : FC h C) (I : IX h C X Y o n c) (hp : pl < n) (hlm : lm < 2147483648) (q1 : X o f_Task_tags pl = 2 → 0 ≤ X o f_Task_words pl → X o f_Task_words pl ≤ lm → Q (Sum.inl (some (vI (X o f_Task_words pl)))) (cc h C X Y)) (q0 : ¬ (X o f_Task_tags pl = 2 ∧ 0 ≤ X o f_Task_words pl ∧ X o f_Task_words pl ≤ lm) → Q (Sum.inr (C + 33)) (cc h C (erX X 6) Y)) : wpB PGm ρ (d + 1) m_Machine_indexAt 0 [(0, vR (C + 32)), (1, vI (pl : Int)), (2, vI lm)] [] (cc h C X Y) Q := by
  have ht := I.2.2.1
  have e1 : Y 32 f_Machine_t 0 = C + o := I.2.2.2.1.1
  have hn := I.2.2.2.2.1
  have r2 : hR (cc h C X Y) f_Machine_t (C + 32) = C + o := by rw [ccR (by decide)]; exact e1
  have r3 : hR (cc h C X Y) f_Machine_signal (C + 32) = C + 33 := by rw [ccRo (by decide)]; exact F.2.1.1
  have r9 : hA (cc h C X Y) (hR (cc h C X Y) f_Task_words (C + o)) pl = X o f_Task_words pl := by rw [ccRo (by decide), ccAt G ht (by decide)]
  have r8 : hA (cc h C X Y) (hR (cc h C X Y) f_Task_tags (C + o)) pl = X o f_Task_tags pl := by rw [ccRo (by decide), ccAt G ht (by decide)]
  have ft := F.t ht
  unfold FCt at ft
  have b1 : 0 ≤ (pl : Int) ∧ (pl : Int) < ((2001 : Nat) : Int) := by omega
  have bk : hK (cc h C X Y) (hR (cc h C X Y) f_Task_words (C + o)) ∈ [2] ∧ 0 ≤ (pl : Int) ∧ (pl : Int) < (hl (cc h C X Y) (hR (cc h C X Y) f_Task_words (C + o)) : Int) := by
    refine ⟨?_, b1.1, ?_⟩
    · simp (decide := true) only [ccRo, ccK, KCt G ht]
    · rw [ccRo (by decide), ccl, ft.2.1]; exact b1.2
  have bad : ¬ (X o f_Task_tags pl = 2 ∧ 0 ≤ X o f_Task_words pl ∧ X o f_Task_words pl ≤ lm) → wpB PGm ρ (d + 1) m_Machine_indexAt 42 [(0, vR (C + 32))] [] (cc h C X Y) Q := fun w => by
    refine b_Machine_indexAt_42 ⟨F.1.1, ?_⟩
    rw [r3]
    exact ⟨F.1.2.1, r_sigQ G F (q0 w)⟩
  have k1 : ∀ {u v : Int}, ((if u < v then (-1 : Int) else if u = v then 0 else 1) < 0) → u < v := fun {u v} z => by
    by_cases c : u < v
    · exact c
    · rw [if_neg c] at z
      split at z <;> omega
  have k2 : ∀ {u v : Int}, (0 ≤ (if u < v then (-1 : Int) else if u = v then 0 else 1)) → v ≤ u := fun {u v} z => by
    by_cases c : u < v
    · rw [if_pos c] at z; omega
    · omega
  have k3 : ∀ {u v : Int}, ((if u < v then (-1 : Int) else if u = v then 0 else 1) ≤ 0) → u ≤ v := fun {u v} z => by
    by_cases c : u < v
    · omega
    · rw [if_neg c] at z
      by_cases c2 : u = v
      · omega
      · rw [if_neg c2] at z; omega
  have k4 : ∀ {u v : Int}, (0 < (if u < v then (-1 : Int) else if u = v then 0 else 1)) → v < u := fun {u v} z => by
    by_cases c : u < v
    · rw [if_pos c] at z; omega
    · rw [if_neg c] at z
      by_cases c2 : u = v
      · rw [if_pos c2] at z; omega
      · omega
  refine b_Machine_indexAt_0 ⟨F.1.1, ?_⟩
  rw [r2, Int.toNat_natCast, r8, r9]
  refine ⟨ft.1, ⟨?_, b1.1, ?_⟩, fun z => bad (fun w => z w.1), fun z => ⟨bk, fun z1 => bad (fun w => by have := k1 z1; omega), fun z1 => ⟨bk, fun z2 => ⟨bk, ?_⟩, fun z2 => bad (fun w => by have := k4 z2; omega)⟩⟩⟩
  · simp (decide := true) only [ccRo, ccK, KCt G ht]
  · rw [ccRo (by decide), ccl, ft.2.2.1]; exact b1.2
  · have y1 := k2 z1
    have y2 := k3 z2
    have g1 := q1 z y1 y2
    rw [w32_of (by omega) (by omega)]
    exact g1
theorem VR.two (h1 : -9223372036854775808 ≤ v) (h2 : v < 9223372036854775808) : VR Γ S N 2 v 2 v := ⟨rfl, rfl, Or.inr (Or.inr (Or.inl ⟨rfl, h1, h2⟩))⟩
theorem pf_size (P : PFX Γ h C ho X Y S N t o n c r s a κ mn m0 rr) (hκ : κ = 0) (ea : X 53 f_Found_action 0 = 9) (Z : RWQ S s k mn sz E rr κ ty) (q : PFR ρ g N M Γ h C ho X Y S s Q) : wpB PGm ρ (d + 20) m_Machine_row 81 [(0, vR (C + 32)), (1, vI (m0 : Int)), (2, vR l2), (3, vI l3)] [vI (sz : Int)] (cc h C X Y) (pK Q) := by
  have G := P.1.1.1
  have F := P.1.1.2
  have I := P.2.1.ix
  have hn := I.2.2.2.2.1
  have hm : m0 < n := P.2.2.1.2.2.2.2.1
  have zz : sz ≤ 269632 := Z.2.2.2.2.2.2.2.1
  have r0 : hR (cc h C X Y) f_Machine_found (C + 32) = C + 53 := by rw [ccRo (by decide)]; exact F.2.1.2.2.2.2.2.1
  have r1 : hI (cc h C X Y) f_Found_action (C + 53) = 9 := by rw [ccI (by decide)]; exact ea
  have V : VR Γ S N 2 (sz : Int) 2 (sz : Int) := VR.two (by omega) (by omega)
  have g1 := (q.pk) none _ h _ Y (TAC.size (ρ := ρ) (g := g) (N := N) (M := M) Z hκ P.2.2.1) (P.ans V)
  refine b_Machine_row_81 (d := d + 19) ⟨F.1.1, ?_⟩
  rw [r0, r1]
  refine ⟨F.1.2.2.2.2.2.2.1, fun _ => ?_, fun z => absurd rfl z⟩
  exact r_answer (d := d + 18) G F I.2.2.1 I.2.2.2.1.1 I.2.2.2.1.2.2 (n := m0) (by omega) ⟨I.2.2.2.2.2.1, I.2.2.2.2.2.2⟩ (by decide) g1
end
