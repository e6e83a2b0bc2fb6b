/-! perform: rows and texts, the front -/
set_option maxRecDepth 20000
section
variable {ρ : Nat → Nat} {d : Nat} {Q : QT} {Γ Γ' : GH} {h h' h1 h2 H : ah} {C ho k i j N M a z s r f o c t n mn m0 rr sk rk l cd nv np E va ma mk ck jm vs fm po fn pp tn wi sz : Nat} {g : HG} {v w hd ty κ nm x y x1 nw ac p u ar : Int} {S S' S1 : SS} {X X' X1 X2 : X3} {Y Y' Y1 Y2 : Y3} {b : Bool} {tg wd : Nat → Int} {L : List Nat} {fi ca m q : Int} {ws : List (List Int)} {l1 : List Int}
/-- the list that the site works on -/
theorem PFX.lst (P : PFX Γ h C ho X Y S N t o n c r s a κ mn m0 rr) (gt : S f_Md_pileType rr = 6) (gv : S f_Md_pileValue rr = (k : Int)) : (k : Int) < S f_Md_things 0 ∧ k < 8000 ∧ S f_Md_thingKind k = 6 ∧ X o f_Task_words m0 = (k : Int) ∧ X o f_Task_tags m0 = 6 ∧ hK h (hB h (C + 51) k) = k_Row ∧ hB h (C + 51) k ≠ 0 ∧ hB h (C + 51) k < hz h := by
  obtain ⟨tn, sn, sm, d1, d2, d5, d6', d3, d4, d6, d7, d8, U, m1, m2, m3, m4⟩ := P.1.shp
  have V0 := P.pl (i := 0) (by omega)
  rw [Nat.add_zero, Nat.add_zero, gt, gv] at V0
  have kk : (k : Int) < S f_Md_things 0 ∧ S f_Md_thingKind k = 6 := by
    rcases V0.2.2 with z | z | z | z | z | z <;> first | omega | skip
    obtain ⟨z1, z2, z3, z4, z5⟩ := z
    rw [Int.toNat_natCast] at z5
    exact ⟨z4, z5⟩
  have T := (d7 k (by omega)).p.1
  have wk : X o f_Task_words m0 = (k : Int) := by rw [V0.2.1]; unfold cw; rw [if_neg (by decide)]
  exact ⟨kk.1, by omega, kk.2, wk, V0.1, by rw [T.2.1.1, kk.2]; rfl, T.2.1.2.2, T.2.1.2.1⟩
theorem r_rowL (P : PFX Γ h C ho X Y S N t o n c r s a κ mn m0 rr) (gt : S f_Md_pileType rr = 6) (gv : S f_Md_pileValue rr = (k : Int)) (ec : S f_Md_thingCount k = (sz : Int)) (q : wpB PGm ρ (d + 20) m_Machine_row 81 [(0, vR (C + 32)), (1, vI (m0 : Int)), (2, vR (hB h (C + 51) k)), (3, vI 0)] [vI (sz : Int)] (cc h C X Y) Q) : wpB PGm ρ (d + 20) m_Machine_row 0 [(0, vR (C + 32)), (1, vI (m0 : Int))] [] (cc h C X Y) Q := by
  have HC := P.1
  have G := HC.1.1
  have F := HC.1.2
  have I := P.2.1.ix
  have ht := I.2.2.1
  have e1 : Y 32 f_Machine_t 0 = C + o := I.2.2.2.1.1
  have hn := I.2.2.2.2.1
  have hm : m0 < n := P.2.2.1.2.2.2.2.1
  obtain ⟨tn, sn, sm', d1, d2, d5, d6', d3, d4, d6, d7, d8, U, m1, m2, m3, m4⟩ := HC.shp
  obtain ⟨o1, o2, o3, o4, o5, o6, o7, o8⟩ := P.lst gt gv
  have esz : hI h f_Thing_size (hB h (C + 51) k) = (sz : Int) := by rw [(d7 k (by omega)).p.2.1.1]; exact ec
  have r2 : hR (cc h C X Y) f_Machine_t (C + 32) = C + o := by rw [ccR (by decide)]; exact e1
  have r3 : hR (cc h C X Y) f_Machine_heap (C + 32) = C + 50 := by rw [ccRo (by decide)]; exact F.2.1.2.2.2.2.1
  have r4 : hR (cc h C X Y) f_Heap_things (C + 50) = C + 51 := by rw [ccRo (by decide)]; exact F.2.2.1.2.1
  have r9 : hA (cc h C X Y) (hR (cc h C X Y) f_Task_words (C + o)) m0 = (k : Int) := by rw [ccRo (by decide), ccAt G ht (by decide)]; exact o4
  have r8 : hA (cc h C X Y) (hR (cc h C X Y) f_Task_tags (C + o)) m0 = 6 := by rw [ccRo (by decide), ccAt G ht (by decide)]; exact o5
  have bl : hB (cc h C X Y) (C + 51) k = hB h (C + 51) k := by
    have := ccBo (X := X) (Y := Y) (i := k) (f := f_Heap_things) (b := C + 50) G (by decide) (by have := G.1; omega)
    rw [F.2.2.1.2.1] at this; exact this
  have lk : lok h (C + 51) := F.2.2.2.1.1
  have ft := F.t ht
  unfold FCt at ft
  have b1 : 0 ≤ (m0 : Int) ∧ (m0 : Int) < ((2001 : Nat) : Int) := by omega
  have b4 : 0 ≤ (k : Int) ∧ (k : Int) < (tn : Int) := by omega
  have x1 : hI (cc h C X Y) f_Thing_size (hB h (C + 51) k) = (sz : Int) := by rw [ccIo (by decide)]; exact esz
  have dd : 10 ≤ d + 20 := by omega
  have w3 : w32 (k : Int) = (k : Int) := w32_of (by omega) (by omega)
  refine b_Machine_row_0 dd ⟨F.1.1, ?_⟩
  rw [r2, r3, r4, Int.toNat_natCast, r9, r8, w3, Int.toNat_natCast, bl]
  refine ⟨ft.1, ⟨?_, b1.1, ?_⟩, fun z => absurd rfl z, fun _ => ⟨F.1.2.2.2.2.2.1, ⟨?_, b1.1, ?_⟩, lk.1, ⟨by rw [cclok]; exact lk, b4.1, by rw [ccl, d3]; exact b4.2⟩, Or.inr (by rw [ccK, o6]; decide), b_Machine_row_41 ⟨fun _ => b_Machine_row_60 ⟨fun _ => ⟨by rw [ccK, o6]; decide, ?_⟩, fun z => absurd z o7⟩, fun z => absurd z o7⟩⟩⟩
  · simp (decide := true) only [ccRo, ccK, KCt G ht]
  · rw [ccRo (by decide), ccl, ft.2.2.1]; exact b1.2
  · simp (decide := true) only [ccRo, ccK, KCt G ht]
  · rw [ccRo (by decide), ccl, ft.2.1]; exact b1.2
  · rw [x1]; exact q
theorem PFX.rwq (P : PFX Γ h C ho X Y S N t o n c r s a κ mn m0 rr) (f3 : S f_Md_foundLinker 0 = 3) (gv : S f_Md_pileValue rr = (k : Int)) (gt : (S f_Md_pileType rr = 6 ∧ k < 8000 ∧ S f_Md_thingCount k = (sz : Int)) ∨ (S f_Md_pileType rr = 3 ∧ k < 16000 ∧ S f_Md_textLength k = (sz : Int))) (hz : sz ≤ 269632) : RWQ S s k mn sz (esK κ mn) rr κ (S f_Md_pileType rr) := by
  have er : rr = 2100 * t + m0 := P.2.2.1.2.2.2.1
  have ht1 := P.2.2.1.2.1
  have hn2 := P.2.2.1.2.2.2.2.2.1
  have hm := P.2.2.2.2.1
  exact ⟨P.2.2.2.2.2.1.1, P.2.2.2.2.2.1.2.1, P.2.2.2.2.2.1.2.2.1, f3, P.2.2.2.2.2.2.1.1, by rw [P.2.2.2.2.2.2.1.2]; exact gv, gt, hz, P.2.2.2.2.2.1.2.2.2.1, P.2.2.1.2.2.1, by omega⟩
end
