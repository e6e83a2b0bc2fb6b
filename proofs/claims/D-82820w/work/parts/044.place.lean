/-! T's row of words -/
set_option maxRecDepth 20000
def off (ws : List (List Int)) : Nat → Nat
  | 0 => 1
  | j + 1 => off ws j + (ws.getD j []).length + 1
def SPL (S : List Int) (ws : List (List Int)) : Prop := S.length = off ws ws.length ∧ ∀ j, j < ws.length → (∀ i, i < (ws.getD j []).length → S.getD (off ws j + i) 0 = (ws.getD j []).getD i 0 ∧ (ws.getD j []).getD i 0 ≠ 32) ∧ S.getD (off ws j + (ws.getD j []).length) 0 = 32
theorem off_mono {ws : List (List Int)} : ∀ {m n : Nat}, m ≤ n → off ws m + (n - m) ≤ off ws n
  | m, 0, h => by rw [show m = 0 by omega]; exact Nat.le_refl _
  | m, n + 1, h => by
    by_cases e : m = n + 1
    · subst e; omega
    · have := off_mono (ws := ws) (m := m) (n := n) (by omega)
      simp only [off]; omega
section
variable {ρ : Nat → Nat} {d : Nat} {h : ah} {F : Int → ah → Prop} {G : ah → Prop} {E : Nat → ah → Prop} {Q : QT} {C T r : Nat} {tp : List Int} {host : Int} {t : TKN} {W : List (List Int)} {S : List Int}
theorem t_place (H : TK h T tp host t) (hs : STR h r S) (hw : SPL S W) (hd : 10 ≤ d) (q1 : t.2.1 = 1 → F (plc W (tkB tp t)) h) (q0 : ¬ t.2.1 = 1 → F (-1) h) : wpB PGm ρ d m_Md_place 0 [(0, vR T), (1, vR r)] [] h (cI F E) := by
  obtain ⟨⟨a1, a2, a3, a4, a5, a6, -⟩, H2, H3, ⟨k2, k3, k1, -⟩, H5, H6, H7, -⟩ := H
  obtain ⟨s1, s2, s3, s4⟩ := hs
  obtain ⟨w1, w2⟩ := hw
  have k1 := TKC_1 k1
  have htp := H7.1
  have lp : ∀ m j, W.length - j < m → j ≤ W.length → (t.2.1 = 1 → ∀ i, i < j → W.getD i [] ≠ tkB tp t) → wpB PGm ρ d m_Md_place 4 [(0, vR T), (1, vR r), (2, vI (j : Int)), (3, vI (off W j : Int))] [] h (cI F E) := by
    intro m
    induction m with
    | zero => intro j hm; omega
    | succ m ih =>
      intro j hm hj no
      have om := off_mono (ws := W) hj
      have om0 := off_mono (ws := W) (m := 0) (n := j) (Nat.zero_le _)
      refine b_Md_place_4 hd ⟨s1, s1, fun z => ?_, fun z => ?_⟩
      · have : j = W.length := by omega
        subst this
        by_cases c : t.2.1 = 1
        · have := q1 c
          rw [plc_no (no c)] at this
          exact this
        · exact q0 c
      · have hj2 : j < W.length := by
          by_cases c : j = W.length
          · rw [c] at z; omega
          · omega
        obtain ⟨b1, b2⟩ := w2 j hj2
        have om2 := off_mono (ws := W) (m := j + 1) (n := W.length) (by omega)
        simp only [off] at om2
        have nx : ¬ (t.2.1 = 1 ∧ W.getD j [] = tkB tp t) → wpB PGm ρ d m_Md_place 114 [(0, vR T), (1, vR r), (2, vI (j : Int)), (4, vI ((off W j + (W.getD j []).length : Nat) : Int)), (5, vI 0)] [] h (cI F E) := fun ne => by
          refine b_Md_place_114 ⟨fun _ => ?_, fun z => absurd rfl z⟩
          rw [w32_s (by omega), w32_s (by omega)]
          exact ih (j + 1) (by omega) (by omega) (fun c i hi => by
            by_cases e : i = j
            · rw [e]; exact fun x => ne ⟨c, x⟩
            · exact no c i (by omega))
        have scan : ∀ m i, (W.getD j []).length - i < m → i ≤ (W.getD j []).length → wpB PGm ρ d m_Md_place 15 [(0, vR T), (1, vR r), (2, vI (j : Int)), (3, vI (off W j : Int)), (4, vI ((off W j + i : Nat) : Int))] [] h (cI F E) := by
          intro m
          induction m with
          | zero => intro i hm; omega
          | succ m ih2 =>
            intro i hm2 hi
            have g1 : ((off W j + i : Nat) : Int) < (hl h r : Int) := by omega
            have p1 : i < (W.getD j []).length → w32 (((off W j + i : Nat) : Int) + 1) = ((off W j + (i + 1) : Nat) : Int) := fun c => w32_s (by omega)
            have p2 : w32 (((off W j + i : Nat) : Int) - (off W j : Int)) = ((i : Nat) : Int) := by rw [w32_of (by omega) (by omega)]; omega
            refine b_Md_place_15 hd ⟨s1, ⟨s1, by clear p1 p2; omega, g1⟩, fun z => ?_, fun z => ?_⟩
            · have ei : i = (W.getD j []).length := by
                clear p1 p2
                by_cases c : i < (W.getD j []).length
                · rw [Int.toNat_natCast, s4 _ (by omega), (b1 i c).1] at z
                  exact absurd z (b1 i c).2
                · omega
              subst ei
              have no2 : ∀ i, ¬ (t.2.1 = 1 ∧ W.getD j [] = tkB tp t) → wpB PGm ρ d m_Md_place 66 [(0, vR T), (1, vR r), (2, vI (j : Int)), (3, vI (off W j : Int)), (4, vI ((off W j + (W.getD j []).length : Nat) : Int)), (5, vI 0), (6, vI i)] [] h (cI F E) := fun i ne => b_Md_place_66 hd ⟨fun _ => nx ne, fun _ => ⟨fun _ => nx ne, fun z => absurd rfl z⟩⟩
              refine ⟨a1, fun y => b_Md_place_61 (no2 _ (fun c => y (k1.mpr c.1))), fun y => ?_⟩
              have k4 := k1.mp y
              have b3 := H6 (by rw [k4]; decide)
              have e1 : w32 (hI h f_Md_to T - hI h f_Md_from T) = ((t.2.2.1 - t.1 : Nat) : Int) := by rw [k2, k3 (by rw [k4]; decide)]; clear p1 p2; rw [w32_of (by omega) (by omega)]; omega
              rw [p2, e1]
              refine ⟨fun y => b_Md_place_61 (no2 _ (fun c => y ?_)), fun y => b_Md_place_61 ?_⟩
              · rw [c.2, tkB, byt_len]
              · have el : (W.getD j []).length = t.2.2.1 - t.1 := by clear p1 p2 e1; omega
                clear p1 p2 e1
                have cmp : ∀ m i, (W.getD j []).length - i < m → i ≤ (W.getD j []).length → (∀ l, l < i → (W.getD j []).getD l 0 = ch tp (t.1 + l)) → wpB PGm ρ d m_Md_place 66 [(0, vR T), (1, vR r), (2, vI (j : Int)), (3, vI (off W j : Int)), (4, vI ((off W j + (W.getD j []).length : Nat) : Int)), (5, vI 1), (6, vI ((off W j + i : Nat) : Int))] [] h (cI F E) := by
                  intro m
                  induction m with
                  | zero => intro i hm; omega
                  | succ m ih3 =>
                    intro i hm3 hi3 he
                    refine b_Md_place_66 hd ⟨fun z => b_Md_place_114 ⟨fun z => absurd z (by decide), fun _ => ?_⟩, fun z => ⟨fun z => absurd z (by decide), fun _ => ?_⟩⟩
                    · have e : W.getD j [] = tkB tp t := leq (by rw [tkB, byt_len]; exact el) (fun l hl => by rw [tkB, byt_get (by omega)]; exact he l (by omega))
                      have := q1 k4
                      rw [plc_at hj2 e (no k4)] at this
                      exact this
                    · have hi4 : i < (W.getD j []).length := by omega
                      have g2 : w32 (w32 (hI h f_Md_from T + ((off W j + i : Nat) : Int)) - (off W j : Int)) = ((t.1 + i : Nat) : Int) := by
                        rw [k2, w32_of (x := (t.1 : Int) + ((off W j + i : Nat) : Int)) (by omega) (by omega), w32_of (by omega) (by omega)]; omega
                      have g3 : (0 : Int) ≤ ((t.1 + i : Nat) : Int) ∧ ((t.1 + i : Nat) : Int) < (hl h (hR h f_Md_tape T) : Int) := by clear g2; omega
                      have g4 : (0 : Int) ≤ ((off W j + i : Nat) : Int) ∧ ((off W j + i : Nat) : Int) < (hl h r : Int) := by clear g2; omega
                      have g5 : w32 (((off W j + i : Nat) : Int) + 1) = ((off W j + (i + 1) : Nat) : Int) := w32_s (by clear g2; omega)
                      have e1 : hA h r (off W j + i) = (W.getD j []).getD i 0 := by rw [s4 _ (by clear g2 g5; omega)]; exact (b1 i hi4).1
                      have e2 : hA h (hR h f_Md_tape T) (t.1 + i) = ch tp (t.1 + i) := H2 _ (by clear g2 g5; omega)
                      rw [g2, Int.toNat_natCast, Int.toNat_natCast, e1, e2]
                      refine ⟨s1, ⟨s1, g4⟩, a1, ⟨by rw [a4]; decide, g3⟩, fun ne => b_Md_place_106 (no2 _ (fun c => ne ?_)), fun e => b_Md_place_106 ?_⟩
                      · rw [c.2, tkB, byt_get (by clear g2 g5; omega)]
                      · rw [g5]
                        exact ih3 (i + 1) (by clear g2 g5; omega) hi4 (fun l hl => by
                          by_cases c : l = i
                          · rw [c]; exact e
                          · exact he l (by omega))
                have := cmp _ 0 (Nat.lt_succ_self _) (Nat.zero_le _) (fun l hl => by omega)
                exact this
            · have hi5 : i < (W.getD j []).length := by
                clear p1 p2
                by_cases c : i = (W.getD j []).length
                · rw [Int.toNat_natCast, c, s4 _ (by omega)] at z
                  exact absurd b2 z
                · omega
              rw [p1 hi5]
              exact ih2 (i + 1) (by clear p1 p2; omega) hi5
        exact scan _ 0 (Nat.lt_succ_self _) (Nat.zero_le _)
  have := lp _ 0 (Nat.lt_succ_self _) (Nat.zero_le _) (fun _ j hj => by omega)
  exact b_Md_place_0 this
theorem t_oneOf (H : TK h T tp host t) (hs : STR h r S) (hw : SPL S W) (hd : 10 ≤ d) (q1 : t.2.1 = 1 → 0 ≤ plc W (tkB tp t) → F 1 h) (q0 : ¬ (t.2.1 = 1 ∧ 0 ≤ plc W (tkB tp t)) → F 0 h) : wpB PGm ρ (d + 1) m_Md_isOneOf 0 [(0, vR T), (1, vR r)] [] h (cI F E) := by
  have k1 := TKC_1 H.2.2.2.1.2.2.1
  exact b_Md_isOneOf_0 ⟨H.1.1, fun z => q0 fun c => z (k1.mpr c.1), fun z => t_place H hs hw hd (fun e => ⟨fun y => q0 fun c => by omega, fun y => q1 e y⟩) (fun e => absurd (k1.mp z) e)⟩
end
