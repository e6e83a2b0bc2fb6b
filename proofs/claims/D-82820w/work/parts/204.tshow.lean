/-! T shows a value -/
set_option maxRecDepth 20000
def ou1 (S : SS) (p : Nat) (bs : List Int) : SS := fun f i => if f = f_Md_output ∧ p ≤ i ∧ i < p + bs.length then bs.getD (i - p) 0 else S f i
def ouS (S : SS) (w : Nat) (bs : List Int) : SS := u2 (u2 (ou1 S w bs) f_Md_output (w + bs.length) 10) f_Md_shown 0 ((w + (bs.length + 1) : Nat) : Int)
/-- what is spelt for it -/
def spq (S : SS) (ty : Int) (bs : List Int) : SS := if ty = 3 then u2 S f_Md_spelling 0 0 else spS (u2 S f_Md_spelling 0 0) 0 bs
section
variable {ρ : Nat → Nat} {P : ah → Nat → Prop} {d : Nat} {Q : QT} {Γ Γ' : GH} {h h0 h1 h' : ah} {C ho T : Nat} {X X' X1 X2 : X3} {Y Y' : Y3} {S S' S1 S2 : SS} {N t o n c r f i j k m z s n' pu po tn w sn sm l1 s0 nn p0 kk kx M p x : Nat} {ty v y op a b : Int} {L : List Nat} {ws : List (List Int)} {l bs cs : List Int} {g : HG}
theorem ou1_o (hf : f ≠ f_Md_output) : ou1 S p bs f i = S f i := if_neg fun c => hf c.1
theorem ou1_nil : ou1 S p [] = S := by
  funext f i
  exact if_neg (fun c => by have := c.2.2; simp at this; omega)
theorem ou1_u (hj : j < bs.length) : u2 (ou1 S p (bs.take j)) f_Md_output (p + j) (bs.getD j 0) = ou1 S p (bs.take (j + 1)) := by
  funext f i
  have l1 : (bs.take j).length = j := by rw [List.length_take]; omega
  have l2 : (bs.take (j + 1)).length = j + 1 := by rw [List.length_take]; omega
  have g : ∀ m x, x < m → (bs.take m).getD x 0 = bs.getD x 0 := fun m x hx => by
    simp only [List.getD, List.getElem?_take, if_pos hx]
  rw [u2_e]
  unfold ou1
  rw [l1, l2]
  by_cases e : f = f_Md_output ∧ i = p + j
  · rw [if_pos e, if_pos ⟨e.1, by omega, by omega⟩, g _ _ (by omega)]
    congr 1; omega
  · rw [if_neg e]
    by_cases e2 : f = f_Md_output ∧ p ≤ i ∧ i < p + j
    · rw [if_pos e2, if_pos ⟨e2.1, e2.2.1, by omega⟩, g _ _ (by omega), g _ _ (by omega)]
    · rw [if_neg e2, if_neg (fun c => e2 ⟨c.1, c.2.1, by
        have : ¬ i = p + j := fun q => e ⟨c.1, q⟩
        omega⟩)]
theorem spq_o : ∀ f i, [f_Md_spelt, f_Md_spelling].elem f = false → spq S ty bs f i = S f i := fun f i hf => by
  unfold spq
  split
  · exact u2_f (by rintro rfl; exact absurd hf (by decide))
  · exact spk_o f i hf
theorem s_shows (K : PTH ρ g N M h0 T) (gn : ∀ i, i < N → NMW (g.2 0 i)) (B : (ty = 3 ∧ ∃ m : Nat, v = (m : Int) ∧ TTX S m bs) ∨ (ty ≠ 3 ∧ TVA g N S ty v bs ∧ bs.length ≤ 100)) (ew : S f_Md_shown 0 = (w : Int)) (hw : w ≤ 65536) (hb : bs.length ≤ 200000) (rg : ∀ i, i < bs.length → -128 ≤ bs.getD i 0 ∧ bs.getD i 0 ≤ 127) (q1 : w + (bs.length + 1) ≤ 65536 → Q (Sum.inl none) (cn h0 T (ouS (spq S ty bs) w bs))) (q0 : ¬ w + (bs.length + 1) ≤ 65536 → Q (Sum.inr (hR h0 f_Md_halt T)) (cn h0 T (erS (spq S ty bs) 99))) : wpB PGm ρ (d + 20) m_Md_shows 0 [(0, vR T), (1, vI ty), (2, vL v)] [] (cn h0 T S) Q := by
  have O := K.1.1
  have kT := O.1
  have G := O.2.1
  have kH : hK h0 (hR h0 f_Md_halt T) ≠ 0 := by rw [O.2.2]; decide
  have e0 := spq_o (S := S) (ty := ty) (bs := bs)
  -- whether it is a text, and which
  have fl : ∃ (b x : Nat), (b = 0 ∧ ty ≠ 3 ∨ b = 1 ∧ ty = 3 ∧ v = (x : Int)) ∧ (b = 1 → TTX S x bs) ∧ (b = 0 → x = 0) := by
    rcases B with ⟨h1, m, h2, h3⟩ | ⟨h1, -⟩
    · exact ⟨1, m, Or.inr ⟨rfl, h1, h2⟩, fun _ => h3, fun z => absurd z (by decide)⟩
    · exact ⟨0, 0, Or.inl ⟨rfl, h1⟩, fun z => absurd z (by decide), fun _ => rfl⟩
  obtain ⟨bb, x, hfl, tx, x0⟩ := fl
  have x16 : x < 16000 := by
    rcases hfl with ⟨h1, -⟩ | ⟨h1, -⟩
    · rw [x0 h1]; decide
    · obtain ⟨-, h, -⟩ := tx h1; exact h
  have cx : 0 ≤ (x : Int) ∧ (x : Int) < ((16000 : Nat) : Int) := by omega
  -- the loop
  have lp : w + (bs.length + 1) ≤ 65536 → ∀ mm j, j + mm = bs.length → wpB PGm ρ (d + 20) m_Md_shows 88 [(0, vR T), (4, vI (bb : Int)), (5, vI (x : Int)), (6, vI (bs.length : Int)), (7, vI (j : Int))] [] (cn h0 T (ou1 (spq S ty bs) w (bs.take j))) Q := fun rm mm => by
    induction mm with
    | zero =>
      intro j hj
      have e : j = bs.length := by omega
      subst e
      rw [List.take_length]
      have g := q1 rm
      have es : ou1 (spq S ty bs) w bs f_Md_shown 0 = (w : Int) := by rw [ou1_o (by decide), e0 _ _ (by decide)]; exact ew
      have b1 : 0 ≤ ((w + bs.length : Nat) : Int) ∧ ((w + bs.length : Nat) : Int) < ((65536 : Nat) : Int) := by omega
      have y1 : w + bs.length ≤ 2000000000 := by omega
      have y2 : bs.length ≤ 2000000000 := by omega
      have y3 : w + (bs.length + 1) ≤ 2000000000 := by omega
      have w1 : w32 ((w : Int) + (bs.length : Int)) = ((w + bs.length : Nat) : Int) := w32_aa y1
      have w2 : w32 ((bs.length : Int) + 1) = ((bs.length + 1 : Nat) : Int) := w32_s y2
      have w3 : w32 ((w : Int) + ((bs.length + 1 : Nat) : Int)) = ((w + (bs.length + 1) : Nat) : Int) := w32_aa y3
      unfold ouS at g
      clear q1 q0
      refine b_Md_shows_88 ⟨fun _ => ⟨kT, ?_⟩, fun z => absurd z (Int.lt_irrefl _)⟩
      simp (decide := true) only [cnI, cnR, cnK, cnl, cn_sI, cn_sA' G, KN G, LN G, es, u2_f, w1, w2, w3, Int.toNat_natCast, true_and, and_true, or_false, false_and]
      exact ⟨b1, g⟩
    | succ mm ih =>
      intro j hj
      have hj' : j < bs.length := by omega
      have nx := ih (j + 1) (by omega)
      have nlt : ¬ (bs.length : Int) ≤ (j : Int) := by omega
      have es : ou1 (spq S ty bs) w (bs.take j) f_Md_shown 0 = (w : Int) := by rw [ou1_o (by decide), e0 _ _ (by decide)]; exact ew
      have rj := rg j hj'
      have u := ou1_u (S := spq S ty bs) (p := w) hj'
      have b1 : 0 ≤ ((w + j : Nat) : Int) ∧ ((w + j : Nat) : Int) < ((65536 : Nat) : Int) := by omega
      have y1 : w + j ≤ 2000000000 := by omega
      have y2 : j ≤ 2000000000 := by omega
      have kO : hK h0 (hR h0 f_Md_output T) = 3 := by simp only [KN G]
      have lO : hl h0 (hR h0 f_Md_output T) = 65536 := by simp only [LN G]
      have go : wpB PGm ρ (d + 20) m_Md_shows 136 [(0, vR T), (4, vI (bb : Int)), (5, vI (x : Int)), (6, vI (bs.length : Int)), (7, vI (j : Int))] [vI (bs.getD j 0), vI ((w + j : Nat) : Int), vR (hR h0 f_Md_output T)] (cn h0 T (ou1 (spq S ty bs) w (bs.take j))) Q := by
        refine b_Md_shows_136 ⟨⟨Or.inl ⟨kO, rj⟩, b1.1, by rw [cnl, lO]; exact b1.2⟩, ?_⟩
        rw [Int.toNat_natCast, cn_sA' G (by decide), u, w32_s y2]
        exact nx
      have z0 : (bb : Int) = 0 → ty ≠ 3 ∧ 0 ≤ (j : Int) ∧ (j : Int) < ((256 : Nat) : Int) := fun z => by
        have t3 : ty ≠ 3 := by
          rcases hfl with h | h
          · exact h.2
          · omega
        refine ⟨t3, ?_⟩
        rcases B with ⟨h1, -⟩ | ⟨-, -, h2⟩
        · exact absurd h1 t3
        · omega
      have jz : j < 0 + bs.length := by omega
      have w1 : w32 ((w : Int) + (j : Int)) = ((w + j : Nat) : Int) := w32_aa y1
      refine b_Md_shows_88 ⟨fun z => absurd z nlt, fun _ => ⟨kT, fun z => ?_, fun z => ?_⟩⟩
      · obtain ⟨t3, b2⟩ := z0 z
        have es2 : ou1 (spq S ty bs) w (bs.take j) f_Md_spelt j = bs.getD j 0 := by
          rw [ou1_o (by decide)]
          unfold spq
          rw [if_neg t3]
          unfold spS
          rw [u2_f (by decide)]
          show (if f_Md_spelt = f_Md_spelt ∧ 0 ≤ j ∧ j < 0 + bs.length then bs.getD (j - 0) 0 else _) = _
          rw [if_pos ⟨rfl, Nat.zero_le _, jz⟩]; rfl
        clear ih nx u q1 q0 B hfl tx
        simp (decide := true) only [cnI, cnR, cnK, cnl, cnA' G, KN G, LN G, es, es2, w1, Int.toNat_natCast, true_and, and_true]
        exact ⟨b2, go⟩
      · have bz : bb = 1 := by
          rcases hfl with h | h
          · rw [h.1] at z; exact absurd rfl z
          · exact h.1
        obtain ⟨xa, x1, x2, x3, x4, x5⟩ := tx bz
        have f1 : ou1 (spq S ty bs) w (bs.take j) f_Md_textFrom x = (xa : Int) := by rw [ou1_o (by decide), e0 _ _ (by decide)]; exact x2
        have f2 : ou1 (spq S ty bs) w (bs.take j) f_Md_textSigns (xa + j) = bs.getD j 0 := by rw [ou1_o (by decide), e0 _ _ (by decide)]; exact x5 j hj'
        have b2 : 0 ≤ ((xa + j : Nat) : Int) ∧ ((xa + j : Nat) : Int) < ((269632 : Nat) : Int) := ⟨Int.natCast_nonneg _, Int.ofNat_lt.mpr (Nat.lt_of_lt_of_le (Nat.add_lt_add_left hj' xa) x4)⟩
        have y3 : xa + j ≤ 2000000000 := Nat.le_trans (Nat.add_le_add_left (Nat.le_of_lt hj') xa) (Nat.le_trans x4 (by decide))
        have w2 : w32 ((xa : Int) + (j : Int)) = ((xa + j : Nat) : Int) := w32_aa y3
        clear ih nx u q1 q0 B hfl tx
        simp (decide := true) only [cnI, cnR, cnK, cnl, cnA' G, KN G, LN G, es, f1, f2, w1, w2, Int.toNat_natCast, true_and, and_true]
        exact ⟨cx, b2, go⟩
  have g60 : wpB PGm ρ (d + 20) m_Md_shows 60 [(0, vR T), (4, vI (bb : Int)), (5, vI (x : Int))] [vI (bs.length : Int)] (cn h0 T (spq S ty bs)) Q := by
    have y1 : w + bs.length ≤ 2000000000 := by omega
    have rmI : (w + (bs.length + 1) ≤ 65536) ↔ ((w + bs.length + 1 : Nat) : Int) ≤ 65536 := by omega
    have nrm : ¬ (w + (bs.length + 1) ≤ 65536) ↔ 65536 < ((w + bs.length + 1 : Nat) : Int) := by omega
    have es : hI (cn h0 T (spq S ty bs)) f_Md_shown T = (w : Int) := by rw [cnI (by decide), e0 _ _ (by decide)]; exact ew
    have r1 : w + (bs.length + 1) ≤ 65536 → wpB PGm ρ (d + 20) m_Md_shows 88 [(0, vR T), (4, vI (bb : Int)), (5, vI (x : Int)), (6, vI (bs.length : Int)), (7, vI 0)] [] (cn h0 T (spq S ty bs)) Q := fun z => by
      have g := lp z bs.length 0 (Nat.zero_add _)
      rw [List.take_zero, ou1_nil] at g; exact g
    refine b_Md_shows_60 ⟨kT, ?_⟩
    rw [es, w32_aa y1, w32_s y1]
    refine ⟨fun z => b_Md_shows_82 ⟨kT, s_room O (fun z => absurd rfl z) (fun _ => ⟨kH, q0 (nrm.mpr z)⟩)⟩, fun z => b_Md_shows_82 ⟨kT, s_room O (fun _ => r1 (rmI.mpr z)) (fun z => absurd z (by decide))⟩⟩
  have g41 : wpB PGm ρ (d + 20) m_Md_shows 41 [(0, vR T), (4, vI (bb : Int)), (5, vI (x : Int))] [] (cn h0 T (spq S ty bs)) Q := by
    refine b_Md_shows_41 ⟨fun z => ⟨kT, ?_⟩, fun z => ⟨kT, ?_⟩⟩
    · have t3 : ty ≠ 3 := by
        rcases hfl with h | h
        · exact h.2
        · omega
      have : hI (cn h0 T (spq S ty bs)) f_Md_spelling T = (bs.length : Int) := by
        rw [cnI (by decide)]
        unfold spq
        rw [if_neg t3]
        unfold spS
        rw [u2_s, Nat.zero_add]
      rw [this]; exact g60
    · have bz : bb = 1 := by
        rcases hfl with h | h
        · rw [h.1] at z; exact absurd rfl z
        · exact h.1
      obtain ⟨xa, x1, x2, x3, x4, x5⟩ := tx bz
      have f1 : spq S ty bs f_Md_textLength x = (bs.length : Int) := by rw [e0 _ _ (by decide)]; exact x3
      clear lp q1 q0 B hfl tx
      simp (decide := true) only [cnI, cnR, cnK, cnl, cnA' G, KN G, LN G, f1, Int.toNat_natCast, true_and, and_true]
      exact ⟨cx, g60⟩
  have g23 : wpB PGm ρ (d + 20) m_Md_shows 23 [(0, vR T), (1, vI ty), (2, vL v), (4, vI (bb : Int))] [vI (x : Int)] (cn h0 T S) Q := by
    refine b_Md_shows_23 ⟨kT, ?_⟩
    show _ ∧ _
    rw [cn_sI (by decide)]
    refine ⟨fun z => ?_, fun z => ?_⟩
    · have t3 : ty = 3 := by
        rcases hfl with h | h
        · rw [h.1] at z; exact absurd rfl z
        · exact h.2.1
      have : spq S ty bs = u2 S f_Md_spelling 0 0 := by unfold spq; rw [if_pos t3]
      rw [this] at g41; exact g41
    · rcases B with ⟨h1, -⟩ | ⟨h1, h2, h3⟩
      · rcases hfl with h | h
        · exact absurd h1 h.2
        · omega
      · have : spq S ty bs = spS (u2 S f_Md_spelling 0 0) 0 bs := by unfold spq; rw [if_neg h1]
        rw [this] at g41
        refine s_printA (d := d + 18) (p := 0) K.1 K.2 gn ?_ u2_s (by omega) (by omega) g41
        rcases h2 with h2 | ⟨k, c, h4, h5, h6, h7, h8⟩ | h2
        · exact Or.inl h2
        · exact Or.inr (Or.inl ⟨k, c, h4, h5, h6, by rw [u2_f (by decide)]; exact h7, h8⟩)
        · exact Or.inr (Or.inr h2)
  rcases hfl with ⟨h1, h2⟩ | ⟨h1, h2, h3⟩
  · have e2 := x0 h1
    rw [h1, e2] at g23
    exact b_Md_shows_0 ⟨fun _ => b_Md_shows_10 ⟨fun _ => g23, fun z => absurd rfl z⟩, fun z => absurd z h2⟩
  · rw [h1] at g23
    have e : w32 v = (x : Int) := by rw [h3]; exact w32_of (by omega) (by omega)
    refine b_Md_shows_0 ⟨fun z => absurd h2 z, fun _ => b_Md_shows_10 ⟨fun z => absurd z (by decide), fun _ => ?_⟩⟩
    rw [e]; exact g23
end
