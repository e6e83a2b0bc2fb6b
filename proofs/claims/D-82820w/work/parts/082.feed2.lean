/-! feed: both -/
set_option maxRecDepth 20000
def sg16 (a b : Int) (k : Nat) : Int := bg (if k < 8 then a else b) (56 - 8 * (k % 8))
def vb (c : Int) : Prop := c = 0 ∨ c = 10 ∨ (32 ≤ c ∧ c ≤ 126)
def okF (a b : Int) : Prop := ∀ k, k < 16 → vb (sg16 a b k)
def fdl (a b : Int) : Nat → List Int
  | 0 => []
  | k + 1 => if sg16 a b k = 0 then fdl a b k else fdl a b k ++ [sg16 a b k]
theorem fdl_len {a b : Int} : ∀ k, (fdl a b k).length ≤ k
  | 0 => Nat.le_refl _
  | k + 1 => by
    have := fdl_len (a := a) (b := b) k
    simp only [fdl]
    split
    · omega
    · simp; omega
theorem okTp_app {tp : List Int} {v : Int} (h : okTp tp) (hl : tp.length < 1024) (hv : vb v) (h0 : ¬ v = 0) : okTp (tp ++ [v]) := by
  refine ⟨by simp; omega, fun k hk => ?_⟩
  simp only [List.length_append, List.length_cons, List.length_nil] at hk
  rw [app_getD1 (by omega)]
  split
  · rcases hv with e | e | e
    · exact absurd e h0
    · exact Or.inl e
    · exact Or.inr e
  · exact h.2 k (by omega)
section
variable {ρ : Nat → Nat} {d : Nat} {h h' : ah} {F : Int → ah → Prop} {G : ah → Prop} {E : Nat → ah → Prop} {Q : QT} {C ho ho2 T k k2 : Nat} {tp : List Int} {a b v : Int}
theorem c_signAt {j : Nat} (hj : j < 16) (q : F (sg16 a b j) h) : wpB PGm ρ d m_LT_signAt 0 [(0, vL a), (2, vL b), (4, vI (j : Int))] [] h (cI F E) := by
  have q' := q
  unfold sg16 at q'
  refine b_LT_signAt_0 ⟨fun z => b_LT_signAt_12 ?_, fun z => b_LT_signAt_12 ?_⟩
  · rw [bg_c hj]; rw [if_neg (by omega)] at q'; exact q'
  · rw [bg_c hj]; rw [if_pos (by omega)] at q'; exact q'
theorem LTO.app (L : LTO h C ho ho2 tp) (hl : tp.length < 1024) (hv : vb v) (h0 : ¬ v = 0) : LTO (sI (sA h (C + 1) tp.length v) f_LT_taped C ((tp.length + 1 : Nat) : Int)) C ho ho2 (tp ++ [v]) := by
  obtain ⟨a1, a2, a3, a4, a5, a6, a7, a8, a9, b1⟩ := L
  refine ⟨a1, a2, a3, a4, a5, a6, ?_, okTp_app a8 hl hv h0, fun i hi => ?_, b1⟩
  · rw [I_I]; simp
  · simp only [List.length_append, List.length_cons, List.length_nil] at hi
    show hA (sA h (C + 1) tp.length v) (C + 1) i = _
    rw [g_hA_sA, app_getD1 (by omega)]
    by_cases c : i = tp.length
    · rw [if_pos ⟨rfl, c⟩, if_pos c]
    · rw [if_neg (fun x => c x.2), if_neg c]; exact a9 i (by omega)
def LFd : List Nat := [f_LT_taped]
def PFd (C : Nat) : List (Nat × Nat) := [(f_LT_tape + 1, C)]
theorem c_feed (L : LTO h C ho ho2 tp) (hl : tp.length + 16 ≤ 1024) (hd : 10 ≤ d)
    (q1 : okF a b → ∀ h', Fr LFd (PFd C) 0 0 h h' → LTO h' C ho ho2 (tp ++ fdl a b 16) → Q (Sum.inl (some (vI ((tp ++ fdl a b 16).length : Int)))) h')
    (q0 : ¬ okF a b → Q (Sum.inl (some (vI (-1)))) h) : wpB PGm ρ (d + 1) m_LT_feed 0 [(0, vR C), (1, vL a), (3, vL b)] [] h Q := by
  obtain ⟨a1, a2, a3, a4, a5, a6, a7, a8, a9, b1⟩ := id L
  have eT := a2.2.2.2.2.2.2.2.1
  have kT := a2.2.2.2.2.2.2.2.2.1
  have lT := a2.2.2.2.2.2.2.2.2.2.1
  have lp2 : okF a b → ∀ mm j h1, 16 - j < mm → j ≤ 16 → Fr LFd (PFd C) 0 0 h h1 → LTO h1 C ho ho2 (tp ++ fdl a b j) → wpB PGm ρ (d + 1) m_LT_feed 127 [(0, vR C), (1, vL a), (3, vL b), (6, vI (j : Int))] [] h1 Q := by
    intro ok mm
    induction mm with
    | zero => intro j h1 hm; omega
    | succ mm ih =>
      intro j h1 hm hj f1 L1
      obtain ⟨c1, c2, c3, c4, c5, c6, c7, c8, c9, -⟩ := id L1
      have jj : j ≤ 2000000000 := by omega
      refine b_LT_feed_127 ⟨fun z => ⟨c1, ?_⟩, fun z => c_signAt (by omega) ?_⟩
      · have e : j = 16 := by omega
        subst e
        rw [c7]
        exact q1 ok h1 f1 L1
      · have hj2 : j < 16 := by omega
        have ll := fdl_len (a := a) (b := b) j
        have le : (tp ++ fdl a b j).length < 1024 := by simp; omega
        have vbj := ok j hj2
        have v1 : -128 ≤ sg16 a b j ∧ sg16 a b j ≤ 127 := by unfold vb at vbj; omega
        have v2 : sg16 a b j < 128 := by omega
        rw [w32_s jj]
        refine ⟨fun n0 => ⟨c1, ?_⟩, fun e0 => ?_⟩
        · rw [w8_of v1.1 v2, c7, c2.2.2.2.2.2.2.2.1, Int.toNat_natCast]
          refine ⟨⟨Or.inl ⟨c2.2.2.2.2.2.2.2.2.1, v1⟩, by omega, by rw [c2.2.2.2.2.2.2.2.2.2.1]; omega⟩, ?_⟩
          intro h19
          rw [show hI h19 f_LT_taped C = ((tp ++ fdl a b j).length : Int) from c7, w32_s (by omega)]
          intro h20
          refine ih (j + 1) h20 (by omega) (by omega) ?_ ?_
          · exact Fr.wI (by decide) (Or.inl (by simp [LFd])) (Fr.wA (Or.inr (Or.inr (Or.inr ⟨f_LT_tape, C, by have := a2.2.2.2.2.2.2.1; omega, own_of rfl, eT, Or.inr (Or.inr (by simp [PFd]))⟩))) f1)
          · have := L1.app le vbj n0
            simp only [fdl]
            rw [if_neg n0, ← List.append_assoc]
            exact this
        · refine ih (j + 1) h1 (by omega) (by omega) f1 ?_
          simp only [fdl]
          rw [if_pos e0]
          exact L1
  have lp1 : ∀ mm j n, 16 - j < mm → j ≤ 16 → n ≤ j → (∀ i, i < j → vb (sg16 a b i)) → wpB PGm ρ (d + 1) m_LT_feed 6 [(0, vR C), (1, vL a), (3, vL b), (5, vI ((n : Nat) : Int)), (6, vI (j : Int))] [] h Q := by
    intro mm
    induction mm with
    | zero => intro j n hm; omega
    | succ mm ih =>
      intro j n hm hj hn ok
      have jj : j ≤ 2000000000 := by omega
      have nn : n ≤ 2000000000 := by omega
      refine b_LT_feed_6 ⟨fun z => ⟨a1, ?_⟩, fun z => c_signAt (by omega) ?_⟩
      · have e : j = 16 := by omega
        subst e
        rw [a7, w32_n (by omega)]
        refine ⟨fun _ => b_LT_feed_85 (by omega) ?_, fun x => by omega⟩
        rw [a7, eT, lT, kT, w32_n (by omega)]
        refine ⟨a1, by decide, fun _ => ?_, fun x => by omega⟩
        exact lp2 (fun i hi => ok i hi) _ 0 h (Nat.lt_succ_self _) (Nat.zero_le _) Fr.r0 (by simp only [fdl, List.append_nil]; exact L)
      · have hj2 : j < 16 := by omega
        have go : vb (sg16 a b j) → wpB PGm ρ (d + 1) m_LT_feed 50 [(0, vR C), (1, vL a), (3, vL b), (5, vI ((n : Nat) : Int)), (6, vI (j : Int)), (7, vI (sg16 a b j))] [] h Q := by
          intro v
          have ok' : ∀ i, i < j + 1 → vb (sg16 a b i) := fun i hi => by
            by_cases c : i = j
            · rw [c]; exact v
            · exact ok i (by omega)
          refine b_LT_feed_50 ⟨fun _ => b_LT_feed_62 ?_, fun _ => b_LT_feed_62 ?_⟩
          · rw [w32_s nn, w32_s jj]; exact ih (j + 1) (n + 1) (by omega) (by omega) (by omega) ok'
          · rw [Int.add_zero, w32_of (by omega) (by omega), w32_s jj]; exact ih (j + 1) n (by omega) (by omega) (by omega) ok'
        refine ⟨fun e => go (Or.inl e), fun ne => ⟨fun e => go (Or.inr (Or.inl e)), fun ne2 => ⟨fun x => q0 (fun ok => ?_), fun x => ⟨fun y => go (Or.inr (Or.inr ⟨x, y⟩)), fun y => q0 (fun ok => ?_)⟩⟩⟩⟩
        · have := ok j hj2; unfold vb at this; omega
        · have := ok j hj2; unfold vb at this; omega
  exact b_LT_feed_0 (lp1 _ 0 0 (Nat.lt_succ_self _) (Nat.zero_le _) (Nat.le_refl _) (fun i hi => by omega))
end
