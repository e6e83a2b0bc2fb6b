/-! T: feed -/
set_option maxRecDepth 20000
section
variable {ρ : Nat → Nat} {d : Nat} {h h' : ah} {F : Int → ah → Prop} {G : ah → Prop} {E : Nat → ah → Prop} {Q : QT} {C ho ho2 T k k2 : Nat} {tp : List Int} {a b v : Int}
def ok8 (v : Int) : Prop := ∀ j, j < 8 → vb (bg v (8 * j))
theorem t_inF {l0 l2 l4 : Int} (q1 : l2 ≤ l0 → l0 ≤ l4 → F 1 h) (q0 : ¬ (l2 ≤ l0 ∧ l0 ≤ l4) → F 0 h) : wpB PGm ρ d m_Md_in 0 [(0, vL l0), (2, vL l2), (4, vL l4)] [] h (cI F E) := by
  refine b_Md_in_0 ⟨fun z => q0 ?_, fun z => ⟨fun y => q0 ?_, fun y => q1 ?_ ?_⟩⟩
  · intro c
    rw [if_neg (by omega)] at z
    split at z <;> omega
  · intro c
    split at y
    · omega
    · split at y <;> omega
  · split at z
    · omega
    · omega
  · split at y
    · omega
    · split at y <;> omega
theorem t_signsIn (q1 : ok8 v → ∀ n : Nat, n ≤ 8 → F (n : Int) h) (q0 : ¬ ok8 v → F (-1) h) : wpB PGm ρ (d + 1) m_Md_signsIn 0 [(0, vL v)] [] h (cI F E) := by
  have lp : ∀ mm j n, 8 - j < mm → j ≤ 8 → n ≤ j → (∀ i, i < j → vb (bg v (8 * i))) → wpB PGm ρ (d + 1) m_Md_signsIn 4 [(0, vL v), (2, vI ((n : Nat) : Int)), (3, vI ((8 * j : Nat) : Int))] [] h (cI F E) := by
    intro mm
    induction mm with
    | zero => intro j n hm; omega
    | succ mm ih =>
      intro j n hm hj hn ok
      have nn : n ≤ 2000000000 := by omega
      refine b_Md_signsIn_4 ⟨fun z => q1 (fun i hi => ok i (by omega)) n (by omega), fun z => ?_⟩
      have hj2 : j < 8 := by omega
      rw [bg_t (v := v) (n := 8 * j) (by omega)]
      have go : vb (bg v (8 * j)) → wpB PGm ρ (d + 1) m_Md_signsIn 49 [(0, vL v), (2, vI ((n : Nat) : Int)), (3, vI ((8 * j : Nat) : Int)), (4, vI (bg v (8 * j)))] [] h (cI F E) := by
        intro vv
        have ok' : ∀ i, i < j + 1 → vb (bg v (8 * i)) := fun i hi => by
          by_cases c : i = j
          · rw [c]; exact vv
          · exact ok i (by omega)
        have e8 : 8 * j + 8 = 8 * (j + 1) := by omega
        refine b_Md_signsIn_49 ⟨fun _ => b_Md_signsIn_60 ?_, fun _ => b_Md_signsIn_60 ?_⟩
        · rw [w32_s nn, show ((8 * j : Nat) : Int) + 8 = ((8 * j : Nat) : Int) + ((8 : Nat) : Int) from rfl, w32_n (by omega), e8]; exact ih (j + 1) (n + 1) (by omega) (by omega) (by omega) ok'
        · rw [Int.add_zero, w32_of (by omega) (by omega), show ((8 * j : Nat) : Int) + 8 = ((8 * j : Nat) : Int) + ((8 : Nat) : Int) from rfl, w32_n (by omega), e8]; exact ih (j + 1) n (by omega) (by omega) (by omega) ok'
      refine ⟨fun e => go (Or.inl e), fun ne => ⟨fun e => go (Or.inr (Or.inl e)), fun ne2 => t_inF (fun x y => ⟨fun _ => go (Or.inr (Or.inr ⟨x, y⟩)), fun z => absurd z (by decide)⟩) (fun x => ⟨fun z => absurd rfl z, fun _ => q0 (fun ok => ?_)⟩)⟩⟩
      have := ok j hj2; unfold vb at this; omega
  exact b_Md_signsIn_0 (lp _ 0 0 (Nat.lt_succ_self _) (Nat.zero_le _) (Nat.le_refl _) (fun i hi => by omega))
theorem TMO.app (M : TMO h T k k2 tp) (hl : tp.length < 1024) (hv : vb v) (h0 : ¬ v = 0) : TMO (sI (sA h (hR h f_Md_tape T) tp.length v) f_Md_taped T ((tp.length + 1 : Nat) : Int)) T k k2 (tp ++ [v]) := by
  obtain ⟨a1, a2, a3, a4, a5, a6, a7⟩ := M
  refine ⟨a1, a2, a3, ?_, okTp_app a5 hl hv h0, fun i hi => ?_, a7⟩
  · rw [I_I]; simp
  · simp only [List.length_append, List.length_cons, List.length_nil] at hi
    show hA (sA h (hR h f_Md_tape T) tp.length v) (hR h f_Md_tape T) i = _
    rw [g_hA_sA, app_getD1 (by omega)]
    by_cases c : i = tp.length
    · rw [if_pos ⟨rfl, c⟩, if_pos c]
    · rw [if_neg (fun x => c x.2), if_neg c]; exact a6 i (by omega)
/-- the bytes of a long that are some -/
def fd8 (v : Int) : Nat → List Int
  | 0 => []
  | j + 1 => if bg v (56 - 8 * j) = 0 then fd8 v j else fd8 v j ++ [bg v (56 - 8 * j)]
theorem fd8_len {v : Int} : ∀ k, (fd8 v k).length ≤ k
  | 0 => Nat.le_refl _
  | k + 1 => by
    have := fd8_len (v := v) k
    simp only [fd8]
    split
    · omega
    · simp; omega
theorem fdl_8 : ∀ j, j ≤ 8 → fdl a b j = fd8 a j
  | 0, _ => rfl
  | j + 1, h => by
    have e : sg16 a b j = bg a (56 - 8 * j) := by unfold sg16; rw [if_pos (by omega), show j % 8 = j by omega]
    simp only [fdl, fd8]
    rw [e, fdl_8 j (by omega)]
theorem fdl_16 : ∀ j, j ≤ 8 → fdl a b (8 + j) = fd8 a 8 ++ fd8 b j
  | 0, _ => by rw [show fd8 b 0 = [] from rfl, List.append_nil]; exact fdl_8 8 (Nat.le_refl _)
  | j + 1, h => by
    have e : sg16 a b (8 + j) = bg b (56 - 8 * j) := by unfold sg16; rw [if_neg (by omega), show (8 + j) % 8 = j by omega]
    have e1 : fdl a b (8 + (j + 1)) = if sg16 a b (8 + j) = 0 then fdl a b (8 + j) else fdl a b (8 + j) ++ [sg16 a b (8 + j)] := rfl
    have e2 : fd8 b (j + 1) = if bg b (56 - 8 * j) = 0 then fd8 b j else fd8 b j ++ [bg b (56 - 8 * j)] := rfl
    rw [e1, e2, e, fdl_16 j (by omega)]
    by_cases c : bg b (56 - 8 * j) = 0
    · rw [if_pos c, if_pos c]
    · rw [if_neg c, if_neg c, List.append_assoc]
def LFt : List Nat := [f_Md_taped, f_Md_thrown]
def PFt (T : Nat) : List (Nat × Nat) := [(f_Md_tape + 1, T)]
theorem t_types {h0 : ah} (M : TMO h T k k2 tp) (hl : tp.length + 8 ≤ 1024) (ok : ok8 v) (f0 : Fr LFt (PFt T) 0 0 h0 h) (e0 : hR h f_Md_tape T = hR h0 f_Md_tape T) (l0 : T < hz h0)
    (q : ∀ h', Fr LFt (PFt T) 0 0 h0 h' → hR h' f_Md_tape T = hR h0 f_Md_tape T → TMO h' T k k2 (tp ++ fd8 v 8) → G h') : wpB PGm ρ d m_Md_types 0 [(0, vR T), (1, vL v)] [] h (cV G E) := by
  have lp : ∀ mm j h1, 8 - j < mm → j ≤ 8 → Fr LFt (PFt T) 0 0 h0 h1 → hR h1 f_Md_tape T = hR h0 f_Md_tape T → TMO h1 T k k2 (tp ++ fd8 v j) → wpB PGm ρ d m_Md_types 3 [(0, vR T), (1, vL v), (3, vI (56 - 8 * (j : Int)))] [] h1 (cV G E) := by
    intro mm
    induction mm with
    | zero => intro j h1 hm; omega
    | succ mm ih =>
      intro j h1 hm hj f1 e1 M1
      obtain ⟨c1, c2, c3, c4, c5, c6, c7⟩ := id M1
      refine b_Md_types_3 ⟨fun z => ?_, fun z => ?_⟩
      · have e : j = 8 := by omega
        subst e
        exact q h1 f1 e1 M1
      · have hj2 : j < 8 := by omega
        have ll := fd8_len (v := v) j
        have le : (tp ++ fd8 v j).length < 1024 := by simp; omega
        have vbj := ok (7 - j) (by omega)
        rw [show 8 * (7 - j) = 56 - 8 * j by omega] at vbj
        have g1 := c2.g (f := f_Md_tape) rfl
        have v1 : -128 ≤ bg v (56 - 8 * j) ∧ bg v (56 - 8 * j) ≤ 127 := by unfold vb at vbj; omega
        have v2 : bg v (56 - 8 * j) < 128 := by omega
        have ec : (56 - 8 * (j : Int)) = ((56 - 8 * j : Nat) : Int) := by omega
        have e9 : w32 (((56 - 8 * j : Nat) : Int) + (-8)) = 56 - 8 * ((j + 1 : Nat) : Int) := by rw [w32_of (by omega) (by omega)]; omega
        rw [ec, bg_t (v := v) (n := 56 - 8 * j) (by omega), e9]
        clear e9
        refine ⟨fun z0 => ?_, fun n0 => ⟨c1, ?_⟩⟩
        · refine ih (j + 1) h1 (by omega) (by omega) f1 e1 ?_
          simp only [fd8]
          rw [if_pos z0]
          exact M1
        · rw [w8_of v1.1 v2, c4, Int.toNat_natCast]
          refine ⟨c2.wb (f := f_Md_tape) rfl v1 (by omega), ?_⟩
          intro h11
          rw [show hI h11 f_Md_taped T = ((tp ++ fd8 v j).length : Int) from c4, w32_s (by omega)]
          intro h12
          refine ih (j + 1) h12 (by omega) (by omega) ?_ e1 ?_
          · exact Fr.wI (by decide) (Or.inl (by simp [LFt])) (Fr.wA (Or.inr (Or.inr (Or.inr ⟨f_Md_tape, T, l0, own_of rfl, e1.symm, Or.inr (Or.inr (by simp [PFt]))⟩))) f1)
          · have := M1.app le vbj n0
            simp only [fd8]
            rw [if_neg n0, ← List.append_assoc]
            exact this
  exact b_Md_types_0 (lp _ 0 h (Nat.lt_succ_self _) (Nat.zero_le _) f0 e0 (by simp only [fd8, List.append_nil]; exact M))
theorem okF_8 : okF a b ↔ ok8 a ∧ ok8 b := by
  constructor
  · intro H
    refine ⟨fun j hj => ?_, fun j hj => ?_⟩
    · have := H (7 - j) (by omega)
      unfold sg16 at this
      rw [if_pos (by omega), show 56 - 8 * ((7 - j) % 8) = 8 * j by omega] at this
      exact this
    · have := H (15 - j) (by omega)
      unfold sg16 at this
      rw [if_neg (by omega), show 56 - 8 * ((15 - j) % 8) = 8 * j by omega] at this
      exact this
  · intro H k hk
    unfold sg16
    by_cases c : k < 8
    · rw [if_pos c, show 56 - 8 * (k % 8) = 8 * (7 - k) by omega]; exact H.1 _ (by omega)
    · rw [if_neg c, show 56 - 8 * (k % 8) = 8 * (15 - k) by omega]; exact H.2 _ (by omega)
theorem TMO.thr {w : Int} (M : TMO h T k k2 tp) : TMO (sI h f_Md_thrown T w) T k k2 tp := by
  obtain ⟨a1, a2, a3, a4, a5, a6, a7, a8, a9, b1, b2⟩ := M
  have f1 : Fr [f_Md_thrown] [] 0 0 h (sI h f_Md_thrown T w) := Fr.wL (by decide) Fr.r0
  exact ⟨a1, a2.frL f1 rfl, a3, by rw [I_Ine (by decide)]; exact a4, a5, a6, a7, a8, ⟨a9.1.frL f1 rfl, a9.2⟩, ⟨b1.1.frL f1 rfl, b1.2⟩, b2⟩
theorem t_feed (M : TMO h T k k2 tp) (hl : tp.length + 16 ≤ 1024)
    (q1 : okF a b → ∀ h', Fr LFt (PFt T) 0 0 h h' → TMO h' T k k2 (tp ++ fdl a b 16) → Q (Sum.inl (some (vI ((tp ++ fdl a b 16).length : Int)))) h')
    (q0 : ¬ okF a b → ∀ h', Fr LFt (PFt T) 0 0 h h' → TMO h' T k k2 tp → Q (Sum.inl (some (vI (-1)))) h') : wpB PGm ρ (d + 2) m_Md_feed 0 [(0, vR T), (1, vL a), (3, vL b)] [] h Q := by
  refine b_Md_feed_0 ⟨M.1, ?_⟩
  intro h1
  have f1 : Fr LFt (PFt T) 0 0 h h1 := Fr.wI (by decide) (Or.inl (by simp [LFt])) Fr.r0
  have M1 : TMO h1 T k k2 tp := M.thr
  have e1 : hR h1 f_Md_tape T = hR h f_Md_tape T := rfl
  clear_value h1
  have lT := M.2.1.1
  refine t_signsIn (fun o1 n hn => t_signsIn (fun o2 m hm => ?_) (fun o2 => ?_)) (fun o1 => t_signsIn (fun o2 m hm => ?_) (fun o2 => ?_))
  · refine ⟨fun x => by omega, fun _ => ⟨fun x => by omega, fun _ => ⟨M1.1, ?_⟩⟩⟩
    rw [M1.2.2.2.1, w32_n (by omega), w32_n (by omega)]
    refine ⟨fun _ => t_types M1 (by omega) o1 f1 e1 lT (fun h2 f2 e2 M2 => ⟨M2.1, t_types M2 ?_ o2 f2 e2 lT (fun h3 f3 e3 M3 => ⟨M3.1, ?_⟩)⟩), fun x => by omega⟩
    · have := fd8_len (v := a) 8
      simp; omega
    · rw [M3.2.2.2.1]
      have e := fdl_16 (a := a) (b := b) 8 (Nat.le_refl _)
      rw [List.append_assoc, ← e] at M3 ⊢
      exact q1 (okF_8.mpr ⟨o1, o2⟩) h3 f3 M3
  · exact ⟨fun x => by omega, fun _ => ⟨fun _ => q0 (fun x => o2 (okF_8.mp x).2) h1 f1 M1, fun x => absurd x (by decide)⟩⟩
  · exact ⟨fun _ => q0 (fun x => o1 (okF_8.mp x).1) h1 f1 M1, fun x => absurd x (by decide)⟩
  · exact ⟨fun _ => q0 (fun x => o1 (okF_8.mp x).1) h1 f1 M1, fun x => absurd x (by decide)⟩
end
