/-! T: a shape is rebuilt: the walk -/
set_option maxRecDepth 20000
section
variable {ρ : Nat → Nat} {d : Nat} {h0 : ah} {Q : QT} {T k f n i j sn sm r m : Nat} {b p nm cur w l6 : Int} {S S' : SS} {e : Option (Nat × SS)}
/-- the front: counting, then the room -/
theorem s_rb0 (O : TOK h0 T) (en : S f_Md_shapes 0 = (sn : Int)) (em : S f_Md_allShapes 0 = (sm : Int)) (hsn : 1 ≤ sn ∧ sn ≤ 4001) (hsm : sm ≤ 4000) (U : UNQ S sn) (L : SLK S k n) (hp : p = -1 ∨ 0 ≤ p) (q1 : sm + wnF S sn p (nmT S k) w n ≤ 4000 → wpB PGm ρ (d + 1) m_Md_madeShape 0 [(0, vR T), (1, vI (-1)), (2, vI p), (3, vI (-1))] [] (cn h0 T S) (cI (fun x15 h10 => hK h10 T = k_Md ∧ (hK h10 (hR h10 f_Md_thingFirst T) ∈ [1, 11] ∧ 0 ≤ (k : Int) ∧ (k : Int) < (hl h10 (hR h10 f_Md_thingFirst T) : Int)) ∧ wpB PGm ρ (d + 1 + 1) m_Md_rebuilt 152 [(0, vR T), (1, vI (k : Int)), (2, vI p), (3, vI w), (5, vI x15), (6, vI (hA h10 (hR h10 f_Md_thingFirst T) (k : Int).toNat)), (7, vI 0)] [] h10 Q) (fun e13 h12 => hK h12 e13 ≠ 0 ∧ Q (Sum.inr e13) h12))) (q0 : ¬ sm + wnF S sn p (nmT S k) w n ≤ 4000 → Q (Sum.inr (hR h0 f_Md_halt T)) (cn h0 T (erS S 99))) : wpB PGm ρ (d + 2) m_Md_rebuilt 0 [(0, vR T), (1, vI (k : Int)), (2, vI p), (3, vI w)] [] (cn h0 T S) Q := by
  have O' := O
  obtain ⟨kT, G, kH⟩ := O
  have kH' : hK h0 (hR h0 f_Md_halt T) ≠ 0 := by rw [kH]; decide
  have L' := L
  obtain ⟨a1, a2, a3, a4, a5, a6⟩ := L
  have ck : 0 ≤ (k : Int) ∧ (k : Int) < ((8000 : Nat) : Int) := by omega
  have g129 : ∀ c' : Nat, c' = wnF S sn p (nmT S k) w n → wpB PGm ρ (d + 1 + 1) m_Md_rebuilt 129 [(0, vR T), (1, vI (k : Int)), (2, vI p), (3, vI w)] [vI (if sm + c' ≤ 4000 then 1 else 0), vR T] (cn h0 T S) Q := fun c' ec => by
    subst ec
    by_cases rm : sm + wnF S sn p (nmT S k) w n ≤ 4000
    · rw [if_pos rm]
      exact b_Md_rebuilt_129 ⟨kT, s_room O' (fun _ => ⟨kT, q1 rm⟩) (fun z => absurd z (by decide))⟩
    · rw [if_neg rm]
      exact b_Md_rebuilt_129 ⟨kT, s_room O' (fun z => absurd rfl z) (fun _ => ⟨kH', q0 rm⟩)⟩
  clear q1 q0
  have g24 : ∀ (s0 : Nat), (s0 = if rtF S sn p < 0 then 1 else 0) → wpB PGm ρ (d + 1 + 1) m_Md_rebuilt 24 [(0, vR T), (1, vI (k : Int)), (2, vI p), (3, vI w), (5, vI (rtF S sn p))] [vI (s0 : Int), vI 0] (cn h0 T S) Q := fun s0 es => by
    have hs0 : s0 ≤ 1 := by rw [es]; split <;> omega
    have g := s_rbc (ρ := ρ) (d := d + 1) (Q := Q) (p := p) (w := w) O' en em hsn hsm U L' n 0 s0 (rtF S sn p) (S f_Md_thingFirst k) (by omega) (by omega) (fun h => by
      have := a4 h
      show _ = (((S f_Md_thingFirst k).toNat : Nat) : Int)
      omega) (fun c' ec => g129 c' (by unfold wnF; rw [ec, es]))
    have x0 : -2147483648 ≤ (0 : Int) + (s0 : Int) ∧ (0 : Int) + (s0 : Int) < 2147483648 := by omega
    have w1 : w32 ((0 : Int) + (s0 : Int)) = (s0 : Int) := by rw [w32_of x0.1 x0.2, Int.zero_add]
    clear g129
    refine b_Md_rebuilt_24 ?_
    simp (decide := true) only [cnR, cnK, cnl, cnA' G, kT, KN G, LN G, w1, Int.toNat_natCast, true_and, and_true]
    exact ⟨ck, g⟩
  have fin : ∀ v, v = rtF S sn p → ((0 ≤ v → wpB PGm ρ (d + 1 + 1) m_Md_rebuilt 24 [(0, vR T), (1, vI (k : Int)), (2, vI p), (3, vI w), (5, vI v)] [vI 0, vI 0] (cn h0 T S) Q) ∧ (v < 0 → wpB PGm ρ (d + 1 + 1) m_Md_rebuilt 24 [(0, vR T), (1, vI (k : Int)), (2, vI p), (3, vI w), (5, vI v)] [vI 1, vI 0] (cn h0 T S) Q)) := fun v ev => by
    subst ev
    exact ⟨fun z => g24 0 (by rw [if_neg (by omega)]), fun z => g24 1 (by rw [if_pos z])⟩
  refine b_Md_rebuilt_0 ⟨kT, ?_⟩
  rcases hp with rfl | hp
  · exact s_find0 (fin 0 (by unfold rtF; rw [if_pos (by decide)]))
  · exact s_fsh O' en hsn U (fun c => by omega) (fin _ (by unfold rtF; rw [if_neg (by omega)]))
/-- the walk at its end -/
theorem s_rb_end (O : TOK h0 T) (L : SLK S k n) (q : Q (Sum.inl (some (vI cur))) (cn h0 T S)) : wpB PGm ρ (d + 1) m_Md_rebuilt 152 [(0, vR T), (1, vI (k : Int)), (2, vI p), (3, vI w), (5, vI cur), (6, vI l6), (7, vI (n : Int))] [] (cn h0 T S) Q := by
  obtain ⟨kT, G, kH⟩ := O
  obtain ⟨a1, a2, a3, a4, a5, a6⟩ := L
  have ck : 0 ≤ (k : Int) ∧ (k : Int) < ((8000 : Nat) : Int) := by omega
  have e2 : ((n : Int) < (n : Int)) = False := eq_false (Int.lt_irrefl _)
  refine b_Md_rebuilt_152 ?_
  simp (decide := true) only [cnR, cnK, cnl, cnA' G, kT, KN G, LN G, a3, e2, Int.toNat_natCast, true_and, and_true, false_implies]
  exact ⟨ck, fun _ => q⟩
theorem s_rb185 (O : TOK h0 T) (L : SLK S k n) (hi : i < n) (el : l6 = (slS S k i : Int)) (q : ∀ l6', (i + 1 < n → l6' = (slS S k (i + 1) : Int)) → wpB PGm ρ d m_Md_rebuilt 152 [(0, vR T), (1, vI (k : Int)), (2, vI p), (3, vI w), (5, vI cur), (6, vI l6'), (7, vI ((i + 1 : Nat) : Int))] [] (cn h0 T S) Q) : wpB PGm ρ d m_Md_rebuilt 185 [(0, vR T), (1, vI (k : Int)), (2, vI p), (3, vI w), (5, vI cur), (6, vI l6), (7, vI (i : Int))] [] (cn h0 T S) Q := by
  obtain ⟨kT, G, kH⟩ := O
  obtain ⟨a1, a2, a3, a4, a5, a6⟩ := L
  have b1 := a5 i hi
  subst el
  have c1 : 0 ≤ (slS S k i : Int) ∧ (slS S k i : Int) < ((60000 : Nat) : Int) := by omega
  have g := q (S f_Md_slotNext (slS S k i)) (fun h => by
    have := a6 i h
    show _ = (((S f_Md_slotNext (slS S k i)).toNat : Nat) : Int)
    omega)
  have w1 : w32 ((i : Int) + 1) = ((i + 1 : Nat) : Int) := w32_s (by omega)
  clear q
  refine b_Md_rebuilt_185 ?_
  simp (decide := true) only [cnR, cnK, cnl, cnA' G, kT, KN G, LN G, w1, Int.toNat_natCast, true_and, and_true]
  exact ⟨c1, g⟩
theorem SLK.sh (L : SLK S k n) (o : ∀ f i, LSH.elem f = false → S' f i = S f i) : SLK S' k n ∧ (∀ i, slS S' k i = slS S k i) ∧ (∀ i, nmT S' k i = nmT S k i) := by
  have es : ∀ i, slS S' k i = slS S k i := fun i => by
    induction i with
    | zero => show (S' _ k).toNat = _; rw [o _ _ (by decide)]; rfl
    | succ i ih => show (S' _ (slS S' k i)).toNat = _; rw [ih, o _ _ (by decide)]; rfl
  obtain ⟨a1, a2, a3, a4, a5, a6⟩ := L
  exact ⟨⟨a1, a2, by rw [o _ _ (by decide)]; exact a3, fun h => by rw [o _ _ (by decide)]; exact a4 h, fun i h => by rw [es]; exact a5 i h, fun i h => by rw [es, o _ _ (by decide)]; exact a6 i h⟩, es, fun i => by unfold nmT; rw [es, o _ _ (by decide)]⟩
/-- a name is left out -/
theorem s_rb_skip (O : TOK h0 T) (L : SLK S k n) (hi : i < n) (el : l6 = (slS S k i : Int)) (ew : (i : Int) = w) (q : ∀ l6', (i + 1 < n → l6' = (slS S k (i + 1) : Int)) → wpB PGm ρ (d + 1) m_Md_rebuilt 152 [(0, vR T), (1, vI (k : Int)), (2, vI p), (3, vI w), (5, vI cur), (6, vI l6'), (7, vI ((i + 1 : Nat) : Int))] [] (cn h0 T S) Q) : wpB PGm ρ (d + 1) m_Md_rebuilt 152 [(0, vR T), (1, vI (k : Int)), (2, vI p), (3, vI w), (5, vI cur), (6, vI l6), (7, vI (i : Int))] [] (cn h0 T S) Q := by
  have g := s_rb185 (ρ := ρ) (d := d + 1) O L hi el q
  obtain ⟨kT, G, kH⟩ := O
  obtain ⟨a1, a2, a3, a4, a5, a6⟩ := L
  have ck : 0 ≤ (k : Int) ∧ (k : Int) < ((8000 : Nat) : Int) := by omega
  have e1 : ((n : Int) ≤ (i : Int)) = False := eq_false (by omega)
  have e2 : ((i : Int) < (n : Int)) = True := eq_true (by omega)
  clear q
  refine b_Md_rebuilt_152 ?_
  simp (decide := true) only [cnR, cnK, cnl, cnA' G, kT, KN G, LN G, a3, e1, e2, Int.toNat_natCast, true_and, and_true, forall_const, false_implies]
  exact ⟨ck, fun _ => g, fun z => absurd ew z⟩
/-- a name goes on -/
theorem s_rb_step (O : TOK h0 T) (L : SLK S k n) (hi : i < n) (el : l6 = (slS S k i : Int)) (ew : ¬ (i : Int) = w) (ct : TMD ρ S cur p (nmT S k i) e) (eo : ∀ r S', e = some (r, S') → ∀ f i, LSH.elem f = false → S' f i = S f i) (q0 : e = none → Q (Sum.inr (hR h0 f_Md_halt T)) (cn h0 T (erS S 99))) (q : ∀ r S', e = some (r, S') → ∀ l6', (i + 1 < n → l6' = (slS S' k (i + 1) : Int)) → wpB PGm ρ (d + 3) m_Md_rebuilt 152 [(0, vR T), (1, vI (k : Int)), (2, vI p), (3, vI w), (5, vI (r : Int)), (6, vI l6'), (7, vI ((i + 1 : Nat) : Int))] [] (cn h0 T S') Q) : wpB PGm ρ (d + 3) m_Md_rebuilt 152 [(0, vR T), (1, vI (k : Int)), (2, vI p), (3, vI w), (5, vI cur), (6, vI l6), (7, vI (i : Int))] [] (cn h0 T S) Q := by
  have O' := O
  have L' := L
  obtain ⟨kT, G, kH⟩ := O
  have kH' : hK h0 (hR h0 f_Md_halt T) ≠ 0 := by rw [kH]; decide
  obtain ⟨a1, a2, a3, a4, a5, a6⟩ := L
  have ck : 0 ≤ (k : Int) ∧ (k : Int) < ((8000 : Nat) : Int) := by omega
  have e1 : ((n : Int) ≤ (i : Int)) = False := eq_false (by omega)
  have e2 : ((i : Int) < (n : Int)) = True := eq_true (by omega)
  have b1 := a5 i hi
  have c1 : 0 ≤ (slS S k i : Int) ∧ (slS S k i : Int) < ((60000 : Nat) : Int) := by omega
  have g : wpB PGm ρ (d + 2) m_Md_madeShape 0 [(0, vR T), (1, vI cur), (2, vI p), (3, vI (nmT S k i))] [] (cn h0 T S) (cI (fun x18 h13 => wpB PGm ρ (d + 3) m_Md_rebuilt 185 [(0, vR T), (1, vI (k : Int)), (2, vI p), (3, vI w), (5, vI x18), (6, vI l6), (7, vI (i : Int))] [] h13 Q) (fun e16 h15 => hK h15 e16 ≠ 0 ∧ Q (Sum.inr e16) h15)) := by
    refine ct d h0 T _ O' ?_
    cases e with
    | none => exact ⟨kH', q0 rfl⟩
    | some rs =>
      obtain ⟨r, S'⟩ := rs
      obtain ⟨L2, es, -⟩ := L'.sh (eo r S' rfl)
      exact s_rb185 O' L2 hi (by rw [es]; exact el) (q r S' rfl)
  unfold nmT at g
  subst el
  clear q q0 ct eo
  refine b_Md_rebuilt_152 ?_
  simp (decide := true) only [cnR, cnK, cnl, cnA' G, kT, KN G, LN G, a3, e1, e2, Int.toNat_natCast, true_and, and_true, forall_const, false_implies]
  exact ⟨ck, fun z => absurd z ew, fun _ => ⟨c1, g⟩⟩
end
