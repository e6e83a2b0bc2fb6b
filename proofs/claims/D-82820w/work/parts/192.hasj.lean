/-! the builtin has: T, and both -/
set_option maxRecDepth 20000
section
variable {ρ : Nat → Nat} {P : ah → Nat → Prop} {d : Nat} {Q : QT} {Γ Γ' : GH} {h h0 h1 h' : ah} {C ho T : Nat} {X X' X1 X2 : X3} {Y Y' : Y3} {S S' S1 S2 : SS} {N t o n c r f i j k m z s n' pu po tn w sn sm l1 s0 nn p0 kk kx : Nat} {ty v x y op a b p : Int} {L : List Nat} {ws : List (List Int)} {l : List Int}
/-- T: the front of drop and has -/
theorem s_PROP (O : TOK h0 T) (D : DF S t n c f p0 kk 28 a b) (ha : a = 4 ∨ a = 5) (n2 : 2 ≤ n) (q1 : (S f_Md_pileType (2100 * t + (n - 2)) = 4 ∨ S f_Md_pileType (2100 * t + (n - 2)) = 5) → S f_Md_pileType (2100 * t + (n - 1)) = 3 → wpB PGm ρ (d + 58) m_Md_builtins 264 [(0, vR T), (1, vI a), (2, vI ((2100 * t + (n - 1) : Nat) : Int)), (3, vI ((2100 * t + (n - 2) : Nat) : Int))] [] (cn h0 T S) (bK ρ (d + 52) T Q)) (q0 : ¬ ((S f_Md_pileType (2100 * t + (n - 2)) = 4 ∨ S f_Md_pileType (2100 * t + (n - 2)) = 5) ∧ S f_Md_pileType (2100 * t + (n - 1)) = 3) → Q (Sum.inr (hR h0 f_Md_halt T)) (cn h0 T (erS S 12))) : wpB PGm ρ (d + 60) m_Md_does 0 [(0, vR T)] [] (cn h0 T S) Q := by
  have O' := O
  have d2 := D.2.1
  have cx : 0 ≤ ((2100 * t + (n - 2) : Nat) : Int) ∧ ((2100 * t + (n - 2) : Nat) : Int) < ((4200 : Nat) : Int) := by omega
  have cy : 0 ≤ ((2100 * t + (n - 1) : Nat) : Int) ∧ ((2100 * t + (n - 1) : Nat) : Int) < ((4200 : Nat) : Int) := by omega
  have w2 : w32 (((2100 * t + n : Nat) : Int) - 1) = ((2100 * t + (n - 1) : Nat) : Int) := by
    have : 2100 * t + (n - 1) = 2100 * t + n - 1 := by omega
    rw [this]; exact w32_m1 (by omega)
  have w3 : w32 (((2100 * t + (n - 1) : Nat) : Int) - 1) = ((2100 * t + (n - 2) : Nat) : Int) := by
    have : 2100 * t + (n - 2) = 2100 * t + (n - 1) - 1 := by omega
    rw [this]; exact w32_m1 (by omega)
  have hb : n ≤ 2100 := by omega
  have kT := O'.1
  have G0 := O'.2.1
  have kH : hK h0 (hR h0 f_Md_halt T) ≠ 0 := by rw [O'.2.2]; decide
  have g258 : ¬ ((S f_Md_pileType (2100 * t + (n - 2)) = 4 ∨ S f_Md_pileType (2100 * t + (n - 2)) = 5) ∧ S f_Md_pileType (2100 * t + (n - 1)) = 3) → wpB PGm ρ (d + 58) m_Md_builtins 258 [(0, vR T), (1, vI a), (2, vI ((2100 * t + (n - 1) : Nat) : Int)), (3, vI ((2100 * t + (n - 2) : Nat) : Int))] [] (cn h0 T S) (bK ρ (d + 52) T Q) := fun z => b_Md_builtins_258 ⟨kT, s_error O' ⟨kH, bK_er O' (q0 z)⟩⟩
  have g235 : wpB PGm ρ (d + 58) m_Md_builtins 235 [(0, vR T), (1, vI a), (2, vI ((2100 * t + (n - 1) : Nat) : Int)), (3, vI ((2100 * t + (n - 2) : Nat) : Int))] [] (cn h0 T S) (bK ρ (d + 52) T Q) := by
    clear q0
    refine b_Md_builtins_235 ⟨kT, ?_⟩
    simp (decide := true) only [cnR, cnK, cnl, cnA' G0, KN G0, LN G0, Int.toNat_natCast, true_and, and_true]
    refine ⟨cx, s_hasSh (fun w => ⟨fun z => absurd z (by decide), fun _ => ⟨kT, ?_⟩⟩) (fun w => ⟨fun _ => g258 (fun c => w c.1), fun z => absurd rfl z⟩)⟩
    simp (decide := true) only [cnR, cnK, cnl, cnA' G0, KN G0, LN G0, Int.toNat_natCast, true_and, and_true]
    exact ⟨cy, fun z => q1 w z, fun z => g258 (fun c => z c.2)⟩
  clear q1 q0 g258
  refine s_BLT (d := d + 52) O' D (b_Md_builtins_0 ⟨O'.1, s_h O' D.1 d2.1 hb ?_⟩)
  clear d2 cx cy
  rcases ha with rfl | rfl
  · simp (decide := true) only [cI, w2, w3, true_and, and_true, false_implies, forall_const]
    exact g235
  · simp (decide := true) only [cI, w2, w3, true_and, and_true, false_implies, forall_const]
    exact g235
/-- T: the end of drop and has -/
theorem s_b308 (O : TOK h0 T) (D : DF S t n c f p0 kk op a b) (n2 : 2 ≤ n) (F3 : TF S1 t n c) (e1 : S1 f_Md_top 0 = S f_Md_top 0) (e2 : S1 f_Md_after 0 = S f_Md_after 0) (hv : v = 0 ∨ v = 1) (q : Q (Sum.inl none) (cn h0 T (atS (pshA S1 t (n - 2) 1 v) t c ((p0 + 1 : Nat) : Int)))) : wpB PGm ρ (d + 58) m_Md_builtins 308 [(0, vR T), (3, vI ((2100 * t + (n - 2) : Nat) : Int))] [vI v] (cn h0 T S1) (bK ρ (d + 52) T Q) := by
  have O' := O
  have d2 := D.2.1
  have kT := O'.1
  have G0 := O'.2.1
  have f1 := F3.1
  have f4 := F3.2.2.2.1
  have c1 : 0 ≤ (t : Int) ∧ (t : Int) < ((2 : Nat) : Int) := by have := d2.1; omega
  have lx : 2100 * t + (n - 2) < 4200 := by omega
  have en : n - 2 + 1 = n - 1 := by omega
  have w4 : w32 ((n : Int) - 1) = ((n - 1 : Nat) : Int) := w32_m1 (by omega)
  have fin : wpB PGm ρ (d + 58) m_Md_builtins 336 [] [vL v, vI 1, vI ((2100 * t + (n - 2) : Nat) : Int), vR T] (cn h0 T (u2 S1 f_Md_height t ((n - 1 : Nat) : Int))) (bK ρ (d + 52) T Q) := by
    refine b_Md_builtins_336 ⟨kT, s_putP O' lx (bK_fin O' D ?_ ?_ ?_)⟩
    · unfold putS; rw [u2_f (by decide), u2_f (by decide), u2_f (by decide)]; exact e1
    · unfold putS; rw [u2_f (by decide), u2_f (by decide), u2_f (by decide)]; exact e2
    · unfold pshA at q; rw [en] at q; exact q
  clear q
  rcases hv with rfl | rfl
  · refine b_Md_builtins_308 ⟨kT, ?_⟩
    simp (decide := true) only [cnI, cnR, cnK, cnl, cnA' G0, cn_sA' G0, kT, KN G0, LN G0, f1, f4, w4, Int.toNat_natCast, true_and, and_true, forall_const, false_implies, not_true_eq_false]
    exact ⟨c1, c1, fin⟩
  · refine b_Md_builtins_308 ⟨kT, ?_⟩
    simp (decide := true) only [cnI, cnR, cnK, cnl, cnA' G0, cn_sA' G0, kT, KN G0, LN G0, f1, f4, w4, Int.toNat_natCast, true_and, and_true, forall_const, false_implies]
    exact ⟨c1, c1, fin⟩
/-- T: a text, for finding -/
def TTX (S : SS) (x : Nat) (l : List Int) : Prop := ∃ a : Nat, x < 16000 ∧ S f_Md_textFrom x = (a : Int) ∧ S f_Md_textLength x = (l.length : Int) ∧ a + l.length ≤ 269632 ∧ ∀ i, i < l.length → S f_Md_textSigns (a + i) = l.getD i 0
theorem TTX.rw (O : TOK h0 T) (H : TTX S m l) : ∃ a : Nat, S f_Md_textFrom m = (a : Int) ∧ S f_Md_textLength m = (l.length : Int) ∧ RW (cn h0 T S) (hR h0 f_Md_textSigns T) a l ∧ a + l.length ≤ 1000000 ∧ hK h0 (hR h0 f_Md_textSigns T) ∈ [3, 4, 13] := by
  obtain ⟨kT, G, kH⟩ := O
  obtain ⟨a, h1, h2, h3, h4, h5⟩ := H
  have e := (LN G)
  have k := (KN G)
  refine ⟨a, h2, h3, ⟨?_, fun i hi => by rw [cnA' G (by decide)]; exact h5 i hi⟩, by omega, ?_⟩
  · rw [cnl]
    have : hl h0 (hR h0 f_Md_textSigns T) = 269632 := by simp only [LN G]
    omega
  · have : hK h0 (hR h0 f_Md_textSigns T) = 3 := by simp only [KN G]
    rw [this]; decide
theorem s_HAS (O : TOK h0 T) (HC : CORE Γ h C ho X Y S N) (NM : NMR h C S ws) (D : DF S t n c f p0 kk 28 5 b) (n2 : 2 ≤ n) (ek : S f_Md_pileValue (2100 * t + (n - 2)) = (kx : Int)) (hk : kx < 8000) (pv : PVL S (kx : Int)) (em : S f_Md_pileValue (2100 * t + (n - 1)) = (m : Int)) (tx : TTX S m l) (w1 : S f_Md_pileType (2100 * t + (n - 2)) = 4 ∨ S f_Md_pileType (2100 * t + (n - 2)) = 5) (w2 : S f_Md_pileType (2100 * t + (n - 1)) = 3) (hv : FWI ws l v) {u : Int} (hu : v < 0 ∧ u = -1 ∨ 0 ≤ v ∧ HLD S v j (kx : Int) u) (q : Q (Sum.inl none) (cn h0 T (atS (pshA S t (n - 2) 1 (if u < 0 then 0 else 1)) t c ((p0 + 1 : Nat) : Int)))) : wpB PGm ρ (d + 60) m_Md_does 0 [(0, vR T)] [] (cn h0 T S) Q := by
  have O' := O
  have d2 := D.2.1
  obtain ⟨a, t1, t2, t3, t4, t5⟩ := tx.rw O'
  have m16 : m < 16000 := by obtain ⟨-, h, -⟩ := tx; exact h
  have kT := O'.1
  have G0 := O'.2.1
  have cx : 0 ≤ ((2100 * t + (n - 2) : Nat) : Int) ∧ ((2100 * t + (n - 2) : Nat) : Int) < ((4200 : Nat) : Int) := by omega
  have cy : 0 ≤ ((2100 * t + (n - 1) : Nat) : Int) ∧ ((2100 * t + (n - 1) : Nat) : Int) < ((4200 : Nat) : Int) := by omega
  have cm : 0 ≤ (m : Int) ∧ (m : Int) < ((16000 : Nat) : Int) := by omega
  have x1 : -2147483648 ≤ (kx : Int) ∧ (kx : Int) < 2147483648 := by omega
  have x2 : -2147483648 ≤ (m : Int) ∧ (m : Int) < 2147483648 := by omega
  have fin : ∀ B, B = (if u < 0 then (0 : Int) else 1) → wpB PGm ρ (d + 58) m_Md_builtins 308 [(0, vR T), (3, vI ((2100 * t + (n - 2) : Nat) : Int))] [vI B] (cn h0 T S) (bK ρ (d + 52) T Q) := fun B eB => by
    rw [← eB] at q
    exact s_b308 (op := 28) (a := 5) (b := b) O' D n2 D.1 rfl rfl (by rw [eB]; split <;> simp) q
  refine s_PROP O' D (Or.inr rfl) n2 (fun _ _ => ?_) (fun z => absurd ⟨w1, w2⟩ z)
  have g24 : wpB PGm ρ (d + 57) m_Md_has 24 [(0, vR T), (3, vI v), (4, vI (kx : Int))] [] (cn h0 T S) (cI (fun x14 h9 => wpB PGm ρ (d + 58) m_Md_builtins 308 [(0, vR T), (3, vI ((2100 * t + (n - 2) : Nat) : Int))] [vI x14] h9 (bK ρ (d + 52) T Q)) (fun e12 h11 => hK h11 e12 ≠ 0 ∧ bK ρ (d + 52) T Q (Sum.inr e12) h11)) := by
    rcases hu with ⟨h1, h2⟩ | ⟨h1, h2⟩
    · refine b_Md_has_24 ⟨fun z => absurd z (by omega), fun _ => ⟨fun _ => fin 0 (by rw [h2, if_pos (by decide)]), fun z => absurd z (by omega)⟩⟩
    · exact s_has24 (d := d + 56) O' HC h1 j (kx : Int) u h2 pv (fin _ rfl)
  have ghas : wpB PGm ρ (d + 57) m_Md_has 0 [(0, vR T), (1, vI (kx : Int)), (2, vI (m : Int))] [] (cn h0 T S) (cI (fun x14 h9 => wpB PGm ρ (d + 58) m_Md_builtins 308 [(0, vR T), (3, vI ((2100 * t + (n - 2) : Nat) : Int))] [vI x14] h9 (bK ρ (d + 52) T Q)) (fun e12 h11 => hK h11 e12 ≠ 0 ∧ bK ρ (d + 52) T Q (Sum.inr e12) h11)) := by
    have gf := s_findName (ρ := ρ) (d := d + 56) (F := fun x10 h5 => wpB PGm ρ (d + 57) m_Md_has 24 [(0, vR T), (3, vI x10), (4, vI (kx : Int))] [] h5 (cI (fun x14 h9 => wpB PGm ρ (d + 58) m_Md_builtins 308 [(0, vR T), (3, vI ((2100 * t + (n - 2) : Nat) : Int))] [vI x14] h9 (bK ρ (d + 52) T Q)) (fun e12 h11 => hK h11 e12 ≠ 0 ∧ bK ρ (d + 52) T Q (Sum.inr e12) h11))) (E := fun e8 h7 => hK h7 e8 ≠ 0 ∧ cI (fun x14 h9 => wpB PGm ρ (d + 58) m_Md_builtins 308 [(0, vR T), (3, vI ((2100 * t + (n - 2) : Nat) : Int))] [vI x14] h9 (bK ρ (d + 52) T Q)) (fun e12 h11 => hK h11 e12 ≠ 0 ∧ bK ρ (d + 52) T Q (Sum.inr e12) h11) (Sum.inr e8) h7) O' NM t5 t3 t4 hv g24
    clear g24 fin q hu
    refine b_Md_has_0 ⟨kT, ?_⟩
    simp (decide := true) only [cnR, cnK, cnl, cnA' G0, KN G0, LN G0, t1, t2, Int.toNat_natCast, true_and, and_true]
    exact ⟨cm, cm, gf⟩
  clear g24 fin q hu
  have y1 : w32 (kx : Int) = (kx : Int) := w32_of x1.1 x1.2
  have y2 : w32 (m : Int) = (m : Int) := w32_of x2.1 x2.2
  refine b_Md_builtins_264 ⟨fun _ => ⟨kT, ?_⟩, fun z => absurd z (by decide)⟩
  simp (decide := true) only [cnR, cnK, cnl, cnA' G0, KN G0, LN G0, ek, em, y1, y2, Int.toNat_natCast, true_and, and_true]
  exact ⟨cx, cy, ghas⟩
end
