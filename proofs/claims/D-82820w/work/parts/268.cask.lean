/-! C: a value is asked -/
set_option maxRecDepth 20000
def LFX : List Nat := [f_Found_linker, f_Found_element, f_Found_operands, f_Found_isText, f_Found_classes]
def LFY : List Nat := [f_Found_shape, f_Found_type, f_Found_code]
/-- only what is asked changes -/
def AXJ (X X1 : X3) : Prop := ∀ o f i, LFX.elem f = false → X1 o f i = X o f i
def AYJ (Y Y1 : Y3) : Prop := ∀ o f i, LFY.elem f = false → Y1 o f i = Y o f i
def askX (X : X3) (nm : Int) : X3 := u3 (u3 X 53 f_Found_element 0 nm) 53 f_Found_operands 0 0
def askY (Y : Y3) : Y3 := u3 (u3 (u3 Y 53 f_Found_shape 0 0) 53 f_Found_type 0 0) 53 f_Found_code 0 0
def fcX (S : SS) (rr : Nat) (X : X3) : Nat → X3
  | 0 => X
  | j + 1 => u3 (fcX S rr X j) 53 f_Found_classes j (clA (tyT S (S f_Md_pileType (rr + 1 + j)) (S f_Md_pileValue (rr + 1 + j))))
section
variable {ρ : Nat → Nat} {d : Nat} {Q : QT} {Γ : GH} {h h' h0 h1 h2 H : ah} {C ho T k n m f i j N M b a rr mn sn tn row e t z s s0 c o at_ r m0 : Nat} {S S' S1 S2 SX : SS} {X X' X1 X2 : X3} {Y Y' Y1 Y2 : Y3} {g : HG} {v p x y nm ty κ hd w La bv el now : Int} {ws hw : List (List Int)} {l : List Int}
theorem AXJ.rf : AXJ X X := fun _ _ _ _ => rfl
theorem AXJ.u (A : AXJ X X1) (hf : LFX.elem f = true) : AXJ X (u3 X1 o f i v) := fun o' f' i' h' => by
  rw [u3_f (by rintro rfl; rw [hf] at h'; cases h')]; exact A o' f' i' h'
theorem AYJ.rf : AYJ Y Y := fun _ _ _ _ => rfl
theorem AYJ.u (A : AYJ Y Y1) (hf : LFY.elem f = true) : AYJ Y (u3 Y1 o f i k) := fun o' f' i' h' => by
  rw [u3_f (by rintro rfl; rw [hf] at h'; cases h')]; exact A o' f' i' h'
theorem askX_a : AXJ X (askX X nm) := (AXJ.rf.u (by decide)).u (by decide)
theorem askY_a : AYJ Y (askY Y) := ((AYJ.rf.u (by decide)).u (by decide)).u (by decide)
theorem fcX_a (A : AXJ X X1) : ∀ j, AXJ X (fcX S rr X1 j)
  | 0 => A
  | j + 1 => (fcX_a A j).u (by decide)
theorem fcX_g : ∀ j i, fcX S rr X j 53 f_Found_classes i = if i < j then clA (tyT S (S f_Md_pileType (rr + 1 + i)) (S f_Md_pileValue (rr + 1 + i))) else X 53 f_Found_classes i
  | 0, i => by rw [if_neg (by omega)]; rfl
  | j + 1, i => by
    unfold fcX
    rw [u3_e]
    by_cases w : i = j
    · subst w
      rw [if_pos ⟨rfl, rfl, rfl⟩, if_pos (by omega)]
    · rw [if_neg (fun c => w c.2.2), fcX_g j i]
      by_cases w2 : i < j
      · rw [if_pos w2, if_pos (by omega)]
      · rw [if_neg w2, if_neg (by omega)]
theorem fcX_o (hf : f ≠ f_Found_classes) : ∀ j, fcX S rr X j o f i = X o f i
  | 0 => rfl
  | j + 1 => by unfold fcX; rw [u3_f hf]; exact fcX_o hf j
theorem AXJ.ex (A : AXJ X X1) {L : List Nat} (e : L.all (fun f => !(LFX.elem f)) = true) : EXX L X X1 := fun f hf o i => A o f i (by simpa using List.all_eq_true.mp e f (by simpa using hf))
theorem CORE.fnd (HC : CORE Γ h C ho X Y S N) (A : AXJ X X1) (B : AYJ Y Y1) : CORE Γ h C ho X1 Y1 S N := (HC.fzz (L := []) (Pp := []) (h' := h) (X' := X1) (Y' := Y1) Fr.r0 (by unfold DJ; decide +kernel) (fun y c => by simp at c) (fun _ _ _ => rfl) (Int.le_refl _) (A.ex (by decide +kernel)) (fun o f hf i => B o f i (by
  have : L7.all (fun f => !(LFY.elem f)) = true := by decide
  simpa using List.all_eq_true.mp this f (by simpa using hf)))).1.1
theorem IX.fnd (I : IX h C X Y o n c) (A : AXJ X X1) (B : AYJ Y Y1) : IX h C X1 Y1 o n c := by
  obtain ⟨G, F, ht, ⟨e1, e2, e3⟩, hn⟩ := I
  exact ⟨G, F, ht, ⟨by rw [B _ _ _ (by decide)]; exact e1, by rw [A _ _ _ (by decide)]; exact e2, by rw [A _ _ _ (by decide)]; exact e3⟩, hn⟩
/-- the classes of what is behind -/
theorem r_ask309 (HC : CORE Γ h C ho X Y S N) (HX : HCX ρ h ho g N M hw) (I : IX h C X Y o n c) (A : AXJ X X1) (B : AYJ Y Y1) (PL : ∀ i, i < n → VR Γ S N (X o f_Task_tags i) (X o f_Task_words i) (S f_Md_pileType (2100 * t + i)) (S f_Md_pileValue (2100 * t + i))) (er : rr = 2100 * t + m0) (ek : X1 53 f_Found_operands 0 = (k : Int)) (hk : k ≤ 8) (hm : m0 + 1 + k ≤ n) (q : Q (Sum.inl none) (cc h C (fcX S rr X1 k) Y1)) : ∀ mm j, j + mm = k → wpB PGm ρ (d + 20) m_Machine_ask 309 [(0, vR (C + 32)), (2, vI (m0 : Int)), (3, vR (C + 53)), (6, vI (j : Int))] [] (cc h C (fcX S rr X1 j) Y1) Q := fun mm => by
  have F := HC.1.2
  have G := HC.1.1
  have ht := I.2.2.1
  have hn := I.2.2.2.2.1
  have e1 : Y1 32 f_Machine_t 0 = C + o := by rw [B _ _ _ (by decide)]; exact I.2.2.2.1.1
  induction mm with
  | zero =>
    intro j hj
    have ej : j = k := by omega
    subst ej
    have e2 : fcX S rr X1 j 53 f_Found_operands 0 = (j : Int) := by rw [fcX_o (by decide)]; exact ek
    have n1 : ¬ (j : Int) < (j : Int) := by omega
    refine b_Machine_ask_309 (d := d + 19) ⟨F.1.2.2.2.2.2.2.1, ?_⟩
    rw [ccI (by decide), e2]
    exact ⟨fun _ => q, fun c => absurd c n1⟩
  | succ mm ih =>
    intro j hj
    have jk : j < k := by omega
    have g1 := ih (j + 1) (by omega)
    have e2 : fcX S rr X1 j 53 f_Found_operands 0 = (k : Int) := by rw [fcX_o (by decide)]; exact ek
    have AJ : AXJ X (fcX S rr X1 j) := fcX_a A j
    have HC1 := HC.fnd AJ B
    have n1 : ¬ (k : Int) ≤ (j : Int) := by omega
    have b1 : 0 ≤ ((m0 + 1 + j : Nat) : Int) ∧ ((m0 + 1 + j : Nat) : Int) < ((2001 : Nat) : Int) := by omega
    have b2 : 0 ≤ (j : Int) ∧ (j : Int) < ((9 : Nat) : Int) := by omega
    have V := PL (m0 + 1 + j) (by omega)
    have ei : 2100 * t + (m0 + 1 + j) = rr + 1 + j := by omega
    rw [ei, ← AJ _ _ _ (by decide), ← AJ _ f_Task_words _ (by decide)] at V
    have z0 : m0 ≤ 2000000000 ∧ m0 + 1 + j ≤ 2000000000 ∧ j ≤ 2000000000 ∧ 10 ≤ d + 18 + 1 := by omega
    have y0 : w32 ((m0 : Int) + 1) = ((m0 + 1 : Nat) : Int) := w32_p1 z0.1
    have y1 : w32 (((m0 + 1 : Nat) : Int) + (j : Int)) = ((m0 + 1 + j : Nat) : Int) := w32_aa z0.2.1
    have y2 : w32 ((j : Int) + 1) = ((j + 1 : Nat) : Int) := w32_p1 z0.2.2.1
    have rd : fcX S rr X1 (j + 1) = u3 (fcX S rr X1 j) 53 f_Found_classes j (clA (tyT S (S f_Md_pileType (rr + 1 + j)) (S f_Md_pileValue (rr + 1 + j)))) := rfl
    rw [rd] at g1
    have gc := r_classOf (d := d + 18) (Q := cI (fun x18 h13 => (hK h13 (hR h f_Found_classes (C + 53)) = 1 ∧ 0 ≤ (j : Int) ∧ (j : Int) < (hl h13 (hR h f_Found_classes (C + 53)) : Int)) ∧ wpB PGm ρ (d + 20) m_Machine_ask 309 [(0, vR (C + 32)), (2, vI (m0 : Int)), (3, vR (C + 53)), (6, vI ((j + 1 : Nat) : Int))] [] (sA h13 (hR h f_Found_classes (C + 53)) j x18) Q) (fun e16 h15 => ¬ hK h15 e16 = 0 ∧ Q (Sum.inr e16) h15)) HC1 HX z0.2.2.2 V (by
      have lf : hl h (hR h f_Found_classes (C + 53)) = 9 := by
        have f2 := F
        unfold FC at f2
        exact f2.2.2.2.2.2.2.1.1
      refine ⟨⟨(KC G).2.2.2.2.2.2.2.2.2.2.2.2.2.1, b2.1, by rw [ccl, lf]; exact b2.2⟩, ?_⟩
      rw [cc_sA G (by decide)]
      exact g1)
    refine b_Machine_ask_309 (d := d + 19) ?_
    clear g1 ih q PL V
    have f1 := F.t ht
    unfold FCt at f1
    have f2 := F
    unfold FC at f2
    simp (decide := true) (disch := first | decide | omega) only [ccI, ccR, ccIt ht, ccRo, ccK, ccl, ccA G, ccAt G ht, ccB G, ccBt G ht, cc_sI, cc_sR, cc_sIt ht, cc_sA G, cc_sAt G ht, cc_sB G, cc_sBt G ht, f1, f2, u3_f, u3_s, KCt G ht, KC G, w32_aa, w32_ss, w32_p1, w32_m1, Int.toNat_natCast, true_and, and_true, false_and, and_false, or_false, false_or, ne_eq, not_false_eq_true, forall_const, implies_true, not_true_eq_false, false_implies, e1, e2, y0, y1, y2, n1]
    exact fun _ => ⟨b1, b1, gc⟩
end
