/-! both: a shape is rebuilt -/
set_option maxRecDepth 20000
/-- how many names are kept below i, w is left out -/
def posW (w : Int) (i : Nat) : Nat := if w < 0 ∨ (i : Int) ≤ w then i else i - 1
/-- the names that are kept -/
def nmW (w : Int) (nm : Nat → Int) (j : Nat) : Int := if 0 ≤ w ∧ w ≤ (j : Int) then nm (j + 1) else nm j
def TRB (ρ : Nat → Nat) (S : SS) (k : Nat) (p w : Int) (n i : Nat) (cur : Int) (e : SS ⊕ (Nat × SS)) : Prop := ∀ (d : Nat) (h0 : ah) (T : Nat) (Q : QT) (l6 : Int), TOK h0 T → (i < n → l6 = (slS S k i : Int)) → (match e with | Sum.inl S1 => Q (Sum.inr (hR h0 f_Md_halt T)) (cn h0 T (erS S1 99)) | Sum.inr (r, S') => Q (Sum.inl (some (vI (r : Int)))) (cn h0 T S')) → wpB PGm ρ (d + 3) m_Md_rebuilt 152 [(0, vR T), (1, vI (k : Int)), (2, vI p), (3, vI w), (5, vI cur), (6, vI l6), (7, vI (i : Int))] [] (cn h0 T S) Q
/-- the shape that is reached: its prototype and its names -/
def RCH (S : SS) (p : Int) (w : Int) (nm : Nat → Int) (i r : Nat) : Prop := (r : Int) < S f_Md_shapes 0 ∧ S f_Md_shapeProto r = p ∧ S f_Md_shapeCount r = (posW w i : Int) ∧ ∀ j, j < posW w i → S f_Md_shapeName (anc S r (posW w i - 1 - j)) = nmW w nm j
section
variable {ρ : Nat → Nat} {d : Nat} {Q : QT} {Γ : GH} {h h1 h2 h' H : ah} {C ho k n m o c x y z s f i j a sn sm tn s0 l1 N r : Nat} {X X' X1 X2 : X3} {Y : Y3} {S S' S1 S2 : SS} {nm : Nat → Int} {v w p cur but : Int}
/-- rows of shapes that stay -/
theorem SHR.anc (A : SHR Γ h C ho X Y S N h1 X1 S1) (c0 : CORE Γ h C ho X Y S N) (hs : (s : Int) < S f_Md_shapes 0) : ∀ j, anc S1 s j = anc S s j ∧ ((anc S s j : Nat) : Int) < S f_Md_shapes 0 := by
  obtain ⟨tn, sn, sm, c1, c2, c5, c6', c3, c4, c6, c7, c8, U, m1, m2, m3, m4⟩ := c0.shp
  intro j
  obtain ⟨a, b⟩ := anc_k (S := S) (S' := S1) (sn := sn) (s := s) (fun s hs => (A.2.2.2.2.2.2.2.1 s (by omega)).2 _ (by decide)) (fun s hs => (c8 s hs).bef hs) (by omega) j
  exact ⟨a, by omega⟩
theorem SHR.row (A : SHR Γ h C ho X Y S N h1 X1 S1) (hs : (s : Int) < S f_Md_shapes 0) (hf : LSP.elem f = true) : S1 f s = S f s := (A.2.2.2.2.2.2.2.1 s hs).2 f hf
/-- one name more -/
theorem RCH.step (R : RCH S1 p w nm i r) (c1 : CORE Γ h1 C ho X1 Y S1 N) (A : SHR Γ h1 C ho X1 Y S1 N h2 X2 S2) (ew : ¬ (i : Int) = w) (b1 : (m : Int) < S2 f_Md_shapes 0) (b2 : S2 f_Md_shapeProto m = S1 f_Md_shapeProto r) (b3 : S2 f_Md_shapeBefore m = (r : Int)) (b4 : S2 f_Md_shapeName m = nm i) (b5 : S2 f_Md_shapeCount m = S1 f_Md_shapeCount r + 1) (hw : w = -1 ∨ 0 ≤ w) : RCH S2 p w nm (i + 1) m := by
  obtain ⟨a1, a2, a3, a4⟩ := R
  have ep : posW w (i + 1) = posW w i + 1 := by
    unfold posW
    by_cases q : w < 0 ∨ (i : Int) ≤ w
    · rw [if_pos q, if_pos (by omega)]
    · rw [if_neg q, if_neg (by omega)]; omega
  have en : nmW w nm (posW w i) = nm i := by
    unfold posW nmW
    by_cases q : w < 0 ∨ (i : Int) ≤ w
    · rw [if_pos q, if_neg (by omega)]
    · rw [if_neg q, if_pos (by omega)]; congr 1; omega
  refine ⟨b1, by rw [b2]; exact a2, by rw [b5, a3, ep]; omega, fun j hj => ?_⟩
  rw [ep] at hj ⊢
  by_cases q : j = posW w i
  · subst q
    have : posW w i + 1 - 1 - posW w i = 0 := by omega
    rw [this, en]
    exact b4
  · have : posW w i + 1 - 1 - j = (posW w i - 1 - j) + 1 := by omega
    rw [this, anc_s, b3, Int.toNat_natCast]
    obtain ⟨x1, x2⟩ := A.anc c1 a1 (posW w i - 1 - j)
    rw [x1, A.row x2 (by decide)]
    exact a4 j (by omega)
theorem j_rbl (hC : CORE Γ h C ho X Y S N) (hd : 12 ≤ d) (L : SLK S k n) (hs : (s0 : Int) < S f_Md_shapes 0) (hcn : S f_Md_shapeCount s0 = (n : Int)) (hnm : ∀ i, i < n → S f_Md_shapeName (anc S s0 (n - 1 - i)) = nmT S k i) (hw : ∀ i, i < n → (nmT S k i = but ↔ (i : Int) = w)) (hw2 : w = -1 ∨ 0 ≤ w) (dn : ∀ a b, a < n → b < n → nmT S k a = nmT S k b → a = b) (n0 : ∀ i, i < n → 0 ≤ nmT S k i) : ∀ m i r h1 X1 S1, i + m = n → SHR Γ h C ho X Y S N h1 X1 S1 → RCH S1 p w (nmT S k) i r → (∀ S2 h2 X2, SHR Γ h C ho X Y S N h2 X2 S2 → TRB ρ S1 k p w n i (r : Int) (Sum.inl S2) → Q (Sum.inr (C + 33)) (cc h2 C (erX X2 0) Y)) → (∀ r' S2 h2 X2, SHR Γ h C ho X Y S N h2 X2 S2 → TRB ρ S1 k p w n i (r : Int) (Sum.inr (r', S2)) → RCH S2 p w (nmT S k) n r' → Q (Sum.inl (some (vR (hB h2 (C + 52) r')))) (cc h2 C X2 Y)) → wpB PGm ρ (d + 4) m_Heap_rebuilt 10 [(0, vR (C + 50)), (2, vR (hB h (C + 52) s0)), (3, vI but), (4, vR (hB h1 (C + 52) r)), (5, vI (i : Int))] [] (cc h1 C X1 Y) Q := by
  have L0 := L
  have n64 := L.2.1
  intro m
  induction m with
  | zero =>
    intro i r h1 X1 S1 hi A R q0 q1
    have e : i = n := by omega
    subst e
    obtain ⟨tn, sn, sm, c1, c2, c5, c6', c3, c4, c6, c7, c8, U, m1, m2, m3, m4⟩ := A.1.1.shp
    have le := A.2.2.2.2.2.2.1
    obtain ⟨f1, f2, f3, f4, -⟩ := SHF.of c8 s0 (by omega)
    have e52 := (A.2.2.2.2.2.2.2.1 s0 hs).1
    obtain ⟨L1, -, -⟩ := L0.sh A.2.2.2.2.1
    rw [← e52]
    refine b_Heap_rebuilt_10 ⟨f1, fun _ => q1 r S1 h1 X1 A (fun d h0 T Q l6 O _ qq => s_rb_end O L1 qq) R, fun z => ?_⟩
    rw [ccIo (by decide), f4, A.row hs (by decide), hcn] at z
    exact absurd z (Int.lt_irrefl _)
  | succ m ih =>
    intro i r h1 X1 S1 hi A R q0 q1
    have hin : i < n := by omega
    obtain ⟨tn, sn, sm, c1, c2, c5, c6', c3, c4, c6, c7, c8, U, m1, m2, m3, m4⟩ := A.1.1.shp
    have le := A.2.2.2.2.2.2.1
    have SF := SHF.of c8
    have hs1 : s0 < sn := by omega
    obtain ⟨f1, f2, f3, f4, -⟩ := SF s0 hs1
    have e52 := (A.2.2.2.2.2.2.2.1 s0 hs).1
    obtain ⟨L1, es1, en1⟩ := L0.sh A.2.2.2.2.1
    have hcn1 : S1 f_Md_shapeCount s0 = (n : Int) := by rw [A.row hs (by decide)]; exact hcn
    have hnm1 : ∀ i, i < n → S1 f_Md_shapeName (anc S1 s0 (n - 1 - i)) = nmT S k i := fun i hi => by
      obtain ⟨x1, x2⟩ := A.anc hC hs (n - 1 - i)
      rw [x1, A.row x2 (by decide)]; exact hnm i hi
    have ⟨G1, F1⟩ := A.1.1.1
    have kS : hK h1 (C + 33) ≠ 0 := by rw [F1.1.2.1]; decide
    have x2 : i ≤ 2000000000 := by omega
    have nlt : ¬ (n : Int) ≤ (i : Int) := by omega
    have er := R.1
    have nA : ∀ Q : QT, Q (Sum.inl (some (vI (nmT S k i)))) (cc h1 C X1 Y) → wpB PGm ρ (d + 3) m_Shape_nameAt 0 [(0, vR (hB h1 (C + 52) s0)), (1, vI (i : Int))] [] (cc h1 C X1 Y) Q := fun Q q => r_nameAt0 SF hs1 hcn1 (by omega) hin hnm1 q
    have skip : nmT S k i = but → wpB PGm ρ (d + 4) m_Heap_rebuilt 10 [(0, vR (C + 50)), (2, vR (hB h1 (C + 52) s0)), (3, vI but), (4, vR (hB h1 (C + 52) r)), (5, vI (w32 ((i : Int) + 1)))] [] (cc h1 C X1 Y) Q := fun z => by
      have ew := (hw i hin).mp z
      rw [w32_s x2, e52]
      have ep : posW w (i + 1) = posW w i := by
        unfold posW
        rw [if_neg (by omega), if_pos (by omega)]; omega
      have R' : RCH S1 p w (nmT S k) (i + 1) r := by
        unfold RCH
        rw [ep]; exact R
      refine ih (i + 1) r h1 X1 S1 (by omega) A R' (fun S2 h2 X2 B tc => q0 S2 h2 X2 B ?_) (fun r' S2 h2 X2 B tc R2 => q1 r' S2 h2 X2 B ?_ R2)
      · exact fun d h0 T Q l6 O hl qq => s_rb_skip O L1 hin (hl hin) ew (fun l6' h6 => tc d h0 T Q l6' O h6 qq)
      · exact fun d h0 T Q l6 O hl qq => s_rb_skip O L1 hin (hl hin) ew (fun l6' h6 => tc d h0 T Q l6' O h6 qq)
    have step : ¬ nmT S k i = but → wpB PGm ρ (d + 3) m_Heap_after 0 [(0, vR (C + 50)), (1, vR (hB h1 (C + 52) r)), (2, vI (nmT S k i))] [] (cc h1 C X1 Y) (cR (fun x34 h29 => wpB PGm ρ (d + 4) m_Heap_rebuilt 10 [(0, vR (C + 50)), (2, vR (hB h1 (C + 52) s0)), (3, vI but), (4, vR x34), (5, vI (w32 ((i : Int) + 1)))] [] h29 Q) (fun e32 h31 => hK h31 e32 ≠ 0 ∧ Q (Sum.inr e32) h31)) := fun z => by
      have ew : ¬ (i : Int) = w := fun c => z ((hw i hin).mpr c)
      rw [w32_s x2]
      have pi : posW w i ≤ i := by unfold posW; split <;> omega
      refine j_after A.1.1 er (n0 i hin) (fun j hj c => ?_) hd (fun tc => ⟨kS, q0 S1 h1 X1 A ?_⟩) (fun r' S2 h2 X2 tc B b1 b2 b3 b4 b5 => ?_)
      · -- the name is not among those that are there
        rw [R.2.2.1] at hj
        have x := R.2.2.2 (posW w i - 1 - j) (by omega)
        have e1 : posW w i - 1 - (posW w i - 1 - j) = j := by omega
        rw [e1, c] at x
        unfold nmW at x
        unfold posW at x hj pi
        by_cases qw : w < 0 ∨ (i : Int) ≤ w
        · rw [if_pos qw] at x hj
          rw [if_neg (by omega)] at x
          have := dn _ _ hin (by omega) x
          omega
        · rw [if_neg qw] at x hj
          by_cases q2 : 0 ≤ w ∧ w ≤ ((i - 1 - 1 - j : Nat) : Int)
          · rw [if_pos q2] at x
            have := dn _ _ hin (by omega) x
            omega
          · rw [if_neg q2] at x
            have := dn _ _ hin (by omega) x
            omega
      · intro d h0 T Q l6 O hl qq
        have tc' : TMD ρ S1 (r : Int) p (nmT S1 k i) none := by rw [en1, ← R.2.1]; exact tc
        exact s_rb_step O L1 hin (hl hin) ew tc' (fun r' S' e => by cases e) (fun _ => qq) (fun r' S' e => by cases e)
      · have tc' : TMD ρ S1 (r : Int) p (nmT S1 k i) (some (r', S2)) := by rw [en1, ← R.2.1]; exact tc
        have R' := R.step A.1.1 B ew b1.2 b2 b3 b4 b5 hw2
        rw [e52]
        refine ih (i + 1) r' h2 X2 S2 (by omega) (A.tr B) R' (fun S3 h3 X3 B3 tc3 => q0 S3 h3 X3 B3 ?_) (fun r3 S3 h3 X3 B3 tc3 R3 => q1 r3 S3 h3 X3 B3 ?_ R3)
        · exact fun d h0 T Q l6 O hl qq => s_rb_step O L1 hin (hl hin) ew tc' (fun r'' S' e => by cases e; exact B.2.2.2.2.1) (fun e => by cases e) (fun r'' S' e => by cases e; exact fun l6' h6 => tc3 d h0 T Q l6' O h6 qq)
        · exact fun d h0 T Q l6 O hl qq => s_rb_step O L1 hin (hl hin) ew tc' (fun r'' S' e => by cases e; exact B.2.2.2.2.1) (fun e => by cases e) (fun r'' S' e => by cases e; exact fun l6' h6 => tc3 d h0 T Q l6' O h6 qq)
    clear q0 q1 ih
    rw [← e52]
    refine b_Heap_rebuilt_10 ⟨f1, fun z => ?_, fun _ => nA _ ⟨skip, fun z => ⟨f1, nA _ ⟨F1.1.2.2.2.2.2.1, step z⟩⟩⟩⟩
    rw [ccIo (by decide), f4, hcn1] at z
    exact absurd z nlt
end
