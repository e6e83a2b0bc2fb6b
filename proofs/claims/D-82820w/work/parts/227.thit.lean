/-! T: the entry that is hit; stale ones go -/
set_option maxRecDepth 20000
def enL (S : SS) (s n : Nat) : List ENT := (List.range n).map (fun i => rowE S (5 * s + i))
/-- entries are gone through: which stay, and which one is hit -/
def HITR (S : SS) (κ ty v el : Int) (rr : Nat) : List ENT → List ENT → Option Nat → Prop
  | [], l', r => l' = [] ∧ r = none
  | e :: l, l', r => (STE S κ e 1 ∧ HITR S κ ty v el rr l l' r) ∨ (STE S κ e 0 ∧ GDE S κ ty v el rr e ∧ l' = e :: l ∧ r = some 0) ∨ (STE S κ e 0 ∧ ¬ GDE S κ ty v el rr e ∧ ∃ l2 r2, l' = e :: l2 ∧ r = r2.map (· + 1) ∧ HITR S κ ty v el rr l l2 r2)
/-- counted up so often -/
def pcI : Nat → Int → Int
  | 0, x => x
  | n + 1, x => pcI n (w32 (x + 1))
def LSI : List Nat := [f_Md_entries, f_Md_pruned, f_Md_hits, f_Md_links, f_Md_isMega]
/-- only a site's rows change -/
def SLO (s : Nat) (S S' : SS) : Prop := (∀ f i, LRW.elem f = true → ¬ i / 5 = s → S' f i = S f i) ∧ (∀ f i, LSI.elem f = true → i ≠ s → S' f i = S f i)
def LHT : List Nat := LRW ++ [f_Md_entries, f_Md_pruned]
section
variable {ρ : Nat → Nat} {P : ah → Nat → Prop} {d : Nat} {Q : QT} {Γ : GH} {h h0 : ah} {C ho T k n m f i j N M b r a s rr mn sn tn row : Nat} {S S' S1 S2 SX : SS} {X : X3} {Y : Y3} {g : HG} {l L bs : List Int} {v p x y nm ty cnt κ hd w La bv el : Int} {ls l2 : List ENT}
theorem SLO.rf : SLO s S S := ⟨fun _ _ _ _ => rfl, fun _ _ _ _ => rfl⟩
theorem SLO.tr (a : SLO s S S1) (b : SLO s S1 S2) : SLO s S S2 := ⟨fun f i h1 h2 => (b.1 f i h1 h2).trans (a.1 f i h1 h2), fun f i h1 h2 => (b.2 f i h1 h2).trans (a.2 f i h1 h2)⟩
theorem SLO.u (a : SLO s S S1) (hf : LRW.elem f = false) : SLO s S (u2 S1 f s v) := ⟨fun f' i h1 h2 => by
  rw [u2_f (by rintro rfl; rw [hf] at h1; cases h1)]; exact a.1 f' i h1 h2, fun f' i h1 h2 => by
  rw [u2_e, if_neg (fun c => h2 c.2)]; exact a.2 f' i h1 h2⟩
theorem SLO.cp (a : SLO s S S1) (hb : b / 5 = s) : SLO s S (cpyS S1 n b) := ⟨fun f i h1 h2 => by
  rw [cpyS_g h1, if_neg (by rintro rfl; exact h2 hb)]; exact a.1 f i h1 h2, fun f i h1 h2 => by
  rw [cpyS_off f i (by
    have : LSI.all (fun f => !(LRW.elem f)) = true := by decide
    simpa using List.all_eq_true.mp this f (by simpa using h1))]; exact a.2 f i h1 h2⟩
theorem STL.e (e1 : EXS [f_Md_changedAt, f_Md_thingShape, f_Md_shapeProto] S S1) : ∀ {j : Nat} {p b : Int}, STL S La hd j p b → STL S1 La hd j p b := fun {j} => by
  have pe : ∀ k, prS S1 k = prS S k := fun k => by unfold prS; rw [e1 _ (by decide), e1 _ (by decide)]
  induction j with
  | zero => exact fun A => A
  | succ j ih =>
    intro p b A
    rcases A with A | ⟨p0, A⟩
    · exact Or.inl A
    · refine Or.inr ⟨p0, ?_⟩
      rw [e1 _ (by decide), pe]
      rcases A with A | A | ⟨a1, a2, a3⟩
      · exact Or.inl A
      · exact Or.inr (Or.inl A)
      · exact Or.inr (Or.inr ⟨a1, a2, ih a3⟩)
theorem STE.e {e : ENT} (e1 : EXS [f_Md_changedAt, f_Md_thingShape, f_Md_shapeProto] S S1) (H : STE S κ e bv) : STE S1 κ e bv := by
  rcases H with ⟨a1, a2, a3, j, a4⟩ | H
  · exact Or.inl ⟨a1, a2, a3, j, by rw [e1 _ (by decide)]; exact a4.e e1⟩
  · exact Or.inr H
def LGD : List Nat := [f_Md_thingFunction, f_Md_thingShape, f_Md_thingClass, f_Md_pileType, f_Md_pileValue]
theorem GDE.e {e : ENT} (e1 : EXS LGD S S1) : GDE S1 κ ty v el rr e ↔ GDE S κ ty v el rr e := by
  unfold GDE gdG tyT
  rw [e1 f_Md_thingFunction (by decide), e1 f_Md_thingShape (by decide), e1 f_Md_thingClass (by decide)]
  simp only [e1 f_Md_pileType (by decide), e1 f_Md_pileValue (by decide), e1 f_Md_thingClass (by decide)]
theorem HITR.e (e1 : EXS (LGD ++ [f_Md_changedAt, f_Md_shapeProto]) S S1) : ∀ {ls l2 : List ENT} {r : Option Nat}, HITR S κ ty v el rr ls l2 r → HITR S1 κ ty v el rr ls l2 r := fun {ls} => by
  have x1 : EXS [f_Md_changedAt, f_Md_thingShape, f_Md_shapeProto] S S1 := fun f hf => e1 f (by
    have : f = f_Md_changedAt ∨ f = f_Md_thingShape ∨ f = f_Md_shapeProto := by simpa using hf
    rcases this with rfl | rfl | rfl <;> decide)
  have x2 : EXS LGD S S1 := fun f hf => e1 f (by simp at hf ⊢; exact Or.inl hf)
  induction ls with
  | nil => exact fun A => A
  | cons e l ih =>
    intro l2 r A
    rcases A with ⟨a1, a2⟩ | ⟨a1, a2, a3⟩ | ⟨a1, a2, l3, r3, a3, a4, a5⟩
    · exact Or.inl ⟨a1.e x1, ih a2⟩
    · exact Or.inr (Or.inl ⟨a1.e x1, (GDE.e x2).mpr a2, a3⟩)
    · exact Or.inr (Or.inr ⟨a1.e x1, fun c => a2 ((GDE.e x2).mp c), l3, r3, a3, a4, ih a5⟩)
theorem HITR.len : ∀ {ls l2 : List ENT} {r : Option Nat}, HITR S κ ty v el rr ls l2 r → l2.length ≤ ls.length ∧ (∀ i, r = some i → i < l2.length) := fun {ls} => by
  induction ls with
  | nil => intro l2 r A; obtain ⟨rfl, rfl⟩ := A; exact ⟨Nat.le_refl _, fun i c => by cases c⟩
  | cons e l ih =>
    intro l2 r A
    rcases A with ⟨-, a2⟩ | ⟨-, -, rfl, rfl⟩ | ⟨-, -, l3, r3, rfl, rfl, a5⟩
    · obtain ⟨h1, h2⟩ := ih a2
      exact ⟨by simp; omega, h2⟩
    · exact ⟨Nat.le_refl _, fun i c => by injection c with c; subst c; simp⟩
    · obtain ⟨h1, h2⟩ := ih a5
      refine ⟨by simp; omega, fun i c => ?_⟩
      cases r3 with
      | none => cases c
      | some j =>
        have := h2 j rfl
        simp at c
        simp; omega
/-- one entry goes -/
theorem s_prune (hs : s < 4000) (hn : n ≤ 4) (hk : k < n) : ∀ mm j, j + mm = n → k < j → ∀ S1 : SS, S1 f_Md_entries s = (n : Int) → ∃ S', OFF LHT S1 S' ∧ SLO s S1 S' ∧ S' f_Md_entries s = ((n - 1 : Nat) : Int) ∧ S' f_Md_pruned s = w32 (S1 f_Md_pruned s + 1) ∧ (∀ i, i < n - 1 → rowE S' (5 * s + i) = if i + 1 < j then rowE S1 (5 * s + i) else rowE S1 (5 * s + (i + 1))) ∧ ∀ (d : Nat) (h0 : ah) (T : Nat) (Q : QT) (l2 l4 l5 : Int), TOK h0 T → wpB PGm ρ (d + 1) m_Md_invokes 138 [(0, vR T), (1, vI (s : Int)), (2, vI l2), (4, vI l4), (5, vI l5)] [] (cn h0 T S') Q → wpB PGm ρ (d + 1) m_Md_invokes 174 [(0, vR T), (1, vI (s : Int)), (2, vI l2), (4, vI l4), (5, vI l5), (6, vI (j : Int))] [] (cn h0 T S1) Q := fun mm => by
  have b1 : 0 ≤ (s : Int) ∧ (s : Int) < ((4000 : Nat) : Int) := by omega
  induction mm with
  | zero =>
    intro j hj kj S1 en
    refine ⟨u2 (u2 S1 f_Md_entries s ((n - 1 : Nat) : Int)) f_Md_pruned s (w32 (S1 f_Md_pruned s + 1)), (OFF.rf.u (by decide)).u (by decide), (SLO.rf.u (by decide)).u (by decide), by rw [u2_f (by decide), u2_s], u2_s, fun i hi => ?_, fun d h0 T Q l2 l4 l5 O q => ?_⟩
    · rw [if_pos (by omega)]
      exact rowE_e (fun f hf => by rw [u2_f (by rintro rfl; exact absurd hf (by decide)), u2_f (by rintro rfl; exact absurd hf (by decide))])
    · have kT := O.1
      have G := O.2.1
      have y1 : w32 ((n : Int) - 1) = ((n - 1 : Nat) : Int) := w32_m1 (by omega)
      have n1 : (n : Int) ≤ (j : Int) := by omega
      have n2 : ¬ (j : Int) < (n : Int) := by omega
      refine b_Md_invokes_174 ?_
      simp (decide := true) (disch := first | decide | omega) only [cnI, cnR, cnK, cnl, cnA' G, cn_sA' G, kT, KN G, LN G, en, y1, n1, n2, u2_f, Int.toNat_natCast, true_and, and_true, forall_const, false_implies]
      exact ⟨b1, b1, b1, b1, b1, q⟩
  | succ mm ih =>
    intro j hj kj S1 en
    have f0 := cpyS_off (S := S1) (a := 5 * s + j) (b := 5 * s + (j - 1))
    obtain ⟨S', f1, s1, e1, e2, e3, r1⟩ := ih (j + 1) (by omega) (by omega) (cpyS S1 (5 * s + j) (5 * s + (j - 1))) (by rw [f0 _ _ (by decide)]; exact en)
    refine ⟨S', (f0.le (by decide)).tr f1, (SLO.rf.cp (by omega)).tr s1, e1, by rw [e2, f0 _ _ (by decide)], fun i hi => ?_, fun d h0 T Q l2 l4 l5 O q => ?_⟩
    · rw [e3 i hi]
      by_cases w : i + 1 < j + 1
      · rw [if_pos w, cpyS_r]
        by_cases w2 : i = j - 1
        · rw [if_pos (by omega), if_neg (by omega)]; congr 1; omega
        · rw [if_neg (by omega), if_pos (by omega)]
      · rw [if_neg w, if_neg (by omega), cpyS_r, if_neg (by omega)]
    · have kT := O.1
      have G := O.2.1
      have g1 := r1 d h0 T Q l2 l4 l5 O q
      have n1 : ¬ (n : Int) ≤ (j : Int) := by omega
      have n2 : (j : Int) < (n : Int) := by omega
      have m1 : (5 * (s : Int)) = ((5 * s : Nat) : Int) := by omega
      have m2 : 5 * s + j ≤ 2000000000 := by omega
      have m3 : -2147483648 ≤ ((5 * s : Nat) : Int) ∧ ((5 * s : Nat) : Int) < 2147483648 := by omega
      have m4 : 1 ≤ 5 * s + j ∧ 5 * s + j ≤ 2000000000 := by omega
      have m5 : 5 * s + j - 1 = 5 * s + (j - 1) := by omega
      have m6 : j ≤ 2000000000 := by omega
      have cp := s_copies (ρ := ρ) (d := d) (S := S1) (Q := cV (fun h11 => wpB PGm ρ (d + 1) m_Md_invokes 174 [(0, vR T), (1, vI (s : Int)), (2, vI l2), (4, vI l4), (5, vI l5), (6, vI ((j + 1 : Nat) : Int))] [] h11 Q) (fun e14 h13 => hK h13 e14 ≠ 0 ∧ Q (Sum.inr e14) h13)) O (a := 5 * s + j) (b := 5 * s + (j - 1)) (by omega) (by omega) (by omega) g1
      have y0 : w32 (5 * (s : Int)) = ((5 * s : Nat) : Int) := by rw [m1]; exact w32_of m3.1 m3.2
      have y1 : w32 (((5 * s : Nat) : Int) + (j : Int)) = ((5 * s + j : Nat) : Int) := w32_aa m2
      have y2 : w32 (((5 * s + j : Nat) : Int) - 1) = ((5 * s + (j - 1) : Nat) : Int) := by rw [← m5]; exact w32_m1 m4
      have y3 : w32 ((j : Int) + 1) = ((j + 1 : Nat) : Int) := w32_p1 m6
      refine b_Md_invokes_174 ?_
      clear r1 ih e3 e1 e2 g1
      simp (decide := true) (disch := first | decide | omega) only [cnI, cnR, cnK, cnl, cnA' G, kT, KN G, LN G, en, y0, y1, y2, y3, n1, n2, Int.toNat_natCast, true_and, and_true, forall_const, false_implies]
      exact ⟨b1, cp⟩
/-- what must be known of the entries for the run -/
def EOK (S : SS) (N rr : Nat) (κ ty : Int) (e : ENT) : Prop := (e f_Md_linker = 0 → rdK κ → 0 ≤ e f_Md_guard ∧ e f_Md_guard < S f_Md_shapes 0) ∧ 0 ≤ e f_Md_guardMany ∧ (¬ (ty = 4 ∨ ty = 5) → e f_Md_linker = gdL ty → ∃ n : Nat, e f_Md_guardMany = (n : Int) ∧ n ≤ 8 ∧ PVS S N rr n ∧ ∃ w : Nat, e f_Md_guardTypes = (w : Int) ∧ w < 2 ^ 56)
theorem s_hitl (HC : CORE Γ h C ho X Y S N) (hs : s < 4000) (hN : N ≤ 60) (ty1 : S f_Md_goesType 0 = ty) (v1 : S f_Md_goesValue 0 = v) (e1 : S f_Md_elementName 0 = el) (vb : ty = 4 ∨ ty = 5 ∨ ty = 7 ∨ ty = 8 → 0 ≤ v ∧ v < 8000) : ∀ (rest l2 : List ENT) (r : Option Nat), HITR S κ ty v el rr rest l2 r → (∀ e, e ∈ rest → EOK S N rr κ ty e) → ∀ (kept : List ENT) (S1 : SS), OFF LHT S S1 → S1 f_Md_entries s = ((kept.length + rest.length : Nat) : Int) → kept.length + rest.length ≤ 4 → enL S1 s (kept.length + rest.length) = kept ++ rest → ∃ S', OFF LHT S1 S' ∧ SLO s S1 S' ∧ S' f_Md_entries s = ((kept.length + l2.length : Nat) : Int) ∧ S' f_Md_pruned s = pcI (rest.length - l2.length) (S1 f_Md_pruned s) ∧ enL S' s (kept.length + l2.length) = kept ++ l2 ∧ ∀ (d : Nat) (h0 : ah) (T : Nat) (Q : QT), TOK h0 T → wpB PGm ρ (d + 2) m_Md_invokes 263 [(0, vR T), (1, vI (s : Int)), (4, vI (match r with | none => -1 | some i => ((5 * s + (kept.length + i) : Nat) : Int)))] [] (cn h0 T S') Q → wpB PGm ρ (d + 2) m_Md_invokes 138 [(0, vR T), (1, vI (s : Int)), (2, vI κ), (4, vI (-1)), (5, vI (kept.length : Int))] [] (cn h0 T S1) Q := by
  intro rest
  have b1 : 0 ≤ (s : Int) ∧ (s : Int) < ((4000 : Nat) : Int) := by omega
  induction rest with
  | nil =>
    intro l2 r A _ kept S1 f1 en ln el1
    obtain ⟨rfl, rfl⟩ := A
    refine ⟨S1, OFF.rf, SLO.rf, en, rfl, el1, fun d h0 T Q O q => ?_⟩
    have kT := O.1
    have G := O.2.1
    rw [List.length_nil, Nat.add_zero] at en
    refine b_Md_invokes_138 ?_
    have n1 : ¬ (kept.length : Int) < (kept.length : Int) := by omega
    simp (decide := true) (disch := first | decide | omega) only [cnI, cnR, cnK, cnl, cnA' G, kT, KN G, LN G, en, n1, Int.le_refl, Int.toNat_natCast, true_and, and_true, forall_const, false_implies]
    exact ⟨b1, q⟩
  | cons e l ih =>
    intro l2 r A ok kept S1 f1 en ln el1
    rw [List.length_cons] at en ln el1
    have re : rowE S1 (5 * s + kept.length) = e := by
      have h1 : (enL S1 s (kept.length + (l.length + 1)))[kept.length]? = some e := by rw [el1]; simp
      unfold enL at h1
      rw [List.getElem?_map, List.getElem?_range (by omega)] at h1
      simpa using h1
    obtain ⟨o1, o2, o3⟩ := ok e (List.mem_cons_self ..)
    have x1 : EXS (LGD ++ [f_Md_changedAt, f_Md_shapeProto]) S S1 := f1.ex (by decide)
    have HC1 : CORE Γ h C ho X Y S1 N := HC.fz f1 (by decide +kernel)
    have x3 : EXS [f_Md_changedAt, f_Md_thingShape, f_Md_shapeProto] S S1 := f1.ex (by decide)
    have x4 : EXS LGD S S1 := f1.ex (by decide)
    have hr : 5 * s + kept.length < 20000 := by omega
    have n1 : ¬ ((kept.length + (l.length + 1) : Nat) : Int) ≤ (kept.length : Int) := by omega
    have n2 : (kept.length : Int) < ((kept.length + (l.length + 1) : Nat) : Int) := by omega
    have m1 : (5 * (s : Int)) = ((5 * s : Nat) : Int) := by omega
    have m2 : 5 * s + kept.length ≤ 2000000000 := by omega
    have m3 : -2147483648 ≤ ((5 * s : Nat) : Int) ∧ ((5 * s : Nat) : Int) < 2147483648 := by omega
    have m4 : kept.length ≤ 2000000000 := by omega
    have gE : ∀ f, LRW.elem f = true → S1 f (5 * s + kept.length) = e f := fun f hf => by rw [← re, rowE_g hf]
    have ty2 : S1 f_Md_goesType 0 = ty := by rw [f1 _ _ (by decide)]; exact ty1
    have v2 : S1 f_Md_goesValue 0 = v := by rw [f1 _ _ (by decide)]; exact v1
    have e2 : S1 f_Md_elementName 0 = el := by rw [f1 _ _ (by decide)]; exact e1
    -- T's question at this entry
    have fr : ∀ (d : Nat) (h0 : ah) (T : Nat) (Q : QT) (bv : Int), TOK h0 T → STE S κ e bv → (¬ bv = 0 → wpB PGm ρ (d + 2) m_Md_invokes 174 [(0, vR T), (1, vI (s : Int)), (2, vI κ), (4, vI (-1)), (5, vI (kept.length : Int)), (6, vI ((kept.length + 1 : Nat) : Int))] [] (cn h0 T S1) Q) → (bv = 0 → ¬ GDE S κ ty v el rr e → wpB PGm ρ (d + 2) m_Md_invokes 138 [(0, vR T), (1, vI (s : Int)), (2, vI κ), (4, vI (-1)), (5, vI ((kept.length + 1 : Nat) : Int))] [] (cn h0 T S1) Q) → (bv = 0 → GDE S κ ty v el rr e → wpB PGm ρ (d + 2) m_Md_invokes 263 [(0, vR T), (1, vI (s : Int)), (4, vI ((5 * s + kept.length : Nat) : Int))] [] (cn h0 T S1) Q) → wpB PGm ρ (d + 2) m_Md_invokes 138 [(0, vR T), (1, vI (s : Int)), (2, vI κ), (4, vI (-1)), (5, vI (kept.length : Int))] [] (cn h0 T S1) Q := by
      intro d h0 T Q bv O st q1 q2 q3
      have kT := O.1
      have G := O.2.1
      have g254 : bv = 0 → GDE S κ ty v el rr e → wpB PGm ρ (d + 2) m_Md_invokes 254 [(0, vR T), (1, vI (s : Int)), (2, vI κ), (4, vI ((5 * s + kept.length : Nat) : Int)), (5, vI (kept.length : Int))] [] (cn h0 T S1) Q := fun z zz => by
        have g := q3 z zz
        have c1 : (0 : Int) ≤ ((5 * s + kept.length : Nat) : Int) := by omega
        have c2 : ¬ ((5 * s + kept.length : Nat) : Int) < 0 := by omega
        refine b_Md_invokes_254 (b_Md_invokes_138 ?_)
        clear q1 q2 q3 ih ok el1 HC HC1 A o1 o2 o3
        simp (decide := true) (disch := first | decide | omega) only [cnI, cnR, cnK, cnl, cnA' G, kT, KN G, LN G, en, n1, n2, c1, c2, Int.toNat_natCast, true_and, and_true, forall_const, false_implies]
        exact ⟨b1, g⟩
      have st1 : STE S1 κ (rowE S1 (5 * s + kept.length)) bv := by rw [re]; exact st.e x3
      have gd1 : S1 f_Md_linker (5 * s + kept.length) = 0 → rdK κ → 0 ≤ S1 f_Md_guard (5 * s + kept.length) ∧ S1 f_Md_guard (5 * s + kept.length) < S1 f_Md_shapes 0 := fun z zz => by
        rw [gE _ (by decide)] at z ⊢
        rw [f1 f_Md_shapes 0 (by decide)]
        exact o1 z zz
      have gm1 : ¬ (ty = 4 ∨ ty = 5) → S1 f_Md_linker (5 * s + kept.length) = gdL ty → ∃ n : Nat, S1 f_Md_guardMany (5 * s + kept.length) = (n : Int) ∧ n ≤ 8 ∧ PVS S1 N rr n ∧ ∃ w : Nat, S1 f_Md_guardTypes (5 * s + kept.length) = (w : Int) ∧ w < 2 ^ 56 := fun z zz => by
        rw [gE _ (by decide)] at zz
        obtain ⟨n, h1, h2, h3, h4⟩ := o3 z zz
        exact ⟨n, by rw [gE _ (by decide)]; exact h1, h2, h3.ex (f1.ex (by decide)), by rw [gE _ (by decide)]; exact h4⟩
      have gG : bv = 0 → wpB PGm ρ (d + 1) m_Md_guards 0 [(0, vR T), (1, vI ((5 * s + kept.length : Nat) : Int)), (2, vI κ)] [] (cn h0 T S1) (cI (fun x30 h25 => ((x30 = 0 → wpB PGm ρ (d + 2) m_Md_invokes 138 [(0, vR T), (1, vI (s : Int)), (2, vI κ), (4, vI (-1)), (5, vI ((kept.length + 1 : Nat) : Int))] [] h25 Q) ∧ (¬ x30 = 0 → wpB PGm ρ (d + 2) m_Md_invokes 254 [(0, vR T), (1, vI (s : Int)), (2, vI κ), (4, vI ((5 * s + kept.length : Nat) : Int)), (5, vI (kept.length : Int))] [] h25 Q))) (fun e28 h27 => hK h27 e28 ≠ 0 ∧ Q (Sum.inr e28) h27)) := fun z => by
        refine s_guards (N := N) (rr := rr) O hr ty2 v2 e2 vb hN gm1 (fun c => ⟨fun cc => absurd cc (by decide), fun _ => g254 z ?_⟩) (fun c => ⟨fun _ => q2 z ?_, fun cc => absurd rfl cc⟩) (by rw [gE _ (by decide)]; exact o2)
        · rw [re] at c; exact (GDE.e x4).mp c
        · rw [re] at c; exact fun cc => c ((GDE.e x4).mpr cc)
      have gS : wpB PGm ρ (d + 1) m_Md_isStale 0 [(0, vR T), (1, vI ((5 * s + kept.length : Nat) : Int)), (2, vI κ)] [] (cn h0 T S1) (cI (fun x18 h13 => ((x18 = 0 → hK h13 T = k_Md ∧ wpB PGm ρ (d + 1) m_Md_guards 0 [(0, vR T), (1, vI ((5 * s + kept.length : Nat) : Int)), (2, vI κ)] [] h13 (cI (fun x30 h25 => ((x30 = 0 → wpB PGm ρ (d + 2) m_Md_invokes 138 [(0, vR T), (1, vI (s : Int)), (2, vI κ), (4, vI (-1)), (5, vI ((kept.length + 1 : Nat) : Int))] [] h25 Q) ∧ (¬ x30 = 0 → wpB PGm ρ (d + 2) m_Md_invokes 254 [(0, vR T), (1, vI (s : Int)), (2, vI κ), (4, vI ((5 * s + kept.length : Nat) : Int)), (5, vI (kept.length : Int))] [] h25 Q))) (fun e28 h27 => hK h27 e28 ≠ 0 ∧ Q (Sum.inr e28) h27))) ∧ (¬ x18 = 0 → wpB PGm ρ (d + 2) m_Md_invokes 174 [(0, vR T), (1, vI (s : Int)), (2, vI κ), (4, vI (-1)), (5, vI (kept.length : Int)), (6, vI ((kept.length + 1 : Nat) : Int))] [] h13 Q))) (fun e16 h15 => hK h15 e16 ≠ 0 ∧ Q (Sum.inr e16) h15)) := s_stale (d := d) O HC1 hr st1 gd1 ⟨fun z => ⟨kT, gG z⟩, q1⟩
      have y0 : w32 (5 * (s : Int)) = ((5 * s : Nat) : Int) := by rw [m1]; exact w32_of m3.1 m3.2
      have y1 : w32 (((5 * s : Nat) : Int) + (kept.length : Int)) = ((5 * s + kept.length : Nat) : Int) := w32_aa m2
      have y2 : w32 ((kept.length : Int) + 1) = ((kept.length + 1 : Nat) : Int) := w32_p1 m4
      refine b_Md_invokes_138 ?_
      clear q1 q2 q3 ih ok el1 HC HC1 A o1 o2 o3 gG g254 gm1 gd1 st1 st
      simp (decide := true) (disch := first | decide | omega) only [cnI, cnR, cnK, cnl, cnA' G, kT, KN G, LN G, en, n1, n2, y0, y1, y2, Int.toNat_natCast, true_and, and_true, forall_const, false_implies]
      exact ⟨b1, gS⟩
    rcases A with ⟨a1, a2⟩ | ⟨a1, a2, rfl, rfl⟩ | ⟨a1, a2, l3, r3, rfl, rfl, a5⟩
    · -- it goes
      obtain ⟨S2, f2, s2, n2', p2, r2, t2⟩ := s_prune (ρ := ρ) (n := kept.length + (l.length + 1)) (k := kept.length) hs ln (by omega) l.length (kept.length + 1) (by omega) (by omega) S1 en
      have el2 : enL S2 s (kept.length + l.length) = kept ++ l := by
        refine List.ext_getElem? (fun i => ?_)
        unfold enL
        rw [List.getElem?_map]
        by_cases hi : i < kept.length + l.length
        · rw [List.getElem?_range hi, Option.map_some, r2 i (by omega)]
          have q := fun j (hj : j < kept.length + (l.length + 1)) => show (enL S1 s (kept.length + (l.length + 1)))[j]? = some (rowE S1 (5 * s + j)) by
            unfold enL; rw [List.getElem?_map, List.getElem?_range hj]; rfl
          by_cases w : i + 1 < kept.length + 1
          · rw [if_pos w, ← q i (by omega), el1, List.getElem?_append_left (by omega), List.getElem?_append_left (by omega)]
          · rw [if_neg w, ← q (i + 1) (by omega), el1, List.getElem?_append_right (by omega), List.getElem?_append_right (by omega), show i + 1 - kept.length = i - kept.length + 1 by omega, List.getElem?_cons_succ]
        · rw [List.getElem?_eq_none (by simp; omega), List.getElem?_eq_none (by simp; omega)]; rfl
      obtain ⟨S', f3, s3, n3, p3, e3, t3⟩ := ih l2 r a2 (fun x hx => ok x (List.mem_cons_of_mem _ hx)) kept S2 (f1.tr f2) (by rw [n2']; congr 1) (by omega) el2
      have hl := a2.len.1
      refine ⟨S', f2.tr f3, s2.tr s3, n3, ?_, e3, fun d h0 T Q O q => fr d h0 T Q 1 O a1 (fun _ => t2 (d + 1) h0 T Q _ _ _ O (t3 d h0 T Q O q)) (fun c => absurd c (by decide)) (fun c => absurd c (by decide))⟩
      rw [p3, p2, List.length_cons, show l.length + 1 - l2.length = l.length - l2.length + 1 by omega]
      rfl
    · refine ⟨S1, OFF.rf, SLO.rf, en, by simp [pcI], el1, fun d h0 T Q O q => fr d h0 T Q 0 O a1 (fun c => absurd rfl c) (fun _ c => absurd a2 c) (fun _ _ => q)⟩
    · obtain ⟨S', f3, s3, n3, p3, e3, t3⟩ := ih l3 r3 a5 (fun x hx => ok x (List.mem_cons_of_mem _ hx)) (kept ++ [e]) S1 f1 (by rw [en, List.length_append]; simp only [List.length_singleton]; congr 1; omega) (by rw [List.length_append]; simp only [List.length_singleton]; omega) (by rw [List.length_append, List.append_assoc]; simp only [List.length_singleton]; rw [show kept.length + 1 + l.length = kept.length + (l.length + 1) by omega]; exact el1)
      have kl : (kept ++ [e]).length = kept.length + 1 := by simp
      rw [kl] at n3 e3 t3
      have ee : kept.length + 1 + l3.length = kept.length + (l3.length + 1) := by omega
      rw [ee] at n3 e3
      refine ⟨S', f3, s3, n3, ?_, by rw [List.append_assoc] at e3; exact e3, fun d h0 T Q O q => fr d h0 T Q 0 O a1 (fun c => absurd rfl c) (fun _ _ => t3 d h0 T Q O ?_) (fun _ c => absurd c a2)⟩
      · rw [p3, List.length_cons, List.length_cons]; congr 1; omega
      · cases r3 with
        | none => exact q
        | some i =>
          have : kept.length + 1 + i = kept.length + (i + 1) := by omega
          simp only [Option.map_some] at q
          simp only [this]
          exact q
end
