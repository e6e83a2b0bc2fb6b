/-! both: a shape is rebuilt: whole -/
set_option maxRecDepth 20000
def TRW (ρ : Nat → Nat) (S : SS) (k : Nat) (p w : Int) (e : SS ⊕ (Nat × SS)) : Prop := ∀ (d : Nat) (h0 : ah) (T : Nat) (Q : QT), TOK h0 T → (match e with | Sum.inl S1 => Q (Sum.inr (hR h0 f_Md_halt T)) (cn h0 T (erS S1 99)) | Sum.inr (r, S') => Q (Sum.inl (some (vI (r : Int)))) (cn h0 T S')) → wpB PGm ρ (d + 4) m_Md_rebuilt 0 [(0, vR T), (1, vI (k : Int)), (2, vI p), (3, vI w)] [] (cn h0 T S) Q
section
variable {ρ : Nat → Nat} {d : Nat} {Q : QT} {Γ : GH} {h h1 h2 h' H : ah} {C ho k n m o c x y z s f i j a sn sm tn s0 l1 N r : Nat} {X X' X1 X2 : X3} {Y : Y3} {S S' S1 S2 : SS} {nm : Nat → Int} {v w p cur but : Int} {R : ah → Prop} {E1 E2 : Nat → ah → Prop}
theorem PRX.pp (H : PRX h C S l1 p) : p = -1 ∨ 0 ≤ p := by
  rcases H with ⟨-, e⟩ | ⟨k, -, e, -⟩ <;> omega
/-- T: no room -/
theorem trw_full (HC : CORE Γ h C ho X Y S N) (en : S f_Md_shapes 0 = (sn : Int)) (em : S f_Md_allShapes 0 = (sm : Int)) (L : SLK S k n) (P1 : PRX h C S l1 p) (rm : ¬ sm + wnF S sn p (nmT S k) w n ≤ 4000) : TRW ρ S k p w (Sum.inl S) := by
  obtain ⟨tn, sn', sm', c1, c2, c5, c6', c3, c4, c6, c7, c8, U, m1, m2, m3, m4⟩ := HC.shp
  have e : sn' = sn := by omega
  subst e
  have e' : sm' = sm := by omega
  subst e'
  exact fun d h0 T Q O q => s_rb0 (d := d + 2) O en em ⟨c5, c6'⟩ m3 U L P1.pp (fun z => absurd z rm) (fun _ => q)
/-- T: room, the root, and the walk -/
theorem trw_of (HC : CORE Γ h C ho X Y S N) (en : S f_Md_shapes 0 = (sn : Int)) (em : S f_Md_allShapes 0 = (sm : Int)) (L : SLK S k n) (P1 : PRX h C S l1 p) (rm : sm + wnF S sn p (nmT S k) w n ≤ 4000) {e : SS ⊕ (Nat × SS)} {t : Option (Nat × SS)} (ct : TMD ρ S (-1) p (-1) t) (eo : ∀ r S1, t = some (r, S1) → ∀ f i, LSH.elem f = false → S1 f i = S f i) (h1 : t = none → e = Sum.inl S) (h2 : ∀ r S1, t = some (r, S1) → TRB ρ S1 k p w n 0 (r : Int) e) : TRW ρ S k p w e := by
  obtain ⟨tn, sn', sm', c1, c2, c5, c6', c3, c4, c6, c7, c8, U, m1, m2, m3, m4⟩ := HC.shp
  have e1 : sn' = sn := by omega
  subst e1
  have e2 : sm' = sm := by omega
  subst e2
  intro d h0 T Q O q
  have kT := O.1
  have G0 := O.2.1
  have kH' : hK h0 (hR h0 f_Md_halt T) ≠ 0 := by rw [O.2.2]; decide
  have ck : 0 ≤ (k : Int) ∧ (k : Int) < ((8000 : Nat) : Int) := by have := L.1; omega
  refine s_rb0 (d := d + 2) O en em ⟨c5, c6'⟩ m3 U L P1.pp (fun _ => ct (d + 1) h0 T _ O ?_) (fun z => absurd rm z)
  cases t with
  | none =>
    rw [h1 rfl] at q
    exact ⟨kH', q⟩
  | some rs =>
    obtain ⟨r, S1⟩ := rs
    obtain ⟨L1, es1, -⟩ := L.sh (eo r S1 rfl)
    have g := h2 r S1 rfl (d + 1) h0 T Q (S1 f_Md_thingFirst k) O (fun hh => by
      have := L1.2.2.2.1 hh
      show _ = (((S1 f_Md_thingFirst k).toNat : Nat) : Int)
      omega) q
    show hK (cn h0 T S1) T = k_Md ∧ _
    simp (decide := true) only [cnR, cnK, cnl, cnA' G0, kT, KN G0, LN G0, Int.toNat_natCast, true_and, and_true]
    exact ⟨ck, g⟩
/-- C: the room that is wanting -/
theorem j_want (HC : CORE Γ h C ho X Y S N) (en : S f_Md_shapes 0 = (sn : Int)) (em : S f_Md_allShapes 0 = (sm : Int)) (hd : 14 ≤ d) (P1 : PRX h C S l1 p) (hs : s0 < sn) (hcn : S f_Md_shapeCount s0 = (n : Int)) (hn : n ≤ 64) (hnm : ∀ i, i < n → S f_Md_shapeName (anc S s0 (n - 1 - i)) = nm i) (hw : ∀ i, i < n → (nm i = but ↔ (i : Int) = w)) (q1 : sm + wnF S sn p nm w n ≤ 4000 → R (cc h C X Y)) (q0 : ¬ sm + wnF S sn p nm w n ≤ 4000 → E2 (C + 33) (cc h C (erX X 0) Y)) : wpB PGm ρ (d + 1) m_Heap_wanting 0 [(0, vR (C + 50)), (1, vR l1), (2, vR (hB h (C + 52) s0)), (3, vI but)] [] (cc h C X Y) (cI (fun x10 h5 => hK h5 (C + 50) = k_Heap ∧ wpB PGm ρ (d + 1) m_Heap_wantShapes 0 [(0, vR (C + 50)), (1, vI x10)] [] h5 (cV R E2)) E1) := by
  have ⟨G, F⟩ := HC.1
  obtain ⟨tn, sn', sm', c1, c2, c5, c6', c3, c4, c6, c7, c8, U, m1, m2, m3, m4⟩ := HC.shp
  have e2 : sm' = sm := by omega
  subst e2
  refine r_wanting HC en (by omega) P1 hs hcn hn hnm hw ⟨F.1.2.2.2.2.2.1, ?_⟩
  obtain ⟨d', rfl⟩ : ∃ d', d = d' + 1 := ⟨d - 1, by omega⟩
  have ctb : ∀ m cur, ctF S sn p nm w n m cur ≤ m := fun m => by
    induction m with
    | zero => intro cur; unfold ctF; omega
    | succ m ih =>
      intro cur
      unfold ctF
      split
      · have := ih cur; omega
      · have := ih (nxF S sn p cur (nm (n - (m + 1))))
        split <;> omega
  have wb : wnF S sn p nm w n ≤ 65 := by
    unfold wnF
    have := ctb n (rtF S sn p)
    split <;> omega
  exact r_wantShapes G F m1 m3 (by omega) q1 q0
/-- both: the shape is rebuilt -/
theorem j_rb0 (HC : CORE Γ h C ho X Y S N) (en : S f_Md_shapes 0 = (sn : Int)) (em : S f_Md_allShapes 0 = (sm : Int)) (hd : 14 ≤ d) (L : SLK S k n) (P1 : PRX h C S l1 p) (hs : s0 < sn) (hcn : S f_Md_shapeCount s0 = (n : Int)) (hnm : ∀ i, i < n → S f_Md_shapeName (anc S s0 (n - 1 - i)) = nmT S k i) (hw : ∀ i, i < n → (nmT S k i = but ↔ (i : Int) = w)) (hw2 : w = -1 ∨ 0 ≤ w) (dn : ∀ a b, a < n → b < n → nmT S k a = nmT S k b → a = b) (n0 : ∀ i, i < n → 0 ≤ nmT S k i) (rm : sm + wnF S sn p (nmT S k) w n ≤ 4000) (q0 : ∀ S2 h2 X2, SHR Γ h C ho X Y S N h2 X2 S2 → TRW ρ S k p w (Sum.inl S2) → Q (Sum.inr (C + 33)) (cc h2 C (erX X2 0) Y)) (q1 : ∀ r' S2 h2 X2, SHR Γ h C ho X Y S N h2 X2 S2 → TRW ρ S k p w (Sum.inr (r', S2)) → RCH S2 p w (nmT S k) n r' → Q (Sum.inl (some (vR (hB h2 (C + 52) r')))) (cc h2 C X2 Y)) : wpB PGm ρ (d + 4) m_Heap_rebuilt 0 [(0, vR (C + 50)), (1, vR l1), (2, vR (hB h (C + 52) s0)), (3, vI but)] [] (cc h C X Y) Q := by
  have ⟨G, F⟩ := HC.1
  have gz := G.1
  obtain ⟨tn, sn', sm', c1, c2, c5, c6', c3, c4, c6, c7, c8, U, m1, m2, m3, m4⟩ := HC.shp
  have e1 : sn' = sn := by omega
  subst e1
  have e2 : sm' = sm := by omega
  subst e2
  have kS : hK h (C + 33) ≠ 0 := by rw [F.1.2.1]; decide
  have p0 : posW w 0 = 0 := by unfold posW; rw [if_pos (by omega)]
  have lp : ∀ r S1 h1 X1, TMD ρ S (-1) p (-1) (some (r, S1)) → SHR Γ h C ho X Y S N h1 X1 S1 → (r : Int) < S1 f_Md_shapes 0 → S1 f_Md_shapeProto r = p → S1 f_Md_shapeCount r = 0 → wpB PGm ρ (d + 4) m_Heap_rebuilt 10 [(0, vR (C + 50)), (2, vR (hB h (C + 52) s0)), (3, vI but), (4, vR (hB h1 (C + 52) r)), (5, vI 0)] [] (cc h1 C X1 Y) Q := by
    intro r S1 h1 X1 tc A b1 b2 b3
    have R0 : RCH S1 p w (nmT S k) 0 r := ⟨b1, b2, by rw [b3, p0]; rfl, fun j hj => by rw [p0] at hj; omega⟩
    refine j_rbl (d := d) HC (by omega) L (by omega) hcn hnm hw hw2 dn n0 n 0 r h1 X1 S1 (by omega) A R0 (fun S2 h2 X2 B tb => q0 S2 h2 X2 B ?_) (fun r' S2 h2 X2 B tb R2 => q1 r' S2 h2 X2 B ?_ R2)
    · exact trw_of HC en em L P1 rm tc (fun r' S' e => by cases e; exact A.2.2.2.2.1) (fun e => by cases e) (fun r' S' e => by cases e; exact tb)
    · exact trw_of HC en em L P1 rm tc (fun r' S' e => by cases e; exact A.2.2.2.2.1) (fun e => by cases e) (fun r' S' e => by cases e; exact tb)
  have P1' := P1
  rcases P1 with ⟨rfl, rfl⟩ | ⟨k', rfl, rfl, hk, kd⟩
  · have e1 : hR (cc h C X Y) f_Heap_shapes (C + 50) = C + 52 := by rw [ccRo (by decide)]; exact F.2.2.1.2.2.1
    have eb : hB (cc h C X Y) (C + 52) 0 = hB h (C + 52) 0 := by
      have := ccBo (X := X) (Y := Y) (i := 0) (f := f_Heap_shapes) (b := C + 50) G (by decide) (by omega)
      rw [F.2.2.1.2.2.1] at this; exact this
    have S0 := c8 0 (by omega)
    have pz : S f_Md_shapeProto 0 = -1 ∧ S f_Md_shapeCount 0 = 0 := by
      rcases S0.2.2.2.1 with w | w
      · exact ⟨w.2.2.2.2.mp rfl, w.2.2.2.1⟩
      · omega
    have g := lp 0 S h X (fun d h0 T Q O qq => s_made0 O qq) (SHR.rf HC) (by omega) pz.1 pz.2
    refine b_Heap_rebuilt_0 ⟨F.1.2.2.2.2.2.1, b_Heap_rootOf_0 (by omega) ⟨fun z => absurd rfl z, fun _ => ⟨F.1.2.2.2.2.2.1, ?_⟩⟩⟩
    rw [e1, eb]
    exact ⟨F.2.2.2.1.2.1.1, ⟨by rw [cclok]; exact F.2.2.2.1.2.1, by decide, by rw [ccl, c4]; omega⟩, Or.inr (by rw [ccK, S0.1.1]; decide), g⟩
  · refine b_Heap_rebuilt_0 ⟨F.1.2.2.2.2.2.1, j_root (d := d) HC hk kd (by omega) (fun tc => ⟨kS, q0 S h X (SHR.rf HC) ?_⟩) (fun r S1 h1 X1 tc A b1 b2 b3 => lp r S1 h1 X1 tc A b1.2 b2 b3)⟩
    exact trw_of HC en em L P1' rm tc (fun r' S' e => by cases e) (fun _ => rfl) (fun r' S' e => by cases e)
end
