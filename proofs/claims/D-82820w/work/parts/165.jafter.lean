/-! a shape that goes on: found or made by both -/
set_option maxRecDepth 20000
section
variable {ρ : Nat → Nat} {P : ah → Nat → Prop} {d : Nat} {Q : QT} {Γ Γ' : GH} {h h1 h' : ah} {C ho : Nat} {X X' X1 : X3} {Y Y' : Y3} {S S' S1 : SS} {N t o n c r f i j k m z s b sm sn k0 : Nat} {ty v x y op a p nm cnt : Int} {L : List Nat} {Pp : List (Nat × Nat)}
theorem THC.ex (H : THC Γ h C ho S N) : ∃ sn, S f_Md_shapes 0 = (sn : Int) := by
  obtain ⟨tn, sn, c1, c2, -⟩ := H
  exact ⟨sn, c2⟩
theorem j_after (H : CORE Γ h C ho X Y S N) (hb : (b : Int) < S f_Md_shapes 0) (hn : 0 ≤ nm) (nn : ∀ j : Nat, (j : Int) < S f_Md_shapeCount b → S f_Md_shapeName (anc S b j) ≠ nm) (hd : 12 ≤ d) (q0 : TMD ρ S (b : Int) (S f_Md_shapeProto b) nm none → Q (Sum.inr (C + 33)) (cc h C (erX X 0) Y)) (q1 : ∀ r S' h' X', TMD ρ S (b : Int) (S f_Md_shapeProto b) nm (some (r, S')) → SHR Γ h C ho X Y S N h' X' S' → (1 ≤ r ∧ (r : Int) < S' f_Md_shapes 0) → S' f_Md_shapeProto r = S f_Md_shapeProto b → S' f_Md_shapeBefore r = (b : Int) → S' f_Md_shapeName r = nm → S' f_Md_shapeCount r = S f_Md_shapeCount b + 1 → Q (Sum.inl (some (vR (hB h' (C + 52) r)))) (cc h' C X' Y)) : wpB PGm ρ (d + 3) m_Heap_after 0 [(0, vR (C + 50)), (1, vR (hB h (C + 52) b)), (2, vI nm)] [] (cc h C X Y) Q := by
  have H0 := H
  obtain ⟨⟨G, F⟩, -, -, -, -, -, -, -, q6, q7, q8⟩ := H0
  have q7' := q7
  obtain ⟨tn, sn, c1, c2, c3, c4, c5, c6, c6', c7, c8, c9, c10⟩ := q7'
  obtain ⟨-, -, sm, -, -, -, -, hk', -, -, -, ⟨m1, m2, m3⟩, -, -, ⟨m4, m5, m6⟩, -⟩ := q6
  have esn : hk' = sn := by omega
  subst esn
  have hb' : b < hk' := by omega
  have SB := c8 b hb'
  obtain ⟨⟨b1, b2, b3⟩, b4, b5, b6, b7, b8, b9, b10, b11, b12⟩ := SB
  have cb := SH1.cn c8 b b (Nat.le_refl _) hb'
  have hb1 : ¬ ((b : Int) < 0 ∧ S f_Md_shapeProto b < 0) := fun c => by omega
  have hcc : (b : Int) = -1 ∧ S f_Md_shapeCount b + 1 = 0 ∨ ∃ s : Nat, (b : Int) = (s : Int) ∧ s < hk' ∧ S f_Md_shapeCount s + 1 = S f_Md_shapeCount b + 1 ∧ 0 ≤ S f_Md_shapeCount s ∧ S f_Md_shapeCount s ≤ 5000 := Or.inr ⟨b, rfl, hb', rfl, b9.1, by omega⟩
  have hpp : S f_Md_shapeProto b = -1 ∨ ∃ k : Nat, S f_Md_shapeProto b = (k : Int) ∧ k < 8000 := by
    rcases b5 with w | w
    · exact Or.inl w.1
    · exact Or.inr ⟨(S f_Md_shapeProto b).toNat, by omega, by omega⟩
  have kk : ∀ s, s < hk' → hK h (hB h (C + 52) s) = k_Shape ∧ hB h (C + 52) s ≠ 0 ∧ hI h f_Shape_name (hB h (C + 52) s) = S f_Md_shapeName s ∧ (0 ≤ S f_Md_shapeBefore s → hR h f_Shape_sibling (hB h (C + 52) s) = shA h C (lastB S (S f_Md_shapeBefore s).toNat s)) := fun s hs => by
    obtain ⟨⟨x1, x2, x3⟩, x4, x5, x6, x7, x8, x9, x10, x11, x12⟩ := c8 s hs
    exact ⟨x1, x3, x7, x11⟩
  have pr : ∀ r, 1 ≤ r → r < hk' → S f_Md_shapeBefore r = (b : Int) → S f_Md_shapeName r = nm → mtc S (b : Int) (S f_Md_shapeProto b) nm r := fun r r1 r2 e1 e2 => by
    obtain ⟨-, -, -, x | ⟨-, -, -, -, -, x⟩, -⟩ := c8 r r2
    · omega
    · rw [e1, Int.toNat_natCast] at x
      exact ⟨e1, x, e2⟩
  have ndx : ∀ r r', 1 ≤ r → r < hk' → 1 ≤ r' → r' < hk' → mtc S (b : Int) (S f_Md_shapeProto b) nm r → mtc S (b : Int) (S f_Md_shapeProto b) nm r' → r = r' := fun r r' a1 a2 b1 b2 e1 e2 => c10.1 r r' a1 b1 a2 b2 (by rw [e1.1, e2.1]) (by rw [e1.2.1, e2.2.1]) (by rw [e1.2.2, e2.2.2])
  by_cases fnd : ∃ r, (1 ≤ r ∧ r < hk') ∧ mtc S (b : Int) (S f_Md_shapeProto b) nm r
  · obtain ⟨r, ⟨r1, r2⟩, r3⟩ := fnd
    have cnr : S f_Md_shapeCount r = S f_Md_shapeCount b + 1 := by
      obtain ⟨-, -, -, x | ⟨-, -, -, -, x, -⟩, -⟩ := c8 r r2
      · have := r3.1; omega
      · rw [r3.1, Int.toNat_natCast] at x; exact x
    have g := q1 r S h X (fun d h0 T Q O qq => s_madeShape (cnt := S f_Md_shapeCount b + 1) O m4 m2 ⟨c5, m6⟩ m3 hb1 hcc hpp (fun r' a1 a2 a3 => by
        rw [ndx r' r a1 a2 r1 r2 a3 r3]; exact qq) (fun w => absurd r3 (w r r1 r2)) (fun w => absurd r3 (w r r1 r2)) (fun w => absurd r3 (w r r1 r2))) (SHR.rf H) ⟨r1, by omega⟩ r3.2.1 r3.1 r3.2.2 cnr
    refine b_Heap_after_0 (by omega) ⟨b1, r_known kk hb' b10 (fun r' a1 a2 a3 a4 => ⟨fun w => absurd w (kk r' a2).2.1, fun _ => ?_⟩) (fun w => absurd r3.2.2 (w r r1 r2 r3.1))⟩
    rw [ndx r' r a1 a2 r1 r2 (pr r' a1 a2 a3 a4) r3]
    exact g
  · have nf : ∀ j, 1 ≤ j → j < hk' → ¬ mtc S (b : Int) (S f_Md_shapeProto b) nm j := fun j j1 j2 e => fnd ⟨j, ⟨j1, j2⟩, e⟩
    refine r_afterNew (sz := S f_Md_shapeCount b + 1) G F hd b3 b2 b1 (by rw [b8]) ⟨by omega, by omega⟩ m1 m3 c4 c6' (fun Q qq => r_known kk hb' b10 (fun r' a1 a2 a3 a4 => absurd (pr r' a1 a2 a3 a4) (nf r' a1 a2)) (fun _ => qq)) (fun rm h' z s nsq fr rt => ?_) (fun rm => q0 ?_)
    · obtain ⟨T1, g1⟩ := THC.aft (sm := sm) q7 G F nsq fr rt q8 m4 (by omega) hb' rfl hn nn nf
      obtain ⟨v1, v2, v3, v4, v5, v6⟩ := nspS_s (S := S) (sn := hk') (sm := sm) (b := (b : Int)) (p := S f_Md_shapeProto b) (nm := nm) (cnt := S f_Md_shapeCount b + 1)
      have B := SHR.mk H fr (fun q hq => by simp at hq; rw [hq]; rfl) (fun x hx => by simp at hx; exact absurd hx.1 (by decide)) m4 m1 rm nsq.2.2.2.2.2.1 nsq.2.2.2.2.2.2.1 nsq.2.2.2.1 T1 g1 (fun f i hf => by
        have n : ∀ L : List Nat, (L.all fun f => LSH.elem f) = true → L.elem f = false := fun L q => by
          cases w : L.elem f with
          | false => rfl
          | true => rw [List.all_eq_true.mp q f (by simpa using w)] at hf; cases hf
        exact nspS_o (n _ (by decide))) v1 v2 (fun s hs f hf => nspS_k hf (by omega)) (fun j w => by rw [nspS_o (by decide)]; exact w)
      have g := q1 hk' _ h' _ ?_ B ⟨c5, by rw [v1]; omega⟩ v4 v3 v5 v6
      · rw [nsq.2.2.2.1, if_pos rfl] at g
        exact g
      · intro d h0 T Q O qq
        refine s_madeShape (cnt := S f_Md_shapeCount b + 1) O m4 m2 ⟨c5, m6⟩ m3 hb1 hcc hpp (fun r r1 r2 r3 => absurd r3 (nf r r1 r2)) (fun _ _ _ => qq) (fun _ _ k' w1 w2 => ?_) (fun _ w => by omega)
        -- a prototype of a shape is watched
        exfalso
        have rt := SH1.rt c8 b b (Nat.le_refl _) hb' w1
        rcases b5 with w | ⟨w3, w4, w5, -⟩
        · omega
        · have e : (S f_Md_shapeProto b).toNat = k' := by omega
          rw [e] at w5
          have TD := (c7 k' (by omega)).p.2.2.2
          have := (TD.1 w5).2.2.2.mpr rt
          omega
    · intro d h0 T Q O qq
      exact s_madeShape (cnt := S f_Md_shapeCount b + 1) O m4 m2 ⟨c5, m6⟩ m3 hb1 hcc hpp (fun r r1 r2 r3 => absurd r3 (nf r r1 r2)) (fun _ w => by omega) (fun _ w => by omega) (fun _ _ => qq)
end
