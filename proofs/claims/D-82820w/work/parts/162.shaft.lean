/-! a shape that goes on, on both sides -/
set_option maxRecDepth 20000
section
variable {Γ Γ' : GH} {h h' : ah} {C ho a N tn tn' sn sn' k z s n j b sm k0 l1 m i : Nat} {S S' : SS} {L : List Nat} {P : List (Nat × Nat)} {p nm cnt : Int}
theorem lastB_no (H : ∀ s, s < sn → SH1 h C S tn sn s) (e : ∀ s, s < sn → S' f_Md_shapeBefore s = S f_Md_shapeBefore s) (hs : sn ≤ k) : lastB S' k sn = 0 := by
  rcases lastB_lt (S := S') (k := k) sn with w | w
  · exact w
  · by_cases l0 : lastB S' k sn = 0
    · exact l0
    · exfalso
      have := ((lastB_sp (S := S') (b := k) sn).1 l0).1
      rw [e _ w] at this
      obtain ⟨-, -, -, q | q, -⟩ := H _ w
      · omega
      · omega
/-- a shape goes on from shape b -/
theorem THC.aft (H : THC Γ h C ho S N) (G : AC h C) (F : FC h C) (nsq : NSQ C h h' sn (hR h f_Shape_prototype (hB h (C + 52) b)) (hB h (C + 52) b) (hR h f_Shape_child (hB h (C + 52) b)) nm cnt) (fr : Fr (LCC ++ [f_Heap_shapes + 1]) [(f_Shape_child, hB h (C + 52) b)] z s h h') (rt : hR h' f_Shape_child (hB h (C + 52) b) = hz h) (ho' : HOo h ho) (en : S f_Md_shapes 0 = (sn : Int)) (hsn : sn ≤ 4000) (hb : b < sn) (hc : S f_Md_shapeCount b + 1 = cnt) (hn : 0 ≤ nm) (nn : ∀ j : Nat, (j : Int) < S f_Md_shapeCount b → S f_Md_shapeName (anc S b j) ≠ nm) (um : ∀ j, 1 ≤ j → j < sn → ¬ mtc S (b : Int) (S f_Md_shapeProto b) nm j) : THC Γ h' C ho (nspS S sn sm (b : Int) (S f_Md_shapeProto b) nm cnt) N ∧ GRO Γ Γ h h' C S (nspS S sn sm (b : Int) (S f_Md_shapeProto b) nm cnt) := by
  have gz := G.1
  have H0 := H
  obtain ⟨tn, sn0, a1, a2, a3, a4, a5, a6, a6', a7, a8, a9, a10⟩ := H0
  have : sn0 = sn := by omega
  subst this
  obtain ⟨m1, m2, m3, m4, m5, m6, m7, m8, m9, m10, m11, m12, m13, m14, m15⟩ := nsq
  obtain ⟨v1, v2, v3, v4, v5, v6⟩ := nspS_s (S := S) (sn := sn0) (sm := sm) (b := (b : Int)) (p := S f_Md_shapeProto b) (nm := nm) (cnt := cnt)
  have es : ∀ f i, (f_Md_shapes :: f_Md_allShapes :: LSP).elem f = false → nspS S sn0 sm (b : Int) (S f_Md_shapeProto b) nm cnt f i = S f i := fun f i hf => nspS_o hf
  have eR : ∀ s, s < sn0 → ∀ f, LSP.elem f = true → nspS S sn0 sm (b : Int) (S f_Md_shapeProto b) nm cnt f s = S f s := fun s hs f hf => nspS_k hf (by omega)
  generalize nspS S sn0 sm (b : Int) (S f_Md_shapeProto b) nm cnt = S' at *
  have g : GRO Γ Γ h h' C S S' := GRO.fr (exs_of es (by decide)) G F fr (by unfold DJ; rfl) (by simp)
  have SB := a8 b hb
  have bef : ∀ s, s < sn0 → (S f_Md_shapeBefore s).toNat < sn0 := fun s hs => (a8 s hs).bef hs
  have eB : ∀ i, i < sn0 → hB h' (C + 52) i = hB h (C + 52) i := fun i hi => by rw [m4, if_neg (by omega)]
  have roo : ∀ k, rooB S' k (sn0 + 1) = rooB S k sn0 := fun k => by
    show (if sn0 ≠ 0 ∧ S' f_Md_shapeBefore sn0 = -1 ∧ S' f_Md_shapeProto sn0 = (k : Int) then sn0 else rooB S' k sn0) = _
    rw [if_neg (fun c => by have := c.2.1; omega), rooB_k (S' := S') (S := S) (fun s hs => ⟨eR s hs _ (by decide), eR s hs _ (by decide)⟩)]
  have adr : ∀ s, s < sn0 → s ≠ b → hB h (C + 52) s ≠ hB h (C + 52) b := fun s hs ne c => by
    have x1 := (a8 s hs).2.1
    have x2 := SB.2.1
    rw [c] at x1; omega
  have lst : ∀ s, s ≠ b → lastB S' s (sn0 + 1) = lastB S s sn0 := fun s ne => by
    show (if sn0 ≠ 0 ∧ S' f_Md_shapeBefore sn0 = (s : Int) then sn0 else lastB S' s sn0) = _
    rw [if_neg (fun c => by have := c.2; omega), lastB_k (S' := S') (S := S) (fun s hs => eR s hs _ (by decide))]
  have lsb : lastB S' b (sn0 + 1) = sn0 := by
    show (if sn0 ≠ 0 ∧ S' f_Md_shapeBefore sn0 = (b : Int) then sn0 else lastB S' b sn0) = _
    rw [if_pos ⟨by omega, v3⟩]
  have cb := SH1.cn a8 b b (Nat.le_refl _) hb
  refine ⟨THC.sh (a := hB h (C + 52) b) H G F g fr (fun q hq => by simp at hq; rw [hq]) (by simp) (fun q hq => by simp at hq; rw [hq]; rfl) (fun i _ => ho'.eq G.2.1 fr (by unfold DJ; rfl) (by simp) i) a2 v1 hsn m3 eB eR (exs_of es (by decide)) (fun k hk' ne => ⟨fun f hf => es f k ?_, roo k⟩) (fun k tn' hk' e T => ?_) (fun s hs ne => lst s (fun c => ne (by rw [c]))) (fun s tn' et hs e SH => ?_) (fun tn' et SHs => ?_) (fun s h1 h2 c => ?_), g⟩
  · have : LTT.all (fun f => !((f_Md_shapes :: f_Md_allShapes :: LSP).elem f)) = true := by decide
    simpa using List.all_eq_true.mp this f (by simpa using hf)
  · exfalso
    have x1 := (a7 k (by omega)).p.1.2.1.1
    rw [e, SB.1.1] at x1
    exact kd_ns x1.symm
  · have et' : tn' = tn := by omega
    subst et'
    have ebs : s = b := Classical.byContradiction fun c => adr s hs c e
    subst ebs
    obtain ⟨⟨b1, b2, b3⟩, b4, b5, b6, b7, b8, b9, b10, b11, b12⟩ := SH
    have kp : ∀ f, LHH.elem f = true → f ≠ f_Shape_child → ¬ okW (LCC ++ [f_Heap_shapes + 1]) [(f_Shape_child, hB h (C + 52) s)] f (hB h (C + 52) s) := fun f hf ne => by
      rintro (c | c)
      · exact LHH_w (x := 0) hf (Or.inl c)
      · simp at c; exact ne c
    have i1 := fr.I b2 (by decide) (kp f_Shape_number (by decide) (by decide))
    have i2 := fr.I b2 (by decide) (kp f_Shape_name (by decide) (by decide))
    have i3 := fr.I b2 (by decide) (kp f_Shape_size (by decide) (by decide))
    have r1 := fr.R b2 (by decide) (kp f_Shape_prototype (by decide) (by decide))
    have r2 := fr.R b2 (by decide) (kp f_Shape_before (by decide) (by decide))
    have r4 := fr.R b2 (by decide) (kp f_Shape_sibling (by decide) (by decide))
    have k1 := eR s hs f_Md_shapeProto (by decide)
    have k2 := eR s hs f_Md_shapeBefore (by decide)
    have k3 := eR s hs f_Md_shapeName (by decide)
    have k4 := eR s hs f_Md_shapeCount (by decide)
    unfold SH1
    rw [eB s hs, k1, k2, k3, k4, i1, i2, i3, r1, r2, rt, r4, fr.K b2, lsb]
    refine ⟨⟨b1, fr.lt b2, b3⟩, b4, ?_, ?_, b7, b8, b9, ?_, fun q => ?_, fun i j hi hj => ?_⟩
    · rcases b5 with q | ⟨q1, q2, q3, q4⟩
      · exact Or.inl q
      · obtain ⟨u1, u2⟩ := g.2.2.1.2 (S f_Md_shapeProto s).toNat (by omega)
        exact Or.inr ⟨q1, by omega, by rw [u1]; exact q3, by rw [u2]; exact q4⟩
    · rcases b6 with q | ⟨q1, q2, q3, q4, q5, q6⟩
      · exact Or.inl q
      · have hs2 : (S f_Md_shapeBefore s).toNat < sn0 := bef s hs
        exact Or.inr ⟨q1, q2, by rw [eB _ hs2]; exact q3, q4, by rw [eR _ hs2 _ (by decide)]; exact q5, by rw [eR _ hs2 _ (by decide)]; exact q6⟩
    · unfold shA; rw [if_neg (by omega), m4, if_pos rfl]
    · rw [b11 q, lastB_k (S' := S') (S := S) (fun m hm => eR m (by omega) _ (by decide))]
      exact (shA_e eB (by have := lastB_lt (S := S) (k := (S f_Md_shapeBefore s).toNat) s; omega)).symm
    · obtain ⟨an1, an2⟩ := anc_k (S' := S') (fun s hs => eR s hs _ (by decide)) bef hs i
      obtain ⟨c1, c2⟩ := anc_k (S' := S') (fun s hs => eR s hs _ (by decide)) bef hs j
      rw [an1, c1, eR _ an2 _ (by decide), eR _ c2 _ (by decide)]
      exact b12 i j hi hj
  · have et' : tn' = tn := by omega
    subst et'
    have l0 : lastB S' sn0 (sn0 + 1) = 0 := by
      show (if sn0 ≠ 0 ∧ S' f_Md_shapeBefore sn0 = (sn0 : Int) then sn0 else lastB S' sn0 sn0) = _
      rw [if_neg (fun c => by have := c.2; omega)]
      exact lastB_no SHs (fun s hs => eR s hs _ (by decide)) (Nat.le_refl _)
    have l1 : lastB S' b sn0 = lastB S b sn0 := lastB_k (fun m hm => eR m (by omega) _ (by decide))
    obtain ⟨⟨b1, b2, b3⟩, b4, b5, b6, b7, b8, b9, b10, b11, b12⟩ := SB
    have kb := eR b hb f_Md_shapeCount (by decide)
    have kp := eR b hb f_Md_shapeProto (by decide)
    unfold SH1
    rw [m4, if_pos rfl, v3, v4, v5, v6, l0, Int.toNat_natCast, kb, kp, l1, eB b hb]
    refine ⟨⟨m8, m5, by omega⟩, m9, ?_, Or.inr ⟨by omega, by omega, m11, hn, by omega, rfl⟩, m12, m13, by omega, m14, fun _ => ?_, fun i j hi hj => ?_⟩
    · rcases b5 with q | ⟨q1, q2, q3, q4⟩
      · exact Or.inl ⟨q.1, by rw [m10]; exact q.2⟩
      · obtain ⟨u1, u2⟩ := g.2.2.1.2 (S f_Md_shapeProto b).toNat (by omega)
        exact Or.inr ⟨q1, by omega, by rw [u1]; exact q3, by rw [u2, m10]; exact q4⟩
    · rw [m15, b10]
      exact (shA_e eB (by have := lastB_lt (S := S) (k := b) sn0; omega)).symm
    · have an : ∀ j, anc S' sn0 (j + 1) = anc S b j ∧ anc S b j < sn0 := fun j => by
        obtain ⟨x1, x2⟩ := anc_k (S' := S') (fun s hs => eR s hs _ (by decide)) bef hb j
        rw [anc_s, v3, Int.toNat_natCast, x1]; exact ⟨rfl, x2⟩
      cases j with
      | zero => omega
      | succ j =>
        rw [(an j).1, eR _ (an j).2 _ (by decide)]
        cases i with
        | zero =>
          show S' f_Md_shapeName sn0 ≠ _
          rw [v5]
          exact fun c => nn j (by omega) c.symm
        | succ i =>
          rw [(an i).1, eR _ (an i).2 _ (by decide)]
          exact b12 i j (by omega) (by omega)
  · rw [v3, v4, v5] at c
    exact um s h1 h2 c
end
