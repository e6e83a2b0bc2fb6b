/-! Thing.set and Heap.addProperty, on both sides -/
set_option maxRecDepth 20000
section
variable {ρ : Nat → Nat} {d : Nat} {Q : QT} {Γ : GH} {h h' h1 h2 : ah} {C ho k i j N M a z s r f o c t n mn m0 rr sk rk l : Nat} {g : HG} {v w hd ty κ nm x y : Int} {S S' S1 : SS} {X X' X1 X2 : X3} {Y Y' Y1 Y2 : Y3} {b : Bool}
theorem VR.tg (V : VR Γ S N x y ty v) : -128 ≤ x ∧ x ≤ 127 := by
  rw [V.1]
  rcases V.2.2 with z | z | z | z | z | z <;> omega
theorem r_slw (HC : CORE Γ h C ho X Y S N) (hk : (k : Int) < S f_Md_things 0) (hi : (i : Int) < S f_Md_thingCount k) (hv : -128 ≤ x ∧ x ≤ 127) (q : Q (Sum.inl none) (cc (slwH h (hB h (C + 51) k) i x y) C X Y)) : wpB PGm ρ d m_Thing_set 0 [(0, vR (hB h (C + 51) k)), (1, vI (i : Int)), (2, vI x), (3, vL y)] [] (cc h C X Y) Q := by
  have G := HC.1.1
  obtain ⟨tn, sn, sm, d1, d2, d5, d6', d3, d4, d6, d7, d8, U, m1, m2, m3, m4⟩ := HC.shp
  have TH := (d7 k (by omega)).p
  obtain ⟨ta1, ⟨ta2, ta3, ta4⟩, -⟩ := TH.1
  obtain ⟨tb1, tb2, ⟨tb3, tb4, tb5, tb6, tb7, tb8, tb9⟩, tb10, -⟩ := TH.2.1
  have kk : hK h (hB h (C + 51) k) ∈ [244, 245, 246, 249] := by
    rw [ta2]
    unfold kdK
    split
    · decide
    · split
      · decide
      · split <;> decide
  have r1 : ∀ {H : ah} {X : X3}, hR (cc H C X Y) f_Thing_tags (hB h (C + 51) k) = hR H f_Thing_tags (hB h (C + 51) k) := ccRo (by decide)
  have r2 : hR (cc h C X Y) f_Thing_words (hB h (C + 51) k) = hR h f_Thing_words (hB h (C + 51) k) := ccRo (by decide)
  have z1 : 0 ≤ (i : Int) ∧ (i : Int) < (hl h (hR h f_Thing_words (hB h (C + 51) k)) : Int) := by omega
  have e1 : ∀ {v : Int}, sA (cc h C X Y) (hR h f_Thing_words (hB h (C + 51) k)) i v = cc (sA h (hR h f_Thing_words (hB h (C + 51) k)) i v) C X Y := cc_sAo G (by decide) ta3
  have G2 : ∀ {v : Int}, AC (sA h (hR h f_Thing_words (hB h (C + 51) k)) i v) C := fun {v} => G.frm (Fr.wA (L := []) (P := [(f_Thing_words + 1, hB h (C + 51) k)]) (Or.inr (Or.inr (Or.inr ⟨f_Thing_words, _, ta3, by unfold own; decide, rfl, Or.inr (Or.inr (by simp))⟩))) Fr.r0) (by unfold DJ; rfl)
  have e2 : ∀ {u v : Int}, sA (cc (sA h (hR h f_Thing_words (hB h (C + 51) k)) i u) C X Y) (hR h f_Thing_tags (hB h (C + 51) k)) i v = cc (sA (sA h (hR h f_Thing_words (hB h (C + 51) k)) i u) (hR h f_Thing_tags (hB h (C + 51) k)) i v) C X Y := fun {u v} => cc_sAo (h := sA h (hR h f_Thing_words (hB h (C + 51) k)) i u) G2 (by decide) ta3
  refine b_Thing_set_0 ⟨kk, ?_⟩
  rw [r2, Int.toNat_natCast]
  refine ⟨⟨tb4, z1.1, z1.2⟩, ?_⟩
  show (((hK (sA (cc h C X Y) (hR h f_Thing_words (hB h (C + 51) k)) i y) (hR (sA (cc h C X Y) (hR h f_Thing_words (hB h (C + 51) k)) i y) f_Thing_tags (hB h (C + 51) k)) = 3 ∧ _) ∨ _) ∧ _) ∧ Q (Sum.inl none) (sA (sA (cc h C X Y) (hR h f_Thing_words (hB h (C + 51) k)) i y) (hR (sA (cc h C X Y) (hR h f_Thing_words (hB h (C + 51) k)) i y) f_Thing_tags (hB h (C + 51) k)) i x)
  rw [e1, r1]
  have er : hR (sA h (hR h f_Thing_words (hB h (C + 51) k)) i y) f_Thing_tags (hB h (C + 51) k) = hR h f_Thing_tags (hB h (C + 51) k) := rfl
  rw [er, e2]
  exact ⟨⟨Or.inl ⟨tb6, hv⟩, z1.1, by show (i : Int) < (hl h (hR h f_Thing_tags (hB h (C + 51) k)) : Int); rw [tb7]; exact z1.2⟩, q⟩
theorem grwB_o (hf : f ≠ f_Obj_epoch) (hf2 : f ≠ f_Obj_changedAt) : hI (grwB h a b v w) f j = hI h f j := by
  unfold grwB
  split
  · rw [I_Ine hf2, I_Ine hf]
  · rfl
theorem grwB_s : (∀ f x, hR (grwB h a b v w) f x = hR h f x) ∧ (∀ x, hK (grwB h a b v w) x = hK h x) ∧ (∀ x, hl (grwB h a b v w) x = hl h x) ∧ (∀ x i, hA (grwB h a b v w) x i = hA h x i) ∧ hz (grwB h a b v w) = hz h ∧ hs (grwB h a b v w) = hs h := by
  unfold grwB
  split
  · exact ⟨fun _ _ => rfl, fun _ => rfl, fun _ => rfl, fun _ _ => rfl, rfl, rfl⟩
  · exact ⟨fun _ _ => rfl, fun _ => rfl, fun _ => rfl, fun _ _ => rfl, rfl, rfl⟩
/-- a property is added -/
theorem r_addp (HC : CORE Γ h C ho X Y S N) (hk : (k : Int) < S f_Md_things 0) (kd : S f_Md_thingKind k = 4 ∨ S f_Md_thingKind k = 5) (en : S f_Md_thingCount k = (n : Int)) (n64 : n < 64) (esk : S f_Md_slots 0 = (sk : Int)) (erk : S f_Md_allSlots 0 = (rk : Int)) (hc : S f_Md_changes 0 + 1 ≤ 1000000) (V : VR Γ S N x y ty v) (r1 : (r : Int) < S f_Md_shapes 0) (r2 : S f_Md_shapeBefore r = S f_Md_thingShape k) (r3 : S f_Md_shapeName r = nm) (q1 : rk < 60000 → ∀ h3 X3 z s, ((CORE Γ h3 C ho X3 Y (adpS S k sk rk n nm ty v (r : Int)) N ∧ ∀ {t o n' c r' : Nat}, CT Γ h C X Y S N t o n' c r' → CT Γ h3 C X3 Y (adpS S k sk rk n nm ty v (r : Int)) N t o n' c r') ∧ GRO Γ Γ h h3 C S (adpS S k sk rk n nm ty v (r : Int)) ∧ BND h C S h3 (adpS S k sk rk n nm ty v (r : Int)) 1 0 ∧ Fr LHc [] z s h h3) → (∀ o f i, [f_Heap_ticks, f_Heap_room].elem f = false → X3 o f i = X o f i) → Q (Sum.inl none) (cc h3 C X3 Y)) (q0 : rk = 60000 → Q (Sum.inr (C + 33)) (cc h C (erX X 0) Y)) : wpB PGm ρ (d + 12) m_Heap_addProperty 0 [(0, vR (C + 50)), (1, vR (hB h (C + 51) k)), (2, vR (hB h (C + 52) r)), (3, vI x), (4, vL y)] [] (cc h C X Y) Q := by
  have G := HC.1.1
  have F := HC.1.2
  have gz := G.1
  have kH : hK h (C + 50) = k_Heap := F.1.2.2.2.2.2.1
  have mem := HC.2.2.2.2.2.2.2.2.1
  obtain ⟨mk, rm, sm, tk', ck, sk', vk, hk', gk, ⟨u1, u2, v3⟩, ⟨u4, u5, u6⟩, -, -, ⟨u7, u8, u9⟩, -, ⟨u10, u11, u12⟩⟩ := mem
  have erm : rm = rk := by omega
  subst erm
  obtain ⟨tn, sn, sm', d1, d2, d5, d6', d3, d4, d6, d7, d8, U, m1, m2, m3, m4⟩ := HC.shp
  have TH := (d7 k (by omega)).p
  obtain ⟨ta1, ⟨ta2, ta3, ta4⟩, -⟩ := TH.1
  obtain ⟨tb1, tb2, ⟨tb3, tb4, tb5, tb6, tb7, tb8, tb9⟩, tb10, -⟩ := TH.2.1
  obtain ⟨td1, td2, td3, td4, td5⟩ := TH.2.2.2
  have ep := (td1 kd).1
  have kk : hK h (hB h (C + 51) k) ∈ [244, 245] := by
    rw [ta2]
    unfold kdK
    rcases kd with w | w
    · rw [if_pos w]; decide
    · rw [if_neg (by omega), if_pos w]; decide
  have k4 : hK h (hB h (C + 51) k) ∈ [244, 245, 246, 249] := by
    rcases List.mem_cons.mp kk with w | w
    · rw [w]; decide
    · rw [List.mem_singleton.mp w]; decide
  generalize ea : hB h (C + 51) k = a at *
  have hv := V.tg
  have e1 : sI (cc h C X Y) f_Heap_room (C + 50) ((rm + 1 : Nat) : Int) = cc h C (u3 X 50 f_Heap_room 0 ((rm + 1 : Nat) : Int)) Y := cc_sI (by decide)
  have e2 : sR (cc h C (u3 X 50 f_Heap_room 0 ((rm + 1 : Nat) : Int)) Y) f_Obj_shape a (hB h (C + 52) r) = cc (sR h f_Obj_shape a (hB h (C + 52) r)) C (u3 X 50 f_Heap_room 0 ((rm + 1 : Nat) : Int)) Y := cc_sRo (by decide)
  have a0 : Fr [] [(f_Obj_shape, a)] 0 0 h (sR h f_Obj_shape a (hB h (C + 52) r)) := Fr.wR (Or.inr (by simp)) (by unfold own; decide) Fr.r0
  have G1 : AC (sR h f_Obj_shape a (hB h (C + 52) r)) C := G.frm a0 (by unfold DJ; rfl)
  have F1 : FC (sR h f_Obj_shape a (hB h (C + 52) r)) C := F.frm G a0 (by unfold DJ; rfl) ⟨by simp, by simp, by simp⟩
  -- the add
  have A1 : TA (cc (sR h f_Obj_shape a (hB h (C + 52) r)) C (u3 X 50 f_Heap_room 0 ((rm + 1 : Nat) : Int)) Y) a n (hl h (hR h f_Thing_words a)) := by
    refine ⟨k4, ta3, ?_, ?_, ?_, by omega, tb9⟩
    · rw [ccIo (by decide)]
      show hI h f_Thing_size a = _
      omega
    · rw [ccRo (by decide), R_Rne (by decide)]
      exact ⟨tb3, tb4, rfl⟩
    · rw [ccRo (by decide), R_Rne (by decide)]
      exact ⟨tb5, tb6, tb7⟩
  have add : rm < 60000 → wpB PGm ρ (d + 11) m_Thing_add 0 [(0, vR a), (1, vI x), (2, vL y)] [] (cc (sR h f_Obj_shape a (hB h (C + 52) r)) C (u3 X 50 f_Heap_room 0 ((rm + 1 : Nat) : Int)) Y) (cV (fun h14 => hK h14 (C + 50) = k_Heap ∧ wpB PGm ρ (d + 11) m_Heap_grew 0 [(0, vR (C + 50)), (1, vR a)] [] h14 (cV (fun h21 => Q (Sum.inl none) h21) (fun e24 h23 => hK h23 e24 ≠ 0 ∧ Q (Sum.inr e24) h23))) (fun e17 h16 => hK h16 e17 ≠ 0 ∧ Q (Sum.inr e17) h16)) := fun hr => by
    refine t_add (cc_INJ G1.2.1) A1 (by omega) (by omega) hv (fun H' l' f' fz A2 el c1 c2 => ?_)
    obtain ⟨G2, F2, E2, R2⟩ := matP G1 F1 f' (dj_PTA (by decide)) (fun y => by unfold PTA; simp [f_Thing_words, f_Thing_tags, f_Thing_size])
    rw [List.append_nil] at R2
    have ad1 : a < hz (cc (sR h f_Obj_shape a (hB h (C + 52) r)) C (u3 X 50 f_Heap_room 0 ((rm + 1 : Nat) : Int)) Y) := ta3
    have nk : ∀ f, [f_Obj_shape, f_Obj_epoch, f_Obj_changedAt].elem f = true → ¬ okW [] (PTA a) f a := fun f hf => by
      rintro (c | c)
      · cases c
      · unfold PTA at c; simp at c
        rcases c with e | e | e | e | e <;> (rw [e] at hf; exact absurd hf (by decide))
    have s1 : hR H' f_Obj_shape a = hB h (C + 52) r := by
      rw [f'.R ad1 (by decide) (nk _ (by decide)), ccRo (by decide)]; exact R_R _ _ _ _
    have s2 : hI H' f_Obj_epoch a = hI h f_Obj_epoch a := by
      rw [f'.I ad1 (by decide) (nk _ (by decide)), ccIo (by decide)]; rfl
    have s3 : hI H' f_Obj_changedAt a = hI h f_Obj_changedAt a := by
      rw [f'.I ad1 (by decide) (nk _ (by decide)), ccIo (by decide)]; rfl
    show hK H' (C + 50) = k_Heap ∧ wpB PGm ρ (d + 11) m_Heap_grew 0 [(0, vR (C + 50)), (1, vR a)] [] H' _
    refine ⟨F2.1.2.2.2.2.2.1, ?_⟩
    have kH2 : hK H' a ∈ [244, 245] := by rw [f'.K ad1]; exact kk
    have ee : hI H' f_Obj_epoch a = if (!(S f_Md_isWatched k == 0)) = true then S f_Md_epoch k else -1 := by
      rw [s2, ep]
      by_cases w : S f_Md_isWatched k = 0
      · rw [if_pos w, if_neg (by simp [w])]
      · rw [if_neg w, if_pos (by simp [w])]
    rw [← E2]
    refine r_grew (b := !(S f_Md_isWatched k == 0)) (e := S f_Md_epoch k) (t := S f_Md_changes 0) F2 kH2 ee (by omega) (by rw [u3_f (by decide)]; omega) (by omega) ?_
    have a2 : Fr LCC (PA8 a) 0 0 h (sR h f_Obj_shape a (hB h (C + 52) r)) := a0.mono (fun _ q => by cases q) (fun q hq => by unfold PA8; simp at hq ⊢; subst hq; simp)
    have a3 := R2.mono (L' := LCC) (P' := PA8 a) (fun _ q => q) (fun q hq => by unfold PTA at hq; unfold PA8; simp at hq ⊢; rcases hq with rfl | rfl | rfl | rfl | rfl <;> simp)
    have a4 : Fr LCC (PA8 a) 0 0 H' (grwB H' a (!(S f_Md_isWatched k == 0)) (S f_Md_epoch k) (S f_Md_changes 0)) := grwB_f (fun q hq => by unfold PA8; simp at hq ⊢; rcases hq with rfl | rfl <;> simp)
    have fr := (a2.trans a3).trans a4
    obtain ⟨b1, b2, b3, b4, b5, b6⟩ := grwB_s (h := H') (a := a) (b := !(S f_Md_isWatched k == 0)) (v := S f_Md_epoch k) (w := S f_Md_changes 0)
    obtain ⟨g1, g2⟩ := grwB_g (h := H') (a := a) (b := !(S f_Md_isWatched k == 0)) (e := S f_Md_epoch k) (t := S f_Md_changes 0)
    have b7 : hI (grwB H' a (!(S f_Md_isWatched k == 0)) (S f_Md_epoch k) (S f_Md_changes 0)) f_Thing_size a = hI H' f_Thing_size a := grwB_o (by decide) (by decide)
    have J : SLJ h a n l' x y (grwB H' a (!(S f_Md_isWatched k == 0)) (S f_Md_epoch k) (S f_Md_changes 0)) := by
      unfold SLJ TA
      rw [b7, b1, b1, b2, b2, b2, b3, b3, b5, b6]
      refine ⟨A2, fz, fun i hi => ?_, fun i hi => ?_⟩
      · rw [b4, c1 i hi, ccRo (by decide), ccAo G1 (by decide) ta3, R_Rne (by decide)]; rfl
      · rw [b4, c2 i hi, ccRo (by decide), ccAo G1 (by decide) ta3, R_Rne (by decide)]; rfl
    subst ea
    refine q1 hr _ _ _ _ (CORE.sla (nm := nm) (r := r) (sh := (r : Int)) HC hk en esk erk hr hc V fr J rfl (Or.inl ⟨kd, ⟨n64, rfl⟩, r1, r2, r3, by rw [b1]; exact s1, by rw [g1, s2], by rw [g2, s3]⟩) (by omega)) (fun o f i hf => ?_)
    unfold grwX
    split
    · rw [u3_f (by rintro rfl; exact absurd hf (by decide)), u3_f (by rintro rfl; exact absurd hf (by decide))]
    · exact u3_f (by rintro rfl; exact absurd hf (by decide))
  have o1 : rm + 1 ≤ 60000 → rm < 60000 := fun z => by omega
  have o2 : ¬ (mk + 0 ≤ 8000 ∧ rm + 1 ≤ 60000) → rm = 60000 := fun z => by omega
  have w1 : w32 ((rm : Int) + 1) = ((rm + 1 : Nat) : Int) := w32_s (by omega)
  refine b_Heap_addProperty_0 (d := d + 11) ⟨kH, r_want (d := d + 9) (a := 0) (b := 1) (mk := mk) (rm := rm) G F u1 u4 v3 u6 (by omega) (by omega) (fun _ z => ⟨kH, ?_⟩) (fun z => ⟨kSg F, q0 (o2 z)⟩)⟩
  have x1 : hI (cc h C X Y) f_Heap_room (C + 50) = (rm : Int) := by rw [ccI (by decide)]; exact u4
  rw [x1, w1, e1]
  refine ⟨kk, ?_⟩
  rw [e2]
  have ad := add (o1 z)
  exact ⟨fun _ => ad, fun z => ⟨fun _ => ad, fun z2 => by
    rcases List.mem_cons.mp kk with w | w
    · exact z w
    · exact z2 (List.mem_singleton.mp w)⟩⟩
end
