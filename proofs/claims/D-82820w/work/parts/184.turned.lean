/-! a thing has another shape, and the change is noted -/
set_option maxRecDepth 20000
def grwB (h : ah) (a : Nat) (b : Bool) (e t : Int) : ah := if b = true then sI (sI h f_Obj_epoch a (e + 1)) f_Obj_changedAt a (t + 1) else h
def grwX (X : X3) (b : Bool) (t : Int) : X3 := if b = true then u3 X 50 f_Heap_ticks 0 (t + 1) else X
def PT3 (a : Nat) : List (Nat × Nat) := [(f_Obj_shape, a), (f_Obj_epoch, a), (f_Obj_changedAt, a)]
section
variable {ρ : Nat → Nat} {d : Nat} {Q : QT} {Γ Γ' : GH} {h h' : ah} {C ho a N tn sn k z s n j m i r f : Nat} {S S' : SS} {L : List Nat} {P : List (Nat × Nat)} {X X' : X3} {Y : Y3} {b : Bool} {e t p' : Int}
/-- C: a change is noted -/
theorem r_grew (F : FC h C) (ka : hK h a ∈ [244, 245]) (ee : hI h f_Obj_epoch a = if b = true then e else -1) (he : 0 ≤ e ∧ e ≤ 1000000) (et : X 50 f_Heap_ticks 0 = t) (ht : 0 ≤ t ∧ t ≤ 1000000) (q : Q (Sum.inl none) (cc (grwB h a b e t) C (grwX X b t) Y)) : wpB PGm ρ d m_Heap_grew 0 [(0, vR (C + 50)), (1, vR a)] [] (cc h C X Y) Q := by
  have kH : hK h (C + 50) = k_Heap := F.1.2.2.2.2.2.1
  have e1 : ∀ {H : ah} {X : X3} {v : Int}, sI (cc H C X Y) f_Obj_epoch a v = cc (sI H f_Obj_epoch a v) C X Y := cc_sIo (by decide)
  have e2 : ∀ {H : ah} {X : X3} {v : Int}, sI (cc H C X Y) f_Obj_changedAt a v = cc (sI H f_Obj_changedAt a v) C X Y := cc_sIo (by decide)
  have e3 : ∀ {H : ah} {X : X3}, hI (cc H C X Y) f_Obj_epoch a = hI H f_Obj_epoch a := ccIo (by decide)
  have kk : ∀ {v : Int}, hK (sI h f_Obj_epoch a v) (C + 50) = k_Heap := kH
  unfold grwB grwX at q
  cases b with
  | false =>
    have q' : Q (Sum.inl none) (cc h C X Y) := q
    have ee' : hI h f_Obj_epoch a = -1 := ee
    refine b_Heap_grew_0 ⟨ka, fun z => ?_, fun _ => q'⟩
    rw [e3, ee'] at z
    exact absurd z (by decide)
  | true =>
    have q' : Q (Sum.inl none) (cc (sI (sI h f_Obj_epoch a (e + 1)) f_Obj_changedAt a (t + 1)) C (u3 X 50 f_Heap_ticks 0 (t + 1)) Y) := q
    have ee' : hI h f_Obj_epoch a = e := ee
    have w1 : w32 (e + 1) = e + 1 := w32_of (by omega) (by omega)
    have w2 : w32 (t + 1) = t + 1 := w32_of (by omega) (by omega)
    have nn : ¬ e < 0 := by omega
    clear he ht
    refine b_Heap_grew_0 ⟨ka, fun _ => ?_, fun z => ?_⟩
    · show hK (sI (cc h C X Y) f_Obj_epoch a _) (C + 50) = k_Heap ∧ _
      simp (decide := true) only [e3, ee', w1, e1, ccK, kk, ccI, et, w2, cc_sI, u3_s, e2, true_and]
      exact q'
    · rw [e3, ee'] at z
      exact absurd z nn
theorem grwB_f (a' : ∀ q, q ∈ [(f_Obj_epoch, a), (f_Obj_changedAt, a)] → q ∈ P) : Fr L P 0 0 h (grwB h a b e t) := by
  unfold grwB
  split
  · exact Fr.wI (by decide) (Or.inr (a' _ (by simp))) (Fr.wI (by decide) (Or.inr (a' _ (by simp))) Fr.r0)
  · exact Fr.r0
theorem grwB_g : hI (grwB h a b e t) f_Obj_epoch a = (if b = true then e + 1 else hI h f_Obj_epoch a) ∧ hI (grwB h a b e t) f_Obj_changedAt a = (if b = true then t + 1 else hI h f_Obj_changedAt a) := by
  unfold grwB
  cases b with
  | false => exact ⟨rfl, rfl⟩
  | true =>
    show hI (sI (sI h f_Obj_epoch a (e + 1)) f_Obj_changedAt a (t + 1)) f_Obj_epoch a = e + 1 ∧ hI (sI (sI h f_Obj_epoch a (e + 1)) f_Obj_changedAt a (t + 1)) f_Obj_changedAt a = t + 1
    exact ⟨by rw [I_Ine (by decide), I_I], by rw [I_I]⟩
theorem CHG.one (e : EXS [f_Md_shapes, f_Md_shapeProto, f_Md_shapeBefore, f_Md_shapeName, f_Md_shapeCount, f_Md_things, f_Md_isWatched, f_lay] S S') (ok : ∀ j, j ≠ k → ∀ f, LTT.elem f = true → S' f j = S f j) (w2 : S' f_Md_changedAt k = (if S f_Md_isWatched k = 0 then S f_Md_changedAt k else S f_Md_changes 0 + 1)) (w3 : S' f_Md_changes 0 = (if S f_Md_isWatched k = 0 then S f_Md_changes 0 else S f_Md_changes 0 + 1)) (w4 : ¬ S f_Md_thingKind k = 7) (w5 : S' f_Md_thingKind k = S f_Md_thingKind k) : CHG S S' := ⟨by rw [w3]; split <;> omega, ⟨by rw [e _ (by decide)]; exact Int.le_refl _, fun s _ f hf => e f (by
  have : f = f_Md_shapeProto ∨ f = f_Md_shapeBefore ∨ f = f_Md_shapeName ∨ f = f_Md_shapeCount := by simpa using hf
  rcases this with rfl | rfl | rfl | rfl <;> decide) s⟩, by rw [e _ (by decide)]; exact Int.le_refl _, fun j hj w => ⟨by rw [e _ (by decide)]; exact w, by
  by_cases c : j = k
  · subst c
    rw [if_neg (by rw [w]; decide)] at w2
    exact Or.inr (by omega)
  · exact Or.inl ⟨ok j c _ (by decide), ok j c _ (by decide)⟩⟩, ⟨fun j hj => by
  by_cases c : j = k
  · subst c
    exact ⟨w5, fun w => absurd w w4⟩
  · exact ⟨ok j c _ (by decide), fun _ => ⟨ok j c _ (by decide), ok j c _ (by decide)⟩⟩, fun j h1 h2 => absurd h2 (by rw [e _ (by decide)]; omega), fun c => e _ (by decide) c⟩⟩
theorem BND.chg (es : EXS [f_Md_allChoices, f_Md_allMade, f_Md_allShapes, f_Md_allSlots, f_Md_slots, f_Md_things] S S') (hc : S' f_Md_changes 0 ≤ S f_Md_changes 0 + 1) (ch : CHG S S') : BND h C S h S' 1 0 := by
  unfold BND WZ WS
  rw [es _ (by decide), es _ (by decide), es _ (by decide), es _ (by decide), es _ (by decide), es _ (by decide)]
  exact ⟨by omega, by omega, hc, ch, fun _ _ => rfl⟩
theorem MEM.tick (H : MEM X S) (hc : S f_Md_changes 0 + 1 ≤ 1000000) (x1 : X' 50 f_Heap_ticks 0 = S' f_Md_changes 0) (x2 : EXX [f_Heap_made, f_Heap_room, f_Heap_shapesMade, f_Heap_calls] X X') (s1 : S' f_Md_changes 0 = S f_Md_changes 0 ∨ S' f_Md_changes 0 = S f_Md_changes 0 + 1) (s3 : EXS [f_Md_allMade, f_Md_allSlots, f_Md_allShapes, f_Md_things, f_Md_calls, f_Md_slots, f_Md_variables, f_Md_shapes] S S') : MEM X' S' := by
  obtain ⟨mk, rm, sm, tk, ck, sk, vk, hk, gk, ⟨a1, a2, a3⟩, ⟨b1, b2, b3⟩, ⟨c1, c2, c3⟩, ⟨d1, d2, d3, d4⟩, ⟨e3, e4, e5⟩, ⟨f1, f2, f3⟩, ⟨g1, g2, g3⟩⟩ := H
  exact ⟨mk, rm, sm, tk, ck, sk, vk, hk, (S' f_Md_changes 0).toNat, ⟨by rw [x2 _ (by decide)]; exact a1, by rw [s3 _ (by decide)]; exact a2, a3⟩, ⟨by rw [x2 _ (by decide)]; exact b1, by rw [s3 _ (by decide)]; exact b2, b3⟩, ⟨by rw [x2 _ (by decide)]; exact c1, by rw [s3 _ (by decide)]; exact c2, c3⟩, ⟨by rw [s3 _ (by decide)]; exact d1, by rw [s3 _ (by decide)]; exact d2, by rw [x2 _ (by decide)]; exact d3, d4⟩, ⟨by rw [s3 _ (by decide)]; exact e3, by rw [s3 _ (by decide)]; exact e4, e5⟩, ⟨by rw [s3 _ (by decide)]; exact f1, f2, f3⟩, ⟨by omega, by rw [x1]; omega, by omega⟩⟩
/-- a thing gets shape r, the change is noted -/
theorem CORE.trn (HC : CORE Γ h C ho X Y S N) (hk : (k : Int) < S f_Md_things 0) (kd : S f_Md_thingKind k = 4 ∨ S f_Md_thingKind k = 5) (hc : S f_Md_changes 0 + 1 ≤ 1000000) (en : S f_Md_thingCount k = (n : Int)) (R : RCH S p' (-1) (nmT S k) n r) (eb : b = !(S f_Md_isWatched k == 0)) (acy : ACY S → ACY (grwS (u2 S f_Md_thingShape k (r : Int)) k)) : (CORE Γ (grwB (sR h f_Obj_shape (hB h (C + 51) k) (hB h (C + 52) r)) (hB h (C + 51) k) b (S f_Md_epoch k) (S f_Md_changes 0)) C ho (grwX X b (S f_Md_changes 0)) Y (grwS (u2 S f_Md_thingShape k (r : Int)) k) N ∧ ∀ {t o n c r' : Nat}, CT Γ h C X Y S N t o n c r' → CT Γ (grwB (sR h f_Obj_shape (hB h (C + 51) k) (hB h (C + 52) r)) (hB h (C + 51) k) b (S f_Md_epoch k) (S f_Md_changes 0)) C (grwX X b (S f_Md_changes 0)) Y (grwS (u2 S f_Md_thingShape k (r : Int)) k) N t o n c r') ∧ GRO Γ Γ h (grwB (sR h f_Obj_shape (hB h (C + 51) k) (hB h (C + 52) r)) (hB h (C + 51) k) b (S f_Md_epoch k) (S f_Md_changes 0)) C S (grwS (u2 S f_Md_thingShape k (r : Int)) k) ∧ BND h C S (grwB (sR h f_Obj_shape (hB h (C + 51) k) (hB h (C + 52) r)) (hB h (C + 51) k) b (S f_Md_epoch k) (S f_Md_changes 0)) (grwS (u2 S f_Md_thingShape k (r : Int)) k) 1 0 ∧ Fr LHc [] 0 0 h (grwB (sR h f_Obj_shape (hB h (C + 51) k) (hB h (C + 52) r)) (hB h (C + 51) k) b (S f_Md_epoch k) (S f_Md_changes 0)) := by
  have HC0 := HC
  obtain ⟨⟨G, F⟩, -, -, -, q2', q3, q4, q5, q6, q7, q8⟩ := HC0
  have gz := G.1
  have q7' := q7
  obtain ⟨tn, sn, c1, c2, c3, c4, c5, c6, c6', c7, c8, c9, c10⟩ := q7'
  have T0 := (c7 k (by omega)).p
  obtain ⟨TA, TB, TC, TD⟩ := T0
  have fr : Fr [] (PT3 (hB h (C + 51) k)) 0 0 h (grwB (sR h f_Obj_shape (hB h (C + 51) k) (hB h (C + 52) r)) (hB h (C + 51) k) b (S f_Md_epoch k) (S f_Md_changes 0)) := by
    have a0 : Fr [] (PT3 (hB h (C + 51) k)) 0 0 h (sR h f_Obj_shape (hB h (C + 51) k) (hB h (C + 52) r)) := Fr.wR (Or.inr (by unfold PT3; simp)) (by unfold own; decide) Fr.r0
    have a1 : Fr [] (PT3 (hB h (C + 51) k)) 0 0 (sR h f_Obj_shape (hB h (C + 51) k) (hB h (C + 52) r)) (grwB (sR h f_Obj_shape (hB h (C + 51) k) (hB h (C + 52) r)) (hB h (C + 51) k) b (S f_Md_epoch k) (S f_Md_changes 0)) := grwB_f (fun q hq => by unfold PT3; simp at hq ⊢; rcases hq with rfl | rfl <;> simp)
    exact (a0.trans a1).le (by omega) (by omega)
  have p0 : ∀ y, (0, y) ∉ PT3 (hB h (C + 51) k) := fun y c => by unfold PT3 at c; simp at c
  have x0 : ∀ o f i, [f_Heap_ticks].elem f = false → grwX X b (S f_Md_changes 0) o f i = X o f i := fun o f i hf => by
    unfold grwX
    split
    · exact u3_f (by rintro rfl; exact absurd hf (by decide))
    · rfl
  have o0 : ∀ f i, [f_Md_thingShape, f_Md_epoch, f_Md_changes, f_Md_changedAt].elem f = false → grwS (u2 S f_Md_thingShape k (r : Int)) k f i = S f i := fun f i hf => by
    have nn : ∀ L : List Nat, (L.all fun f => [f_Md_thingShape, f_Md_epoch, f_Md_changes, f_Md_changedAt].elem f) = true → L.elem f = false := fun L q => by
      cases w : L.elem f with
      | false => rfl
      | true => rw [List.all_eq_true.mp q f (by simpa using w)] at hf; cases hf
    rw [grwS_o (nn _ (by decide)), u2_f (by rintro rfl; exact absurd hf (by decide))]
  have ok : ∀ j, j ≠ k → ∀ f, LTT.elem f = true → grwS (u2 S f_Md_thingShape k (r : Int)) k f j = S f j := fun j hj f hf => by
    rw [grwS_k hj (by rintro rfl; exact absurd hf (by decide)), u2_e, if_neg (fun c => hj c.2)]
  have iw : u2 S f_Md_thingShape k (r : Int) f_Md_isWatched k = S f_Md_isWatched k := u2_f (by decide)
  obtain ⟨w1, w2, w3⟩ := grwS_w (S := u2 S f_Md_thingShape k (r : Int)) (k := k)
  rw [iw, u2_f (by decide)] at w1
  rw [iw, u2_f (by decide), u2_f (by decide)] at w2
  rw [iw, u2_f (by decide)] at w3
  have wsh : grwS (u2 S f_Md_thingShape k (r : Int)) k f_Md_thingShape k = (r : Int) := by rw [grwS_o (by decide), u2_s]
  obtain ⟨b1, b2⟩ := grwB_g (h := sR h f_Obj_shape (hB h (C + 51) k) (hB h (C + 52) r)) (a := hB h (C + 51) k) (b := b) (e := S f_Md_epoch k) (t := S f_Md_changes 0)
  have bsh : hR (grwB (sR h f_Obj_shape (hB h (C + 51) k) (hB h (C + 52) r)) (hB h (C + 51) k) b (S f_Md_epoch k) (S f_Md_changes 0)) f_Obj_shape (hB h (C + 51) k) = hB h (C + 52) r := by
    have : hR (sR h f_Obj_shape (hB h (C + 51) k) (hB h (C + 52) r)) f_Obj_shape (hB h (C + 51) k) = hB h (C + 52) r := R_R _ _ _ _
    unfold grwB
    split
    · exact this
    · exact this
  have tkx : X 50 f_Heap_ticks 0 = S f_Md_changes 0 := by
    obtain ⟨-, -, -, -, -, -, -, -, gk, -, -, -, -, -, -, g1, g2, -⟩ := q6
    rw [g1, g2]
  have bw : (b = true) ↔ ¬ S f_Md_isWatched k = 0 := by rw [eb]; simp
  have xt : grwX X b (S f_Md_changes 0) 50 f_Heap_ticks 0 = grwS (u2 S f_Md_thingShape k (r : Int)) k f_Md_changes 0 := by
    rw [w3]
    unfold grwX
    by_cases q : S f_Md_isWatched k = 0
    · rw [if_pos q, if_neg (fun c => bw.mp c q)]; exact tkx
    · rw [if_neg q, if_pos (bw.mpr q), u3_s]
  have wc : grwS (u2 S f_Md_thingShape k (r : Int)) k f_Md_changes 0 = S f_Md_changes 0 ∨ grwS (u2 S f_Md_thingShape k (r : Int)) k f_Md_changes 0 = S f_Md_changes 0 + 1 := by rw [w3]; split <;> omega
  have epo : hI (sR h f_Obj_shape (hB h (C + 51) k) (hB h (C + 52) r)) f_Obj_epoch (hB h (C + 51) k) = hI h f_Obj_epoch (hB h (C + 51) k) := rfl
  have cha : hI (sR h f_Obj_shape (hB h (C + 51) k) (hB h (C + 52) r)) f_Obj_changedAt (hB h (C + 51) k) = hI h f_Obj_changedAt (hB h (C + 51) k) := rfl
  rw [epo] at b1
  rw [cha] at b2
  generalize grwB (sR h f_Obj_shape (hB h (C + 51) k) (hB h (C + 52) r)) (hB h (C + 51) k) b (S f_Md_epoch k) (S f_Md_changes 0) = h2 at *
  have sl : ∀ j i, slS (grwS (u2 S f_Md_thingShape k (r : Int)) k) j i = slS S j i := fun j i => by
    induction i with
    | zero => show (grwS _ k _ j).toNat = _; rw [o0 _ _ (by decide)]; rfl
    | succ i ih => show (grwS _ k _ (slS _ j i)).toNat = _; rw [ih, o0 _ _ (by decide)]; rfl
  generalize grwS (u2 S f_Md_thingShape k (r : Int)) k = S1 at *
  have g : GRO Γ Γ h h2 C S S1 := GRO.fr (exs_of o0 (by decide)) G F fr (by unfold DJ; rfl) p0
  have nP : ∀ f, LHH.elem f = true → [f_Obj_shape, f_Obj_epoch, f_Obj_changedAt].elem f = false → ¬ okW [] (PT3 (hB h (C + 51) k)) f (hB h (C + 51) k) := fun f hf w => by
    rintro (c | c)
    · cases c
    · unfold PT3 at c; simp at c; rcases c with e | e | e <;> (rw [e] at w; exact absurd w (by decide))
  have n1 : ∀ f, [f_Thing_words + 1, f_Thing_tags + 1].elem f = true → ¬ okW [] (PT3 (hB h (C + 51) k)) f (hB h (C + 51) k) := fun f hf => by
    have : f = f_Thing_words + 1 ∨ f = f_Thing_tags + 1 := by simpa using hf
    rintro (c | c)
    · cases c
    · unfold PT3 at c; simp at c; rcases this with rfl | rfl <;> (revert c; decide)
  have ad := TA.2.1.2.1
  have kt : THC Γ h2 C ho S1 N := by
    refine THC.mod (k := k) q7 G F g fr (by unfold DJ; rfl) (fun q hq => by unfold PT3 at hq; simp at hq; rcases hq with rfl | rfl | rfl <;> rfl) p0 hk (fun i _ => q8.eq G.2.1 fr (by unfold DJ; rfl) p0 i) (exs_of o0 (by decide)) ok (fun j _ _ i _ f hf => o0 f _ ?_) (Int.le_of_eq (o0 _ _ (by decide)).symm) (by omega) acy (fun tn' sn' et es e51 e52 c8' T => ?_) (fun a9 j i j' i' h1 h2 h3 h4 h5 => ?_)
    · have : LSL.all (fun f => !([f_Md_thingShape, f_Md_epoch, f_Md_changes, f_Md_changedAt].elem f)) = true := by decide
      simpa using List.all_eq_true.mp this f (by simpa using hf)
    · have wA : sameArr h h2 (hR h f_Thing_words (hB h (C + 51) k)) := fr.ar G.2.1 (f := f_Thing_words) (by unfold own; decide) ad rfl TB.2.2.1.1 (fun c => c.elim (nP _ (by decide) (by decide)) (n1 _ (by decide))) (p0 _)
      have tA : sameArr h h2 (hR h f_Thing_tags (hB h (C + 51) k)) := fr.ar G.2.1 (f := f_Thing_tags) (by unfold own; decide) ad rfl TB.2.2.1.2.2.1 (fun c => c.elim (nP _ (by decide) (by decide)) (n1 _ (by decide))) (p0 _)
      have wz : hR h f_Thing_words (hB h (C + 51) k) < hz h := G.2.1.1 _ _ ad (by unfold own; decide)
      have tz : hR h f_Thing_tags (hB h (C + 51) k) < hz h := G.2.1.1 _ _ ad (by unfold own; decide)
      have A2 := TA.keep g (e51 k) (fun f hf => o0 f k (by
        have : f = f_Md_thingKind ∨ f = f_Md_thingFunction ∨ f = f_Md_thingAround ∨ f = f_Md_thingClass := by simpa using hf
        rcases this with rfl | rfl | rfl | rfl <;> decide)) (fr.I ad (by decide) (nP _ (by decide) (by decide))) (fun f hf => by
        have : f = f_Fun_code ∨ f = f_Fun_around ∨ f = f_Instance_type := by simpa using hf
        rcases this with rfl | rfl | rfl <;> exact fr.R ad (by decide) (nP _ (by decide) (by decide))) (fr.K ad) (fr.lt ad) (fun i _ => q8.eq G.2.1 fr (by unfold DJ; rfl) p0 i)
      obtain ⟨B2, -⟩ := TB.keep g (e51 k) (fun f hf => o0 f k (by
        have : f = f_Md_thingCount ∨ f = f_Md_thingFirst ∨ f = f_Md_thingLast := by simpa using hf
        rcases this with rfl | rfl | rfl <;> decide)) (fun i hi f hf => o0 f _ (by
        have : f = f_Md_slotType ∨ f = f_Md_slotValue ∨ f = f_Md_slotNext := by simpa using hf
        rcases this with rfl | rfl | rfl <;> decide)) (Int.le_of_eq (o0 _ _ (by decide)).symm) (fr.I ad (by decide) (nP _ (by decide) (by decide))) (fun f hf => by
        have : f = f_Thing_words ∨ f = f_Thing_tags := by simpa using hf
        rcases this with rfl | rfl <;> exact fr.R ad (by decide) (nP _ (by decide) (by decide))) ⟨wA, fr.K wz⟩ ⟨tA, fr.K tz⟩
      have sne : sn' = sn := by omega
      subst sne
      have pn : posW (-1) n = n := by unfold posW; rw [if_pos (Or.inl (by decide))]
      obtain ⟨r1, r2, r3, r4⟩ := R
      rw [pn] at r3 r4
      have C2 : TC1 h2 C S1 sn' k := by
        unfold TC1
        rw [e51, o0 f_Md_thingKind k (by decide), o0 f_Md_thingCount k (by decide), wsh, bsh, Int.toNat_natCast, en, o0 f_Md_shapeCount r (by decide), e52 r]
        refine ⟨fun q => ⟨⟨by omega, by omega⟩, rfl, r3, ?_, fun i hi => ?_⟩, fun q => ?_⟩
        · have := (TC.1 kd).2.2.2.1; omega
        · have hin : i < n := by omega
          obtain ⟨x1, x2⟩ := anc_k (S := S) (S' := S1) (sn := sn') (s := r) (fun s hs => o0 _ _ (by decide)) (fun s hs => (c8 s hs).bef hs) (by omega) (n - 1 - i)
          rw [sl, o0 f_Md_slotName _ (by decide), Int.toNat_natCast, x1, o0 f_Md_shapeName _ (by decide), r4 i hin]
          unfold nmW
          rw [if_neg (by omega)]; rfl
        · omega
      have D2 : TD1 h2 C S1 sn' k := by
        obtain ⟨d1, d2, d3, d4, d5⟩ := TD
        obtain ⟨d6, d7, d8, d9⟩ := d1 kd
        have ro : rooB S1 k sn' = rooB S k sn' := rooB_k (fun s hs => ⟨o0 _ _ (by decide), o0 _ _ (by decide)⟩)
        have rr : hR h2 f_Obj_root (hB h (C + 51) k) = hR h f_Obj_root (hB h (C + 51) k) := fr.R ad (by decide) (nP _ (by decide) (by decide))
        have sh : shA h2 C (rooB S k sn') = shA h C (rooB S k sn') := shA_e (sn := sn') (fun s _ => e52 s) (by have := rooB_lt (S := S) (k := k) sn'; omega)
        unfold TD1
        rw [e51, o0 f_Md_thingKind k (by decide), o0 f_Md_isWatched k (by decide), w1, w2, w3, ro, b1, b2, rr, sh]
        by_cases q : S f_Md_isWatched k = 0
        · have nb : ¬ b = true := fun c => bw.mp c q
          rw [if_neg nb, if_neg nb, if_pos q, if_pos q, if_pos q, if_pos q]
          rw [if_pos q] at d6
          exact ⟨fun _ => ⟨d6, d7, d8, d9⟩, d2, d3, d4, d5⟩
        · have nb : b = true := bw.mpr q
          rw [if_pos nb, if_pos nb, if_neg q, if_neg q, if_neg q, if_neg q]
          exact ⟨fun _ => ⟨rfl, rfl, d8, d9⟩, d2, d3, by omega, by omega⟩
      exact TH1.mk A2 B2 C2 D2
    · rw [sl, sl] at h5
      rw [o0 _ _ (by decide)] at h3 h4
      exact a9 j i j' i' h1 h2 h3 h4 h5
  have km : MEM (grwX X b (S f_Md_changes 0)) S1 := q6.tick hc xt (exx_of x0 (by decide)) wc (exs_of o0 (by decide))
  refine ⟨HC.mv (S' := S1) (X' := grwX X b (S f_Md_changes 0)) fr g (exs_of o0 (by decide)) (exx_of x0 (by decide)) p0 (by unfold DJ; rfl) (by unfold DJ; rfl) (by unfold DJ; rfl) (by unfold DJ; rfl) (exs_of o0 (by decide)) (Int.le_of_eq (o0 _ _ (by decide)).symm) (q2'.ext g (exs_of o0 (by decide)) (exx_of x0 (by decide)) (ac_len G fr (by decide) (by unfold DJ; rfl)) (ac_len G fr (by decide) (by unfold DJ; rfl)) (ac_len G fr (by decide) (by unfold DJ; rfl))) (q3.ext (C := C) G.2.1 g (exs_of o0 (by decide)) fr (by unfold DJ; rfl) (by unfold DJ; rfl) p0) (q4.ext g (exs_of o0 (by decide)) (exx_of x0 (by decide)) (ac_len G fr (by decide) (by unfold DJ; rfl)) (ac_len G fr (by decide) (by unfold DJ; rfl)) (ac_len G fr (by decide) (by unfold DJ; rfl))) (q5.ext (exs_of o0 (by decide)) (exx_of x0 (by decide)) (ac_len G fr (by decide) (by unfold DJ; rfl)) (ac_len G fr (by decide) (by unfold DJ; rfl)) (ac_len G fr (by decide) (by unfold DJ; rfl))) km kt (by unfold DJ; rfl), g, ((BND.fr G F (q7.thk G) EXS.rf fr (by unfold DJ; rfl) (by unfold DJ; rfl) p0).tr (BND.chg (exs_of o0 (by decide)) (by omega) (CHG.one (exs_of o0 (by decide)) ok w2 w3 (by omega) (o0 _ _ (by decide))))).le (by omega) (by omega), ?_⟩
  have wl : f_Obj_shape ∈ LHc ∧ f_Obj_epoch ∈ LHc ∧ f_Obj_changedAt ∈ LHc := by decide
  refine (Fr.into (L := LHc) (P := []) Fr.r0 fr (fun f q => by cases q) (fun q hq => Or.inr (Or.inl ?_))).le (by omega) (by omega)
  unfold PT3 at hq
  simp at hq
  rcases hq with rfl | rfl | rfl
  · exact ⟨Nat.le_of_ble_eq_true rfl, wl.1⟩
  · exact ⟨Nat.le_of_ble_eq_true rfl, wl.2.1⟩
  · exact ⟨Nat.le_of_ble_eq_true rfl, wl.2.2⟩
end
