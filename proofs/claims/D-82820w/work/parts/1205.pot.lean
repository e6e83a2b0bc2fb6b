/-! how much of the room is gone -/
set_option maxRecDepth 20000
/-- a sum over arrays of C's machine -/
def sumA (φ : Nat → Nat) (h : ah) (C : Nat) : List (Nat × Nat × Nat) → Int
  | [] => 0
  | q :: l => (φ (hl h (hR h q.1 (C + q.2.1))) : Int) + sumA φ h C l
def cpL (h : ah) (C : Nat) : Int := hI h 2 (C + 51) + hI h 2 (C + 52) + hI h 2 (C + 56) + hI h 2 (C + 57) + hI h 2 (C + 58)
def cpT (h : ah) (C : Nat) : Nat → Int
  | 0 => 0
  | n + 1 => cpT h C n + (hl h (hR h f_Thing_words (hB h (C + 51) n)) : Int)
def mcp (h : ah) (C : Nat) : Int := hI h 2 (C + 17) + hI h 2 (C + 30)
def WZ (h : ah) (C : Nat) (S : SS) : Int := 6 * S f_Md_allMade 0 + 4 * S f_Md_allShapes 0 + 3 * S f_Md_allSlots 0 + sumA Nat.log2 h C arC + 2 * S f_Md_allChoices 0 + mcp h C
def WS (h : ah) (C : Nat) (S : SS) : Int := 40 * S f_Md_allMade 0 + 40 * S f_Md_allShapes 0 + 12 * S f_Md_allSlots 0 - 8 * S f_Md_slots 0 - 12 * S f_Md_things 0 + 4 * cpT h C (S f_Md_things 0).toNat + 2 * sumA id h C arC + 4 * cpL h C + 20 * S f_Md_allChoices 0 + 4 * mcp h C
/-- a row of the ghost alone: how many fields the things of a class have -/
abbrev f_lay : Nat := 5
/-- what was made by the host stays what it is -/
def IN7 (S S' : SS) : Prop := (∀ k : Nat, (k : Int) < S f_Md_things 0 → S' f_Md_thingKind k = S f_Md_thingKind k ∧ (S f_Md_thingKind k = 7 → S' f_Md_thingCount k = S f_Md_thingCount k ∧ S' f_Md_thingClass k = S f_Md_thingClass k)) ∧ (∀ k : Nat, S f_Md_things 0 ≤ (k : Int) → (k : Int) < S' f_Md_things 0 → S' f_Md_thingKind k = 7 → S' f_Md_thingCount k = S' f_lay (S' f_Md_thingClass k).toNat) ∧ ∀ c, S' f_lay c = S f_lay c
/-- what was watched is as it was, or has changed since -/
def CHG (S S' : SS) : Prop := S f_Md_changes 0 ≤ S' f_Md_changes 0 ∧ (S f_Md_shapes 0 ≤ S' f_Md_shapes 0 ∧ ∀ s : Nat, (s : Int) < S f_Md_shapes 0 → ∀ f, [f_Md_shapeProto, f_Md_shapeBefore, f_Md_shapeName, f_Md_shapeCount].elem f = true → S' f s = S f s) ∧ S f_Md_things 0 ≤ S' f_Md_things 0 ∧ (∀ k : Nat, (k : Int) < S f_Md_things 0 → S f_Md_isWatched k = 1 → S' f_Md_isWatched k = 1 ∧ ((S' f_Md_thingShape k = S f_Md_thingShape k ∧ S' f_Md_changedAt k = S f_Md_changedAt k) ∨ S f_Md_changes 0 < S' f_Md_changedAt k)) ∧ IN7 S S'
def BND (h : ah) (C : Nat) (S : SS) (h' : ah) (S' : SS) (kz ks : Int) : Prop := ((hz h' : Int) - WZ h' C S' ≤ (hz h : Int) - WZ h C S + kz) ∧ ((hs h' : Int) - WS h' C S' ≤ (hs h : Int) - WS h C S + ks) ∧ S' f_Md_changes 0 ≤ S f_Md_changes 0 + kz ∧ CHG S S' ∧ ∀ s : Nat, (s : Int) < S f_Md_shapes 0 → hB h' (C + 52) s = hB h (C + 52) s
def LPO : List Nat := [f_Md_allChoices, f_Md_allMade, f_Md_allShapes, f_Md_allSlots, f_Md_slots, f_Md_things, f_Md_changes, f_Md_shapes, f_Md_shapeProto, f_Md_shapeBefore, f_Md_shapeName, f_Md_shapeCount, f_Md_isWatched, f_Md_thingShape, f_Md_changedAt, f_Md_thingKind, f_Md_thingCount, f_Md_thingClass, f_lay]
section
variable {h h1 h' : ah} {C f g o a b n i j x k m z s l tn : Nat} {v kz ks kz2 ks2 : Int} {X X' : X3} {Y Y' : Y3} {S S' S1 : SS} {L : List Nat} {P : List (Nat × Nat)} {φ : Nat → Nat}
theorem DJ.sub' {K K' : List Nat} (d : DJ K L P) (e : K'.all (fun f => K.elem f) = true) : DJ K' L P := List.all_eq_true.mpr fun f hf => List.all_eq_true.mp d f (by simpa using List.all_eq_true.mp e f hf)
theorem CHG.ex (es : EXS LPO S S') : CHG S S' := ⟨by rw [es _ (by decide)]; exact Int.le_refl _, ⟨by rw [es _ (by decide)]; exact Int.le_refl _, fun s _ f hf => es f (by
  have : f = f_Md_shapeProto ∨ f = f_Md_shapeBefore ∨ f = f_Md_shapeName ∨ f = f_Md_shapeCount := by simpa using hf
  rcases this with rfl | rfl | rfl | rfl <;> decide) s⟩, by rw [es _ (by decide)]; exact Int.le_refl _, fun k _ w => ⟨by rw [es _ (by decide)]; exact w, Or.inl ⟨es _ (by decide) k, es _ (by decide) k⟩⟩, ⟨fun k _ => ⟨es _ (by decide) k, fun _ => ⟨es _ (by decide) k, es _ (by decide) k⟩⟩, fun k h1 h2 => absurd h2 (by rw [es _ (by decide)]; omega), fun c => es _ (by decide) c⟩⟩
theorem CHG.rf : CHG S S := CHG.ex EXS.rf
theorem CHG.tr (a : CHG S S1) (b : CHG S1 S') : CHG S S' := by
  obtain ⟨a1, ⟨a2, a3⟩, a4, a5, a6⟩ := a
  obtain ⟨b1, ⟨b2, b3⟩, b4, b5, b6⟩ := b
  refine ⟨by omega, ⟨by omega, fun s hs f hf => (b3 s (by omega) f hf).trans (a3 s hs f hf)⟩, by omega, fun k hk w => ?_, fun k hk => ?_, fun k hk hk2 w => ?_, fun c => (b6.2.2 c).trans (a6.2.2 c)⟩
  rotate_left
  · obtain ⟨c1, c2⟩ := a6.1 k hk
    obtain ⟨d1, d2⟩ := b6.1 k (by omega)
    exact ⟨d1.trans c1, fun w => ⟨(d2 (c1.trans w)).1.trans (c2 w).1, (d2 (c1.trans w)).2.trans (c2 w).2⟩⟩
  · by_cases q : (k : Int) < S1 f_Md_things 0
    · obtain ⟨d1, d2⟩ := b6.1 k q
      rw [d1] at w
      rw [(d2 w).1, (d2 w).2, b6.2.2]
      exact a6.2.1 k hk q w
    · exact b6.2.1 k (by omega) hk2 w
  obtain ⟨c1, c2⟩ := a5 k hk w
  obtain ⟨d1, d2⟩ := b5 k (by omega) c1
  refine ⟨d1, ?_⟩
  rcases d2 with ⟨e1, e2⟩ | e
  · rcases c2 with ⟨f1, f2⟩ | e3
    · exact Or.inl ⟨e1.trans f1, e2.trans f2⟩
    · exact Or.inr (by omega)
  · exact Or.inr (by omega)
theorem BND.rf : BND h C S h S 0 0 := ⟨by omega, by omega, by omega, CHG.rf, fun _ _ => rfl⟩
theorem BND.tr (a : BND h C S h1 S1 kz ks) (b : BND h1 C S1 h' S' kz2 ks2) : BND h C S h' S' (kz + kz2) (ks + ks2) := by
  obtain ⟨a1, a2, a3, a4, a5⟩ := a
  obtain ⟨b1, b2, b3, b4, b5⟩ := b
  exact ⟨by omega, by omega, by omega, a4.tr b4, fun s hs => (b5 s (by have := a4.2.1.1; omega)).trans (a5 s hs)⟩
theorem BND.le (a : BND h C S h' S' kz ks) (h1 : kz ≤ kz2) (h2 : ks ≤ ks2) : BND h C S h' S' kz2 ks2 := ⟨by have := a.1; omega, by have := a.2.1; omega, by have := a.2.2.1; omega, a.2.2.2⟩
theorem sumA_e {l : List (Nat × Nat × Nat)} (e : ∀ q, q ∈ l → hl h' (hR h' q.1 (C + q.2.1)) = hl h (hR h q.1 (C + q.2.1))) : sumA φ h' C l = sumA φ h C l := by
  induction l with
  | nil => rfl
  | cons q l ih =>
    unfold sumA
    rw [e q (by simp), ih (fun p hp => e p (by simp [hp]))]
/-- one array has another length now -/
theorem sumA_1 {l : List (Nat × Nat × Nat)} (hm : ∃ k, (f, o, k) ∈ l) (hd : (l.map (fun q => (q.1, q.2.1))).Nodup) (e : ∀ q, q ∈ l → ¬ (q.1 = f ∧ q.2.1 = o) → hl h' (hR h' q.1 (C + q.2.1)) = hl h (hR h q.1 (C + q.2.1))) : sumA φ h' C l = sumA φ h C l + (φ (hl h' (hR h' f (C + o))) : Int) - (φ (hl h (hR h f (C + o))) : Int) := by
  induction l with
  | nil => obtain ⟨k, hk⟩ := hm; cases hk
  | cons q l ih =>
    rw [List.map_cons, List.nodup_cons] at hd
    unfold sumA
    by_cases w : q.1 = f ∧ q.2.1 = o
    · have er : sumA φ h' C l = sumA φ h C l := sumA_e (fun p hp => e p (by simp [hp]) (fun c => hd.1 (List.mem_map.mpr ⟨p, hp, by rw [c.1, c.2, w.1, w.2]⟩)))
      rw [er, w.1, w.2]; omega
    · rw [e q (by simp) w, ih ?_ hd.2 (fun p hp => e p (by simp [hp]))]
      · omega
      · obtain ⟨k, hk⟩ := hm
        rcases List.mem_cons.mp hk with c | c
        · exact absurd (by rw [← c]; exact ⟨rfl, rfl⟩) w
        · exact ⟨k, c⟩
theorem cpT_e (e : ∀ k, k < n → hl h' (hR h' f_Thing_words (hB h' (C + 51) k)) = hl h (hR h f_Thing_words (hB h (C + 51) k))) : cpT h' C n = cpT h C n := by
  induction n with
  | zero => rfl
  | succ n ih =>
    unfold cpT
    rw [e n (by omega), ih (fun k hk => e k (by omega))]
/-- one thing has another room now -/
theorem cpT_1 (hk : k < n) (e : ∀ j, j < n → j ≠ k → hl h' (hR h' f_Thing_words (hB h' (C + 51) j)) = hl h (hR h f_Thing_words (hB h (C + 51) j))) : cpT h' C n = cpT h C n + (hl h' (hR h' f_Thing_words (hB h' (C + 51) k)) : Int) - (hl h (hR h f_Thing_words (hB h (C + 51) k)) : Int) := by
  induction n with
  | zero => omega
  | succ n ih =>
    unfold cpT
    by_cases w : k = n
    · subst w
      rw [cpT_e (fun j hj => e j (by omega) (by omega))]; omega
    · rw [ih (by omega) (fun j hj => e j (by omega)), e n (by omega) (fun c => w c.symm)]; omega
theorem nodC : (arC.map (fun q => (q.1, q.2.1))).Nodup := by decide +kernel
theorem log2_up {l m : Nat} (hl : 1 ≤ l) (hm : 2 * l ≤ m) : Nat.log2 l + 1 ≤ Nat.log2 m := by
  rw [Nat.le_log2 (by omega)]
  have := Nat.log2_self_le (n := l) (by omega)
  rw [Nat.pow_succ]
  omega
/-- arrays of the machine keep their lengths -/
theorem lnA_fr (G : AC h C) (fr : Fr L P z s h h') (d : DJ (arC.map (fun q => q.1)) L P) : ∀ q, q ∈ arC → hl h' (hR h' q.1 (C + q.2.1)) = hl h (hR h q.1 (C + q.2.1)) := by
  intro q m
  have o1 := ownA' m
  have g1 := G.1
  have k1 : arC.all (fun q => Nat.blt q.2.2 100) = true := by decide
  have k2 := List.all_eq_true.mp k1 _ m
  have eR := fr.R (x := C + q.2.1) (by omega) (own5 o1.1) (d.w (by simp only [List.elem_eq_mem, decide_eq_true_eq]; exact List.mem_map.mpr ⟨q, m, rfl⟩))
  rw [eR, fr.la (G.2.1.1 _ _ (by omega) o1.1)]
  rw [(G.2.2.2.1 _ m).2]
  exact Nat.le_of_ble_eq_true k2
theorem cpL_fr (G : AC h C) (F : FC h C) (fr : Fr L P z s h h') (d : DJ [f_Heap_things, f_Heap_things + 1, f_Heap_shapes, f_Heap_shapes + 1, f_Machine_functions, f_Machine_functions + 1, f_Machine_sites, f_Machine_sites + 1, f_Machine_descriptors, f_Machine_descriptors + 1] L P) (p0 : ∀ y, (0, y) ∉ P) : hI h' 2 (C + 51) = hI h 2 (C + 51) ∧ hI h' 2 (C + 52) = hI h 2 (C + 52) ∧ hI h' 2 (C + 56) = hI h 2 (C + 56) ∧ hI h' 2 (C + 57) = hI h 2 (C + 57) ∧ hI h' 2 (C + 58) = hI h 2 (C + 58) := by
  have g1 := G.1
  have c := fun {f x y : Nat} (ho : own f) (hx : x < hz h) (e : hR h f x = y) (h0 : y ≠ 0) (hn : ¬ okC L P f x) => fr.arC G.2.1 ho hx e h0 hn (p0 y)
  exact ⟨c (f := f_Heap_things) (x := C + 50) (by unfold own; decide) (by omega) F.2.2.1.2.1 (by omega) (fun q => q.elim (d.w (by decide)) (d.w (by decide))), c (f := f_Heap_shapes) (x := C + 50) (by unfold own; decide) (by omega) F.2.2.1.2.2.1 (by omega) (fun q => q.elim (d.w (by decide)) (d.w (by decide))), c (f := f_Machine_functions) (x := C + 32) (by unfold own; decide) (by omega) F.2.1.2.2.2.2.2.2.2.1 (by omega) (fun q => q.elim (d.w (by decide)) (d.w (by decide))), c (f := f_Machine_sites) (x := C + 32) (by unfold own; decide) (by omega) F.2.1.2.2.2.2.2.2.2.2.1 (by omega) (fun q => q.elim (d.w (by decide)) (d.w (by decide))), c (f := f_Machine_descriptors) (x := C + 32) (by unfold own; decide) (by omega) F.2.1.2.2.2.2.2.2.2.2.2.1 (by omega) (fun q => q.elim (d.w (by decide)) (d.w (by decide)))⟩
/-- things keep their room -/
def THK (h : ah) (C n : Nat) : Prop := ∀ k, k < n → hB h (C + 51) k < hz h ∧ hR h f_Thing_words (hB h (C + 51) k) < hz h ∧ hK h (hR h f_Thing_words (hB h (C + 51) k)) < 100
theorem cpT_fr (T : THK h C n) (eB : ∀ k, k < n → hB h' (C + 51) k = hB h (C + 51) k) (fr : Fr L P z s h h') (d : DJ [f_Thing_words] L P) : cpT h' C n = cpT h C n := by
  refine cpT_e (fun k hk => ?_)
  obtain ⟨t1, t2, t3⟩ := T k hk
  rw [eB k hk, fr.R t1 (by decide) (d.w (by decide)), fr.la t2 t3]
def LPH : List Nat := [f_Host_meant, f_Host_meant + 1, f_Heap_things, f_Heap_things + 1, f_Heap_shapes, f_Heap_shapes + 1, f_Machine_functions, f_Machine_functions + 1, f_Machine_sites, f_Machine_sites + 1, f_Machine_descriptors, f_Machine_descriptors + 1, f_Thing_words]
theorem mcp_fr (G : AC h C) (F : FC h C) (fr : Fr L P z s h h') (d : DJ [f_Host_meant, f_Host_meant + 1] L P) (p0 : ∀ y, (0, y) ∉ P) : mcp h' C = mcp h C := by
  have g1 := G.1
  have c := fun {f x y : Nat} (ho : own f) (hx : x < hz h) (e : hR h f x = y) (h0 : y ≠ 0) (hn : ¬ okC L P f x) => fr.arC G.2.1 ho hx e h0 hn (p0 y)
  unfold mcp
  rw [c (f := f_Host_meant) (x := C + 6) (by unfold own; decide) (by omega) F.2.2.2.2.2.2.2.2.2.2.1 (by omega) (fun q => q.elim (d.w (by decide)) (d.w (by decide))), c (f := f_Host_meant) (x := C + 19) (by unfold own; decide) (by omega) F.2.2.2.2.2.2.2.2.2.2.2 (by omega) (fun q => q.elim (d.w (by decide)) (d.w (by decide)))]
theorem pE (es : EXS LPO S S') : S' f_Md_allMade 0 = S f_Md_allMade 0 ∧ S' f_Md_allShapes 0 = S f_Md_allShapes 0 ∧ S' f_Md_allSlots 0 = S f_Md_allSlots 0 ∧ S' f_Md_slots 0 = S f_Md_slots 0 ∧ S' f_Md_things 0 = S f_Md_things 0 ∧ S' f_Md_changes 0 = S f_Md_changes 0 ∧ S' f_Md_allChoices 0 = S f_Md_allChoices 0 := ⟨es _ (by decide) _, es _ (by decide) _, es _ (by decide) _, es _ (by decide) _, es _ (by decide) _, es _ (by decide) _, es _ (by decide) _⟩
/-- where nothing that counts changes -/
theorem BND.fr (G : AC h C) (F : FC h C) (T : THK h C (S f_Md_things 0).toNat) (es : EXS LPO S S') (fr : Fr L P z s h h') (d1 : DJ (arC.map (fun q => q.1)) L P) (d2 : DJ LPH L P) (p0 : ∀ y, (0, y) ∉ P) : BND h C S h' S' z s := by
  have g1 := G.1
  obtain ⟨e1, e2, e3, e4, e5, e6, e7⟩ := pE es
  have a1 := fun φ => sumA_e (φ := φ) (lnA_fr G fr d1)
  obtain ⟨c1, c2, c3, c4, c5⟩ := cpL_fr G F fr (d2.sub' (by decide)) p0
  have s51 : ∀ i, hB h' (C + 51) i = hB h (C + 51) i := (fr.ar G.2.1 (f := f_Heap_things) (by unfold own; decide) (x := C + 50) (by omega) F.2.2.1.2.1 (by omega) (fun c => c.elim (d2.w (by decide)) (d2.w (by decide))) (p0 _)).2.2
  have c6 := cpT_fr T (fun k _ => s51 k) fr (d2.sub' (by decide))
  have f1 := fr.1
  have c8 := mcp_fr G F fr (d2.sub' (by decide)) p0
  unfold BND WZ WS cpL
  rw [e1, e2, e3, e4, e5, e6, e7, a1, a1, c1, c2, c3, c4, c5, c6, c8]
  exact ⟨by omega, by omega, by omega, CHG.ex es, fun s _ => (fr.ar G.2.1 (f := f_Heap_shapes) (by unfold own; decide) (x := C + 50) (by omega) F.2.2.1.2.2.1 (by omega) (fun c => c.elim (d2.w (by decide)) (d2.w (by decide))) (p0 _)).2.2 s⟩
theorem BND.rows (es : EXS LPO S S') : BND h C S h S' 0 0 := by
  obtain ⟨e1, e2, e3, e4, e5, e6, e7⟩ := pE es
  unfold BND WZ WS
  rw [e1, e2, e3, e4, e5, e6, e7]
  exact ⟨by omega, by omega, by omega, CHG.ex es, fun _ _ => rfl⟩
/-- an array of the machine grows -/
theorem BND.grow (G : AC h C) (F : FC h C) (T : THK h C (S f_Md_things 0).toNat) (es : EXS LPO S S') (e : inA arC f o = true) (fr : Fr LCC [(f, C + o)] 1 n h h') (hf : (LCC.elem f || LPH.elem f) = false) (e1 : hl h' (hR h' f (C + o)) = n) (h1 : 1 ≤ hl h (hR h f (C + o))) (h2 : 2 * hl h (hR h f (C + o)) ≤ n) : BND h C S h' S' 0 0 := by
  have g1 := G.1
  simp only [Bool.or_eq_false_iff] at hf
  obtain ⟨s1, s2, s3, s4, s5, s6, s7⟩ := pE es
  have ln : ∀ q, q ∈ arC → ¬ (q.1 = f ∧ q.2.1 = o) → hl h' (hR h' q.1 (C + q.2.1)) = hl h (hR h q.1 (C + q.2.1)) := by
    intro q m ne
    have o1 := ownA' m
    have k1 : arC.all (fun q => Nat.blt q.2.2 100) = true := by decide
    have k2 := List.all_eq_true.mp k1 _ m
    have k3 : arC.all (fun q => !(LCC.elem q.1)) = true := by decide
    have k4 := List.all_eq_true.mp k3 _ m
    have eR := fr.R (x := C + q.2.1) (by omega) (own5 o1.1) (by
      rintro (c | c)
      · have : LCC.elem q.1 = true := by simpa using c
        rw [this] at k4; cases k4
      · simp at c
        exact ne ⟨c.1, by omega⟩)
    rw [eR, fr.la (G.2.1.1 _ _ (by omega) o1.1)]
    rw [(G.2.2.2.1 _ m).2]
    exact Nat.le_of_ble_eq_true k2
  have a1 := sumA_1 (φ := Nat.log2) (inA_mem e) nodC ln
  have a2 := sumA_1 (φ := id) (inA_mem e) nodC ln
  have dd : DJ LPH LCC [(f, C + o)] := by
    unfold DJ
    refine List.all_eq_true.mpr (fun g hg => ?_)
    have k3 : LPH.all (fun q => !(LCC.elem q)) = true := by decide
    have k4 := List.all_eq_true.mp k3 _ hg
    have k5 : g ≠ f := by
      rintro rfl
      have : LPH.elem g = true := by simpa using hg
      rw [this] at hf; cases hf.2
    rw [k4]
    simp [k5]
  have p0 : ∀ y, (0, y) ∉ [(f, C + o)] := fun y c => by
    simp at c
    obtain ⟨k, m⟩ := inA_mem e
    have := own5 (ownA' m).1
    simp only at this
    omega
  obtain ⟨c1, c2, c3, c4, c5⟩ := cpL_fr G F fr (dd.sub' (by decide)) p0
  have s51 : ∀ i, hB h' (C + 51) i = hB h (C + 51) i := (fr.ar G.2.1 (f := f_Heap_things) (by unfold own; decide) (x := C + 50) (by omega) F.2.2.1.2.1 (by omega) (fun c => c.elim (dd.w (by decide)) (dd.w (by decide))) (p0 _)).2.2
  have s52 : ∀ s : Nat, (s : Int) < S f_Md_shapes 0 → hB h' (C + 52) s = hB h (C + 52) s := fun s _ => (fr.ar G.2.1 (f := f_Heap_shapes) (by unfold own; decide) (x := C + 50) (by omega) F.2.2.1.2.2.1 (by omega) (fun c => c.elim (dd.w (by decide)) (dd.w (by decide))) (p0 _)).2.2 s
  have c6 := cpT_fr T (fun k _ => s51 k) fr (dd.sub' (by decide))
  have f1 := fr.1
  have l1 := log2_up h1 h2
  have c8 := mcp_fr G F fr (dd.sub' (by decide)) p0
  unfold BND WZ WS cpL
  rw [s1, s2, s3, s4, s5, s6, s7, a1, a2, c1, c2, c3, c4, c5, c6, c8, e1]
  simp only [id]
  exact ⟨by omega, by omega, by omega, CHG.ex es, s52⟩
theorem THK.fr (T : THK h C n) (eB : ∀ k, k < n → hB h' (C + 51) k = hB h (C + 51) k) (fr : Fr L P z s h h') (d : DJ [f_Thing_words] L P) : THK h' C n := by
  intro k hk
  obtain ⟨t1, t2, t3⟩ := T k hk
  rw [eB k hk, fr.R t1 (by decide) (d.w (by decide)), fr.K t2]
  exact ⟨fr.lt t1, fr.lt t2, t3⟩
/-- only arrays of the machine grow -/
def GRB (h : ah) (C : Nat) (h' : ah) : Prop := ∀ S S' : SS, THK h C (S f_Md_things 0).toNat → EXS LPO S S' → BND h C S h' S' 0 0 ∧ THK h' C (S' f_Md_things 0).toNat
theorem GRB.rf : GRB h C h := fun S S' T es => ⟨BND.rows es, by rw [es _ (by decide)]; exact T⟩
theorem GRB.tr (a : GRB h C h1) (b : GRB h1 C h') : GRB h C h' := fun S S' T es => by
  obtain ⟨a1, a2⟩ := a S S' T es
  obtain ⟨b1, b2⟩ := b S' S' a2 EXS.rf
  exact ⟨(a1.tr b1).le (by omega) (by omega), b2⟩
theorem GRB.grow (G : AC h C) (F : FC h C) (e : inA arC f o = true) (fr : Fr LCC [(f, C + o)] 1 n h h') (hf : (LCC.elem f || LPH.elem f) = false) (e1 : hl h' (hR h' f (C + o)) = n) (h1 : 1 ≤ hl h (hR h f (C + o))) (h2 : 2 * hl h (hR h f (C + o)) ≤ n) (f5 : f ≠ 0) : GRB h C h' := fun S S' T es => by
  refine ⟨BND.grow G F T es e fr hf e1 h1 h2, ?_⟩
  have g1 := G.1
  simp only [Bool.or_eq_false_iff] at hf
  rw [es _ (by decide)]
  have dd : ∀ g, LPH.elem g = true → ∀ x, ¬ okW LCC [(f, C + o)] g x := fun g hg x c => by
    have k3 : LPH.all (fun q => !(LCC.elem q)) = true := by decide
    have k4 := List.all_eq_true.mp k3 _ (by simpa using hg)
    rcases c with c | c
    · have : LCC.elem g = true := by simpa using c
      rw [this] at k4; cases k4
    · simp at c
      rw [c.1, hf.2] at hg; cases hg
  have s51 : ∀ i, hB h' (C + 51) i = hB h (C + 51) i := (fr.ar G.2.1 (f := f_Heap_things) (by unfold own; decide) (x := C + 50) (by omega) F.2.2.1.2.1 (by omega) (fun c => c.elim (dd _ (by decide) _) (dd _ (by decide) _)) (by simp; intro c; exact absurd c.symm f5)).2.2
  intro k hk
  obtain ⟨t1, t2, t3⟩ := T k hk
  rw [s51 k, fr.R t1 (by decide) (dd _ (by decide) _), fr.K t2]
  exact ⟨fr.lt t1, fr.lt t2, t3⟩
theorem THC.thk {Γ : GH} {ho N : Nat} (H : THC Γ h C ho S N) (G : AC h C) : THK h C (S f_Md_things 0).toNat := by
  obtain ⟨tn, sn, a1, a2, a3, a4, a5, a6, a6', a7, -⟩ := H
  intro k hk
  obtain ⟨b1, ⟨b2, b3, b4⟩, b5, b6, b7, ⟨b8, b9, -⟩, -⟩ := a7 k (by omega)
  exact ⟨b3, G.2.1.1 _ _ b3 (by unfold own; decide), by rw [b9]; decide⟩
end
