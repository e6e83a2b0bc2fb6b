/-! a value joins a thing, on both sides -/
set_option maxRecDepth 20000
def PA8 (a : Nat) : List (Nat × Nat) := [(f_Thing_words, a), (f_Thing_tags, a), (f_Thing_size, a), (f_Thing_words + 1, a), (f_Thing_tags + 1, a), (f_Obj_shape, a), (f_Obj_epoch, a), (f_Obj_changedAt, a)]
def LA7 : List Nat := LAS ++ [f_Md_thingShape, f_Md_epoch, f_Md_changes, f_Md_changedAt]
/-- what C's heap says of thing k after a value has joined it -/
def SLJ (h : ah) (a n l' : Nat) (x y : Int) (h3 : ah) : Prop := TA h3 a (n + 1) l' ∧ (hz h3 ≤ hz h + 2 ∧ hs h3 + 4 * hl h (hR h f_Thing_words a) ≤ hs h + 4 * l') ∧ (∀ i, i ≤ n → hA h3 (hR h3 f_Thing_words a) i = if i = n then y else hA h (hR h f_Thing_words a) i) ∧ (∀ i, i ≤ n → hA h3 (hR h3 f_Thing_tags a) i = if i = n then x else hA h (hR h f_Thing_tags a) i)
section
variable {ρ : Nat → Nat} {d : Nat} {Q : QT} {Γ Γ' : GH} {h h' h3 : ah} {C ho N tn sn k z s n j m i r f sk rk l' : Nat} {S S' S1 : SS} {L : List Nat} {P : List (Nat × Nat)} {X X' X1 : X3} {Y : Y3} {b : Bool} {x y ty v nm sh : Int}
theorem PA8_2 {q : Nat × Nat} {a : Nat} (hq : q ∈ PA8 a) : q.2 = a := by
  unfold PA8 at hq
  simp at hq
  rcases hq with rfl | rfl | rfl | rfl | rfl | rfl | rfl | rfl <;> rfl
theorem inj_le {f : Nat → Nat} {n m : Nat} (hf : ∀ i, i < n → f i < m) (hi : ∀ i j, i < n → j < n → f i = f j → i = j) : n ≤ m := by
  induction n generalizing f m with
  | zero => omega
  | succ n ih =>
    have h0 := hf n (by omega)
    have key : ∀ i, i < n → f i ≠ f n := fun i h1 c => by have := hi i n (by omega) (by omega) c; omega
    have := ih (f := fun i => if f i = m - 1 then f n else f i) (m := m - 1) (fun i h1 => by
      have a1 := hf i (by omega)
      have a2 := key i h1
      show (if f i = m - 1 then f n else f i) < m - 1
      split <;> omega) (fun i j h1 h2 e => by
      have a1 := key i h1
      have a2 := key j h2
      have e' : (if f i = m - 1 then f n else f i) = (if f j = m - 1 then f n else f j) := e
      by_cases c1 : f i = m - 1 <;> by_cases c2 : f j = m - 1
      · exact hi i j (by omega) (by omega) (c1.trans c2.symm)
      · rw [if_pos c1, if_neg c2] at e'; exact absurd e'.symm a2
      · rw [if_neg c1, if_pos c2] at e'; exact absurd e' a1
      · rw [if_neg c1, if_neg c2] at e'; exact hi i j (by omega) (by omega) e')
    omega
theorem MEM.slot (H : MEM X S) (esk : S f_Md_slots 0 = (sk : Int)) (erk : S f_Md_allSlots 0 = (rk : Int)) (hr : rk < 60000) (hc : S f_Md_changes 0 + 1 ≤ 1000000) (x1 : X' 50 f_Heap_ticks 0 = S' f_Md_changes 0) (x3 : X' 50 f_Heap_room 0 = ((rk + 1 : Nat) : Int)) (x2 : EXX [f_Heap_made, f_Heap_shapesMade, f_Heap_calls] X X') (s1 : S' f_Md_changes 0 = S f_Md_changes 0 ∨ S' f_Md_changes 0 = S f_Md_changes 0 + 1) (s2 : S' f_Md_slots 0 = ((sk + 1 : Nat) : Int)) (s4 : S' f_Md_allSlots 0 = ((rk + 1 : Nat) : Int)) (s3 : EXS [f_Md_allMade, f_Md_allShapes, f_Md_things, f_Md_calls, f_Md_variables, f_Md_shapes] S S') : MEM X' S' := by
  obtain ⟨mk, rm, sm, tk, ck, sk', vk, hk, gk, ⟨a1, a2, a3⟩, ⟨b1, b2, b3⟩, ⟨c1, c2, c3⟩, ⟨d1, d2, d3, d4⟩, ⟨e3, e4, e5⟩, ⟨f1, f2, f3⟩, ⟨g1, g2, g3⟩⟩ := H
  exact ⟨mk, rk + 1, sm, tk, ck, sk + 1, vk, hk, (S' f_Md_changes 0).toNat, ⟨by rw [x2 _ (by decide)]; exact a1, by rw [s3 _ (by decide)]; exact a2, a3⟩, ⟨x3, s4, by omega⟩, ⟨by rw [x2 _ (by decide)]; exact c1, by rw [s3 _ (by decide)]; exact c2, c3⟩, ⟨by rw [s3 _ (by decide)]; exact d1, by rw [s3 _ (by decide)]; exact d2, by rw [x2 _ (by decide)]; exact d3, d4⟩, ⟨s2, by rw [s3 _ (by decide)]; exact e4, by omega⟩, ⟨by rw [s3 _ (by decide)]; exact f1, f2, f3⟩, ⟨by omega, by rw [x1]; omega, by omega⟩⟩
theorem BND.slot (G : AC h C) (F : FC h C) (T : THK h C (S f_Md_things 0).toNat) (hk : (k : Int) < S f_Md_things 0) (ad : hB h (C + 51) k < hz h) (ud : ∀ j : Nat, (j : Int) < S f_Md_things 0 → hB h (C + 51) j = hB h (C + 51) k → j = k) (fr : Fr LCC (PA8 (hB h (C + 51) k)) z s h h3) (J : SLJ h (hB h (C + 51) k) n l' x y h3) (s1 : S1 f_Md_changes 0 ≤ S f_Md_changes 0 + 1) (s2 : S1 f_Md_slots 0 = S f_Md_slots 0 + 1) (s4 : S1 f_Md_allSlots 0 = S f_Md_allSlots 0 + 1) (s3 : EXS [f_Md_allMade, f_Md_allShapes, f_Md_things, f_Md_allChoices] S S1) (ch : CHG S S1) : BND h C S h3 S1 1 0 := by
  have g1 := G.1
  have a1 := fun φ => sumA_e (φ := φ) (lnA_fr G fr (by unfold DJ; rfl))
  have p0 : ∀ y, (0, y) ∉ PA8 (hB h (C + 51) k) := fun y c => by unfold PA8 at c; simp at c
  obtain ⟨c1, c2, c3, c4, c5⟩ := cpL_fr G F fr (by unfold DJ; rfl) p0
  have s51 : ∀ i, hB h3 (C + 51) i = hB h (C + 51) i := (fr.ar G.2.1 (f := f_Heap_things) (by unfold own; decide) (x := C + 50) (by omega) F.2.2.1.2.1 (by omega) (fun c => c.elim ((show DJ [f_Heap_things] LCC (PA8 (hB h (C + 51) k)) by unfold DJ; rfl).w (by decide)) ((show DJ [f_Heap_things + 1] LCC (PA8 (hB h (C + 51) k)) by unfold DJ; rfl).w (by decide))) (p0 _)).2.2
  have s52 : ∀ i, hB h3 (C + 52) i = hB h (C + 52) i := (fr.ar G.2.1 (f := f_Heap_shapes) (by unfold own; decide) (x := C + 50) (by omega) F.2.2.1.2.2.1 (by omega) (fun c => c.elim ((show DJ [f_Heap_shapes] LCC (PA8 (hB h (C + 51) k)) by unfold DJ; rfl).w (by decide)) ((show DJ [f_Heap_shapes + 1] LCC (PA8 (hB h (C + 51) k)) by unfold DJ; rfl).w (by decide))) (p0 _)).2.2
  have c8 := mcp_fr G F fr (by unfold DJ; rfl) p0
  have hkt : k < (S f_Md_things 0).toNat := by omega
  have c6 := cpT_1 (h := h) (h' := h3) (C := C) (n := (S f_Md_things 0).toNat) hkt (fun j hj ne => by
    obtain ⟨t1, t2, t3⟩ := T j hj
    have n1 : ¬ okW LCC (PA8 (hB h (C + 51) k)) f_Thing_words (hB h (C + 51) j) := by
      rintro (c | c)
      · have : LCC.elem f_Thing_words = false := by decide
        simp [c] at this
      · exact ne (ud j (by omega) (PA8_2 c))
    rw [s51 j, fr.R t1 (by decide) n1, fr.la t2 t3])
  rw [s51 k] at c6
  obtain ⟨ta, ⟨z1, z2⟩, -, -⟩ := J
  have el : hl h3 (hR h3 f_Thing_words (hB h (C + 51) k)) = l' := ta.2.2.2.1.2.2
  unfold BND WZ WS cpL
  rw [s3 f_Md_allMade (by decide), s3 f_Md_allShapes (by decide), s3 f_Md_things (by decide), s3 f_Md_allChoices (by decide), s2, s4, a1, a1, c1, c2, c3, c4, c5, c6, c8, el]
  exact ⟨by omega, by omega, by omega, ch, fun s _ => s52 s⟩
theorem CORE.sla (HC : CORE Γ h C ho X Y S N) (hk : (k : Int) < S f_Md_things 0) (en : S f_Md_thingCount k = (n : Int)) (esk : S f_Md_slots 0 = (sk : Int)) (erk : S f_Md_allSlots 0 = (rk : Int)) (hr : rk < 60000) (hc : S f_Md_changes 0 + 1 ≤ 1000000) (V : VR Γ S N x y ty v) (fr : Fr LCC (PA8 (hB h (C + 51) k)) z s h h3) (J : SLJ h (hB h (C + 51) k) n l' x y h3) (eb : b = !(S f_Md_isWatched k == 0)) (ob : ((S f_Md_thingKind k = 4 ∨ S f_Md_thingKind k = 5) ∧ (n < 64 ∧ sh = (r : Int)) ∧ (r : Int) < S f_Md_shapes 0 ∧ S f_Md_shapeBefore r = S f_Md_thingShape k ∧ S f_Md_shapeName r = nm ∧ hR h3 f_Obj_shape (hB h (C + 51) k) = hB h (C + 52) r ∧ hI h3 f_Obj_epoch (hB h (C + 51) k) = (if b = true then S f_Md_epoch k + 1 else hI h f_Obj_epoch (hB h (C + 51) k)) ∧ hI h3 f_Obj_changedAt (hB h (C + 51) k) = (if b = true then S f_Md_changes 0 + 1 else hI h f_Obj_changedAt (hB h (C + 51) k))) ∨ ((S f_Md_thingKind k = 6 ∨ S f_Md_thingKind k = 7) ∧ nm = -1 ∧ S f_Md_thingShape k = sh)) (k7 : ¬ S f_Md_thingKind k = 7) : (CORE Γ h3 C ho (grwX (u3 X 50 f_Heap_room 0 ((rk + 1 : Nat) : Int)) b (S f_Md_changes 0)) Y (adpS S k sk rk n nm ty v sh) N ∧ ∀ {t o n' c r' : Nat}, CT Γ h C X Y S N t o n' c r' → CT Γ h3 C (grwX (u3 X 50 f_Heap_room 0 ((rk + 1 : Nat) : Int)) b (S f_Md_changes 0)) Y (adpS S k sk rk n nm ty v sh) N t o n' c r') ∧ GRO Γ Γ h h3 C S (adpS S k sk rk n nm ty v sh) ∧ BND h C S h3 (adpS S k sk rk n nm ty v sh) 1 0 ∧ Fr LHc [] z s h h3 := by
  have HC0 := HC
  obtain ⟨⟨G, F⟩, -, -, -, q2', q3, q4, q5, q6, q7, q8⟩ := HC0
  have gz := G.1
  have q7' := q7
  obtain ⟨tn, sn, c1, c2, c3, c4, c5, c6, c6', c7, c8, c9, c10⟩ := q7'
  have T0 := (c7 k (by omega)).p
  obtain ⟨TA', TB, TC, TD⟩ := T0
  have ad := TA'.2.1.2.1
  have un : ∀ x y, x < n → y < n → slS S k x = slS S k y → x = y := fun x y hx hy e => (c9 k x k y (by omega) (by omega) (by omega) (by omega) e).2
  have lt : ∀ x, x < n → slS S k x < sk := fun x hx => by have := (TB.2.2.2.1 x (by omega)).1; omega
  have nsk : n ≤ sk := inj_le lt un
  have lst : n ≠ 0 → S f_Md_thingLast k = (slS S k (n - 1) : Int) := fun n0 => by
    have := (TB.2.2.2.2.1 (by omega)).2
    rw [en, Int.toNat_natCast] at this
    exact this
  have skr : sk < 60000 := by
    have skm := q6
    obtain ⟨-, rm0, -, -, -, sk', vk, -, gk, -, ⟨-, r2, r3⟩, -, -, ⟨s1, -, s3⟩, -⟩ := skm
    omega
  have p0 : ∀ y, (0, y) ∉ PA8 (hB h (C + 51) k) := fun y c => by unfold PA8 at c; simp at c
  have x0 : ∀ o f i, [f_Heap_ticks, f_Heap_room].elem f = false → (grwX (u3 X 50 f_Heap_room 0 ((rk + 1 : Nat) : Int)) b (S f_Md_changes 0)) o f i = X o f i := fun o f i hf => by
    unfold grwX
    split
    · rw [u3_f (by rintro rfl; exact absurd hf (by decide)), u3_f (by rintro rfl; exact absurd hf (by decide))]
    · exact u3_f (by rintro rfl; exact absurd hf (by decide))
  have xr : (grwX (u3 X 50 f_Heap_room 0 ((rk + 1 : Nat) : Int)) b (S f_Md_changes 0)) 50 f_Heap_room 0 = ((rk + 1 : Nat) : Int) := by
    unfold grwX
    split
    · rw [u3_f (by decide), u3_s]
    · rw [u3_s]
  have o0 : ∀ f x, LA7.elem f = false → (adpS S k sk rk n nm ty v sh) f x = S f x := fun f x hf => by
    have nn : ∀ L : List Nat, (L.all fun f => LA7.elem f) = true → L.elem f = false := fun L q => by
      cases w : L.elem f with
      | false => rfl
      | true => rw [List.all_eq_true.mp q f (by simpa using w)] at hf; cases hf
    unfold adpS
    rw [grwS_o (nn _ (by decide)), u2_f (by rintro rfl; exact absurd hf (by decide)), adsS_o (nn _ (by decide))]
  have od : ∀ f x, [f_Md_thingShape, f_Md_epoch, f_Md_changes, f_Md_changedAt].elem f = false → (adpS S k sk rk n nm ty v sh) f x = adsS S k sk rk n nm ty v f x := fun f x hf => by
    have nn : ∀ L : List Nat, (L.all fun f => [f_Md_thingShape, f_Md_epoch, f_Md_changes, f_Md_changedAt].elem f) = true → L.elem f = false := fun L q => by
      cases w : L.elem f with
      | false => rfl
      | true => rw [List.all_eq_true.mp q f (by simpa using w)] at hf; cases hf
    unfold adpS
    rw [grwS_o (nn _ (by decide)), u2_f (by rintro rfl; exact absurd hf (by decide))]
  have ok : ∀ j, j ≠ k → ∀ f, LTT.elem f = true → (adpS S k sk rk n nm ty v sh) f j = S f j := fun j hj f hf => by
    unfold adpS
    rw [grwS_k hj (by rintro rfl; exact absurd hf (by decide)), u2_e, if_neg (fun c => hj c.2), adsS_t hf hj]
  have iw : u2 (adsS S k sk rk n nm ty v) f_Md_thingShape k sh f_Md_isWatched k = S f_Md_isWatched k := by rw [u2_f (by decide), adsS_o (by decide)]
  obtain ⟨w1, w2, w3⟩ := grwS_w (S := u2 (adsS S k sk rk n nm ty v) f_Md_thingShape k sh) (k := k)
  rw [iw, u2_f (by decide), adsS_o (by decide)] at w1
  rw [iw, u2_f (by decide), u2_f (by decide), adsS_o (by decide), adsS_o (by decide)] at w2
  rw [iw, u2_f (by decide), adsS_o (by decide)] at w3
  have wsh : (adpS S k sk rk n nm ty v sh) f_Md_thingShape k = sh := by unfold adpS; rw [grwS_o (by decide), u2_s]
  change (adpS S k sk rk n nm ty v sh) _ _ = _ at w1
  change (adpS S k sk rk n nm ty v sh) _ _ = _ at w2
  change (adpS S k sk rk n nm ty v sh) _ _ = _ at w3
  obtain ⟨a1, a2, a3, a4, a5, a6, a7, a8⟩ := adsS_1 (S := S) (k := k) (sk := sk) (rk := rk) (m := n) (nm := nm) (ty := ty) (v := v)
  rw [← od _ _ (by decide)] at a1 a2 a3 a4 a5 a6 a7 a8
  have tkx : X 50 f_Heap_ticks 0 = S f_Md_changes 0 := by
    obtain ⟨-, -, -, -, -, -, -, -, gk, -, -, -, -, -, -, y1, y2, -⟩ := q6
    rw [y1, y2]
  have bw : (b = true) ↔ ¬ S f_Md_isWatched k = 0 := by rw [eb]; simp
  have xt : (grwX (u3 X 50 f_Heap_room 0 ((rk + 1 : Nat) : Int)) b (S f_Md_changes 0)) 50 f_Heap_ticks 0 = (adpS S k sk rk n nm ty v sh) f_Md_changes 0 := by
    rw [w3]
    unfold grwX
    by_cases q : S f_Md_isWatched k = 0
    · rw [if_pos q, if_neg (fun c => bw.mp c q), u3_f (by decide)]; exact tkx
    · rw [if_neg q, if_pos (bw.mpr q), u3_s]
  have wc : (adpS S k sk rk n nm ty v sh) f_Md_changes 0 = S f_Md_changes 0 ∨ (adpS S k sk rk n nm ty v sh) f_Md_changes 0 = S f_Md_changes 0 + 1 := by rw [w3]; split <;> omega
  have sle : ∀ j x, slS (adpS S k sk rk n nm ty v sh) j x = slS (adsS S k sk rk n nm ty v) j x := fun j x => by
    induction x with
    | zero => show ((adpS S k sk rk n nm ty v sh) _ j).toNat = _; rw [od _ _ (by decide)]; rfl
    | succ x ih => show ((adpS S k sk rk n nm ty v sh) _ (slS (adpS S k sk rk n nm ty v sh) j x)).toNat = _; rw [ih, od _ _ (by decide)]; rfl
  have slk : ∀ x, x ≤ n → slS (adpS S k sk rk n nm ty v sh) k x = if x = n then sk else slS S k x := fun x hx => by
    rw [sle, adsS_s lst (fun x y hx hy e => un x y hx hy e) lt x hx]
  have sll : ∀ f m, LSL.elem f = true → m ≠ sk → (n ≠ 0 → f = f_Md_slotNext → m ≠ slS S k (n - 1)) → (adpS S k sk rk n nm ty v sh) f m = S f m := fun f m hf h1 h2 => by
    rw [od f m (by
      have : f = f_Md_slotType ∨ f = f_Md_slotValue ∨ f = f_Md_slotName ∨ f = f_Md_slotNext := by unfold LSL at hf; simpa using hf
      rcases this with rfl | rfl | rfl | rfl <;> decide), adsS_l hf h1 (fun n0 e => by rw [lst n0, Int.toNat_natCast]; exact h2 n0 e)]
  have sln : n ≠ 0 → (adpS S k sk rk n nm ty v sh) f_Md_slotNext (slS S k (n - 1)) = (sk : Int) := fun n0 => by
    have := adsS_n (S := S) (k := k) (sk := sk) (rk := rk) (nm := nm) (ty := ty) (v := v) n0
    rw [lst n0, Int.toNat_natCast] at this
    rw [od _ _ (by decide)]
    exact this
  have oth : ∀ j, j ≠ k → (j : Int) < S f_Md_things 0 → ∀ x : Nat, (x : Int) < S f_Md_thingCount j → slS S j x ≠ sk ∧ (n ≠ 0 → slS S j x ≠ slS S k (n - 1)) := fun j hj hjt x hx => by
    have := ((c7 j (by omega)).p.2.1.2.2.2.1 x hx).1
    exact ⟨by omega, fun n0 c => hj (c9 j x k (n - 1) (by omega) (by omega) hx (by omega) c).1⟩
  have slo : ∀ j, j ≠ k → (j : Int) < S f_Md_things 0 → ∀ x : Nat, (x : Int) < S f_Md_thingCount j → slS (adpS S k sk rk n nm ty v sh) j x = slS S j x := fun j hj hjt x => by
    induction x with
    | zero => intro _; show ((adpS S k sk rk n nm ty v sh) _ j).toNat = _; rw [ok j hj _ (by decide)]; rfl
    | succ x ih =>
      intro hx
      show ((adpS S k sk rk n nm ty v sh) _ (slS (adpS S k sk rk n nm ty v sh) j x)).toNat = _
      obtain ⟨o1, o2⟩ := oth j hj hjt x (by omega)
      rw [ih (by omega), sll _ _ (by decide) o1 (fun n0 _ => o2 n0)]
      rfl
  have ud : ∀ j : Nat, (j : Int) < S f_Md_things 0 → hB h (C + 51) j = hB h (C + 51) k → j = k := fun j hj e => HC.tad hj hk e
  have acy : ACY S → ACY (adpS S k sk rk n nm ty v sh) := fun A => by
    have e : ∀ j, prS (adpS S k sk rk n nm ty v sh) j = prS S j := fun j => by
      unfold prS
      rw [o0 f_Md_shapeProto _ (by decide)]
      by_cases w : j = k
      · subst w
        rw [wsh]
        rcases ob with ⟨kd, ⟨-, esh⟩, r1, r2, -⟩ | ⟨-, -, r2⟩
        · rw [esh, Int.toNat_natCast]
          obtain ⟨t1, t2⟩ := (TC.1 kd).1
          rcases (c8 r (by omega)).2.2.2.1 with ⟨q, -⟩ | ⟨-, -, -, -, -, q⟩
          · omega
          · rw [q, r2]
        · rw [r2]
      · rw [ok j w _ (by decide)]
    intro j hj kd
    rw [o0 _ _ (by decide)] at hj kd
    obtain ⟨i, hi⟩ := A j hj kd
    exact ⟨i, by rw [pcS_e e]; exact hi⟩
  have JJ := J
  obtain ⟨ta, tz, vw, vt⟩ := J
  have chg : CHG S (adpS S k sk rk n nm ty v sh) := CHG.one (exs_of o0 (by decide)) ok w2 w3 k7 (o0 _ _ (by decide))
  generalize (adpS S k sk rk n nm ty v sh) = S1 at *
  have g : GRO Γ Γ h h3 C S S1 := GRO.fr (exs_of o0 (by decide)) G F fr (by unfold DJ; rfl) p0
  have nP : ∀ f, LHH.elem f = true → [f_Thing_words, f_Thing_tags, f_Obj_shape, f_Thing_size, f_Obj_epoch, f_Obj_changedAt].elem f = false → ¬ okW LCC (PA8 (hB h (C + 51) k)) f (hB h (C + 51) k) := fun f hf w => by
    rintro (c | c)
    · have d1 : DJ LHH LCC [] := by unfold DJ; rfl
      exact d1.w hf (x := 0) (Or.inl c)
    · unfold PA8 at c; simp at c
      rcases c with e | e | e | e | e | e | e | e <;> (rw [e] at w hf; first | exact absurd w (by decide) | exact absurd hf (by decide))
  have km : MEM (grwX (u3 X 50 f_Heap_room 0 ((rk + 1 : Nat) : Int)) b (S f_Md_changes 0)) S1 := q6.slot esk erk hr hc xt xr (exx_of x0 (by decide)) wc a1 a2 (exs_of o0 (by decide))
  have bd : BND h C S h3 S1 1 0 := BND.slot G F (q7.thk G) hk ad ud fr JJ (by omega) (by rw [a1, esk]; omega) (by rw [a2, erk]; omega) (exs_of o0 (by decide)) chg
  have kt : THC Γ h3 C ho S1 N := by
    refine THC.mod (k := k) q7 G F g fr (by unfold DJ; rfl) (fun q hq => PA8_2 hq) p0 hk (fun x _ => q8.eq G.2.1 fr (by unfold DJ; rfl) p0 x) (exs_of o0 (by decide)) ok (fun j hj hjt x hx f hf => ?_) (by rw [a1, esk]; omega) (by omega) acy (fun tn' sn' et es e51 e52 c8' T => ?_) (fun a9 j x j' x' h1 h2 h3 h4 h5 => ?_)
    · obtain ⟨o1, o2⟩ := oth j hj hjt x hx
      exact sll f _ hf o1 (fun n0 _ => o2 n0)
    · have A2 := TA'.keep g (e51 k) (fun f hf => o0 f k (by
        have : f = f_Md_thingKind ∨ f = f_Md_thingFunction ∨ f = f_Md_thingAround ∨ f = f_Md_thingClass := by simpa using hf
        rcases this with rfl | rfl | rfl | rfl <;> decide)) (fr.I ad (by decide) (nP _ (by decide) (by decide))) (fun f hf => by
        have : f = f_Fun_code ∨ f = f_Fun_around ∨ f = f_Instance_type := by simpa using hf
        rcases this with rfl | rfl | rfl <;> exact fr.R ad (by decide) (nP _ (by decide) (by decide))) (fr.K ad) (fr.lt ad) (fun x _ => q8.eq G.2.1 fr (by unfold DJ; rfl) p0 x)
      have sne : sn' = sn := by omega
      subst sne
      have B2 : TB1 Γ h3 C S1 N k := by
        obtain ⟨b6, b7, -, b15, b16, b17⟩ := TB
        obtain ⟨-, -, t3, ⟨t4, t5, t6⟩, ⟨t7, t8, t9⟩, t10, t11⟩ := ta
        unfold TB1
        rw [e51, a3, t3, t6, t9, a1]
        refine ⟨rfl, by omega, ⟨t4, t5, t7, t8, rfl, by omega, t11⟩, fun x hx => ?_, fun w => ?_, fun x hx => ?_⟩
        · have hx' : x ≤ n := by omega
          rw [slk x hx', vw x hx', vt x hx']
          by_cases q : x = n
          · rw [if_pos q, if_pos q, if_pos q, a6, a7]
            exact ⟨by omega, g.vr V⟩
          · rw [if_neg q, if_neg q, if_neg q]
            have l1 := lt x (by omega)
            rw [sll _ _ (by decide) (by omega) (fun _ e => absurd e (by decide)), sll _ _ (by decide) (by omega) (fun _ e => absurd e (by decide))]
            exact ⟨by omega, g.vr (b15 x (by omega)).2⟩
        · rw [a4, Int.toNat_natCast, show n + 1 - 1 = n by omega, slk n (Nat.le_refl _), if_pos rfl, a5]
          refine ⟨?_, rfl⟩
          by_cases q : n = 0
          · rw [if_pos q]; omega
          · rw [if_neg q]; exact (b16 (by omega)).1
        · have hx' : x < n := by omega
          have l1 := lt x hx'
          rw [slk x (by omega), if_neg (by omega)]
          by_cases q : x + 1 = n
          · have e2 : x = n - 1 := by omega
            rw [e2, sln (by omega)]; omega
          · rw [sll _ _ (by decide) (by omega) (fun _ _ c => by have := un x (n - 1) hx' (by omega) c; omega)]
            exact b17 x (by omega)
      have C2 : TC1 h3 C S1 sn' k := by
        unfold TC1
        rw [e51, o0 f_Md_thingKind k (by decide), a3, wsh, Int.toNat_natCast]
        refine ⟨fun q => ?_, fun q x hx => ?_⟩
        · rcases ob with ⟨kd, ⟨n64, esh⟩, r1, r2, r3, r4, -⟩ | ⟨kd, -⟩
          · rw [esh, Int.toNat_natCast, o0 f_Md_shapeCount r (by decide), e52 r]
            obtain ⟨⟨u0, u1⟩, u2, u3, u4, u5⟩ := TC.1 kd
            rw [en] at u3 u5
            rcases (c8 r (by omega)).2.2.2.1 with ⟨q, -⟩ | ⟨-, -, -, -, qc, -⟩
            · omega
            · rw [r2, u3] at qc
              refine ⟨⟨by omega, by omega⟩, r4, by rw [qc]; omega, by omega, fun x hx => ?_⟩
              obtain ⟨x1, x2⟩ := anc_k (S := S) (S' := S1) (sn := sn') (s := r) (fun s hs => o0 _ _ (by decide)) (fun s hs => (c8 s hs).bef hs) (by omega) (n + 1 - 1 - x)
              rw [slk x (by omega), x1, o0 f_Md_shapeName _ (by decide)]
              by_cases q : x = n
              · rw [if_pos q, a8, show n + 1 - 1 - x = 0 by omega]
                exact r3.symm
              · have l1 := lt x (by omega)
                rw [if_neg q, sll _ _ (by decide) (by omega) (fun _ e => absurd e (by decide)), u5 x (by omega), show n + 1 - 1 - x = (n - 1 - x) + 1 by omega, anc_s, r2, Int.toNat_natCast]
          · omega
        · rcases ob with ⟨kd, -⟩ | ⟨kd, e1, -⟩
          · omega
          · rw [slk x (by omega)]
            by_cases q2 : x = n
            · rw [if_pos q2, a8, e1]
            · have l1 := lt x (by omega)
              rw [if_neg q2, sll _ _ (by decide) (by omega) (fun _ e => absurd e (by decide))]
              exact TC.2 q x (by omega)
      have D2 : TD1 h3 C S1 sn' k := by
        obtain ⟨d1, d2, d3, d4, d5⟩ := TD
        have ro : rooB S1 k sn' = rooB S k sn' := rooB_k (fun s hs => ⟨o0 _ _ (by decide), o0 _ _ (by decide)⟩)
        have rr : hR h3 f_Obj_root (hB h (C + 51) k) = hR h f_Obj_root (hB h (C + 51) k) := fr.R ad (by decide) (nP _ (by decide) (by decide))
        have sh : shA h3 C (rooB S k sn') = shA h C (rooB S k sn') := shA_e (sn := sn') (fun s _ => e52 s) (by have := rooB_lt (S := S) (k := k) sn'; omega)
        unfold TD1
        rw [e51, o0 f_Md_thingKind k (by decide), o0 f_Md_isWatched k (by decide), w1, w2, w3, ro, rr, sh]
        rcases ob with ⟨kd, -, r1, r2, r3, r4, g1, g2⟩ | ⟨kd, -⟩
        · obtain ⟨d6, d7, d8, d9⟩ := d1 kd
          rw [g1, g2]
          by_cases q : S f_Md_isWatched k = 0
          · have nb : ¬ b = true := fun c => bw.mp c q
            rw [if_neg nb, if_neg nb, if_pos q, if_pos q, if_pos q, if_pos q]
            rw [if_pos q] at d6
            exact ⟨fun _ => ⟨d6, d7, d8, d9⟩, d2, d3, d4, d5⟩
          · have nb : b = true := bw.mpr q
            rw [if_pos nb, if_pos nb, if_neg q, if_neg q, if_neg q, if_neg q]
            exact ⟨fun _ => ⟨rfl, rfl, d8, d9⟩, d2, d3, by omega, by omega⟩
        · have q := d3 kd
          rw [if_pos q, if_pos q, if_pos q, if_pos q]
          exact ⟨fun c => by omega, d2, d3, d4, d5⟩
      exact TH1.mk A2 B2 C2 D2
    · -- slots are told apart
      have cnt : ∀ j, j ≠ k → S1 f_Md_thingCount j = S f_Md_thingCount j := fun j hj => ok j hj _ (by decide)
      by_cases q1 : j = k <;> by_cases q2 : j' = k
      · subst q1 q2
        rw [a3] at h3 h4
        rw [slk x (by omega), slk x' (by omega)] at h5
        refine ⟨rfl, ?_⟩
        by_cases u1 : x = n <;> by_cases u2 : x' = n
        · omega
        · rw [if_pos u1, if_neg u2] at h5; have := lt x' (by omega); omega
        · rw [if_neg u1, if_pos u2] at h5; have := lt x (by omega); omega
        · rw [if_neg u1, if_neg u2] at h5; exact un x x' (by omega) (by omega) h5
      · subst q1
        rw [a3] at h3
        rw [cnt j' q2] at h4
        rw [slk x (by omega), slo j' q2 h2 x' h4] at h5
        by_cases u1 : x = n
        · rw [if_pos u1] at h5; exact absurd h5.symm (oth j' q2 h2 x' h4).1
        · rw [if_neg u1] at h5; exact absurd (a9 j x j' x' h1 h2 (by omega) h4 h5).1.symm q2
      · subst q2
        rw [a3] at h4
        rw [cnt j q1] at h3
        rw [slo j q1 h1 x h3, slk x' (by omega)] at h5
        by_cases u1 : x' = n
        · rw [if_pos u1] at h5; exact absurd h5 (oth j q1 h1 x h3).1
        · rw [if_neg u1] at h5; exact absurd (a9 j x j' x' h1 h2 h3 (by omega) h5).1 q1
      · rw [cnt j q1] at h3
        rw [cnt j' q2] at h4
        rw [slo j q1 h1 x h3, slo j' q2 h2 x' h4] at h5
        exact a9 j x j' x' h1 h2 h3 h4 h5
  refine ⟨HC.mv (S' := S1) (X' := grwX (u3 X 50 f_Heap_room 0 ((rk + 1 : Nat) : Int)) b (S f_Md_changes 0)) fr g (exs_of o0 (by decide)) (exx_of x0 (by decide)) p0 (by unfold DJ; rfl) (by unfold DJ; rfl) (by unfold DJ; rfl) (by unfold DJ; rfl) (exs_of o0 (by decide)) (Int.le_of_eq (o0 _ _ (by decide)).symm) (q2'.ext g (exs_of o0 (by decide)) (exx_of x0 (by decide)) (ac_len G fr (by decide) (by unfold DJ; rfl)) (ac_len G fr (by decide) (by unfold DJ; rfl)) (ac_len G fr (by decide) (by unfold DJ; rfl))) (q3.ext (C := C) G.2.1 g (exs_of o0 (by decide)) fr (by unfold DJ; rfl) (by unfold DJ; rfl) p0) (q4.ext g (exs_of o0 (by decide)) (exx_of x0 (by decide)) (ac_len G fr (by decide) (by unfold DJ; rfl)) (ac_len G fr (by decide) (by unfold DJ; rfl)) (ac_len G fr (by decide) (by unfold DJ; rfl))) (q5.ext (exs_of o0 (by decide)) (exx_of x0 (by decide)) (ac_len G fr (by decide) (by unfold DJ; rfl)) (ac_len G fr (by decide) (by unfold DJ; rfl)) (ac_len G fr (by decide) (by unfold DJ; rfl))) km kt (by unfold DJ; rfl), g, bd, ?_⟩
  have wl : (PA8 0).all (fun q => Nat.ble 5 q.1 && LHc.elem q.1) = true := by decide
  have lc : LCC.all (fun f => LHc.elem f) = true := by decide
  refine (Fr.into (L := LHc) (P := []) Fr.r0 fr (fun f q => by simpa using List.all_eq_true.mp lc f q) (fun q hq => Or.inr (Or.inl ?_))).le (by omega) (by omega)
  have q1 : (q.1, 0) ∈ PA8 0 := by
    unfold PA8 at hq ⊢
    simp at hq ⊢
    rcases hq with rfl | rfl | rfl | rfl | rfl | rfl | rfl | rfl <;> simp
  have := List.all_eq_true.mp wl _ q1
  simp only [Bool.and_eq_true] at this
  exact ⟨Nat.le_of_ble_eq_true this.1, by simpa using this.2⟩
end
