/-! a property is dropped: the relation -/
set_option maxRecDepth 20000
def PD6 (a : Nat) : List (Nat × Nat) := [(f_Obj_shape, a), (f_Thing_size, a), (f_Obj_epoch, a), (f_Obj_changedAt, a), (f_Thing_words + 1, a), (f_Thing_tags + 1, a)]
def LD6 : List Nat := [f_Md_thingShape, f_Md_epoch, f_Md_changes, f_Md_changedAt, f_Md_thingFirst, f_Md_slotNext, f_Md_thingCount, f_Md_thingLast]
section
variable {ρ : Nat → Nat} {d : Nat} {Q : QT} {Γ Γ' : GH} {h h' h2 : ah} {C ho a N tn sn k z s n j m i r f : Nat} {S S' : SS} {L : List Nat} {P : List (Nat × Nat)} {X X' : X3} {Y : Y3} {b : Bool} {e t p' : Int}
theorem CORE.drp (HC : CORE Γ h C ho X Y S N) (hk : (k : Int) < S f_Md_things 0) (kd : S f_Md_thingKind k = 4 ∨ S f_Md_thingKind k = 5) (hc : S f_Md_changes 0 + 1 ≤ 1000000) (en : S f_Md_thingCount k = (n : Int)) (hi : i < n) (R : RCH S p' (i : Int) (nmT S k) n r) (eb : b = !(S f_Md_isWatched k == 0)) (SF : SFT (sR h f_Obj_shape (hB h (C + 51) k) (hB h (C + 52) r)) h2 (hB h (C + 51) k) i n) (acy : ACY S → ACY (grwS (u2 (drS S k i n) f_Md_thingShape k (r : Int)) k)) : (CORE Γ (grwB (sI h2 f_Thing_size (hB h (C + 51) k) ((n - 1 : Nat) : Int)) (hB h (C + 51) k) b (S f_Md_epoch k) (S f_Md_changes 0)) C ho (grwX X b (S f_Md_changes 0)) Y (grwS (u2 (drS S k i n) f_Md_thingShape k (r : Int)) k) N ∧ ∀ {t o n' c r' : Nat}, CT Γ h C X Y S N t o n' c r' → CT Γ (grwB (sI h2 f_Thing_size (hB h (C + 51) k) ((n - 1 : Nat) : Int)) (hB h (C + 51) k) b (S f_Md_epoch k) (S f_Md_changes 0)) C (grwX X b (S f_Md_changes 0)) Y (grwS (u2 (drS S k i n) f_Md_thingShape k (r : Int)) k) N t o n' c r') ∧ GRO Γ Γ h (grwB (sI h2 f_Thing_size (hB h (C + 51) k) ((n - 1 : Nat) : Int)) (hB h (C + 51) k) b (S f_Md_epoch k) (S f_Md_changes 0)) C S (grwS (u2 (drS S k i n) f_Md_thingShape k (r : Int)) k) ∧ BND h C S (grwB (sI h2 f_Thing_size (hB h (C + 51) k) ((n - 1 : Nat) : Int)) (hB h (C + 51) k) b (S f_Md_epoch k) (S f_Md_changes 0)) (grwS (u2 (drS S k i n) f_Md_thingShape k (r : Int)) k) 1 0 ∧ Fr LHc [] 0 0 h (grwB (sI h2 f_Thing_size (hB h (C + 51) k) ((n - 1 : Nat) : Int)) (hB h (C + 51) k) b (S f_Md_epoch k) (S f_Md_changes 0)) := by
  have HC0 := HC
  obtain ⟨⟨G, F⟩, -, -, -, q2', q3, q4, q5, q6, q7, q8⟩ := HC0
  have gz := G.1
  have q7' := q7
  obtain ⟨tn, sn, c1, c2, c3, c4, c5, c6, c6', c7, c8, c9, c10⟩ := q7'
  have T0 := (c7 k (by omega)).p
  obtain ⟨TA, TB, TC, TD⟩ := T0
  have ad := TA.2.1.2.1
  have un : ∀ x y, x < n → y < n → slS S k x = slS S k y → x = y := fun x y hx hy e => (c9 k x k y (by omega) (by omega) (by omega) (by omega) e).2
  have LK : SLK S k n := by
    have skm := q6
    obtain ⟨-, rm0, -, -, -, sk, vk, -, gk, -, ⟨-, -, r3⟩, -, -, ⟨s1, -, s3⟩, -⟩ := skm
    have n64 : n ≤ 64 := by have := (TC.1 kd).2.2.2.1; omega
    exact ⟨by omega, n64, en, fun w => (TB.2.2.2.2.1 (by omega)).1, fun x hx => by have := (TB.2.2.2.1 x (by omega)).1; omega, fun x hx => TB.2.2.2.2.2 x (by omega)⟩
  have a0 : Fr [] (PD6 (hB h (C + 51) k)) 0 0 h (sR h f_Obj_shape (hB h (C + 51) k) (hB h (C + 52) r)) := Fr.wR (Or.inr (by unfold PD6; simp)) (by unfold own; decide) Fr.r0
  have a1 : Fr [] (PD6 (hB h (C + 51) k)) 0 0 (sR h f_Obj_shape (hB h (C + 51) k) (hB h (C + 52) r)) h2 := SF.1.mono (fun _ q => q) (fun q hq => by unfold PWT at hq; unfold PD6; simp at hq ⊢; rcases hq with rfl | rfl <;> simp)
  have a2 : Fr [] (PD6 (hB h (C + 51) k)) 0 0 h2 (sI h2 f_Thing_size (hB h (C + 51) k) ((n - 1 : Nat) : Int)) := Fr.wI (by decide) (Or.inr (by unfold PD6; simp)) Fr.r0
  have a3 : Fr [] (PD6 (hB h (C + 51) k)) 0 0 (sI h2 f_Thing_size (hB h (C + 51) k) ((n - 1 : Nat) : Int)) (grwB (sI h2 f_Thing_size (hB h (C + 51) k) ((n - 1 : Nat) : Int)) (hB h (C + 51) k) b (S f_Md_epoch k) (S f_Md_changes 0)) := grwB_f (fun q hq => by unfold PD6; simp at hq ⊢; rcases hq with rfl | rfl <;> simp)
  have fr : Fr [] (PD6 (hB h (C + 51) k)) 0 0 h (grwB (sI h2 f_Thing_size (hB h (C + 51) k) ((n - 1 : Nat) : Int)) (hB h (C + 51) k) b (S f_Md_epoch k) (S f_Md_changes 0)) := (((a0.trans a1).trans a2).trans a3).le (by omega) (by omega)
  have p0 : ∀ y, (0, y) ∉ PD6 (hB h (C + 51) k) := fun y c => by unfold PD6 at c; simp at c
  -- what stands in the new heap
  obtain ⟨g1, g2⟩ := grwB_g (h := sI h2 f_Thing_size (hB h (C + 51) k) ((n - 1 : Nat) : Int)) (a := hB h (C + 51) k) (b := b) (e := S f_Md_epoch k) (t := S f_Md_changes 0)
  have ad1 : hB h (C + 51) k < hz (sR h f_Obj_shape (hB h (C + 51) k) (hB h (C + 52) r)) := ad
  have wt := SF.wt ad1
  have oth : ∀ f, [f_Thing_words + 1, f_Thing_tags + 1].elem f = false → 5 ≤ f → hI h2 f (hB h (C + 51) k) = hI h f (hB h (C + 51) k) := fun f hf h5 => by
    rcases SF.oth ad1 (f := f) (x := hB h (C + 51) k) h5 hf with w | w
    · rw [w]; rfl
    · exact absurd ad1 w
  rw [I_Ine (by decide), oth _ (by decide) (by decide)] at g1
  rw [I_Ine (by decide), oth _ (by decide) (by decide)] at g2
  have szz : hI (grwB (sI h2 f_Thing_size (hB h (C + 51) k) ((n - 1 : Nat) : Int)) (hB h (C + 51) k) b (S f_Md_epoch k) (S f_Md_changes 0)) f_Thing_size (hB h (C + 51) k) = ((n - 1 : Nat) : Int) := by
    unfold grwB
    split
    · rw [I_Ine (by decide), I_Ine (by decide), I_I]
    · rw [I_I]
  have grR : ∀ f x, hR (grwB (sI h2 f_Thing_size (hB h (C + 51) k) ((n - 1 : Nat) : Int)) (hB h (C + 51) k) b (S f_Md_epoch k) (S f_Md_changes 0)) f x = hR h2 f x := fun f x => by unfold grwB; split <;> rfl
  have grA : ∀ x y, hA (grwB (sI h2 f_Thing_size (hB h (C + 51) k) ((n - 1 : Nat) : Int)) (hB h (C + 51) k) b (S f_Md_epoch k) (S f_Md_changes 0)) x y = hA h2 x y := fun x y => by unfold grwB; split <;> rfl
  have bsh : hR (grwB (sI h2 f_Thing_size (hB h (C + 51) k) ((n - 1 : Nat) : Int)) (hB h (C + 51) k) b (S f_Md_epoch k) (S f_Md_changes 0)) f_Obj_shape (hB h (C + 51) k) = hB h (C + 52) r := by
    rw [grR, SF.1.R ad1 (by decide) (by
      rintro (c | c)
      · cases c
      · unfold PWT at c; simp at c; revert c; decide)]
    exact R_R _ _ _ _
  have wR : hR (grwB (sI h2 f_Thing_size (hB h (C + 51) k) ((n - 1 : Nat) : Int)) (hB h (C + 51) k) b (S f_Md_epoch k) (S f_Md_changes 0)) f_Thing_words (hB h (C + 51) k) = hR h f_Thing_words (hB h (C + 51) k) ∧ hR (grwB (sI h2 f_Thing_size (hB h (C + 51) k) ((n - 1 : Nat) : Int)) (hB h (C + 51) k) b (S f_Md_epoch k) (S f_Md_changes 0)) f_Thing_tags (hB h (C + 51) k) = hR h f_Thing_tags (hB h (C + 51) k) := by
    refine ⟨by rw [grR, wt.1, R_Rne (by decide)], by rw [grR, wt.2, R_Rne (by decide)]⟩
  have wA : ∀ x, hA (grwB (sI h2 f_Thing_size (hB h (C + 51) k) ((n - 1 : Nat) : Int)) (hB h (C + 51) k) b (S f_Md_epoch k) (S f_Md_changes 0)) (hR h f_Thing_words (hB h (C + 51) k)) x = if i ≤ x ∧ x + 1 < n then hA h (hR h f_Thing_words (hB h (C + 51) k)) (x + 1) else hA h (hR h f_Thing_words (hB h (C + 51) k)) x := fun x => by
    have := SF.2.1 x
    rw [R_Rne (by decide)] at this
    rw [grA, this]; rfl
  have tA : ∀ x, hA (grwB (sI h2 f_Thing_size (hB h (C + 51) k) ((n - 1 : Nat) : Int)) (hB h (C + 51) k) b (S f_Md_epoch k) (S f_Md_changes 0)) (hR h f_Thing_tags (hB h (C + 51) k)) x = if i ≤ x ∧ x + 1 < n then hA h (hR h f_Thing_tags (hB h (C + 51) k)) (x + 1) else hA h (hR h f_Thing_tags (hB h (C + 51) k)) x := fun x => by
    have := SF.2.2 x
    rw [R_Rne (by decide)] at this
    rw [grA, this]; rfl
  have wz : hR h f_Thing_words (hB h (C + 51) k) < hz h := G.2.1.1 _ _ ad (by unfold own; decide)
  have tz : hR h f_Thing_tags (hB h (C + 51) k) < hz h := G.2.1.1 _ _ ad (by unfold own; decide)
  have kW := fr.K wz
  have kT := fr.K tz
  have lW := fr.la wz (by rw [TB.2.2.1.2.1]; decide)
  have lT := fr.la tz (by rw [TB.2.2.1.2.2.2.1]; decide)
  -- T's rows
  have x0 : ∀ o f i, [f_Heap_ticks].elem f = false → (grwX X b (S f_Md_changes 0)) o f i = X o f i := fun o f i hf => by
    unfold grwX
    split
    · exact u3_f (by rintro rfl; exact absurd hf (by decide))
    · rfl
  have o0 : ∀ f x, LD6.elem f = false → (grwS (u2 (drS S k i n) f_Md_thingShape k (r : Int)) k) f x = S f x := fun f x hf => by
    have nn : ∀ L : List Nat, (L.all fun f => LD6.elem f) = true → L.elem f = false := fun L q => by
      cases w : L.elem f with
      | false => rfl
      | true => rw [List.all_eq_true.mp q f (by simpa using w)] at hf; cases hf
    rw [grwS_o (nn _ (by decide)), u2_f (by rintro rfl; exact absurd hf (by decide)), drS_o (nn _ (by decide))]
  have od : ∀ f x, [f_Md_thingShape, f_Md_epoch, f_Md_changes, f_Md_changedAt].elem f = false → (grwS (u2 (drS S k i n) f_Md_thingShape k (r : Int)) k) f x = drS S k i n f x := fun f x hf => by
    have nn : ∀ L : List Nat, (L.all fun f => [f_Md_thingShape, f_Md_epoch, f_Md_changes, f_Md_changedAt].elem f) = true → L.elem f = false := fun L q => by
      cases w : L.elem f with
      | false => rfl
      | true => rw [List.all_eq_true.mp q f (by simpa using w)] at hf; cases hf
    rw [grwS_o (nn _ (by decide)), u2_f (by rintro rfl; exact absurd hf (by decide))]
  have ok : ∀ j, j ≠ k → ∀ f, LTT.elem f = true → (grwS (u2 (drS S k i n) f_Md_thingShape k (r : Int)) k) f j = S f j := fun j hj f hf => by
    rw [grwS_k hj (by rintro rfl; exact absurd hf (by decide)), u2_e, if_neg (fun c => hj c.2), drS_k hj (by rintro rfl; exact absurd hf (by decide))]
  have iw : u2 (drS S k i n) f_Md_thingShape k (r : Int) f_Md_isWatched k = S f_Md_isWatched k := by rw [u2_f (by decide), drS_o (by decide)]
  obtain ⟨w1, w2, w3⟩ := grwS_w (S := u2 (drS S k i n) f_Md_thingShape k (r : Int)) (k := k)
  rw [iw, u2_f (by decide), drS_o (by decide)] at w1
  rw [iw, u2_f (by decide), u2_f (by decide), drS_o (by decide), drS_o (by decide)] at w2
  rw [iw, u2_f (by decide), drS_o (by decide)] at w3
  have wsh : (grwS (u2 (drS S k i n) f_Md_thingShape k (r : Int)) k) f_Md_thingShape k = (r : Int) := by rw [grwS_o (by decide), u2_s]
  have ecn : (grwS (u2 (drS S k i n) f_Md_thingShape k (r : Int)) k) f_Md_thingCount k = ((n - 1 : Nat) : Int) := by rw [od _ _ (by decide)]; exact drS_c
  have tkx : X 50 f_Heap_ticks 0 = S f_Md_changes 0 := by
    obtain ⟨-, -, -, -, -, -, -, -, gk, -, -, -, -, -, -, y1, y2, -⟩ := q6
    rw [y1, y2]
  have bw : (b = true) ↔ ¬ S f_Md_isWatched k = 0 := by rw [eb]; simp
  have xt : (grwX X b (S f_Md_changes 0)) 50 f_Heap_ticks 0 = (grwS (u2 (drS S k i n) f_Md_thingShape k (r : Int)) k) f_Md_changes 0 := by
    rw [w3]
    unfold grwX
    by_cases q : S f_Md_isWatched k = 0
    · rw [if_pos q, if_neg (fun c => bw.mp c q)]; exact tkx
    · rw [if_neg q, if_pos (bw.mpr q), u3_s]
  have wc : (grwS (u2 (drS S k i n) f_Md_thingShape k (r : Int)) k) f_Md_changes 0 = S f_Md_changes 0 ∨ (grwS (u2 (drS S k i n) f_Md_thingShape k (r : Int)) k) f_Md_changes 0 = S f_Md_changes 0 + 1 := by rw [w3]; split <;> omega
  have slk : ∀ x, x < n - 1 → slS (grwS (u2 (drS S k i n) f_Md_thingShape k (r : Int)) k) k x = slS S k (if x < i then x else x + 1) := fun x hx => by
    rw [← drS_sl LK.g hi un x hx]
    clear hx
    induction x with
    | zero => show ((grwS (u2 (drS S k i n) f_Md_thingShape k (r : Int)) k) _ k).toNat = _; rw [od _ _ (by decide)]; rfl
    | succ x ih => show ((grwS (u2 (drS S k i n) f_Md_thingShape k (r : Int)) k) _ (slS (grwS (u2 (drS S k i n) f_Md_thingShape k (r : Int)) k) k x)).toNat = _; rw [ih, od _ _ (by decide)]; rfl
  have snx : ∀ m, (i = 0 ∨ m ≠ slS S k (i - 1)) → (grwS (u2 (drS S k i n) f_Md_thingShape k (r : Int)) k) f_Md_slotNext m = S f_Md_slotNext m := fun m hm => by rw [od _ _ (by decide)]; exact drS_n hm
  have sni : i ≠ 0 → (grwS (u2 (drS S k i n) f_Md_thingShape k (r : Int)) k) f_Md_slotNext (slS S k (i - 1)) = S f_Md_slotNext (slS S k i) := fun i0 => by
    rw [od _ _ (by decide), drS_x (Or.inr rfl)]
    unfold dr1
    rw [if_neg i0, u2_s]
  have sfi : (grwS (u2 (drS S k i n) f_Md_thingShape k (r : Int)) k) f_Md_thingFirst k = if i = 0 then S f_Md_slotNext (slS S k 0) else S f_Md_thingFirst k := by
    rw [od _ _ (by decide), drS_x (Or.inl rfl)]
    unfold dr1
    split
    · rw [u2_s]
    · rw [u2_f (by decide)]
  have sla : (grwS (u2 (drS S k i n) f_Md_thingShape k (r : Int)) k) f_Md_thingLast k = if i = n - 1 ∧ 0 < i then (slS S k (i - 1) : Int) else S f_Md_thingLast k := by
    rw [od _ _ (by decide)]
    unfold drS
    split
    · rw [u2_s]
    · unfold dr2; rw [u2_f (by decide), dr1_o (by decide) (by decide)]
  have slo : ∀ j, j ≠ k → (j : Int) < S f_Md_things 0 → ∀ x : Nat, (x : Int) < S f_Md_thingCount j → slS (grwS (u2 (drS S k i n) f_Md_thingShape k (r : Int)) k) j x = slS S j x := fun j hj hjt x => by
    induction x with
    | zero => intro _; show ((grwS (u2 (drS S k i n) f_Md_thingShape k (r : Int)) k) _ j).toNat = _; rw [ok j hj _ (by decide)]; rfl
    | succ x ih =>
      intro hx
      show ((grwS (u2 (drS S k i n) f_Md_thingShape k (r : Int)) k) _ (slS (grwS (u2 (drS S k i n) f_Md_thingShape k (r : Int)) k) j x)).toNat = _
      rw [ih (by omega), snx _ (by
        by_cases i0 : i = 0
        · exact Or.inl i0
        · exact Or.inr (fun c => hj (c9 j x k (i - 1) (by omega) (by omega) (by omega) (by omega) c).1))]
      rfl
  generalize (grwB (sI h2 f_Thing_size (hB h (C + 51) k) ((n - 1 : Nat) : Int)) (hB h (C + 51) k) b (S f_Md_epoch k) (S f_Md_changes 0)) = h3 at *
  generalize (grwS (u2 (drS S k i n) f_Md_thingShape k (r : Int)) k) = S1 at *
  have g : GRO Γ Γ h h3 C S S1 := GRO.fr (exs_of o0 (by decide)) G F fr (by unfold DJ; rfl) p0
  have nP : ∀ f, LHH.elem f = true → [f_Obj_shape, f_Thing_size, f_Obj_epoch, f_Obj_changedAt].elem f = false → ¬ okW [] (PD6 (hB h (C + 51) k)) f (hB h (C + 51) k) := fun f hf w => by
    rintro (c | c)
    · cases c
    · unfold PD6 at c; simp at c
      rcases c with e | e | e | e | e | e <;> (rw [e] at w hf; first | exact absurd w (by decide) | exact absurd hf (by decide))
  have kt : THC Γ h3 C ho S1 N := by
    refine THC.mod (k := k) q7 G F g fr (by unfold DJ; rfl) (fun q hq => by unfold PD6 at hq; simp at hq; rcases hq with rfl | rfl | rfl | rfl | rfl | rfl <;> rfl) p0 hk (fun x _ => q8.eq G.2.1 fr (by unfold DJ; rfl) p0 x) (exs_of o0 (by decide)) ok (fun j hj hjt x hx f hf => ?_) (Int.le_of_eq (o0 _ _ (by decide)).symm) (by omega) acy (fun tn' sn' et es e51 e52 c8' T => ?_) (fun a9 j x j' x' h1 h2 h3 h4 h5 => ?_)
    · have : f = f_Md_slotType ∨ f = f_Md_slotValue ∨ f = f_Md_slotName ∨ f = f_Md_slotNext := by unfold LSL at hf; simpa using hf
      rcases this with rfl | rfl | rfl | rfl
      · exact o0 _ _ (by decide)
      · exact o0 _ _ (by decide)
      · exact o0 _ _ (by decide)
      · refine snx _ ?_
        by_cases i0 : i = 0
        · exact Or.inl i0
        · exact Or.inr (fun c => hj (c9 j x k (i - 1) (by omega) (by omega) (by omega) (by omega) c).1)
    · have A2 := TA.keep g (e51 k) (fun f hf => o0 f k (by
        have : f = f_Md_thingKind ∨ f = f_Md_thingFunction ∨ f = f_Md_thingAround ∨ f = f_Md_thingClass := by simpa using hf
        rcases this with rfl | rfl | rfl | rfl <;> decide)) (fr.I ad (by decide) (nP _ (by decide) (by decide))) (fun f hf => by
        have : f = f_Fun_code ∨ f = f_Fun_around ∨ f = f_Instance_type := by simpa using hf
        rcases this with rfl | rfl | rfl <;> exact fr.R ad (by decide) (nP _ (by decide) (by decide))) (fr.K ad) (fr.lt ad) (fun x _ => q8.eq G.2.1 fr (by unfold DJ; rfl) p0 x)
      have sne : sn' = sn := by omega
      subst sne
      obtain ⟨b6, b7, ⟨b8, b9, b10, b11, b12, b13, b14⟩, b15, b16, b17⟩ := TB
      have B2 : TB1 Γ h3 C S1 N k := by
        unfold TB1
        rw [e51, ecn, szz, wR.1, wR.2, kW, kT, lW, lT]
        refine ⟨rfl, by omega, ⟨b8, b9, b10, b11, b12, by omega, b14⟩, fun x hx => ?_, fun w => ?_, fun x hx => ?_⟩
        · have hx' : x < n - 1 := by omega
          rw [slk x hx', o0 f_Md_slots 0 (by decide), o0 f_Md_slotType _ (by decide), o0 f_Md_slotValue _ (by decide), wA, tA]
          by_cases q : x < i
          · rw [if_pos q, if_neg (by omega), if_neg (by omega)]
            exact ⟨(b15 x (by omega)).1, g.vr (b15 x (by omega)).2⟩
          · rw [if_neg q, if_pos ⟨by omega, by omega⟩, if_pos ⟨by omega, by omega⟩]
            exact ⟨(b15 (x + 1) (by omega)).1, g.vr (b15 (x + 1) (by omega)).2⟩
        · rw [sfi, sla, Int.toNat_natCast, slk (n - 1 - 1) (by omega)]
          refine ⟨?_, ?_⟩
          · split
            · exact b17 0 (by omega)
            · exact (b16 (by omega)).1
          · have bl := (b16 (by omega)).2
            rw [en, Int.toNat_natCast] at bl
            by_cases q : i = n - 1
            · rw [if_pos ⟨q, by omega⟩, if_pos (by omega)]
              congr 2; omega
            · rw [if_neg (fun c => q c.1), if_neg (by omega), bl]
              congr 2; omega
        · have hx' : x + 1 < n - 1 := by omega
          rw [slk x (by omega)]
          by_cases q : x + 1 < i
          · rw [if_pos (by omega), snx _ (Or.inr (fun c => by have := un x (i - 1) (by omega) (by omega) c; omega))]
            exact b17 x (by omega)
          · by_cases q2 : x + 1 = i
            · rw [if_pos (by omega)]
              have e2 : x = i - 1 := by omega
              rw [e2, sni (by omega)]
              exact b17 i (by omega)
            · rw [if_neg (by omega), snx _ (by
                by_cases i0 : i = 0
                · exact Or.inl i0
                · exact Or.inr (fun c => by have := un (x + 1) (i - 1) (by omega) (by omega) c; omega))]
              exact b17 (x + 1) (by omega)
      have pn : posW (i : Int) n = n - 1 := by unfold posW; rw [if_neg (by omega)]
      obtain ⟨r1, r2, r3, r4⟩ := R
      rw [pn] at r3 r4
      have C2 : TC1 h3 C S1 sn' k := by
        unfold TC1
        rw [e51, o0 f_Md_thingKind k (by decide), ecn, wsh, bsh, Int.toNat_natCast, o0 f_Md_shapeCount r (by decide), e52 r]
        refine ⟨fun q => ⟨⟨by omega, by omega⟩, rfl, r3, ?_, fun x hx => ?_⟩, fun q => ?_⟩
        · have := (TC.1 kd).2.2.2.1; omega
        · have hxn : x < n - 1 := by omega
          obtain ⟨x1, x2⟩ := anc_k (S := S) (S' := S1) (sn := sn') (s := r) (fun s hs => o0 _ _ (by decide)) (fun s hs => (c8 s hs).bef hs) (by omega) (n - 1 - 1 - x)
          rw [slk x hxn, o0 f_Md_slotName _ (by decide), Int.toNat_natCast, x1, o0 f_Md_shapeName _ (by decide), r4 x hxn]
          unfold nmW nmT
          by_cases q : x < i
          · rw [if_pos q, if_neg (by omega)]
          · rw [if_neg q, if_pos (by omega)]
        · omega
      have D2 : TD1 h3 C S1 sn' k := by
        obtain ⟨d1, d2, d3, d4, d5⟩ := TD
        obtain ⟨d6, d7, d8, d9⟩ := d1 kd
        have ro : rooB S1 k sn' = rooB S k sn' := rooB_k (fun s hs => ⟨o0 _ _ (by decide), o0 _ _ (by decide)⟩)
        have rr : hR h3 f_Obj_root (hB h (C + 51) k) = hR h f_Obj_root (hB h (C + 51) k) := fr.R ad (by decide) (nP _ (by decide) (by decide))
        have sh : shA h3 C (rooB S k sn') = shA h C (rooB S k sn') := shA_e (sn := sn') (fun s _ => e52 s) (by have := rooB_lt (S := S) (k := k) sn'; omega)
        unfold TD1
        rw [e51, o0 f_Md_thingKind k (by decide), o0 f_Md_isWatched k (by decide), w1, w2, w3, ro, g1, g2, rr, sh]
        by_cases q : S f_Md_isWatched k = 0
        · have nb : ¬ b = true := fun c => bw.mp c q
          rw [if_neg nb, if_neg nb, if_pos q, if_pos q, if_pos q, if_pos q]
          rw [if_pos q] at d6
          exact ⟨fun _ => ⟨d6, d7, d8, d9⟩, d2, d3, d4, d5⟩
        · have nb : b = true := bw.mpr q
          rw [if_pos nb, if_pos nb, if_neg q, if_neg q, if_neg q, if_neg q]
          exact ⟨fun _ => ⟨rfl, rfl, d8, d9⟩, d2, d3, by omega, by omega⟩
      exact TH1.mk A2 B2 C2 D2
    · -- slots are told apart
      have cnt : ∀ j, j ≠ k → S1 f_Md_thingCount j = S f_Md_thingCount j := fun j hj => ok j hj _ (by decide)
      by_cases q1 : j = k <;> by_cases q2 : j' = k
      · subst q1 q2
        rw [ecn] at h3 h4
        rw [slk x (by omega), slk x' (by omega)] at h5
        have := un _ _ (by split <;> omega) (by split <;> omega) h5
        refine ⟨rfl, ?_⟩
        by_cases u1 : x < i <;> by_cases u2 : x' < i
        · rw [if_pos u1, if_pos u2] at this; exact this
        · rw [if_pos u1, if_neg u2] at this; omega
        · rw [if_neg u1, if_pos u2] at this; omega
        · rw [if_neg u1, if_neg u2] at this; omega
      · subst q1
        rw [ecn] at h3
        rw [cnt j' q2] at h4
        rw [slk x (by omega), slo j' q2 h2 x' h4] at h5
        exact absurd (a9 j _ j' x' h1 h2 (by split <;> omega) h4 h5).1.symm q2
      · subst q2
        rw [ecn] at h4
        rw [cnt j q1] at h3
        rw [slo j q1 h1 x h3, slk x' (by omega)] at h5
        exact absurd (a9 j x j' _ h1 h2 h3 (by split <;> omega) h5).1 q1
      · rw [cnt j q1] at h3
        rw [cnt j' q2] at h4
        rw [slo j q1 h1 x h3, slo j' q2 h2 x' h4] at h5
        exact a9 j x j' x' h1 h2 h3 h4 h5
  have km : MEM (grwX X b (S f_Md_changes 0)) S1 := q6.tick hc xt (exx_of x0 (by decide)) wc (exs_of o0 (by decide))
  refine ⟨HC.mv (S' := S1) (X' := grwX X b (S f_Md_changes 0)) fr g (exs_of o0 (by decide)) (exx_of x0 (by decide)) p0 (by unfold DJ; rfl) (by unfold DJ; rfl) (by unfold DJ; rfl) (by unfold DJ; rfl) (exs_of o0 (by decide)) (Int.le_of_eq (o0 _ _ (by decide)).symm) (q2'.ext g (exs_of o0 (by decide)) (exx_of x0 (by decide)) (ac_len G fr (by decide) (by unfold DJ; rfl)) (ac_len G fr (by decide) (by unfold DJ; rfl)) (ac_len G fr (by decide) (by unfold DJ; rfl))) (q3.ext (C := C) G.2.1 g (exs_of o0 (by decide)) fr (by unfold DJ; rfl) (by unfold DJ; rfl) p0) (q4.ext g (exs_of o0 (by decide)) (exx_of x0 (by decide)) (ac_len G fr (by decide) (by unfold DJ; rfl)) (ac_len G fr (by decide) (by unfold DJ; rfl)) (ac_len G fr (by decide) (by unfold DJ; rfl))) (q5.ext (exs_of o0 (by decide)) (exx_of x0 (by decide)) (ac_len G fr (by decide) (by unfold DJ; rfl)) (ac_len G fr (by decide) (by unfold DJ; rfl)) (ac_len G fr (by decide) (by unfold DJ; rfl))) km kt (by unfold DJ; rfl), g, ((BND.fr G F (q7.thk G) EXS.rf fr (by unfold DJ; rfl) (by unfold DJ; rfl) p0).tr (BND.chg (exs_of o0 (by decide)) (by omega) (CHG.one (exs_of o0 (by decide)) ok w2 w3 (by omega) (o0 _ _ (by decide))))).le (by omega) (by omega), ?_⟩
  have wl : f_Obj_shape ∈ LHc ∧ f_Thing_size ∈ LHc ∧ f_Obj_epoch ∈ LHc ∧ f_Obj_changedAt ∈ LHc ∧ f_Thing_words + 1 ∈ LHc ∧ f_Thing_tags + 1 ∈ LHc := by decide
  refine (Fr.into (L := LHc) (P := []) Fr.r0 fr (fun f q => by cases q) (fun q hq => Or.inr (Or.inl ?_))).le (by omega) (by omega)
  unfold PD6 at hq
  simp at hq
  rcases hq with rfl | rfl | rfl | rfl | rfl | rfl
  · exact ⟨Nat.le_of_ble_eq_true rfl, wl.1⟩
  · exact ⟨Nat.le_of_ble_eq_true rfl, wl.2.1⟩
  · exact ⟨Nat.le_of_ble_eq_true rfl, wl.2.2.1⟩
  · exact ⟨Nat.le_of_ble_eq_true rfl, wl.2.2.2.1⟩
  · exact ⟨Nat.le_of_ble_eq_true rfl, wl.2.2.2.2.1⟩
  · exact ⟨Nat.le_of_ble_eq_true rfl, wl.2.2.2.2.2⟩
end
