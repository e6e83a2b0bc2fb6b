/-! more primitive calls and what stands for what -/
section
variable {D : va_G} {aC : Nat → ClassId} {B0 : Nat} {H0 : Heap} {eE : Nat} {h h' : ah} {H H' : Heap}
theorem Rep.newG (r : Rep D aC B0 H0 eE h H) {k : Nat} {cell : Cell} (hk0 : k ≠ 0) (hk1 : k ≠ 191) (hk2 : k ≠ 190) (hzn : hz h' = hz h + 1) (hKn : ∀ b, hK h' b = if b = hz h then k else hK h b) (hsm : ∀ b, b ≠ hz h → sameAt h h' b) (e1 : H'[H.size]? = some cell) (e2 : H'.size = H.size + 1) (e3 : ∀ x, x < H.size → H'[x]? = H[x]?) (hc : cellOf D aC h' (hz h) k cell) : Rep D aC B0 H0 eE h' H' := by
  obtain ⟨⟨z1, z2, z3⟩, r2, r3, r4, r5, r6, r7⟩ := r
  refine ⟨⟨by rw [e2, hzn]; omega, by omega, z3⟩, ?_, ?_, fun q hq => by rw [e3 q (by omega)]; exact r4 q hq, ?_, ?_, ?_⟩
  · intro a ha
    rw [hKn] at ha
    by_cases hz0 : a = hz h
    · rw [hzn]; omega
    · rw [if_neg hz0] at ha
      have := r2 a ha
      rw [hzn]; omega
  · intro a cl hcl
    rw [hKn]
    by_cases ha : a = H.size
    · subst ha
      rw [e1] at hcl; cases hcl
      rw [if_pos (by omega)]
      have : H.size + 1 = hz h := z1
      rw [this]; exact hc
    · have hlt : a < H.size := by have := (Array.getElem?_eq_some_iff.mp hcl).1; omega
      rw [e3 a hlt] at hcl
      rw [if_neg (by omega)]
      exact (r3 a cl hcl).same (hsm _ (by omega))
  · intro a ha
    rw [hKn] at ha
    by_cases hz0 : a = hz h
    · omega
    · rw [if_neg hz0] at ha; exact r5 a ha
  · intro a ha hf
    rw [hKn] at ha
    by_cases hz0 : a = hz h
    · rw [if_pos hz0] at ha; exact absurd ha hk2
    · rw [if_neg hz0] at ha
      obtain ⟨s1, s2, s3, s4, s5⟩ := hsm a hz0
      rw [s1] at hf
      obtain ⟨ee, cl, cE, mc, cap9, l1, l2, l3, l4, l5, l6, l7, l8, l9, l10, l11, l12⟩ := r6 a ha hf
      have hap := r2 a (by rw [ha]; decide)
      have hee : ee < H.size := (Array.getElem?_eq_some_iff.mp l5).1
      refine ⟨ee, cl, cE, mc, cap9, by rw [e3 _ (by omega)]; exact l1, l2, by rw [s3]; exact l3, l4, by rw [e3 _ hee]; exact l5, l6, l7, by rw [s1]; exact l8, by rw [s3]; exact l9, l10, fun i hi => by
        rw [s5]
        obtain ⟨m1, m2⟩ := l11 i (by rw [← s3]; exact hi)
        refine ⟨m1, m2.imp_right fun m3 => ?_⟩
        have := r2 (hB h a i) (by omega)
        rw [hKn, if_neg (by omega)]; exact m3, ?_⟩
      rw [s1, s2]
      have h3 : hR h' 3 (ee + 1) = hR h 3 (ee + 1) := (hsm (ee + 1) (by omega)).2.1 3
      have h4 : hK h' (ee + 1) = hK h (ee + 1) := by rw [hKn, if_neg (by omega)]
      rw [h3, h4]; exact l12
  · intro a ha
    rw [hKn] at ha
    by_cases hz0 : a = hz h
    · exfalso; rw [if_pos hz0] at ha; exact hk1 ha
    · rw [if_neg hz0] at ha
      obtain ⟨s1, s2, s3, s4, s5⟩ := hsm a hz0
      obtain ⟨⟨cl, vv, t1, t2, t3, t4, t5, t6⟩, t7⟩ := r7 a ha
      have hap := r2 a (by rw [ha]; decide)
      have hvv : (vv : Nat) < (B0 : Nat) := t7 cl vv t1 t2
      refine ⟨⟨cl, vv, by rw [e3 _ (by omega)]; exact t1, t2, t3, ?_, by rw [s3]; exact t5, fun i hi => by rw [s4]; exact t6 i (by rw [← s3]; exact hi)⟩, fun c2 v2 h1 h2 => t7 c2 v2 (by rw [← e3 _ (by omega)]; exact h1) h2⟩
      rw [e3 vv (by omega), s3]
      simp only [s4]; exact t4
end
section
variable {G : GX}
theorem ph_cp {k pr : Nat} {ty : FieldType} (hk4 : k = 1 ∨ k = 2 ∨ k = 3 ∨ k = 4) (hd : defaultValue ty = aval k 0) (hpS : ∀ as h K, primS pr as h K → ∃ a n, as.length = 2 → as = [vR a, vI n] ∧ (hK h a = k ∧ 0 ≤ n ∧ n ≤ 67108864) ∧ K (Sum.inl (some (vR (hz h)))) (hcp h k a n.toNat)) (hfit : ∀ z, acan k z → fits ty (aval k z) = true) :
    PHok G 2 pr (fun a H KH mc ms => ∃ (a0 n0 : Nat) (n : Int32) (F : Nat → Value), a = #[.ref a0, .int n] ∧ H[a0]? = some (arrV ((gA G) k) n0 F) ∧ (∀ i, i < n0 → fits ty (F i) = true ∧ ∀ (T : State) (z : ClassId), T.takes z (F i)) ∧ ¬ n < 0 ∧ n0 ≤ 67108864 ∧ n.toNatClampNeg ≤ 67108864 ∧ gB G ≤ H.size ∧ 1 ≤ mc ∧ n.toNatClampNeg ≤ ms ∧
      ∀ H', cpd ((gA G) k) (defaultValue ty) H H' n0 n.toNatClampNeg F → KH (some (.ref H.size)) H' n.toNatClampNeg) := by
  intro as h K H mc ms s hEV hlen hcan r hcap hpr
  obtain ⟨a, n, hh⟩ := hpS as h K hpr
  obtain ⟨rfl, ⟨h1, h2, h4⟩, h3⟩ := hh hlen
  obtain ⟨x, rfl, e1, e2⟩ := aaCell r h1 (by omega)
  have hkm : k % 10 = k := by omega
  rw [hkm] at e1 e2
  have hc := hcap _ _ h3
  have ec1 : hz (hcp h k (x + 1) n.toNat) = hz h + 1 := rfl
  have ec2 : hs (hcp h k (x + 1) n.toNat) = hs h + n.toNat := rfl
  rw [ec1, ec2] at hc
  have hz1 := r.1.1
  have hn32 : in32 n := ⟨by omega, by omega⟩
  have hcl := cl32 h2 hn32
  refine ⟨x, hl h (x + 1), Int32.ofInt n, fun i => aval k (hA h (x + 1) i), rfl, e1, fun i hi => ⟨hfit _ (e2.1 i hi), fun T z => ?_⟩, nn32 h2 hn32, e2.2, by rw [hcl]; omega, r.1.2.1, by omega, by rw [hcl]; omega, fun H' hc' => ?_⟩
  · unfold aval
    split <;> trivial
  rw [hcl] at hc' ⊢
  obtain ⟨b1, b2, b3⟩ := hc'
  refine ⟨some (vR (hz h)), hcp h k (x + 1) n.toNat, h3, by rw [← hz1]; rfl, (fun w z => by cases z; trivial), ?_, ec2⟩
  refine r.newG (k := k) (by omega) (by omega) (by omega) ec1 (fun _ => rfl) (fun b hb => ⟨fun _ => if_neg hb, fun _ => if_neg hb, if_neg hb, fun _ => if_neg hb, fun _ => if_neg hb⟩) b1 b2 b3 ?_
  have el : hl (hcp h k (x + 1) n.toNat) (hz h) = n.toNat := if_pos rfl
  have eA : ∀ i, hA (hcp h k (x + 1) n.toNat) (hz h) i = if i < hl h (x + 1) ∧ i < n.toNat then hA h (x + 1) i else 0 := fun i => if_pos rfl
  unfold cellOf
  rw [if_neg (by omega), if_pos (by omega), hkm, el]
  refine ⟨Or.inl ⟨by omega, ?_⟩, fun i hi => ?_, by omega⟩
  · apply arrV_congr
    intro i hi
    rw [eA, hd]
    by_cases c9 : i < hl h (x + 1) ∧ i < n.toNat
    · rw [if_pos c9, if_pos c9]
    · rw [if_neg c9, if_neg c9]
  · rw [eA]
    split
    · rename_i c9; exact e2.1 i c9.1
    · rcases hk4 with rfl | rfl | rfl | rfl <;> simp [acan, in32, in64]
theorem strOf {h : ah} {H : Heap} (r : Rep (gD G) (gA G) (gB G) (gH G) (gE G) h H) {a : Nat} (hk : hK h a = 191) : ∃ x vv, a = x + 1 ∧ SAt G H x vv (hl h a) (fun i => Int32.ofInt (hA h a i)) ∧ hl h a ≤ 1000 ∧ ∀ i, i < hl h a → 0 ≤ hA h a i ∧ hA h a i ≤ 127 := by
  obtain ⟨x, cell, rfl, e1, e2⟩ := r.cell (a := a) (by rw [hk]; decide)
  unfold cellOf at e2
  rw [hk, if_neg (by decide), if_neg (by decide), if_neg (by decide), if_pos (Or.inr rfl)] at e2
  obtain ⟨⟨cl, vv, t1, t2, t3, t4, t5, t6⟩, -⟩ := r.2.2.2.2.2.2 _ hk
  have hx1 : x + 1 - 1 = x := by omega
  rw [hx1] at t1
  cases e1.symm.trans t1
  exact ⟨x, vv, rfl, ⟨cell, e1, e2.2.1, e2.1, t2, t3, t4, t5, r.2.2.2.1⟩, t5, t6⟩
theorem ph_11 : PHok G 1 11 (fun a H KH _ _ => ∃ (x vv n : Nat) (f : Nat → Int32), a = #[.ref x] ∧ SAt G H x vv n f ∧ KH (some (.int (Int32.ofNat n))) H 0) := by
  intro as h K H mc ms s hEV hlen hcan r hcap hpr
  obtain ⟨a, s', rfl, h1, h3⟩ := pR_e hpr
  obtain rfl : s' = [] := List.length_eq_zero_iff.mp (by simpa using hlen)
  obtain ⟨x, vv, rfl, hS, hl1, -⟩ := strOf r h1
  exact ⟨x, vv, _, _, rfl, hS, some (vI (hl h (x + 1))), h, h3, rfl, (fun w z => by cases z; exact ⟨by omega, by omega⟩), r, rfl⟩
theorem ph_12 : PHok G 2 12 (fun a H KH _ _ => ∃ (x vv n : Nat) (i : Int32) (f : Nat → Int32) (z : Int), a = #[.ref x, .int i] ∧ SAt G H x vv n f ∧ ¬ i < 0 ∧ i.toNatClampNeg < n ∧ f i.toNatClampNeg = Int32.ofInt z ∧ 0 ≤ z ∧ z ≤ 127 ∧ KH (some (.int (Int32.ofInt z))) H 0) := by
  intro as h K H mc ms s hEV hlen hcan r hcap hpr
  obtain ⟨a, s', rfl, hpr⟩ := pR_e hpr
  obtain ⟨i, s'', rfl, ⟨h1, h2, h4⟩, h3⟩ := pI_e hpr
  obtain rfl : s'' = [] := List.length_eq_zero_iff.mp (by simpa using hlen)
  obtain ⟨x, vv, rfl, hS, hl1, hb⟩ := strOf r h1
  have hi32 : in32 i := hcan (vI i) (by simp)
  have hcl := cl32 h2 hi32
  obtain ⟨b1, b2⟩ := hb i.toNat (by omega)
  exact ⟨x, vv, _, Int32.ofInt i, _, hA h (x + 1) i.toNat, rfl, hS, nn32 h2 hi32, by rw [hcl]; omega, by rw [hcl], b1, b2, some (vI (hA h (x + 1) i.toNat)), h, h3, rfl, (fun w z => by cases z; exact ⟨by omega, by omega⟩), r, rfl⟩
theorem ph_13 : PHok G 2 13 (fun a H KH _ _ => ∃ (x y : Int32), a = #[.int x, .int y] ∧ KH (some (.int (if x < y then y else x))) H 0) := by
  intro as h K H mc ms s hEV hlen hcan r hcap hpr
  obtain ⟨x, s', rfl, hpr⟩ := pI_e hpr
  obtain ⟨y, s'', rfl, h3⟩ := pI_e hpr
  obtain rfl : s'' = [] := List.length_eq_zero_iff.mp (by simpa using hlen)
  have hx : in32 x := hcan (vI x) (by simp)
  have hy : in32 y := hcan (vI y) (by simp)
  refine ⟨Int32.ofInt x, Int32.ofInt y, rfl, some (vI (if x < y then y else x)), h, h3, ?_, (fun w z => by cases z; show in32 _; split <;> assumption), r, rfl⟩
  by_cases c : x < y
  · rw [if_pos c, if_pos ((lt32 hx hy).mpr c)]; rfl
  · rw [if_neg c, if_neg (fun z => c ((lt32 hx hy).mp z))]; rfl
theorem ph_14 : PHok G 2 14 (fun a H KH _ _ => ∃ (x y : Int32), a = #[.int x, .int y] ∧ KH (some (.int (if y < x then y else x))) H 0) := by
  intro as h K H mc ms s hEV hlen hcan r hcap hpr
  obtain ⟨x, s', rfl, hpr⟩ := pI_e hpr
  obtain ⟨y, s'', rfl, h3⟩ := pI_e hpr
  obtain rfl : s'' = [] := List.length_eq_zero_iff.mp (by simpa using hlen)
  have hx : in32 x := hcan (vI x) (by simp)
  have hy : in32 y := hcan (vI y) (by simp)
  refine ⟨Int32.ofInt x, Int32.ofInt y, rfl, some (vI (if y < x then y else x)), h, h3, ?_, (fun w z => by cases z; show in32 _; split <;> assumption), r, rfl⟩
  by_cases c : y < x
  · rw [if_pos c, if_pos ((lt32 hy hx).mpr c)]; rfl
  · rw [if_neg c, if_neg (fun z => c ((lt32 hy hx).mp z))]; rfl
theorem z64 : in64 0 := ⟨by decide, by decide⟩
theorem ph_15 : PHok G 1 15 (fun a H KH _ _ => ∃ (x : Int64), a = #[.long x] ∧ KH (some (.long (if x < 0 then -x else x))) H 0) := by
  intro as h K H mc ms s hEV hlen hcan r hcap hpr
  obtain ⟨x, s', rfl, h3⟩ := pL_e hpr
  obtain rfl : s' = [] := List.length_eq_zero_iff.mp (by simpa using hlen)
  have hx : in64 x := hcan (vL x) (by simp)
  refine ⟨Int64.ofInt x, rfl, some (vL (w64 (if x < 0 then -x else x))), h, h3, ?_, (fun w z => by cases z; exact in64_w _), r, rfl⟩
  show some (Value.long _) = some (Value.long (Int64.ofInt (w64 _)))
  have h0 : (0 : Int64) = Int64.ofInt 0 := rfl
  rw [of_w64, h0]
  by_cases c : x < 0
  · rw [if_pos c, if_pos ((lt64 hx z64).mpr c), Int64.ofInt_neg]
  · rw [if_neg c, if_neg (fun z => c ((lt64 hx z64).mp z))]
theorem ph_16 : PHok G 2 16 (fun a H KH _ _ => ∃ (x y : Int64), a = #[.long x, .long y] ∧ KH (some (.int (if x < y then -1 else if x = y then 0 else 1))) H 0) := by
  intro as h K H mc ms s hEV hlen hcan r hcap hpr
  obtain ⟨x, s', rfl, hpr⟩ := pL_e hpr
  obtain ⟨y, s'', rfl, h3⟩ := pL_e hpr
  obtain rfl : s'' = [] := List.length_eq_zero_iff.mp (by simpa using hlen)
  have hx : in64 x := hcan (vL x) (by simp)
  have hy : in64 y := hcan (vL y) (by simp)
  refine ⟨Int64.ofInt x, Int64.ofInt y, rfl, some (vI (if x < y then -1 else if x = y then 0 else 1)), h, h3, ?_, (fun w z => by cases z; exact in32_cmp x y), r, rfl⟩
  show some (Value.int _) = some (Value.int (Int32.ofInt _))
  by_cases c : x < y
  · rw [if_pos c, if_pos ((lt64 hx hy).mpr c)]; rfl
  · rw [if_neg c, if_neg (fun z => c ((lt64 hx hy).mp z))]
    by_cases c2 : x = y
    · rw [if_pos c2, if_pos ((eq64 hx hy).mpr c2)]; rfl
    · rw [if_neg c2, if_neg (fun z => c2 ((eq64 hx hy).mp z))]; rfl
theorem thCell {h : ah} {H : Heap} (r : Rep (gD G) (gA G) (gB G) (gH G) (gE G) h H) {a : Nat} (hk : thK (hK h a) = true) : ∃ x cell, a = x + 1 ∧ H[x]? = some cell ∧ cell.vm = .none ∧ cell.cls = (gD G).1 (hK h a) ∧ thC (gD G) (hK h a) cell ∧ gB G ≤ x := by
  have hrange : 192 ≤ hK h a ∧ hK h a < 300 := by
    simp only [thK, Bool.or_eq_true, beq_iff_eq] at hk
    omega
  obtain ⟨x, cell, rfl, e1, e2⟩ := r.cell (a := a) (by omega)
  have := r.2.2.2.2.1 (x + 1) (by
    unfold rwK
    simp only [Bool.not_eq_true', Bool.or_eq_false_iff, beq_eq_false_iff_ne]
    omega)
  unfold cellOf at e2
  rw [if_neg (by omega), if_neg (by omega), if_neg (by omega), if_neg (by omega)] at e2
  obtain ⟨q, hq, e3, c1, c2, c3, -⟩ := e2
  exact ⟨x, cell, rfl, e1, c2, c1, c3 hk, by omega⟩
theorem ph_18 : PHok G 5 18 (fun a H KH _ _ => ∃ x : Nat, a = #[.ref x, .null, .null, .int 0, .int 0] ∧ thP G H KH x) := by
  intro as h K H mc ms s hEV hlen hcan r hcap hpr
  obtain ⟨a, s', rfl, ⟨h1, rfl⟩, h3⟩ := pR_e hpr
  obtain ⟨x, cell, rfl, e1, e2, e3, e4, e5⟩ := thCell r h1
  exact ⟨x, rfl, _, cell, e1, e2, h1, e3, e4.1, e5, r.2.2.2.1, fun H' cell' ho hs => ⟨none, h, h3, rfl, (fun w z => by cases z), rep_thr hEV r h1 e1 ho hs, rfl⟩⟩
end
