/-! a task enters a call -/
set_option maxRecDepth 20000
section
variable {ρ : Nat → Nat} {d : Nat} {Q : QT} {Γ Γ' : GH} {h h' h1 h2 H : ah} {C ho k i j N M a z s r f o c t n mn m0 rr sk rk l cd ar nv np E va ma mk ck jm vs fm po fn pp : Nat} {g : HG} {v w hd ty κ nm x y x1 nw : Int} {S S' S1 : SS} {X X' X1 X2 : X3} {Y Y' Y1 Y2 : Y3} {b : Bool} {tg wd : Nat → Int} {L : List Nat} {P : List (Nat × Nat)} {fi ca m q : Int}
theorem enS_off : OFF LEN S (enS S t c fi ca ty v nw m q) := by
  unfold enS
  exact (((((((((OFF.rf.u (by decide)).u (by decide)).u (by decide)).u (by decide)).u (by decide)).u (by decide)).u (by decide)).u (by decide)).u (by decide)).u (by decide)
theorem enS_l (hf : L3.elem f = true) (hi : i ≠ c) : enS S t c fi ca ty v nw m q f (200 * t + i) = S f (200 * t + i) := by
  have ne : 200 * t + i ≠ 200 * t + c := by omega
  have n1 : f ≠ f_Md_top := by rintro rfl; exact absurd hf (by decide)
  have n2 : f ≠ f_Md_frames := by rintro rfl; exact absurd hf (by decide)
  unfold enS
  rw [u2_e, if_neg (fun c => ne c.2), u2_e, if_neg (fun c => ne c.2), u2_e, if_neg (fun c => ne c.2), u2_e, if_neg (fun c => ne c.2), u2_e, if_neg (fun c => ne c.2), u2_e, if_neg (fun c => ne c.2), u2_e, if_neg (fun c => ne c.2), u2_e, if_neg (fun c => ne c.2), u2_f n2, u2_f n1]
theorem enS_n : (enS S t c fi ca ty v nw m q f_Md_frameFunction (200 * t + c) = fi ∧ enS S t c fi ca ty v nw m q f_Md_frameAt (200 * t + c) = 0 ∧ enS S t c fi ca ty v nw m q f_Md_frameAround (200 * t + c) = ca ∧ enS S t c fi ca ty v nw m q f_Md_thisType (200 * t + c) = ty) ∧ (enS S t c fi ca ty v nw m q f_Md_thisValue (200 * t + c) = v ∧ enS S t c fi ca ty v nw m q f_Md_frameNew (200 * t + c) = nw ∧ enS S t c fi ca ty v nw m q f_Md_frameBase (200 * t + c) = m ∧ enS S t c fi ca ty v nw m q f_Md_frameTries (200 * t + c) = q) ∧ enS S t c fi ca ty v nw m q f_Md_frames t = ((c + 1 : Nat) : Int) := by
  unfold enS
  refine ⟨⟨?_, ?_, ?_, ?_⟩, ⟨?_, ?_, ?_, ?_⟩, ?_⟩ <;> simp (decide := true) (disch := first | decide | omega) only [u2_f, u2_s]
theorem ncS_at : ncS (atS S t c w) ck mk vs rk v fm n np j = atS (ncS S ck mk vs rk v fm n np j) t c w := by
  unfold atS
  funext f i
  by_cases e : f = f_Md_frameAt
  · subst e
    rw [ncS_off _ _ (by decide)]
    rw [u2_e, u2_e, ncS_off _ _ (by decide)]
  · rw [u2_f e]
    unfold ncS
    rw [u2_f (show f_Md_pileType ≠ f_Md_frameAt by decide), u2_f (show f_Md_pileValue ≠ f_Md_frameAt by decide)]
    by_cases w1 : f = f_Md_variableTypes ∧ vs ≤ i ∧ i < vs + j
    · rw [if_pos w1, if_pos w1]
    · rw [if_neg w1, if_neg w1]
      by_cases w2 : f = f_Md_variableValue ∧ vs ≤ i ∧ i < vs + j
      · rw [if_pos w2, if_pos w2]
      · rw [if_neg w2, if_neg w2]
        by_cases w3 : f = f_Md_variables ∧ i = 0
        · rw [if_pos w3, if_pos w3]
        · rw [if_neg w3, if_neg w3]
          by_cases w4 : f = f_Md_allSlots ∧ i = 0
          · rw [if_pos w4, if_pos w4]
          · rw [if_neg w4, if_neg w4]; simp only [u2_e, e, false_and, if_false]
def cl2 (S : SS) (t c m pp fn ck : Nat) (ty v nw : Int) (r : Nat) : SS := enS (u2 (atS S t c ((pp + 1 : Nat) : Int)) f_Md_height t (m : Int)) t c (fn : Int) (ck : Int) ty v nw (m : Int) (r : Int)
def clX (X : X3) (o c m : Nat) (x y : Int) : X3 := entX (u3 (goX X o c) o f_Task_size 0 (m : Int)) o c m x y
theorem CT.frm (H : CT Γ h C X Y S N t o (m0 + 1) c r) (hc : 1 ≤ c ∧ c < 200) (hb : bsS S t (c - 1) ≤ m0) (fl : (fn : Int) < S f_Md_functions 0) (gh0 : ghs Γ fn 0 = 0) (gt0 : gtd Γ fn 0 = 0) (cs : 0 < S f_Md_codeSize fn) (hck : (ck : Int) < S f_Md_calls 0) (ecf : gcf Γ ck = fn) (V : VR Γ S N x y ty v) (nw1 : (nw = -1 ∧ ma = 0) ∨ (0 ≤ nw ∧ nw < S f_Md_things 0 ∧ S f_Md_thingKind nw.toNat = 4 ∧ ma = hB h (C + 51) nw.toNat)) : CT Γ h C (entX (u3 X o f_Task_size 0 (m0 : Int)) o c m0 x y) (entY Y o c (hB h (C + 56) fn) (gva Γ ck) ma) (enS (u2 S f_Md_height t (m0 : Int)) t c (fn : Int) (ck : Int) ty v nw (m0 : Int) (r : Int)) N t o m0 (c + 1) r ∧ NSt t S (enS (u2 S f_Md_height t (m0 : Int)) t c (fn : Int) (ck : Int) ty v nw (m0 : Int) (r : Int)) := by
  obtain ⟨hto, ⟨t1, t2, t3, t4, t5⟩, ⟨s1, s2, s3⟩, ⟨u1, u2', u4⟩, ⟨v1, v2⟩, pl, fr, ⟨st1, st2, st3⟩, tr, rs, ln⟩ := H
  have hst : S f_Md_state t = 1 ∨ S f_Md_state t = 4 := Classical.byContradiction (fun w => by have := (t5 w).2.1; omega)
  have dv : (200 * t + c) / 200 = t := by omega
  have ns : NSt t S (enS (u2 S f_Md_height t (m0 : Int)) t c (fn : Int) (ck : Int) ty v nw (m0 : Int) (r : Int)) := by
    unfold enS
    exact NSt.u (Or.inr (Or.inr (Or.inl ⟨by decide, dv⟩))) (NSt.u (Or.inr (Or.inr (Or.inl ⟨by decide, dv⟩))) (NSt.u (Or.inr (Or.inr (Or.inl ⟨by decide, dv⟩))) (NSt.u (Or.inr (Or.inr (Or.inl ⟨by decide, dv⟩))) (NSt.u (Or.inr (Or.inr (Or.inl ⟨by decide, dv⟩))) (NSt.u (Or.inr (Or.inr (Or.inl ⟨by decide, dv⟩))) (NSt.u (Or.inr (Or.inr (Or.inl ⟨by decide, dv⟩))) (NSt.u (Or.inr (Or.inr (Or.inl ⟨by decide, dv⟩))) (NSt.u (Or.inl ⟨by decide, rfl⟩) (NSt.u (Or.inr (Or.inr (Or.inr (Or.inr (by decide))))) (NSt.u (Or.inl ⟨by decide, rfl⟩) NSt.rf))))))))))
  have el : ∀ f i, L3.elem f = true → i ≠ c → enS (u2 S f_Md_height t (m0 : Int)) t c (fn : Int) (ck : Int) ty v nw (m0 : Int) (r : Int) f (200 * t + i) = S f (200 * t + i) := fun f i hf hi => by
    rw [enS_l hf hi, u2_f (by rintro rfl; exact absurd hf (by decide))]
  obtain ⟨⟨n1, n2, n3, n4⟩, ⟨n5, n6, n7, n8⟩, n9⟩ := enS_n (S := u2 S f_Md_height t (m0 : Int)) (t := t) (c := c) (fi := (fn : Int)) (ca := (ck : Int)) (ty := ty) (v := v) (nw := nw) (m := (m0 : Int)) (q := (r : Int))
  have eo : ∀ f i, (f_Md_height :: LEN).elem f = false → enS (u2 S f_Md_height t (m0 : Int)) t c (fn : Int) (ck : Int) ty v nw (m0 : Int) (r : Int) f i = S f i := fun f i hf => by
    have n0 : f ≠ f_Md_height := by rintro rfl; exact absurd hf (by decide)
    rw [enS_off f i (by
      cases w : LEN.elem f with
      | false => rfl
      | true =>
        have : (f_Md_height :: LEN).elem f = true := by
          simp only [List.elem_eq_mem, decide_eq_true_eq, List.mem_cons] at w ⊢
          exact Or.inr w
        rw [this] at hf; cases hf), u2_f n0]
  have eh : enS (u2 S f_Md_height t (m0 : Int)) t c (fn : Int) (ck : Int) ty v nw (m0 : Int) (r : Int) f_Md_height t = (m0 : Int) := by rw [enS_off _ _ (by decide), u2_s]
  generalize enS (u2 S f_Md_height t (m0 : Int)) t c (fn : Int) (ck : Int) ty v nw (m0 : Int) (r : Int) = S1 at *
  refine ⟨?_, ns⟩
  -- C's rows
  have xo : ∀ f i, [f_Task_size, f_Task_calls].elem f = false → i ≠ c → entX (u3 X o f_Task_size 0 (m0 : Int)) o c m0 x y o f i = X o f i := fun f i hf hi => by
    unfold entX
    rw [u3_e, if_neg (fun q => by rw [q.2.1] at hf; exact absurd hf (by decide)), u3_e, if_neg (fun q => hi q.2.2), u3_e, if_neg (fun q => hi q.2.2), u3_e, if_neg (fun q => hi q.2.2), u3_e, if_neg (fun q => hi q.2.2), u3_e, if_neg (fun q => by rw [q.2.1] at hf; exact absurd hf (by decide))]
  have xk : ∀ f i, [f_Task_size, f_Task_calls, f_Task_next, f_Task_base, f_Task_thisTag, f_Task_thisWord].elem f = false → entX (u3 X o f_Task_size 0 (m0 : Int)) o c m0 x y o f i = X o f i := fun f i hf => by
    have nn : ∀ g, [f_Task_size, f_Task_calls, f_Task_next, f_Task_base, f_Task_thisTag, f_Task_thisWord].elem g = true → f ≠ g := by rintro g hg rfl; rw [hg] at hf; cases hf
    unfold entX
    rw [u3_f (nn _ (by decide)), u3_f (nn _ (by decide)), u3_f (nn _ (by decide)), u3_f (nn _ (by decide)), u3_f (nn _ (by decide)), u3_f (nn _ (by decide))]
  have xs : entX (u3 X o f_Task_size 0 (m0 : Int)) o c m0 x y o f_Task_size 0 = (m0 : Int) := by unfold entX; simp (decide := true) (disch := first | decide | omega) only [u3_f, u3_s]
  have xc : entX (u3 X o f_Task_size 0 (m0 : Int)) o c m0 x y o f_Task_calls 0 = ((c + 1 : Nat) : Int) := by unfold entX; simp (decide := true) (disch := first | decide | omega) only [u3_f, u3_s]
  have x2 : entX (u3 X o f_Task_size 0 (m0 : Int)) o c m0 x y o f_Task_next c = 0 := by unfold entX; simp (decide := true) (disch := first | decide | omega) only [u3_f, u3_s]
  have x3 : entX (u3 X o f_Task_size 0 (m0 : Int)) o c m0 x y o f_Task_base c = (m0 : Int) := by unfold entX; simp (decide := true) (disch := first | decide | omega) only [u3_f, u3_s]
  have x4 : entX (u3 X o f_Task_size 0 (m0 : Int)) o c m0 x y o f_Task_thisTag c = x := by unfold entX; simp (decide := true) (disch := first | decide | omega) only [u3_f, u3_s]
  have x5 : entX (u3 X o f_Task_size 0 (m0 : Int)) o c m0 x y o f_Task_thisWord c = y := by unfold entX; simp (decide := true) (disch := first | decide | omega) only [u3_f, u3_s]
  have yo : ∀ f i, i ≠ c → entY Y o c (hB h (C + 56) fn) (gva Γ ck) ma o f i = Y o f i := fun f i hi => by
    unfold entY
    rw [u3_e, if_neg (fun q => hi q.2.2), u3_e, if_neg (fun q => hi q.2.2), u3_e, if_neg (fun q => hi q.2.2)]
  have y1 : entY Y o c (hB h (C + 56) fn) (gva Γ ck) ma o f_Task_code c = hB h (C + 56) fn := by unfold entY; simp (decide := true) (disch := first | decide | omega) only [u3_f, u3_s]
  have y2 : entY Y o c (hB h (C + 56) fn) (gva Γ ck) ma o f_Task_variables c = gva Γ ck := by unfold entY; simp (decide := true) (disch := first | decide | omega) only [u3_f, u3_s]
  have y3 : entY Y o c (hB h (C + 56) fn) (gva Γ ck) ma o f_Task_made c = ma := by unfold entY; simp (decide := true) (disch := first | decide | omega) only [u3_f, u3_s]
  generalize entX (u3 X o f_Task_size 0 (m0 : Int)) o c m0 x y = X1 at *
  generalize entY Y o c (hB h (C + 56) fn) (gva Γ ck) ma = Y1 at *
  have fe : ∀ i, i ≠ c → fsS S1 t i = fsS S t i := fun i hi => by unfold fsS; rw [el _ _ (by decide) hi]
  have pe : ∀ i, i ≠ c → psS S1 t i = psS S t i := fun i hi => by unfold psS; rw [el _ _ (by decide) hi]
  have be : ∀ i, i ≠ c → bsS S1 t i = bsS S t i := fun i hi => by unfold bsS; rw [el _ _ (by decide) hi]
  have qe : ∀ i, i ≠ c → qsS S1 t i = qsS S t i := fun i hi => by unfold qsS; rw [el _ _ (by decide) hi]
  have ke : ∀ i, i ≠ c → ksS S1 t i = ksS S t i := fun i hi => by unfold ksS; rw [el _ _ (by decide) hi]
  have fc : fsS S1 t c = fn := by unfold fsS; rw [n1, Int.toNat_natCast]
  have pc : psS S1 t c = 0 := by unfold psS; rw [n2]; rfl
  have bc : bsS S1 t c = m0 := by unfold bsS; rw [n7, Int.toNat_natCast]
  have qc : qsS S1 t c = r := by unfold qsS; rw [n8, Int.toNat_natCast]
  have kc : ksS S1 t c = ck := by unfold ksS; rw [n3, Int.toNat_natCast]
  have gS : ∀ f i, (L1.elem f || (L2.elem f || (L3.elem f || (L4.elem f || L5.elem f)))) = false → S1 f i = S f i := fun f i hf => ns.g hf
  refine ⟨hto, ⟨?_, ?_, ?_, fun _ => by omega, ?_⟩, ⟨xs, eh, by omega⟩, ⟨xc, n9, by omega⟩, ⟨?_, ?_⟩, ?_, fun i hi => ?_, ⟨fun i hi => ?_, ?_, ?_⟩, fun k hk => ?_, ?_, ln⟩
  · rw [xk _ _ (by decide), eo _ _ (by decide)]; exact t1
  · rw [eo _ _ (by decide)]; exact t2
  · rw [eo _ _ (by decide)]; exact t3
  · rw [eo _ _ (by decide)]; intro w; exact absurd hst w
  · rw [xk _ _ (by decide)]; exact v1
  · rw [eo _ _ (by decide)]; exact v2
  · intro i hi
    rw [xk _ _ (by decide), xk _ _ (by decide), eo _ _ (by decide), eo _ _ (by decide)]
    exact ns.vr (pl i (by omega))
  · by_cases w : i = c
    · subst w
      unfold FR1
      rw [fc, pc, bc, kc, qc, n1, n2, n3, n4, n5, n6, n7, n8, x2, x3, x4, x5, y1, y2, y3, gS f_Md_functions 0 (by decide), gS f_Md_codeSize fn (by decide), gS f_Md_calls 0 (by decide), gS f_Md_things 0 (by decide), gS f_Md_thingKind _ (by decide)]
      exact ⟨⟨rfl, fl, rfl⟩, ⟨rfl, rfl, cs⟩, ⟨rfl, rfl, by omega⟩, ⟨rfl, hck, rfl, ecf⟩, ns.vr V, nw1, rfl⟩
    · obtain ⟨⟨i1, i2, i3⟩, ⟨i4, i5, i6⟩, ⟨i7, i8, i9⟩, ⟨i10, i11, i12, i13⟩, i14, i15, i16⟩ := fr i (by omega)
      unfold FR1
      rw [fe i w, pe i w, be i w, ke i w, qe i w, el f_Md_frameFunction i (by decide) w, el f_Md_frameAt i (by decide) w, el f_Md_frameBase i (by decide) w, el f_Md_frameAround i (by decide) w, el f_Md_thisType i (by decide) w, el f_Md_thisValue i (by decide) w, el f_Md_frameNew i (by decide) w, el f_Md_frameTries i (by decide) w, xo f_Task_next i (by decide) w, xo f_Task_base i (by decide) w, xo f_Task_thisTag i (by decide) w, xo f_Task_thisWord i (by decide) w, yo f_Task_code i w, yo f_Task_variables i w, yo f_Task_made i w, gS f_Md_functions 0 (by decide), gS f_Md_codeSize _ (by decide), gS f_Md_calls 0 (by decide), gS f_Md_things 0 (by decide), gS f_Md_thingKind _ (by decide)]
      exact ⟨⟨i1, i2, i3⟩, ⟨i4, i5, i6⟩, ⟨i7, i8, i9⟩, ⟨i10, i11, i12, i13⟩, ns.vr i14, i15, i16⟩
  · by_cases w : i = c
    · subst w
      rw [if_pos rfl, if_pos rfl, fc, pc, bc, qc, gh0, gt0]
      exact ⟨rfl, rfl, by omega, fun z => by omega⟩
    · have w2 : ¬ i + 1 = c + 1 := by omega
      obtain ⟨j1, j2, j3, j4⟩ := st1 i (by omega)
      rw [if_neg w2, if_neg w2, fe i w, pe i w, be i w, qe i w]
      by_cases w3 : i + 1 = c
      · rw [if_pos w3] at j1 j2
        rw [w3, bc, qc]
        exact ⟨j1, j2, j3, fun _ => by have : i = c - 1 := by omega
                                       rw [this]; exact hb⟩
      · rw [if_neg w3] at j1 j2
        rw [be _ w3, qe _ w3]
        exact ⟨j1, j2, j3, fun _ => j4 (by omega)⟩
  · rw [be 0 (by omega)]
    rcases Nat.mul_eq_zero.mp st2 with z | z
    · rw [z]; omega
    · omega
  · rw [qe 0 (by omega)]
    rcases Nat.mul_eq_zero.mp st3 with z | z
    · rw [z]; omega
    · omega
  · obtain ⟨j, a, r1, r2, r3, r4, r5, r6, r7, r8, r9, r10, r11, r12⟩ := tr k hk
    have w : j ≠ c := by omega
    refine ⟨j, a, by rw [eo _ _ (by decide)]; exact r1, by omega, by rw [xk _ _ (by decide)]; exact r3, by rw [eo _ _ (by decide)]; exact r4, by rw [xk _ _ (by decide)]; exact r5, by rw [eo _ _ (by decide), be j w]; exact r6, by rw [xk _ _ (by decide), be j w]; exact r7, by rw [gS _ _ (by decide), fe j w]; exact r8, by rw [fe j w]; exact r9, by rw [qe j w]; exact r10, by rw [fe j w, qe j w]; exact r11, ?_⟩
    rw [if_neg (by omega)]
    by_cases w3 : j + 1 = c
    · rw [w3, qc]; exact hk
    · rw [if_neg w3] at r12
      rw [qe _ w3]; exact r12
  · intro w
    rw [eo _ _ (by decide)] at w
    omega
end
