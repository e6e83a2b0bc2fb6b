/-! the builtin show: joined -/
set_option maxRecDepth 20000
def LXO : List Nat := [f_Machine_output, f_Machine_outputSize]
def LSO : List Nat := [f_Md_output, f_Md_shown]
section
variable {ρ : Nat → Nat} {P : ah → Nat → Prop} {d : Nat} {Q : QT} {Γ Γ' : GH} {h h0 h1 h' : ah} {C ho T : Nat} {X X' X1 X2 : X3} {Y Y' : Y3} {S S' S1 S2 : SS} {N t o n c r f i j k m z s n' pu po tn w sn sm l1 s0 nn p0 kk kx M p x : Nat} {ty v y op a b : Int} {L : List Nat} {ws : List (List Int)} {l bs cs : List Int} {g : HG}
theorem ouS_o (hf : LSO.elem f = false) : ouS S w bs f i = S f i := by
  unfold ouS
  rw [u2_f (by rintro rfl; exact absurd hf (by decide)), u2_f (by rintro rfl; exact absurd hf (by decide)), ou1_o (by rintro rfl; exact absurd hf (by decide))]
theorem app_g1 (hi : i < bs.length) : (bs ++ cs).getD i 0 = bs.getD i 0 := by
  rw [List.getD_eq_getElem?_getD, List.getElem?_append_left hi, ← List.getD_eq_getElem?_getD]
theorem app_g2 : (bs ++ [v]).getD bs.length 0 = v := by
  rw [List.getD_eq_getElem?_getD, List.getElem?_append_right (Nat.le_refl _), Nat.sub_self]; rfl
/-- the output grows by some bytes, all else stays -/
theorem CORE.out (H : CORE Γ h C ho X Y S N) (ew : X 32 f_Machine_outputSize 0 = (w : Int)) (A : OGW h C X w h' X') (le : w + (bs ++ [10]).length ≤ hl h' (hR h' f_Machine_output (C + 32))) (rm : w + (bs ++ [10]).length ≤ 65536) : ∃ z s, (CORE Γ h' C ho (u3 (oX X' w (bs ++ [10])) 32 f_Machine_outputSize 0 ((w + (bs ++ [10]).length : Nat) : Int)) Y (ouS S w bs) N ∧ ∀ {t o n c r : Nat}, CT Γ h C X Y S N t o n c r → CT Γ h' C (u3 (oX X' w (bs ++ [10])) 32 f_Machine_outputSize 0 ((w + (bs ++ [10]).length : Nat) : Int)) Y (ouS S w bs) N t o n c r) ∧ GRO Γ Γ h h' C S (ouS S w bs) ∧ BND h C S h' (ouS S w bs) 0 0 ∧ Fr LHc [] z s h h' := by
  obtain ⟨G', F', ⟨z, s, fr⟩, gb, el, l2, x1, x2⟩ := A
  have H0 := H
  obtain ⟨⟨G, F⟩, -, -, -, q2, q3, q4, q5, q6, q7, q8⟩ := H0
  have lb : (bs ++ [10]).length = bs.length + 1 := by simp
  have o0 : ∀ f i, LSO.elem f = false → ouS S w bs f i = S f i := fun f i hf => ouS_o hf
  have x0 : ∀ o f i, LXO.elem f = false → (u3 (oX X' w (bs ++ [10])) 32 f_Machine_outputSize 0 ((w + (bs ++ [10]).length : Nat) : Int)) o f i = X o f i := fun o f i hf => by
    rw [u3_f (by rintro rfl; exact absurd hf (by decide)), oX_o (by rintro rfl; exact absurd hf (by decide)), x2 _ _ _ (by rintro rfl; exact absurd hf (by decide))]
  have g : GRO Γ Γ h h' C S (ouS S w bs) := GRO.fr (exs_of o0 (by decide)) G F fr (by unfold DJ; decide) (by simp)
  have dT : ∀ o, isT o → ∀ f, [f_Task_tryCall, f_Task_tryTo, f_Task_trySize].elem f = true → hl h' (hR h' f (C + o)) = hl h (hR h f (C + o)) := by
    intro o ho f hf
    have : f = f_Task_tryCall ∨ f = f_Task_tryTo ∨ f = f_Task_trySize := by simpa using hf
    rcases ho with rfl | rfl <;> rcases this with rfl | rfl | rfl <;> exact ac_len G fr (by decide) (by unfold DJ; decide)
  have k5 : OUT h' C (u3 (oX X' w (bs ++ [10])) 32 f_Machine_outputSize 0 ((w + (bs ++ [10]).length : Nat) : Int)) (ouS S w bs) := by
    obtain ⟨⟨w0, lo, a1, a2, a3, a4, a5, a6, a7⟩, ⟨w', lo', b1, b2, b3, b4, b5, b6, b7⟩, pl⟩ := q5
    have e0 : w0 = w := by omega
    subst e0
    refine ⟨⟨w0 + (bs.length + 1), _, by rw [u3_s, lb], by unfold ouS; rw [u2_s], by omega, rfl, by omega, el, fun i hi => ?_⟩, ⟨w', lo', by rw [x0 _ _ _ (by decide)]; exact b1, by rw [o0 _ _ (by decide)]; exact b2, b3, by rw [ac_len G fr (by decide) (by unfold DJ; decide)]; exact b4, b5, b6, fun i hi => by rw [x0 _ _ _ (by decide), o0 _ _ (by decide)]; exact b7 i hi⟩, by rw [ac_len G fr (by decide) (by unfold DJ; decide)]; exact pl⟩
    rw [u3_f (by decide)]
    unfold ouS
    rw [u2_f (by decide), u2_e]
    by_cases c1 : i < w0
    · rw [oX_n c1, x1 i c1, a7 i c1, if_neg (fun c => by have := c.2; omega)]
      exact (if_neg (fun c => by have := c.2.1; omega)).symm
    · obtain ⟨j, rfl⟩ : ∃ j, i = w0 + j := ⟨i - w0, by omega⟩
      rw [oX_g (by omega)]
      by_cases c2 : j = bs.length
      · rw [c2, if_pos ⟨rfl, rfl⟩]; exact app_g2
      · rw [if_neg (fun c => by have := c.2; omega), app_g1 (by omega)]
        unfold ou1
        rw [if_pos ⟨rfl, by omega, by omega⟩, Nat.add_sub_cancel_left]
  refine ⟨z, s, H.gs G' F' fr g (exs_of o0 (by decide)) (exx_of x0 (by decide)) dT (exs_of o0 (by decide)) (Int.le_of_eq (o0 _ _ (by decide)).symm) (by unfold DJ; decide) (by unfold DJ; decide) (by unfold DJ; decide) (q2.ext g (exs_of o0 (by decide)) (exx_of x0 (by decide)) (ac_len G fr (by decide) (by unfold DJ; decide)) (ac_len G fr (by decide) (by unfold DJ; decide)) (ac_len G fr (by decide) (by unfold DJ; decide))) (q3.ext (C := C) G.2.1 g (exs_of o0 (by decide)) fr (by unfold DJ; decide) (by unfold DJ; decide) (by simp)) (q4.ext g (exs_of o0 (by decide)) (exx_of x0 (by decide)) (ac_len G fr (by decide) (by unfold DJ; decide)) (ac_len G fr (by decide) (by unfold DJ; decide)) (ac_len G fr (by decide) (by unfold DJ; decide))) k5 (q6.ext (exs_of o0 (by decide)) (exx_of x0 (by decide))) (q7.ext G F g (exs_of o0 (by decide)) fr (by unfold DJ; decide) (by unfold DJ; decide) (by simp) (fun i _ => q8.eq G.2.1 fr (by unfold DJ; decide) (by simp) i)), g, (gb S _ (q7.thk G) (exs_of o0 (by decide))).1, fr.mono (fun f hf => ?_) (fun q hq => by cases hq)⟩
  have e : (LCC ++ [f_Machine_output]).all (fun f => LHc.elem f) = true := by decide
  simpa using List.all_eq_true.mp e f hf
theorem CVA.u (H : CVA h C ho X g N ty y bs) (hf : f = f_Machine_printed) : CVA h C ho (u3 X o f i v) g N ty y bs := by
  rcases H with H | H | H
  · exact Or.inl (H.u hf)
  · exact Or.inr (Or.inl H)
  · exact Or.inr (Or.inr H)
/-- C prints -/
theorem r_SHOW (I : IX h C X Y o n c) (K : STM ρ h) (HH : HCM ρ h ho g N M ws) (yh : YHO Y ho) (gn : ∀ i, i < N → NMW (g.2 0 i)) (n1 : 1 ≤ n) (c3 : hl h (C + 51) = tn) (c6 : tn ≤ 8000) (VV : X o f_Task_tags (n - 1) = 4 ∨ X o f_Task_tags (n - 1) = 5 → 0 ≤ X o f_Task_words (n - 1) ∧ X o f_Task_words (n - 1) < (tn : Int) ∧ hK h (hB h (C + 51) (X o f_Task_words (n - 1)).toNat) ∈ [244, 245]) (V : CVA h C ho X g N (X o f_Task_tags (n - 1)) (X o f_Task_words (n - 1)) bs) (rg : ∀ i, i < bs.length → -128 ≤ bs.getD i 0 ∧ bs.getD i 0 ≤ 127) (hb : bs.length ≤ 200000) (pl : PRL h C 0) (ew : X 32 f_Machine_outputSize 0 = (w : Int)) (lo : hl h (hR h f_Machine_output (C + 32)) = 256 ∨ hl h (hR h f_Machine_output (C + 32)) = 4096 ∨ hl h (hR h f_Machine_output (C + 32)) = 65536) (hw : w ≤ hl h (hR h f_Machine_output (C + 32))) (q1 : w + (bs ++ [10]).length ≤ 65536 → ∀ h1 X1 h2 X2, PUT h C (u3 X 32 f_Machine_printed 0 0) 0 (bs ++ [10]) h1 X1 → OGW h1 C X1 w h2 X2 → w + (bs ++ [10]).length ≤ hl h2 (hR h2 f_Machine_output (C + 32)) → Q (Sum.inl none) (cc h2 C (ansX (u3 (oX X2 w (bs ++ [10])) 32 f_Machine_outputSize 0 ((w + (bs ++ [10]).length : Nat) : Int)) o (n - 1) c 0 0) Y)) (q0 : ¬ w + (bs ++ [10]).length ≤ 65536 → ∀ h1 X1, PUT h C (u3 X 32 f_Machine_printed 0 0) 0 (bs ++ [10]) h1 X1 → Q (Sum.inr (C + 33)) (cc h1 C (erX X1 0) Y)) : wpB PGm ρ (d + 60) m_Machine_instruct 0 [(0, vR (C + 32)), (1, vI 28), (2, vI 0), (3, vI b)] [] (cc h C X Y) Q := by
  obtain ⟨G, F, ht, ⟨e1, e2, e3⟩, hn, hc1, hc2⟩ := I
  have w1 : w32 ((n : Int) - ((1 : Nat) : Int)) = ((n - 1 : Nat) : Int) := w32_m1 (by omega)
  have b1 : 0 ≤ ((n - 1 : Nat) : Int) ∧ ((n - 1 : Nat) : Int) < ((2001 : Nat) : Int) := by omega
  have n12 : n - 1 ≤ 2000 := by omega
  have lb : (bs ++ [10]).length = bs.length + 1 := by simp
  have w6 : w ≤ 65536 := by omega
  refine r_BLT (w := 1) (d := d + 40) ⟨G, F, ht, ⟨e1, e2, e3⟩, hn, hc1, hc2⟩ n1 (Or.inr ⟨by decide, rfl⟩) (b_Machine_builtin_27 ?_)
  generalize hx : X o f_Task_tags (n - 1) = x at *
  generalize hy : X o f_Task_words (n - 1) = y at *
  have hdd : 13 ≤ d + 56 := by omega
  have gp : wpB PGm ρ (d + 58) m_Machine_print 0 [(0, vR (C + 32)), (1, vI ((n - 1 : Nat) : Int)), (2, vI x), (3, vL y)] [] (cc h C X Y) (cV (fun h19 => cV (fun h3 => Q (Sum.inl none) h3) (fun e h' => hK h' e ≠ 0 ∧ Q (Sum.inr e) h') (Sum.inl none) h19) (fun e22 h21 => hK h21 e22 ≠ 0 ∧ cV (fun h3 => Q (Sum.inl none) h3) (fun e h' => hK h' e ≠ 0 ∧ Q (Sum.inr e) h') (Sum.inr e22) h21)) := by
    refine b_Machine_print_0 ⟨F.1.1, ?_⟩
    rw [cc_sI (by decide)]
    refine r_putAny (d := d + 56) (p := 0) G F K HH yh gn u3_s pl (V.u rfl) (by omega) hdd (fun h1 X1 A => ?_)
    obtain ⟨G1, F1, pl1, p1⟩ := A.ok
    refine ⟨F1.1.1, r_put (d := d + 56) G1 F1 p1 pl1 (by omega) (by omega) (fun h2 X2 B => ?_)⟩
    have w10 : w8 10 = 10 := by decide
    rw [w10] at B
    have AB := A.app B
    obtain ⟨G2, F2, pl2, p2⟩ := AB.ok
    rw [Nat.zero_add] at p2 pl2
    have ew2 : X2 32 f_Machine_outputSize 0 = (w : Int) := by
      rw [AB.2.2.2.2.2.2.2.2 _ _ _ (by decide), u3_f (by decide)]; exact ew
    obtain ⟨z, s, fr⟩ := AB.2.2.1
    have lo2 : hl h2 (hR h2 f_Machine_output (C + 32)) = hl h (hR h f_Machine_output (C + 32)) := ac_len G fr (by decide) (by unfold DJ; decide)
    have eo : hI (cc h2 C X2 Y) f_Machine_outputSize (C + 32) = (w : Int) := by rw [ccI (by decide)]; exact ew2
    have epr : hI (cc h2 C X2 Y) f_Machine_printed (C + 32) = ((bs ++ [10]).length : Int) := by rw [ccI (by decide)]; exact p2
    have y1 : w + (bs ++ [10]).length ≤ 2000000000 := by omega
    have n1 : ¬ (w + (bs ++ [10]).length ≤ 65536) ↔ 65536 < ((w + (bs ++ [10]).length : Nat) : Int) := by omega
    have n2 : (w + (bs ++ [10]).length ≤ 65536) ↔ ((w + (bs ++ [10]).length : Nat) : Int) ≤ 65536 := by omega
    have kS : hK h2 (C + 33) ≠ 0 := by rw [F2.1.2.1]; decide
    have yes : w + (bs ++ [10]).length ≤ 65536 → wpB PGm ρ (d + 57 + 1) m_Machine_print 39 [(0, vR (C + 32)), (1, vI ((n - 1 : Nat) : Int))] [] (cc h2 C X2 Y) (cV (fun h19 => cV (fun h3 => Q (Sum.inl none) h3) (fun e h' => hK h' e ≠ 0 ∧ Q (Sum.inr e) h') (Sum.inl none) h19) (fun e22 h21 => hK h21 e22 ≠ 0 ∧ cV (fun h3 => Q (Sum.inl none) h3) (fun e h' => hK h' e ≠ 0 ∧ Q (Sum.inr e) h') (Sum.inr e22) h21)) := fun rm => by
      refine r_p39 (n := (bs ++ [10]).length) G2 F2 (by omega) (by rw [lo2]; exact lo) ew2 p2 rm (by rw [lo2]; exact hw) (fun h3 X3 OG le => ?_)
      have qq := q1 rm h2 X2 h3 X3 AB OG le
      obtain ⟨G3, F3, ⟨z3, s3, fr3⟩, -, -, -, -, x3⟩ := OG
      have lp3 : hl h3 (hR h3 f_Machine_print (C + 32)) = hl h2 (hR h2 f_Machine_print (C + 32)) := ac_len G2 fr3 (by decide) (by unfold DJ; decide)
      refine r_p83 (bs := bs ++ [10]) G3 F3 (by rw [x3 _ _ _ (by decide)]; exact ew2) (by rw [x3 _ _ _ (by decide)]; exact p2) (fun i hi => ?_) (fun i hi => ?_) le (by rw [lp3]; exact pl2.2) rm (r_answer (d := d + 56) (n := n - 1) (c := c) G3 F3 ht e1 ?_ n12 ⟨hc1, hc2⟩ (by decide) qq)
      · rw [x3 _ _ _ (by decide)]
        have := AB.2.2.2.2.2.2.2.1 i hi
        rw [Nat.zero_add] at this; exact this
      · by_cases c1 : i < bs.length
        · rw [app_g1 c1]; exact rg i c1
        · have : i = bs.length := by omega
          rw [this, app_g2]; decide
      · rw [u3_f (by decide), oX_o (by decide), x3 _ _ _ (by decide), AB.2.2.2.2.2.2.2.2 _ _ _ (by decide), u3_f (by decide)]; exact e3
    have eP : hR (cc h2 C X2 Y) f_Machine_heap (C + 32) = C + 50 := by rw [ccRo (by decide)]; exact F2.2.1.2.2.2.2.1
    refine ⟨F2.1.1, ?_⟩
    rw [eo, epr, w32_aa y1, eP]
    refine ⟨fun z => yes (n2.mpr z), fun z => ⟨F2.1.2.2.2.2.2.1, r_full G2 F2 ⟨kS, kS, kS, q0 (n1.mpr z) h2 X2 AB⟩⟩⟩
  have f1 := F.t ht
  unfold FCt at f1
  have f2 := F
  unfold FC at f2
  clear q1 q0 V pl lo hw
  simp (decide := true) only [ccI, ccR, ccRo, ccK, ccl, ccA G, ccAt G ht, KC G, KCt G ht, f1, f2, e1, w1, hx, hy, Int.toNat_natCast, true_and, and_true, false_implies, forall_const]
  exact ⟨b1, b1, r_objectOf G F (by omega) c3 c6 VV ⟨F.1.1, gp⟩⟩
end
