/-! return and throw: joined -/
set_option maxRecDepth 20000
section
variable {ρ : Nat → Nat} {P : ah → Nat → Prop} {Γ : GH} {h h' : ah} {C : Nat} {X X' X1 : X3} {Y Y' : Y3} {S S' S1 : SS} {N t o n c r i j k m p' n' r' c' : Nat} {ty v x y s a b op : Int}
/-- an instruction by which the calls may change -/
def SOQ (ρ : Nat → Nat) (P : ah → Nat → Prop) (Γ : GH) (h : ah) (C : Nat) (X : X3) (Y : Y3) (S : SS) (N t o : Nat) (op a b : Int) : Prop := ∃ e X' S' n' c' r', CT Γ h C X' Y S' N t o n' c' r' ∧ NSt t S S' ∧ NXo o X X' ∧ ER e X' S' ∧ CRUN ρ C op a b h X Y e h X' Y ∧ TRUN ρ P S e S'
theorem SOP.q (H : SOP ρ P Γ h C X Y S N t o c op a b) : SOQ ρ P Γ h C X Y S N t o op a b := by
  obtain ⟨e, X', S', n', r', A⟩ := H
  exact ⟨e, X', S', n', c, r', A⟩
theorem pop_es {L : List Nat} (e : (L.elem f_Md_height || (L.elem f_Md_type || L.elem f_Md_value)) = false) : EXS L S (popS S t n) := by
  simp only [Bool.or_eq_false_iff] at e
  unfold popS isS
  exact EXS.u e.2.2 (EXS.u e.2.1 (EXS.u e.1 EXS.rf))
theorem pop_ns : NSt t S (popS S t n) := by
  unfold popS isS
  exact NSt.u (tk5 (by decide)) (NSt.u (tk5 (by decide)) (NSt.u (tk1 (by decide)) NSt.rf))
theorem op_THROW (hP : ∀ h0 T, P h0 T → TOK h0 T) (H : OPH Γ h C X Y S N t o n c r) (O : OPT Γ S (fsS S t (c - 1)) (psS S t (c - 1)) 30 a b) (D : DF S t n c (fsS S t (c - 1)) (psS S t (c - 1)) k 30 a b) (hh : n = bsS S t (c - 1) + ghs Γ (fsS S t (c - 1)) (psS S t (c - 1))) : SOQ ρ P Γ h C X Y S N t o 30 a b := by
  have h1 := O.2.2.2.2.2.2.2.2.2.2.2.2.2.2.2.2.2.2.1 (Or.inr rfl)
  have V := H.pl (i := n - 1) (by omega)
  have aT := H.2.2.2.2.2.2
  obtain ⟨X', S', n', c', r', A1, A2, A3, A4, A5⟩ := H.2.2.1.raise (ρ := ρ) H.1 H.2.1 H.2.2.2.1 pop_ns (pop_es (by decide)) aT.1 aT.2.1 aT.2.2.1 (n - 1) (by unfold popS isS; rw [u2_f (by decide), u2_f (by decide), u2_s]) V
  exact ⟨none, X', S', n', c', r', A1, A2, A3, trivial, fun d Q q => r_THROW (d := d + 40) H.ix (by omega) (A4 (d + 58) _ q), fun d h0 T Q p q => s_THROW (d := d + 52) (hP _ _ p) D (by omega) (A5 (d + 57) h0 T _ (hP _ _ p) q)⟩
/-- things: what a call that makes gives back -/
def MKO (h : ah) (C : Nat) (S : SS) : Prop := ∀ z : Nat, (z : Int) < S f_Md_things 0 → S f_Md_thingKind z = 4 → hB h (C + 51) z ≠ 0 ∧ hK h (hB h (C + 51) z) = k_Obj ∧ hI h f_Thing_number (hB h (C + 51) z) = (z : Int)
theorem op_RETURN (hP : ∀ h0 T, P h0 T → TOK h0 T) (M : MKO h C S) (H : OPH Γ h C X Y S N t o n c r) (O : OPT Γ S (fsS S t (c - 1)) (psS S t (c - 1)) 29 a b) (D : DF S t n c (fsS S t (c - 1)) (psS S t (c - 1)) k 29 a b) (hh : n = bsS S t (c - 1) + ghs Γ (fsS S t (c - 1)) (psS S t (c - 1))) : SOQ ρ P Γ h C X Y S N t o 29 a b := by
  have h1 := O.2.2.2.2.2.2.2.2.2.2.2.2.2.2.2.2.2.2.1 (Or.inl rfl)
  have V := H.pl (i := n - 1) (by omega)
  have aT := H.2.2.2.2.2.2
  have K := H.2.2.1
  have hc := H.2.2.2.1
  have r50 := K.r_le
  have hto := K.1.to
  have c200 := K.2.2.2.1.2.2
  have d2 := D.2.1
  have F1 := K.2.2.2.2.2.2.1 (c - 1) (by omega)
  obtain ⟨-, -, ⟨i7, i8, i9⟩, -, -, i15, i16⟩ := F1
  have STAm := K.2.2.2.2.2.2.2.1
  obtain ⟨l, l1, l2, l3, l4, l5, l6⟩ := K.2.2.2.2.2.2.2.2.2.2
  obtain ⟨s1, s2, s3, s4⟩ := STAm.1 (c - 1) (by omega)
  rw [if_pos (by omega)] at s1 s2
  -- the value that comes back
  obtain ⟨ty, v, x, y, S1, vv, hxT, hxC, ns1, es1⟩ : ∃ ty v x y S1, VR Γ S N x y ty v ∧ ((¬ (0 ≤ S f_Md_frameNew (200 * t + (c - 1)) ∧ S f_Md_pileType (2100 * t + (n - 1)) ≠ 4) ∧ S1 = popS S t n ∧ ty = S f_Md_pileType (2100 * t + (n - 1)) ∧ v = S f_Md_pileValue (2100 * t + (n - 1))) ∨ ((0 ≤ S f_Md_frameNew (200 * t + (c - 1)) ∧ S f_Md_pileType (2100 * t + (n - 1)) ≠ 4) ∧ S1 = isS (popS S t n) 4 (S f_Md_frameNew (200 * t + (c - 1))) ∧ ty = 4 ∧ v = S f_Md_frameNew (200 * t + (c - 1)))) ∧ ((Y o f_Task_made (c - 1) = 0 ∧ x = X o f_Task_tags (n - 1) ∧ y = X o f_Task_words (n - 1)) ∨ (Y o f_Task_made (c - 1) ≠ 0 ∧ hK h (Y o f_Task_made (c - 1)) = k_Obj ∧ ((X o f_Task_tags (n - 1) = 4 ∧ x = X o f_Task_tags (n - 1) ∧ y = X o f_Task_words (n - 1)) ∨ (X o f_Task_tags (n - 1) ≠ 4 ∧ x = 4 ∧ y = hI h f_Thing_number (Y o f_Task_made (c - 1)))))) ∧ NSt t S S1 ∧ (∀ f i, f ≠ f_Md_height → f ≠ f_Md_type → f ≠ f_Md_value → S1 f i = S f i) := by
    have epop : ∀ f i, f ≠ f_Md_height → f ≠ f_Md_type → f ≠ f_Md_value → popS S t n f i = S f i := fun f i n1 n2 n3 => by unfold popS isS; rw [u2_f n3, u2_f n2, u2_f n1]
    rcases i15 with ⟨j1, j2⟩ | ⟨j1, j2, j3, j4⟩
    · exact ⟨_, _, _, _, popS S t n, V, Or.inl ⟨by omega, rfl, rfl, rfl⟩, Or.inl ⟨j2, rfl, rfl⟩, pop_ns, epop⟩
    · obtain ⟨m1, m2, m3⟩ := M (S f_Md_frameNew (200 * t + (c - 1))).toNat (by omega) j3
      by_cases q : S f_Md_pileType (2100 * t + (n - 1)) = 4
      · exact ⟨_, _, _, _, popS S t n, V, Or.inl ⟨fun z => z.2 q, rfl, rfl, rfl⟩, Or.inr ⟨by rw [j4]; exact m1, by rw [j4]; exact m2, Or.inl ⟨by rw [V.1]; exact q, rfl, rfl⟩⟩, pop_ns, epop⟩
      · refine ⟨4, S f_Md_frameNew (200 * t + (c - 1)), 4, S f_Md_frameNew (200 * t + (c - 1)), isS (popS S t n) 4 (S f_Md_frameNew (200 * t + (c - 1))), ⟨rfl, rfl, Or.inr (Or.inr (Or.inr (Or.inr (Or.inl ⟨by omega, by omega, j1, j2, j3⟩))))⟩, Or.inr ⟨⟨j1, q⟩, rfl, rfl, rfl⟩, Or.inr ⟨by rw [j4]; exact m1, by rw [j4]; exact m2, Or.inr ⟨by rw [V.1]; exact q, rfl, by rw [j4, m3]; omega⟩⟩, ?_, fun f i n1 n2 n3 => ?_⟩
        · unfold isS; exact NSt.u (tk5 (by decide)) (NSt.u (tk5 (by decide)) pop_ns)
        · unfold isS; rw [u2_f n3, u2_f n2]; exact epop f i n1 n2 n3
  have hv : -128 ≤ x ∧ x ≤ 127 := by rw [vv.1]; exact vv.2.2.tag
  have ns2 : NSt t S (rtS S1 t c (bsS S t (c - 1)) (qsS S t (c - 1))) := by
    unfold rtS
    exact NSt.u (tk1 (by decide)) (NSt.u (tk1 (by decide)) (NSt.u (tk1 (by decide)) ns1))
  have hin : ∀ k, qsS S t (c - 1) ≤ k → k < r → X o f_Task_tryCall k = (c : Int) := by
    intro k z1 z2
    obtain ⟨j, a, -, q2, q3, -, -, -, -, -, -, q10, -, q12⟩ := K.2.2.2.2.2.2.2.2.1 k z2
    have : j = c - 1 := by
      by_cases w : j = c - 1
      · exact w
      · rw [if_neg (by omega)] at q12
        have := STAm.mono (i := j + 1) (j := c - 1) (by omega) (by omega)
        omega
    rw [q3]; omega
  have hout : ∀ k, k < qsS S t (c - 1) → X o f_Task_tryCall k ≤ ((c - 1 : Nat) : Int) := by
    intro k z1
    obtain ⟨j, a, -, q2, q3, -, -, -, -, -, -, q10, -, q12⟩ := K.2.2.2.2.2.2.2.2.1 k (by omega)
    have : j ≠ c - 1 := by rintro rfl; omega
    rw [q3]; omega
  have cr : ∀ {X' : X3}, (c = 1 → X' = endX (cbX X o c (bsS S t (c - 1)) (qsS S t (c - 1)) r) o 2 x y) → (2 ≤ c → X' = pshX (cbX X o c (bsS S t (c - 1)) (qsS S t (c - 1)) r) o (bsS S t (c - 1)) x y) → CRUN ρ C 29 a b h X Y none h X' Y := by
    intro X' k1 k2 d Q q
    refine r_RETURN (d := d + 40) H.ix (by omega) (r_comeBack (d := d + 58) (c := c) (r := r) (m := bsS S t (c - 1)) (q0 := qsS S t (c - 1)) (ty' := x) (v' := y) H.1 H.2.1 hto.1 ⟨hc, c200⟩ (by omega) (by omega) K.2.2.2.1.1 K.2.2.2.2.1.1 i8 (by omega) (by omega) hin hout hv hxC (fun z => ?_) (fun z => ?_))
    · rw [← k1 (by omega)]; exact q
    · rw [← k2 (by omega)]; exact q
  have tr : ∀ {S' : SS}, (c = 1 → S' = finS (rtS S1 t c (bsS S t (c - 1)) (qsS S t (c - 1))) t 2 ty v) → (2 ≤ c → S' = pshS (u2 (rtS S1 t c (bsS S t (c - 1)) (qsS S t (c - 1))) f_Md_top 0 ((200 * t + (c - 1) - 1 : Nat) : Int)) t (bsS S t (c - 1)) ty v) → TRUN ρ P S none S' := by
    intro S' k1 k2 d h0 T Q p q
    refine s_RETURN (d := d + 52) (m := bsS S t (c - 1)) (q0 := qsS S t (c - 1)) (ty := ty) (v := v) (S1 := S1) (hP _ _ p) D (by omega) i7 (by omega) i16 hxT (fun z => ?_) (fun z => ?_)
    · rw [← k1 z]; exact q
    · rw [← k2 z]; exact q
  by_cases c1 : c = 1
  · exact ⟨none, _, _, 0, 0, 0, K.finish ns2 vv (Or.inl rfl), fin_ns ns2, end_nx cb_nx, trivial, cr (fun _ => rfl) (fun z => by omega), tr (fun _ => rfl) (fun z => by omega)⟩
  · have c2 : 2 ≤ c := by omega
    obtain ⟨u1, u2', u3', u4⟩ := STAm.1 (c - 1 - 1) (by omega)
    rw [if_neg (by omega), show c - 1 - 1 + 1 = c - 1 by omega] at u1 u2'
    have F2 := K.2.2.2.2.2.2.1 (c - 1 - 1) (by omega)
    have ns3 : NSt t S (u2 (rtS S1 t c (bsS S t (c - 1)) (qsS S t (c - 1))) f_Md_top 0 ((200 * t + (c - 1) - 1 : Nat) : Int)) := NSt.u (tk5 (by decide)) ns2
    have ns4 : NSt t S (pshS (u2 (rtS S1 t c (bsS S t (c - 1)) (qsS S t (c - 1))) f_Md_top 0 ((200 * t + (c - 1) - 1 : Nat) : Int)) t (bsS S t (c - 1)) ty v) := ns3.tr (psh_ns (by omega))
    have eS : ∀ f i, f ≠ f_Md_height → f ≠ f_Md_type → f ≠ f_Md_value → f ≠ f_Md_tries → f ≠ f_Md_frames → f ≠ f_Md_top → (u2 (rtS S1 t c (bsS S t (c - 1)) (qsS S t (c - 1))) f_Md_top 0 ((200 * t + (c - 1) - 1 : Nat) : Int)) f i = S f i := by
      intro f i n1 n2 n3 n4 n5 n6
      unfold rtS
      rw [u2_f n6, u2_f n5, u2_f n4, u2_f n1]; exact es1 f i n1 n2 n3
    have es : ∀ {L : List Nat}, L.all (fun f => !([f_Md_height, f_Md_type, f_Md_value, f_Md_tries, f_Md_frames, f_Md_top, f_Md_pileType, f_Md_pileValue].elem f)) = true → EXS L S (pshS (u2 (rtS S1 t c (bsS S t (c - 1)) (qsS S t (c - 1))) f_Md_top 0 ((200 * t + (c - 1) - 1 : Nat) : Int)) t (bsS S t (c - 1)) ty v) := by
      intro L hL f hf i
      have := List.all_eq_true.mp hL f (by simpa using hf)
      simp only [Bool.not_eq_true'] at this
      have nn : ∀ g, [f_Md_height, f_Md_type, f_Md_value, f_Md_tries, f_Md_frames, f_Md_top, f_Md_pileType, f_Md_pileValue].elem g = true → f ≠ g := by
        rintro g hg rfl; rw [hg] at this; cases this
      unfold pshS
      rw [u2_f (nn _ (by decide)), u2_f (nn _ (by decide)), u2_f (nn _ (by decide))]
      exact eS f i (nn _ (by decide)) (nn _ (by decide)) (nn _ (by decide)) (nn _ (by decide)) (nn _ (by decide)) (nn _ (by decide))
    have ex : ∀ {L : List Nat}, L.all (fun f => !([f_Task_tries, f_Task_calls, f_Task_size, f_Task_words, f_Task_tags].elem f)) = true → EXX L X (pshX (cbX X o c (bsS S t (c - 1)) (qsS S t (c - 1)) r) o (bsS S t (c - 1)) x y) := by
      intro L hL f hf a i
      have := List.all_eq_true.mp hL f (by simpa using hf)
      simp only [Bool.not_eq_true'] at this
      have nn : ∀ g, [f_Task_tries, f_Task_calls, f_Task_size, f_Task_words, f_Task_tags].elem g = true → f ≠ g := by
        rintro g hg rfl; rw [hg] at this; cases this
      unfold pshX
      rw [u3_f (nn _ (by decide)), u3_f (nn _ (by decide)), u3_f (nn _ (by decide))]
      exact cb_o (fun z => z.2.elim (nn _ (by decide)) (fun z => z.elim (nn _ (by decide)) (nn _ (by decide))))
    have bn : bsS S t (c - 1) ≤ n := by omega
    have pl : PIL Γ (pshX (cbX X o c (bsS S t (c - 1)) (qsS S t (c - 1)) r) o (bsS S t (c - 1)) x y) (pshS (u2 (rtS S1 t c (bsS S t (c - 1)) (qsS S t (c - 1))) f_Md_top 0 ((200 * t + (c - 1) - 1 : Nat) : Int)) t (bsS S t (c - 1)) ty v) N o t (bsS S t (c - 1) + 1) := by
      refine PIL.psh ?_ (by omega) (ns3.vr vv)
      refine (K.2.2.2.2.2.1.le bn).ns ns3 (fun i _ => cb_o (fun z => absurd z.2 (by decide))) (fun i _ => cb_o (fun z => absurd z.2 (by decide))) (fun i _ => eS _ _ (by decide) (by decide) (by decide) (by decide) (by decide) (by decide)) (fun i _ => eS _ _ (by decide) (by decide) (by decide) (by decide) (by decide) (by decide))
    have A := K.cut (n' := bsS S t (c - 1) + 1) (c' := c - 1) (r' := qsS S t (c - 1)) (p' := psS S t (c - 1 - 1)) (by omega) ns4 (es (by decide)) (ex (by decide)) (by unfold pshX; rw [u3_f (by decide), u3_f (by decide), u3_f (by decide)]; exact cb_c) (by unfold pshS rtS; rw [u2_f (by decide), u2_f (by decide), u2_f (by decide), u2_f (by decide), u2_s]) (by unfold pshX; rw [u3_s]) (by unfold pshS; rw [u2_s]) (by omega) (by unfold pshX; rw [u3_f (by decide), u3_f (by decide), u3_f (by decide)]; exact cb_t (by omega) K.2.2.2.2.1.1) (by unfold pshS rtS; rw [u2_f (by decide), u2_f (by decide), u2_f (by decide), u2_f (by decide), u2_f (by decide), u2_s]) pl
      (fun i => by
        rw [show (pshX (cbX X o c (bsS S t (c - 1)) (qsS S t (c - 1)) r) o (bsS S t (c - 1)) x y) o f_Task_next i = X o f_Task_next i from ex (L := [f_Task_next]) (by decide) _ (by decide) _ _]
        by_cases w : i = c - 1 - 1
        · rw [if_pos w, w]; exact F2.2.1.2.1
        · rw [if_neg w])
      (fun i => by
        rw [show (pshS (u2 (rtS S1 t c (bsS S t (c - 1)) (qsS S t (c - 1))) f_Md_top 0 ((200 * t + (c - 1) - 1 : Nat) : Int)) t (bsS S t (c - 1)) ty v) f_Md_frameAt i = S f_Md_frameAt i from es (L := [f_Md_frameAt]) (by decide) _ (by decide) _]
        by_cases w : i = 200 * t + (c - 1 - 1)
        · rw [if_pos w, w]; exact F2.2.1.1
        · rw [if_neg w])
      (by omega) (by omega) u3' F2.2.1.2.2 (es (by decide)) (ex (by decide)) (by omega) (Or.inr (by omega))
    exact ⟨none, _, _, _, _, _, A, ns4, cb_nx.tr psh_nx, trivial, cr (fun z => absurd z c1) (fun _ => rfl), tr (fun z => absurd z c1) (fun _ => rfl)⟩
end
