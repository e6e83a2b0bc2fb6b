/-! T: what is done at a host's value -/
set_option maxRecDepth 20000
section
variable {ρ : Nat → Nat} {P : ah → Nat → Prop} {d : Nat} {Q : QT} {h h0 : ah} {T k n m f i j N M r a s rr mn sn tn row c t E pp x sz tm mb am ab sk rk y0 w l mk : Nat} {S S' S1 S2 SX X : SS} {g : HG} {v p y nm ty κ : Int} {L bs : List Int} {e : Option (Option AV)}
theorem trS_off : OFF [f_Md_trace, f_Md_traced] S (trS S w v y) := by unfold trS; exact ((OFF.rf.u (by decide)).u (by decide)).u (by decide)
theorem isS_off : OFF [f_Md_type, f_Md_value] S (isS S v y) := by unfold isS; exact (OFF.rf.u (by decide)).u (by decide)
theorem TDM.ans (W : HWF g N M) (Z : MTQ g N M m c) (e1 : S f_Md_traced 0 = (w : Int)) (h2 : w + 2 ≤ 100000) (nf : ffG g m < 0) (nt : ¬ g.1 8 m = 7) (pv : PVS S N rr E) (hE : E ≤ 8) (ee : S f_Md_es 0 = (E : Int)) (gv : S f_Md_goesType 0 = 7 → 0 ≤ S f_Md_goesValue 0 ∧ S f_Md_goesValue 0 < 8000 ∧ 0 ≤ S f_Md_thingClass (S f_Md_goesValue 0).toNat ∧ S f_Md_thingClass (S f_Md_goesValue 0).toNat < (N : Int)) : ∃ S1, OFF LWN S S1 ∧ TDM ρ g N M m S (some none) (isS (trS S1 w (m : Int) (E : Int)) (abV g S rr E (g.1 8 m) (smW S rr (m : Int) E)).1 (abV g S rr E (g.1 8 m) (smW S rr (m : Int) E)).2) := by
  obtain ⟨S1, f1, t1⟩ := s_dm141 (ρ := ρ) W Z e1 h2 ee (fun _ => nt)
  refine ⟨S1, f1, fun d h0 T Q K q => t1 d h0 T Q K (fun _ => ?_) (fun c => by omega) (fun c => by omega)⟩
  have o : OFF (LWN ++ [f_Md_trace, f_Md_traced]) S (trS S1 w (m : Int) (E : Int)) := (f1.le (by decide)).tr (trS_off.le (by decide))
  have go : ∀ f i, (LWN ++ [f_Md_trace, f_Md_traced]).elem f = false → trS S1 w (m : Int) (E : Int) f i = S f i := o
  have e5 : ∀ j, smW (trS S1 w (m : Int) (E : Int)) rr (m : Int) j = smW S rr (m : Int) j := fun j => by
    induction j with
    | zero => rfl
    | succ j ih => unfold smW; rw [ih, go _ _ (by decide), go _ _ (by decide)]
  have su : ∀ it ty v, suB g (trS S1 w (m : Int) (E : Int)) it ty v = suB g S it ty v := fun it ty v => by unfold suB; rw [go _ _ (by decide)]
  have af : ∀ it, abF g (trS S1 w (m : Int) (E : Int)) rr E it = abF g S rr E it := fun it => by
    unfold abF
    simp only [su, go f_Md_pileType _ (by decide), go f_Md_pileValue _ (by decide)]
  have e6 : abV g (trS S1 w (m : Int) (E : Int)) rr E (g.1 8 m) (smW (trS S1 w (m : Int) (E : Int)) rr (m : Int) E) = abV g S rr E (g.1 8 m) (smW S rr (m : Int) E) := by
    unfold abV
    rw [e5, af, su, go f_Md_goesType _ (by decide), go f_Md_goesValue _ (by decide)]
    simp only [go f_Md_pileType _ (by decide), go f_Md_pileValue _ (by decide)]
  have sa := s_answers (ρ := ρ) (S := trS S1 w (m : Int) (E : Int)) W Z.1 Z.2.2.2.2.2.2 (pv.ex (o.ex (by decide))) hE (by rw [go _ _ (by decide)]; exact ee) (by rw [go _ _ (by decide), go _ _ (by decide), go _ _ (by decide)]; exact gv)
  rw [e6] at sa
  exact sa (d + 56) h0 T _ K q
theorem FIQ.ex {Lx : List Nat} (H : FIQ g S N M k m i) (o : OFF Lx S S1) (e : [f_Md_goesValue, f_Md_thingClass, f_Md_thingFirst, f_Md_slotNext, f_Md_thingCount].all (fun f => !Lx.elem f) = true) : FIQ g S1 N M k m i := by
  have ee : ∀ f, [f_Md_goesValue, f_Md_thingClass, f_Md_thingFirst, f_Md_slotNext, f_Md_thingCount].elem f = true → Lx.elem f = false := fun f hf => by
    have := List.all_eq_true.mp e f (by simpa using hf)
    simpa using this
  refine ⟨H.1, fun z => ?_⟩
  obtain ⟨a1, a2, c, a3, a4, a5, a6⟩ := H.2 z
  exact ⟨by rw [o _ _ (ee _ (by decide))]; exact a1, a2, c, a3, by rw [o _ _ (ee _ (by decide))]; exact a4, a5, a6.off o (ee _ (by decide)) (ee _ (by decide)) (ee _ (by decide))⟩
theorem fv_off {Lx : List Nat} (o : OFF Lx S S1) (e : [f_Md_staticType, f_Md_staticValue, f_Md_slotType, f_Md_slotValue, f_Md_thingFirst, f_Md_slotNext].all (fun f => !Lx.elem f) = true) : fvT g S1 k m i = fvT g S k m i ∧ fvV g S1 k m i = fvV g S k m i := by
  have ee : ∀ f, [f_Md_staticType, f_Md_staticValue, f_Md_slotType, f_Md_slotValue, f_Md_thingFirst, f_Md_slotNext].elem f = true → Lx.elem f = false := fun f hf => by
    have := List.all_eq_true.mp e f (by simpa using hf)
    simpa using this
  unfold fvT fvV
  rw [slS_off o (ee _ (by decide)) (ee _ (by decide)), o _ _ (ee _ (by decide)), o _ _ (ee _ (by decide)), o _ _ (ee _ (by decide)), o _ _ (ee _ (by decide))]
  exact ⟨rfl, rfl⟩
theorem TDM.rd (W : HWF g N M) (Z : MTQ g N M m c) (e1 : S f_Md_traced 0 = (w : Int)) (h2 : w + 2 ≤ 100000) (ef : ffG g m = (f : Int)) (nt : ¬ g.1 8 m = 0) (ee : S f_Md_es 0 = y) (H : FIQ g S N M k f i) : ∃ S1 S2, OFF LWN S S1 ∧ OFF LFD (trS S1 w (m : Int) y) S2 ∧ TDM ρ g N M m S (some none) (isS S2 (fvT g S k f i) (fvV g S k f i)) := by
  obtain ⟨S1, f1, t1⟩ := s_dm141 (ρ := ρ) W Z e1 h2 ee (fun c => by omega)
  have o : OFF (LWN ++ [f_Md_trace, f_Md_traced]) S (trS S1 w (m : Int) y) := (f1.le (by decide)).tr (trS_off.le (by decide))
  obtain ⟨S2, f2, t2⟩ := s_rfield (ρ := ρ) (S := trS S1 w (m : Int) y) W (H.ex o (by decide))
  have fv := fv_off (g := g) (k := k) (m := f) (i := i) o (by decide)
  rw [fv.1, fv.2] at t2
  refine ⟨S1, S2, f1, f2, fun d h0 T Q K q => t1 d h0 T Q K (fun c => by omega) (fun _ _ => ?_) (fun _ c => absurd c nt)⟩
  rw [ef]
  exact t2 (d + 56) h0 T _ K q
theorem TDM.wr (W : HWF g N M) (Z : MTQ g N M m c) (e1 : S f_Md_traced 0 = (w : Int)) (h2 : w + 2 ≤ 100000) (ef : ffG g m = (f : Int)) (nt : g.1 8 m = 0) (ee : S f_Md_es 0 = y) (er : S f_Md_r 0 = (rr : Int)) (hr : rr + 1 < 4200) (H : FIQ g S N M k f i) : ∃ S1 S2, OFF LWN S S1 ∧ OFF LFD (trS S1 w (m : Int) y) S2 ∧ TDM ρ g N M m S (some none) (isS (fwS g S2 k f i (S f_Md_pileType (rr + 1)) (S f_Md_pileValue (rr + 1))) 0 0) := by
  obtain ⟨S1, f1, t1⟩ := s_dm141 (ρ := ρ) W Z e1 h2 ee (fun c => by omega)
  have o : OFF (LWN ++ [f_Md_trace, f_Md_traced]) S (trS S1 w (m : Int) y) := (f1.le (by decide)).tr (trS_off.le (by decide))
  obtain ⟨S2, f2, t2⟩ := s_wfield (ρ := ρ) (S := trS S1 w (m : Int) y) (ty := S f_Md_pileType (rr + 1)) (v := S f_Md_pileValue (rr + 1)) W (H.ex o (by decide))
  refine ⟨S1, S2, f1, f2, fun d h0 T Q K q => t1 d h0 T Q K (fun c => by omega) (fun _ c => absurd nt c) (fun _ _ => ⟨rr, er, hr, ?_⟩)⟩
  rw [ef]
  exact t2 (d + 56) h0 T _ K ⟨K.1.1.1, s_is K.1.1 q⟩
/-- what is known when something is done at a host's value -/
def AHQ (S : SS) (s m : Nat) (κ : Int) : Prop := s < 4000 ∧ S f_Md_siteKind s = κ ∧ (S f_Md_foundLinker 0 = 1 ∨ S f_Md_foundLinker 0 = 2) ∧ S f_Md_foundWhich 0 = (m : Int)
theorem TAC.host (hs : AHQ S s m κ) (he : e = none ∨ e = some none) (H : TC ρ (PTO ρ g N M) 197 m_Md_actsOnHost 0 [(1, vI κ)] [] S e S') : TAC ρ g N M s S e S' := fun d h0 T Q K q => by
  obtain ⟨a1, a2, a3, a4⟩ := hs
  have kT := K.1.1.1
  have G := K.1.1.2.1
  have b1 : 0 ≤ (s : Int) ∧ (s : Int) < ((4000 : Nat) : Int) := by omega
  have g1 := H d h0 T _ K (cV_oT he K.1.1.kh q)
  have n0 : ¬ S f_Md_foundLinker 0 = 0 := by omega
  have n3 : ¬ S f_Md_foundLinker 0 = 3 := by omega
  clear H
  refine b_Md_acts_0 ?_
  simp (decide := true) (disch := first | decide | omega) only [cnI, cnR, cnK, cnl, cnA' G, kT, KN G, LN G, a2, n0, n3, Int.toNat_natCast, true_and, and_true, not_true_eq_false, not_false_eq_true, false_implies, forall_const]
  exact ⟨b1, g1⟩
/-- the front -/
theorem s_ah0 (K : PTO ρ g N M h0 T) (hm : m < M) (ew : S f_Md_foundWhich 0 = (m : Int)) (qd : ¬ g.1 6 m = 0 → wpB PGm ρ (d + 60) m_Md_doesMember 0 [(0, vR T), (1, vI (m : Int))] [] (cn h0 T S) (cV (fun h11 => ((¬ κ = 1 → wpB PGm ρ (d + 61) m_Md_actsOnHost 147 [(0, vR T)] [] h11 Q) ∧ (κ = 1 → hK h11 T = k_Md ∧ (hK h11 (hR h11 f_Md_pileType T) ∈ [1, 11] ∧ 0 ≤ (w32 ((hI h11 f_Md_r T) + 1)) ∧ (w32 ((hI h11 f_Md_r T) + 1)) < (hl h11 (hR h11 f_Md_pileType T) : Int)) ∧ (hK h11 (hR h11 f_Md_pileValue T) ∈ [2] ∧ 0 ≤ (w32 ((hI h11 f_Md_r T) + 1)) ∧ (w32 ((hI h11 f_Md_r T) + 1)) < (hl h11 (hR h11 f_Md_pileValue T) : Int)) ∧ wpB PGm ρ (d + 60) m_Md_is 0 [(0, vR T), (1, vI (hA h11 (hR h11 f_Md_pileType T) (w32 ((hI h11 f_Md_r T) + 1)).toNat)), (2, vL (hA h11 (hR h11 f_Md_pileValue T) (w32 ((hI h11 f_Md_r T) + 1)).toNat))] [] h11 (cV (fun h24 => wpB PGm ρ (d + 61) m_Md_actsOnHost 147 [(0, vR T)] [] h24 Q) (fun e27 h26 => hK h26 e27 ≠ 0 ∧ Q (Sum.inr e27) h26))))) (fun e14 h13 => hK h13 e14 ≠ 0 ∧ Q (Sum.inr e14) h13))) (qr : g.1 6 m = 0 → κ = 0 → wpB PGm ρ (d + 60) m_Md_readsFieldOf 0 [(0, vR T), (1, vI (m : Int))] [] (cn h0 T S) (cV (fun h69 => hK h69 T = k_Md ∧ wpB PGm ρ (d + 60) m_Md_gives 0 [(0, vR T), (1, vI (hI h69 f_Md_type T)), (2, vL (hI h69 f_Md_value T))] [] h69 (cV (fun h78 => Q (Sum.inl none) h78) (fun e81 h80 => hK h80 e81 ≠ 0 ∧ Q (Sum.inr e81) h80))) (fun e72 h71 => hK h71 e72 ≠ 0 ∧ Q (Sum.inr e72) h71))) (qw : g.1 6 m = 0 → ¬ κ = 0 → ∃ rr : Nat, S f_Md_r 0 = (rr : Int) ∧ rr + 1 < 4200 ∧ wpB PGm ρ (d + 60) m_Md_typeOf 0 [(0, vR T), (1, vI (S f_Md_pileType (rr + 1))), (2, vL (S f_Md_pileValue (rr + 1)))] [] (cn h0 T S) (cI (fun x40 h35 => hK h35 T = k_Md ∧ hK h35 (hR h35 f_Md_host T) = k_MdHost ∧ (hK h35 (hR h35 f_MdHost_type (hR h35 f_Md_host T)) ∈ [1, 11] ∧ 0 ≤ (m : Int) ∧ (m : Int) < (hl h35 (hR h35 f_MdHost_type (hR h35 f_Md_host T)) : Int)) ∧ wpB PGm ρ (d + 60) m_Md_loose 0 [(0, vR T), (1, vI x40), (2, vI (hA h35 (hR h35 f_MdHost_type (hR h35 f_Md_host T)) m))] [] h35 (cI (fun x52 h47 => ((¬ x52 = 0 → wpB PGm ρ (d + 61) m_Md_actsOnHost 95 [(0, vR T), (2, vI (m : Int)), (3, vI (S f_Md_pileType (rr + 1))), (4, vL (S f_Md_pileValue (rr + 1)))] [] h47 Q) ∧ (x52 = 0 → hK h47 T = k_Md ∧ wpB PGm ρ (d + 60) m_Md_error 0 [(0, vR T), (1, vI 7)] [] h47 (cV (fun h59 => wpB PGm ρ (d + 61) m_Md_actsOnHost 95 [(0, vR T), (2, vI (m : Int)), (3, vI (S f_Md_pileType (rr + 1))), (4, vL (S f_Md_pileValue (rr + 1)))] [] h59 Q) (fun e62 h61 => hK h61 e62 ≠ 0 ∧ Q (Sum.inr e62) h61))))) (fun e50 h49 => hK h49 e50 ≠ 0 ∧ Q (Sum.inr e50) h49))) (fun e38 h37 => hK h37 e38 ≠ 0 ∧ Q (Sum.inr e38) h37))) : wpB PGm ρ (d + 61) m_Md_actsOnHost 0 [(0, vR T), (1, vI κ)] [] (cn h0 T S) Q := by
  have O := K.1.1
  have kT := O.1
  have G := O.2.1
  obtain ⟨⟨a1, a2, -⟩, ⟨-, r6, -⟩, m4⟩ := K.mem hm
  have tA := tAH (S := S) O a2
  have tK := tKH a2.1
  have tL := tLH a2.1
  have kk := a2.2
  by_cases w0 : g.1 6 m = 0
  · rw [w0] at r6
    by_cases k0 : κ = 0
    · have q := qr w0 k0
      refine b_Md_actsOnHost_0 (d := d + 60) ?_
      clear qd qr qw
      simp (decide := true) (disch := first | decide | omega) only [cnI, cnR, cnK, cnl, kT, kk, tA, tK, tL, r6, ew, k0, Int.toNat_natCast, true_and, and_true, not_true_eq_false, false_implies, forall_const]
      exact ⟨m4, q⟩
    · obtain ⟨rr, er, hr, q⟩ := qw w0 k0
      have b1 : 0 ≤ ((rr + 1 : Nat) : Int) ∧ ((rr + 1 : Nat) : Int) < ((4200 : Nat) : Int) := by omega
      have m1 : rr ≤ 2000000000 := by omega
      have y1 : w32 ((rr : Int) + 1) = ((rr + 1 : Nat) : Int) := w32_p1 m1
      refine b_Md_actsOnHost_0 (d := d + 60) ?_
      clear qd qr qw
      simp (decide := true) (disch := first | decide | omega) only [cnI, cnR, cnK, cnl, cnA' G, kT, kk, KN G, LN G, tA, tK, tL, r6, ew, er, y1, k0, Int.toNat_natCast, true_and, and_true, not_true_eq_false, not_false_eq_true, false_implies, forall_const]
      exact ⟨m4, b1, b1, q⟩
  · have q := qd w0
    refine b_Md_actsOnHost_0 (d := d + 60) ?_
    clear qd qr qw
    simp (decide := true) (disch := first | decide | omega) only [cnI, cnR, cnK, cnl, kT, kk, tA, tK, tL, r6, ew, w0, Int.toNat_natCast, true_and, and_true, not_false_eq_true, false_implies, forall_const]
    exact ⟨m4, q⟩
theorem TAC.fread (W : HWF g N M) (hs : AHQ S s m κ) (w0 : g.1 6 m = 0) (k0 : κ = 0) (Fq : FIQ g S N M k m i) (H : GFR S t n c rr x pp) : ∃ S1, OFF LFD S S1 ∧ TAC ρ g N M s S (some none) (gvS (isS S1 (fvT g S k m i) (fvV g S k m i)) t x c pp (fvT g S k m i) (fvV g S k m i)) := by
  obtain ⟨S1, f1, t1⟩ := s_rfield (ρ := ρ) W Fq
  refine ⟨S1, f1, TAC.host hs (Or.inr rfl) (fun d h0 T Q K q => s_ah0 (d := d + 136) K Fq.1 hs.2.2.2 (fun c => absurd w0 c) (fun _ _ => t1 (d + 193) h0 T _ K ⟨K.1.1.1, ?_⟩) (fun _ c => absurd k0 c))⟩
  have o : OFF (LFD ++ [f_Md_type, f_Md_value]) S (isS S1 (fvT g S k m i) (fvV g S k m i)) := (f1.le (by decide)).tr (isS_off.le (by decide))
  have t2 : isS S1 (fvT g S k m i) (fvV g S k m i) f_Md_type 0 = fvT g S k m i := by unfold isS; rw [u2_f (by decide), u2_s]
  have t3 : isS S1 (fvT g S k m i) (fvV g S k m i) f_Md_value 0 = fvV g S k m i := by unfold isS; rw [u2_s]
  rw [cnI (by decide), cnI (by decide), t2, t3]
  exact s_gives (d := d + 194) K.1.1 (H.ex (o.ex (by decide))) q
theorem s_fwr (W : HWF g N M) (hs : AHQ S s m κ) (w0 : g.1 6 m = 0) (k0 : ¬ κ = 0) (Fq : FIQ g S N M k m i) (ht : 0 ≤ g.1 8 m ∧ g.1 8 m < 9 + (N : Int)) (er : S f_Md_r 0 = (rr : Int)) (pv : PVS S N rr 1) (K : PTO ρ g N M h0 T) (q7 : ¬ loB g (tyT S (S f_Md_pileType (rr + 1)) (S f_Md_pileValue (rr + 1))) (g.1 8 m) = true → Q (Sum.inr (hR h0 f_Md_halt T)) (cn h0 T (erS S 7))) (q1 : loB g (tyT S (S f_Md_pileType (rr + 1)) (S f_Md_pileValue (rr + 1))) (g.1 8 m) = true → wpB PGm ρ (d + 70) m_Md_actsOnHost 95 [(0, vR T), (2, vI (m : Int)), (3, vI (S f_Md_pileType (rr + 1))), (4, vL (S f_Md_pileValue (rr + 1)))] [] (cn h0 T S) Q) : wpB PGm ρ (d + 70) m_Md_actsOnHost 0 [(0, vR T), (1, vI κ)] [] (cn h0 T S) Q := by
  have O := K.1.1
  have kT := O.1
  obtain ⟨⟨a1, a2, -⟩, ⟨-, -, -, r8, -⟩, m4⟩ := K.mem Fq.1
  have tA := tAH (S := S) O a2
  have tK := tKH a2.1
  have tL := tLH a2.1
  have kk := a2.2
  obtain ⟨p1, p2, p3, p4⟩ := pv
  obtain ⟨V, hc⟩ := p4 0 (by decide)
  rw [Nat.add_zero] at V hc
  have tb := tyT_b V hc
  refine s_ah0 (d := d + 9) K Fq.1 hs.2.2.2 (fun c => absurd w0 c) (fun _ c => absurd c k0) (fun _ _ => ⟨rr, er, by omega, ?_⟩)
  refine s_typeOf O V p3 hc W.2.2.2.2.1 ⟨kT, kk, ?_⟩
  have k6 : hA (cn h0 T S) (hR (cn h0 T S) f_MdHost_type (hR (cn h0 T S) f_Md_host T)) m = g.1 8 m := by simp (decide := true) (disch := first | decide | omega) only [cnR, tA, r8]
  have l6 : hl (cn h0 T S) (hR (cn h0 T S) f_MdHost_type (hR (cn h0 T S) f_Md_host T)) = 400 := by simp (decide := true) (disch := first | decide | omega) only [cnR, cnl, tL]
  have kk6 : hK (cn h0 T S) (hR (cn h0 T S) f_MdHost_type (hR (cn h0 T S) f_Md_host T)) ∈ [1, 11] := by simp (decide := true) (disch := first | decide | omega) only [cnR, cnK, tK]
  rw [k6, l6]
  refine ⟨⟨kk6, m4⟩, s_loose (d := d + 67) K (by omega) ht.2 (fun z => ⟨fun _ => q1 z, fun c => absurd c (by decide)⟩) (fun z => ⟨fun c => absurd rfl c, fun _ => ⟨kT, s_error (d := d + 68) O ⟨O.kh, q7 z⟩⟩⟩)⟩
theorem TAC.fwr7 (W : HWF g N M) (hs : AHQ S s m κ) (w0 : g.1 6 m = 0) (k0 : ¬ κ = 0) (Fq : FIQ g S N M k m i) (ht : 0 ≤ g.1 8 m ∧ g.1 8 m < 9 + (N : Int)) (er : S f_Md_r 0 = (rr : Int)) (pv : PVS S N rr 1) (nl : ¬ loB g (tyT S (S f_Md_pileType (rr + 1)) (S f_Md_pileValue (rr + 1))) (g.1 8 m) = true) : TAC ρ g N M s S none (erS S 7) := TAC.host hs (Or.inl rfl) (fun d h0 T Q K q => s_fwr (d := d + 127) W hs w0 k0 Fq ht er pv K (fun _ => q) (fun c => absurd c nl))
theorem TAC.fwr (W : HWF g N M) (hs : AHQ S s m κ) (w0 : g.1 6 m = 0) (k0 : ¬ κ = 0) (Fq : FIQ g S N M k m i) (ht : 0 ≤ g.1 8 m ∧ g.1 8 m < 9 + (N : Int)) (er : S f_Md_r 0 = (rr : Int)) (pv : PVS S N rr 1) (nl : loB g (tyT S (S f_Md_pileType (rr + 1)) (S f_Md_pileValue (rr + 1))) (g.1 8 m) = true) (H : GFR S t n c rr x pp) : ∃ S1, OFF LFD S S1 ∧ TAC ρ g N M s S (some none) (gvS (fwS g S1 k m i (S f_Md_pileType (rr + 1)) (S f_Md_pileValue (rr + 1))) t x c pp (S f_Md_pileType (rr + 1)) (S f_Md_pileValue (rr + 1))) := by
  obtain ⟨S1, f1, t1⟩ := s_wfield (ρ := ρ) (ty := S f_Md_pileType (rr + 1)) (v := S f_Md_pileValue (rr + 1)) W Fq
  refine ⟨S1, f1, TAC.host hs (Or.inr rfl) (fun d h0 T Q K q => s_fwr (d := d + 127) W hs w0 k0 Fq ht er pv K (fun c => absurd nl c) (fun _ => b_Md_actsOnHost_95 ⟨K.1.1.1, t1 (d + 193) h0 T _ K ⟨K.1.1.1, s_gives (d := d + 194) (rr := rr) (n := n) K.1.1 ?_ q⟩⟩))⟩
  have o : OFF (LFD ++ [f_Md_staticType, f_Md_staticValue, f_Md_slotType, f_Md_slotValue]) S (fwS g S1 k m i (S f_Md_pileType (rr + 1)) (S f_Md_pileValue (rr + 1))) := by
    unfold fwS
    split
    · exact ((f1.le (by decide)).u (by decide)).u (by decide)
    · exact ((f1.le (by decide)).u (by decide)).u (by decide)
  exact H.ex (o.ex (by decide))
theorem TAC.does0 (hs : AHQ S s m κ) (hm : m < M) (w0 : ¬ g.1 6 m = 0) (D : TDM ρ g N M m S none S') : TAC ρ g N M s S none S' := TAC.host hs (Or.inl rfl) (fun d h0 T Q K q => s_ah0 (d := d + 136) K hm hs.2.2.2 (fun _ => D (d + 136) h0 T _ K ⟨K.1.1.kh, q⟩) (fun c => absurd c w0) (fun c => absurd c w0))
theorem TAC.does (hs : AHQ S s m κ) (hm : m < M) (w0 : ¬ g.1 6 m = 0) (D : TDM ρ g N M m S (some none) S1) (k1 : ¬ κ = 1) (H : GFR S1 t n c rr x pp) : TAC ρ g N M s S (some none) (gvS S1 t x c pp (S1 f_Md_type 0) (S1 f_Md_value 0)) := TAC.host hs (Or.inr rfl) (fun d h0 T Q K q => s_ah0 (d := d + 136) K hm hs.2.2.2 (fun _ => D (d + 136) h0 T _ K ⟨fun _ => b_Md_actsOnHost_147 ⟨K.1.1.1, by
    rw [cnI (by decide), cnI (by decide)]
    exact s_gives (d := d + 194) K.1.1 H q⟩, fun c => absurd c k1⟩) (fun c => absurd c w0) (fun c => absurd c w0))
theorem TAC.doesW (hs : AHQ S s m κ) (hm : m < M) (w0 : ¬ g.1 6 m = 0) (D : TDM ρ g N M m S (some none) S1) (k1 : κ = 1) (H : GFR S1 t n c rr x pp) (hr : rr + 1 < 4200) : TAC ρ g N M s S (some none) (gvS (isS S1 (S1 f_Md_pileType (rr + 1)) (S1 f_Md_pileValue (rr + 1))) t x c pp (S1 f_Md_pileType (rr + 1)) (S1 f_Md_pileValue (rr + 1))) := TAC.host hs (Or.inr rfl) (fun d h0 T Q K q => s_ah0 (d := d + 136) K hm hs.2.2.2 (fun _ => D (d + 136) h0 T _ K ⟨fun c => absurd k1 c, fun _ => by
    have O := K.1.1
    have kT := O.1
    have G := O.2.1
    have er := H.2.2.1
    have b1 : 0 ≤ ((rr + 1 : Nat) : Int) ∧ ((rr + 1 : Nat) : Int) < ((4200 : Nat) : Int) := by omega
    have m1 : rr ≤ 2000000000 := by omega
    have o := isS_off (S := S1) (v := S1 f_Md_pileType (rr + 1)) (y := S1 f_Md_pileValue (rr + 1))
    have t2 : isS S1 (S1 f_Md_pileType (rr + 1)) (S1 f_Md_pileValue (rr + 1)) f_Md_type 0 = S1 f_Md_pileType (rr + 1) := by unfold isS; rw [u2_f (by decide), u2_s]
    have t3 : isS S1 (S1 f_Md_pileType (rr + 1)) (S1 f_Md_pileValue (rr + 1)) f_Md_value 0 = S1 f_Md_pileValue (rr + 1) := by unfold isS; rw [u2_s]
    have gi : wpB PGm ρ (d + 196) m_Md_is 0 [(0, vR T), (1, vI (S1 f_Md_pileType (rr + 1))), (2, vL (S1 f_Md_pileValue (rr + 1)))] [] (cn h0 T S1) (cV (fun h24 => wpB PGm ρ (d + 197) m_Md_actsOnHost 147 [(0, vR T)] [] h24 Q) (fun e27 h26 => hK h26 e27 ≠ 0 ∧ Q (Sum.inr e27) h26)) := s_is O (b_Md_actsOnHost_147 ⟨kT, by
      rw [cnI (by decide), cnI (by decide), t2, t3]
      exact s_gives (d := d + 194) O (H.ex (o.ex (by decide))) q⟩)
    have y1 : w32 ((rr : Int) + 1) = ((rr + 1 : Nat) : Int) := w32_p1 m1
    clear q H D t2 t3 o
    simp (decide := true) (disch := first | decide | omega) only [cnI, cnR, cnK, cnl, cnA' G, kT, KN G, LN G, er, y1, Int.toNat_natCast, true_and, and_true]
    exact ⟨b1, b1, gi⟩⟩) (fun c => absurd c w0) (fun c => absurd c w0))
end
