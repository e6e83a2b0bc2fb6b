/-! T: fields of hosts -/
set_option maxRecDepth 20000
def PLC (g : HG) (c m i : Nat) : Prop := i < (layG g c).length ∧ (layG g c).getD i 0 = m ∧ ∀ j, j < i → (layG g c).getD j 0 ≠ m
/-- where a field is -/
def FIQ (g : HG) (S : SS) (N M k m i : Nat) : Prop := m < M ∧ (g.1 7 m = 0 → S f_Md_goesValue 0 = (k : Int) ∧ k < 8000 ∧ ∃ c, c < N ∧ S f_Md_thingClass k = (c : Int) ∧ PLC g c m i ∧ SLG S k (layG g c).length)
def fvT (g : HG) (S : SS) (k m i : Nat) : Int := if g.1 7 m = 0 then S f_Md_slotType (slS S k i) else S f_Md_staticType m
def fvV (g : HG) (S : SS) (k m i : Nat) : Int := if g.1 7 m = 0 then S f_Md_slotValue (slS S k i) else S f_Md_staticValue m
def fwS (g : HG) (S : SS) (k m i : Nat) (ty v : Int) : SS := if g.1 7 m = 0 then u2 (u2 S f_Md_slotType (slS S k i) ty) f_Md_slotValue (slS S k i) v else u2 (u2 S f_Md_staticType m ty) f_Md_staticValue m v
section
variable {ρ : Nat → Nat} {P : ah → Nat → Prop} {d : Nat} {Q : QT} {Γ : GH} {h h0 : ah} {C ho T k n m f i j N M b r a s rr mn sn tn row c t E pp x sz tm mb am ab sk rk y0 : Nat} {S S' S1 S2 SX : SS} {X : X3} {Y : Y3} {g : HG} {l L bs ts : List Int} {v p y nm ty cnt κ hd w La bv el st LL bb iv : Int} {ls l2 : List ENT} {e : Option (Option AV)}
theorem slS_off {Lx : List Nat} (o : OFF Lx S S1) (e1 : Lx.elem f_Md_thingFirst = false) (e2 : Lx.elem f_Md_slotNext = false) : ∀ i, slS S1 k i = slS S k i := fun i => by
  induction i with
  | zero => show (S1 f_Md_thingFirst k).toNat = (S f_Md_thingFirst k).toNat; rw [o _ _ e1]
  | succ i ih => show (S1 f_Md_slotNext (slS S1 k i)).toNat = (S f_Md_slotNext (slS S k i)).toNat; rw [ih, o _ _ e2]
theorem SLG.off {Lx : List Nat} (H : SLG S k n) (o : OFF Lx S S1) (e1 : Lx.elem f_Md_thingFirst = false) (e2 : Lx.elem f_Md_slotNext = false) (e3 : Lx.elem f_Md_thingCount = false) : SLG S1 k n := by
  obtain ⟨a1, a2, a3, a4, a5, a6⟩ := H
  have se := slS_off (k := k) o e1 e2
  exact ⟨a1, a2, by rw [o _ _ e3]; exact a3, fun z => by rw [o _ _ e1]; exact a4 z, fun i hi => by rw [se]; exact a5 i hi, fun i hi => by rw [se, o _ _ e2]; exact a6 i hi⟩
theorem s_fslot (W : HWF g N M) (H : FIQ g S N M k m i) (st0 : g.1 7 m = 0) : ∃ S', OFF LFD S S' ∧ TC ρ (PTO ρ g N M) 2 m_Md_fieldSlot 0 [(1, vI (m : Int))] [] S (some (some (vI (slS S k i : Int)))) S' := by
  obtain ⟨w1, w2, w3, w4, w5, w6⟩ := W
  obtain ⟨hm, H⟩ := H
  obtain ⟨e1, k8, c, hc, e2, ⟨p1, p2, p3⟩, L⟩ := H st0
  obtain ⟨S', f1, -, t1⟩ := s_placeOf (ρ := ρ) (S := S) w1 w2 w4 w6 w5 hc p1 p2 p3
  refine ⟨S', f1, fun d h0 T Q K q => ?_⟩
  have O := K.1.1
  have kT := O.1
  have G := O.2.1
  have L' := L.off f1 (by decide) (by decide) (by decide)
  have se := slS_off (k := k) f1 (by decide) (by decide)
  have b1 : 0 ≤ (k : Int) ∧ (k : Int) < ((8000 : Nat) : Int) := by omega
  have y0 : w32 (k : Int) = (k : Int) := w32_of (by omega) (by omega)
  have sa : wpB PGm ρ (d + 1) m_Md_slotAt 0 [(0, vR T), (1, vI (k : Int)), (2, vI (i : Int))] [] (cn h0 T S') (cI (fun x18 h13 => Q (Sum.inl (some (vI x18))) h13) (fun e16 h15 => hK h15 e16 ≠ 0 ∧ Q (Sum.inr e16) h15)) := s_slotAt O L' p1 (by rw [se]; exact q)
  have tp := t1 d h0 T (cI (fun x10 h5 => hK h5 T = k_Md ∧ wpB PGm ρ (d + 1) m_Md_slotAt 0 [(0, vR T), (1, vI (k : Int)), (2, vI x10)] [] h5 (cI (fun x18 h13 => Q (Sum.inl (some (vI x18))) h13) (fun e16 h15 => hK h15 e16 ≠ 0 ∧ Q (Sum.inr e16) h15))) (fun e8 h7 => hK h7 e8 ≠ 0 ∧ Q (Sum.inr e8) h7)) K ⟨kT, sa⟩
  refine b_Md_fieldSlot_0 ?_
  clear t1 sa q L L' se p3
  simp (decide := true) (disch := first | decide | omega) only [cnI, cnR, cnK, cnl, cnA' G, kT, KN G, LN G, e1, e2, y0, Int.toNat_natCast, true_and, and_true]
  exact ⟨b1, tp⟩
/-- the rows of a member -/
theorem PTO.mem (K : PTO ρ g N M h0 T) (hm : m < M) : HRW h0 T (hR h0 f_Md_host T) g N M ∧ HRM h0 (hR h0 f_Md_host T) g m ∧ (0 ≤ (m : Int) ∧ (m : Int) < ((400 : Nat) : Int)) := by
  have H := K.pth.2
  obtain ⟨a1, a2, a3, a4, a5, a6, a7, a8⟩ := id H
  exact ⟨H, a8 m hm, by omega, by omega⟩
theorem s_rfield (W : HWF g N M) (H : FIQ g S N M k m i) : ∃ S', OFF LFD S S' ∧ TC ρ (PTO ρ g N M) 3 m_Md_readsFieldOf 0 [(1, vI (m : Int))] [] S (some none) (isS S' (fvT g S k m i) (fvV g S k m i)) := by
  by_cases st0 : g.1 7 m = 0
  · obtain ⟨S', f1, t1⟩ := s_fslot (ρ := ρ) W H st0
    refine ⟨S', f1, fun d h0 T Q K q => ?_⟩
    have O := K.1.1
    have kT := O.1
    have G := O.2.1
    obtain ⟨⟨a1, a2, -⟩, ⟨-, -, r3, -⟩, m4⟩ := K.mem H.1
    have tA := tAH (S := S) O a2
    have tK := tKH a2.1
    have tL := tLH a2.1
    have kk := a2.2
    obtain ⟨-, k8, c, hc, -, ⟨p1, p2, p3⟩, L⟩ := H.2 st0
    have sl := L.2.2.2.2.1 i p1
    have b3 : 0 ≤ (slS S k i : Int) ∧ (slS S k i : Int) < ((60000 : Nat) : Int) := by omega
    unfold fvT fvV at q
    rw [if_pos st0, if_pos st0] at q
    have x1 : S' f_Md_slotType (slS S k i) = S f_Md_slotType (slS S k i) := f1 _ _ (by decide)
    have x2 : S' f_Md_slotValue (slS S k i) = S f_Md_slotValue (slS S k i) := f1 _ _ (by decide)
    have gi := s_is (ρ := ρ) (d := d + 2) (S := S') (v := S f_Md_slotType (slS S k i)) (w := S f_Md_slotValue (slS S k i)) (Q := cV (fun h21 => Q (Sum.inl none) h21) (fun e24 h23 => hK h23 e24 ≠ 0 ∧ Q (Sum.inr e24) h23)) O q
    have tf := t1 d h0 T (cI (fun x16 h11 => hK h11 T = k_Md ∧ (hK h11 (hR h11 f_Md_slotType T) ∈ [1, 11] ∧ 0 ≤ x16 ∧ x16 < (hl h11 (hR h11 f_Md_slotType T) : Int)) ∧ (hK h11 (hR h11 f_Md_slotValue T) ∈ [2] ∧ 0 ≤ x16 ∧ x16 < (hl h11 (hR h11 f_Md_slotValue T) : Int)) ∧ wpB PGm ρ (d + 2) m_Md_is 0 [(0, vR T), (1, vI (hA h11 (hR h11 f_Md_slotType T) (x16).toNat)), (2, vL (hA h11 (hR h11 f_Md_slotValue T) (x16).toNat))] [] h11 (cV (fun h21 => Q (Sum.inl none) h21) (fun e24 h23 => hK h23 e24 ≠ 0 ∧ Q (Sum.inr e24) h23))) (fun e14 h13 => hK h13 e14 ≠ 0 ∧ Q (Sum.inr e14) h13)) K ⟨kT, by
      clear t1 L p3 q
      simp (decide := true) (disch := first | decide | omega) only [cnI, cnR, cnK, cnl, cnA' G, kT, KN G, LN G, x1, x2, Int.toNat_natCast, true_and, and_true]
      exact ⟨b3, b3, gi⟩⟩
    rw [st0] at r3
    refine b_Md_readsFieldOf_0 ?_
    clear t1 L p3 q gi f1 H W x1 x2
    simp (decide := true) (disch := first | decide | omega) only [cnI, cnR, cnK, cnl, kT, kk, tA, tK, tL, r3, Int.toNat_natCast, true_and, and_true, not_true_eq_false, false_implies, forall_const]
    exact ⟨m4, tf⟩
  · refine ⟨S, OFF.rf, fun d h0 T Q K q => ?_⟩
    have O := K.1.1
    have kT := O.1
    have G := O.2.1
    obtain ⟨⟨a1, a2, -⟩, ⟨-, -, r3, -⟩, m4⟩ := K.mem H.1
    have tA := tAH (S := S) O a2
    have tK := tKH a2.1
    have tL := tLH a2.1
    have kk := a2.2
    unfold fvT fvV at q
    rw [if_neg st0, if_neg st0] at q
    have gi := s_is (ρ := ρ) (d := d + 2) (S := S) (v := S f_Md_staticType m) (w := S f_Md_staticValue m) (Q := cV (fun h21 => Q (Sum.inl none) h21) (fun e24 h23 => hK h23 e24 ≠ 0 ∧ Q (Sum.inr e24) h23)) O q
    refine b_Md_readsFieldOf_0 ?_
    clear q H W
    simp (decide := true) (disch := first | decide | omega) only [cnI, cnR, cnK, cnl, cnA' G, kT, kk, tA, tK, tL, KN G, LN G, r3, st0, Int.toNat_natCast, true_and, and_true, not_false_eq_true, false_implies, forall_const]
    exact ⟨m4, m4, m4, gi⟩
theorem s_wfield (W : HWF g N M) (H : FIQ g S N M k m i) : ∃ S', OFF LFD S S' ∧ TC ρ (PTO ρ g N M) 3 m_Md_writesFieldOf 0 [(1, vI (m : Int)), (2, vI ty), (3, vL v)] [] S (some none) (fwS g S' k m i ty v) := by
  by_cases st0 : g.1 7 m = 0
  · obtain ⟨S', f1, t1⟩ := s_fslot (ρ := ρ) W H st0
    refine ⟨S', f1, fun d h0 T Q K q => ?_⟩
    have O := K.1.1
    have kT := O.1
    have G := O.2.1
    obtain ⟨⟨a1, a2, -⟩, ⟨-, -, r3, -⟩, m4⟩ := K.mem H.1
    have tA := tAH (S := S) O a2
    have tK := tKH a2.1
    have tL := tLH a2.1
    have kk := a2.2
    obtain ⟨-, k8, c, hc, -, ⟨p1, p2, p3⟩, L⟩ := H.2 st0
    have sl := L.2.2.2.2.1 i p1
    have b3 : 0 ≤ (slS S k i : Int) ∧ (slS S k i : Int) < ((60000 : Nat) : Int) := by omega
    unfold fwS at q
    rw [if_pos st0, slS_off (k := k) f1 (by decide) (by decide)] at q
    have tf := t1 d h0 T (cI (fun x16 h11 => hK h11 T = k_Md ∧ (hK h11 (hR h11 f_Md_slotType T) = 1 ∧ 0 ≤ x16 ∧ x16 < (hl h11 (hR h11 f_Md_slotType T) : Int)) ∧ let h19 := sA h11 (hR h11 f_Md_slotType T) (x16).toNat ty
(hK h19 (hR h19 f_Md_slotValue T) = 2 ∧ 0 ≤ x16 ∧ x16 < (hl h19 (hR h19 f_Md_slotValue T) : Int)) ∧ let h20 := sA h19 (hR h19 f_Md_slotValue T) (x16).toNat v
Q (Sum.inl none) h20) (fun e14 h13 => hK h13 e14 ≠ 0 ∧ Q (Sum.inr e14) h13)) K ⟨kT, by
      clear t1 L p3
      simp (decide := true) (disch := first | decide | omega) only [cnI, cnR, cnK, cnl, cnA' G, cn_sA' G, kT, KN G, LN G, Int.toNat_natCast, true_and, and_true]
      exact ⟨b3, b3, q⟩⟩
    rw [st0] at r3
    refine b_Md_writesFieldOf_0 ?_
    clear t1 L p3 q f1 H W
    simp (decide := true) (disch := first | decide | omega) only [cnI, cnR, cnK, cnl, kT, kk, tA, tK, tL, r3, Int.toNat_natCast, true_and, and_true, not_true_eq_false, false_implies, forall_const]
    exact ⟨m4, tf⟩
  · refine ⟨S, OFF.rf, fun d h0 T Q K q => ?_⟩
    have O := K.1.1
    have kT := O.1
    have G := O.2.1
    obtain ⟨⟨a1, a2, -⟩, ⟨-, -, r3, -⟩, m4⟩ := K.mem H.1
    have tA := tAH (S := S) O a2
    have tK := tKH a2.1
    have tL := tLH a2.1
    have kk := a2.2
    unfold fwS at q
    rw [if_neg st0] at q
    refine b_Md_writesFieldOf_0 ?_
    clear H W
    simp (decide := true) (disch := first | decide | omega) only [cnI, cnR, cnK, cnl, cnA' G, cn_sA' G, kT, kk, tA, tK, tL, KN G, LN G, r3, st0, Int.toNat_natCast, true_and, and_true, not_false_eq_true, false_implies, forall_const]
    exact ⟨m4, m4, m4, q⟩
end
