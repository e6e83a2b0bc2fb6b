/-! T: a slot is added -/
set_option maxRecDepth 20000
/-- the slot sk is thing k's; it has m already -/
def adsS (S : SS) (k sk rk m : Nat) (nm ty v : Int) : SS :=
  u2 (u2 (if m = 0 then u2 (u2 (u2 (u2 (u2 (u2 (u2 S f_Md_slots 0 ((sk + 1 : Nat) : Int)) f_Md_allSlots 0 ((rk + 1 : Nat) : Int)) f_Md_slotType sk ty) f_Md_slotValue sk v) f_Md_slotName sk nm) f_Md_slotNext sk (-1)) f_Md_thingFirst k (sk : Int) else u2 (u2 (u2 (u2 (u2 (u2 (u2 S f_Md_slots 0 ((sk + 1 : Nat) : Int)) f_Md_allSlots 0 ((rk + 1 : Nat) : Int)) f_Md_slotType sk ty) f_Md_slotValue sk v) f_Md_slotName sk nm) f_Md_slotNext sk (-1)) f_Md_slotNext (S f_Md_thingLast k).toNat (sk : Int)) f_Md_thingLast k (sk : Int)) f_Md_thingCount k ((m + 1 : Nat) : Int)
def LAS : List Nat := [f_Md_slots, f_Md_allSlots, f_Md_slotType, f_Md_slotValue, f_Md_slotName, f_Md_slotNext, f_Md_thingFirst, f_Md_thingLast, f_Md_thingCount]
section
variable {ρ : Nat → Nat} {d : Nat} {h h' h0 : ah} {Q : QT} {T k f g n c t i j x p tn mk sk rk m : Nat} {op a b v w kd nm ty : Int} {S X : SS}
theorem s_addSlot (O : TOK h0 T) (e1 : S f_Md_slots 0 = (sk : Int)) (hs : sk < 60000) (e2 : S f_Md_allSlots 0 = (rk : Int)) (hr : rk ≤ 60000) (hk : k < 8000) (e3 : S f_Md_thingCount k = (m : Int)) (hm : m ≤ 60000) (e4 : m ≠ 0 → S f_Md_thingLast k = (x : Int) ∧ x < 60000) (q : Q (Sum.inl none) (cn h0 T (adsS S k sk rk m nm ty v))) : wpB PGm ρ d m_Md_addSlot 0 [(0, vR T), (1, vI (k : Int)), (2, vI nm), (3, vI ty), (4, vL v)] [] (cn h0 T S) Q := by
  obtain ⟨kT, G, kH⟩ := O
  have z0 : ((m : Int) = 0) = (m = 0) := by apply propext; omega
  refine b_Md_addSlot_0 ?_
  simp (decide := true) (disch := first | decide | omega) only [cnI, cnIe, cnR, cnK, cnl, cnA' G, cn_sI, cn_sIe, cn_sA' G, kT, kH, KN G, LN G, u2_f, u2_s, w32_aa, w32_ss, w32_p1, w32_m1, Int.toNat_natCast, true_and, and_true, false_and, and_false, or_false, false_or, ne_eq, not_false_eq_true, forall_const, implies_true, not_true_eq_false, false_implies, e1, e2, e3, z0]
  refine ⟨by omega, by omega, by omega, by omega, by omega, fun z => ?_, fun z => ?_⟩
  · obtain ⟨y1, y2⟩ := e4 z
    simp (decide := true) (disch := first | decide | omega) only [cnI, cnIe, cnR, cnK, cnl, cnA' G, cn_sI, cn_sIe, cn_sA' G, kT, kH, KN G, LN G, u2_f, u2_s, w32_aa, w32_ss, w32_p1, w32_m1, Int.toNat_natCast, true_and, and_true, false_and, and_false, or_false, false_or, ne_eq, not_false_eq_true, forall_const, implies_true, not_true_eq_false, false_implies, y1]
    refine ⟨by omega, by omega, ?_⟩
    refine b_Md_addSlot_92 ?_
    simp (decide := true) (disch := first | decide | omega) only [cnI, cnIe, cnR, cnK, cnl, cnA' G, cn_sI, cn_sIe, cn_sA' G, kT, kH, KN G, LN G, u2_f, u2_s, w32_aa, w32_ss, w32_p1, w32_m1, Int.toNat_natCast, true_and, and_true, false_and, and_false, or_false, false_or, ne_eq, not_false_eq_true, forall_const, implies_true, not_true_eq_false, false_implies, e3]
    refine ⟨by omega, by omega, by omega, ?_⟩
    unfold adsS at q
    rw [if_neg z, y1, Int.toNat_natCast] at q
    exact q
  · refine ⟨by omega, ?_⟩
    refine b_Md_addSlot_92 ?_
    simp (decide := true) (disch := first | decide | omega) only [cnI, cnIe, cnR, cnK, cnl, cnA' G, cn_sI, cn_sIe, cn_sA' G, kT, kH, KN G, LN G, u2_f, u2_s, w32_aa, w32_ss, w32_p1, w32_m1, Int.toNat_natCast, true_and, and_true, false_and, and_false, or_false, false_or, ne_eq, not_false_eq_true, forall_const, implies_true, not_true_eq_false, false_implies, e3]
    refine ⟨by omega, by omega, by omega, ?_⟩
    unfold adsS at q
    rw [if_pos z] at q
    exact q
theorem adsS_o (e : LAS.elem f = false) : adsS S k sk rk m nm ty v f i = S f i := by
  have nn : ∀ g, LAS.elem g = true → f ≠ g := by rintro g hg rfl; rw [hg] at e; cases e
  unfold adsS
  rw [u2_f (nn _ (by decide)), u2_f (nn _ (by decide))]
  split <;> rw [u2_f (nn _ (by decide)), u2_f (nn _ (by decide)), u2_f (nn _ (by decide)), u2_f (nn _ (by decide)), u2_f (nn _ (by decide)), u2_f (nn _ (by decide)), u2_f (nn _ (by decide))]
theorem adsS_1 : adsS S k sk rk m nm ty v f_Md_slots 0 = ((sk + 1 : Nat) : Int) ∧ adsS S k sk rk m nm ty v f_Md_allSlots 0 = ((rk + 1 : Nat) : Int) ∧ adsS S k sk rk m nm ty v f_Md_thingCount k = ((m + 1 : Nat) : Int) ∧ adsS S k sk rk m nm ty v f_Md_thingLast k = (sk : Int) ∧ adsS S k sk rk m nm ty v f_Md_thingFirst k = (if m = 0 then (sk : Int) else S f_Md_thingFirst k) ∧ adsS S k sk rk m nm ty v f_Md_slotType sk = ty ∧ adsS S k sk rk m nm ty v f_Md_slotValue sk = v ∧ adsS S k sk rk m nm ty v f_Md_slotName sk = nm := by
  unfold adsS
  by_cases z : m = 0
  · rw [if_pos z, if_pos z]
    refine ⟨?_, ?_, ?_, ?_, ?_, ?_, ?_, ?_⟩ <;> simp (decide := true) (disch := first | decide | omega) only [u2_f, u2_s]
  · rw [if_neg z, if_neg z]
    refine ⟨?_, ?_, ?_, ?_, ?_, ?_, ?_, ?_⟩ <;> simp (decide := true) (disch := first | decide | omega) only [u2_f, u2_s]
/-- rows of other things -/
theorem adsS_t (hf : LTT.elem f = true) (hj : j ≠ k) : adsS S k sk rk m nm ty v f j = S f j := by
  have nn : f ≠ f_Md_slots ∧ f ≠ f_Md_allSlots ∧ f ≠ f_Md_slotType ∧ f ≠ f_Md_slotValue ∧ f ≠ f_Md_slotName ∧ f ≠ f_Md_slotNext := by refine ⟨?_, ?_, ?_, ?_, ?_, ?_⟩ <;> (rintro rfl; revert hf; decide)
  obtain ⟨n1, n2, n3, n4, n5, n6⟩ := nn
  unfold adsS
  rw [u2_e, if_neg (fun c => hj c.2), u2_e, if_neg (fun c => hj c.2)]
  split
  · rw [u2_e, if_neg (fun c => hj c.2), u2_f n6, u2_f n5, u2_f n4, u2_f n3, u2_f n2, u2_f n1]
  · rw [u2_f n6, u2_f n6, u2_f n5, u2_f n4, u2_f n3, u2_f n2, u2_f n1]
theorem adsS_l (hf : LSL.elem f = true) (hj : j ≠ sk) (hj2 : m ≠ 0 → f = f_Md_slotNext → j ≠ (S f_Md_thingLast k).toNat) : adsS S k sk rk m nm ty v f j = S f j := by
  have nn : f ≠ f_Md_slots ∧ f ≠ f_Md_allSlots ∧ f ≠ f_Md_thingFirst ∧ f ≠ f_Md_thingLast ∧ f ≠ f_Md_thingCount := by refine ⟨?_, ?_, ?_, ?_, ?_⟩ <;> (rintro rfl; revert hf; decide)
  obtain ⟨n1, n2, n3, n4, n5⟩ := nn
  unfold adsS
  rw [u2_f n5, u2_f n4]
  split
  · rw [u2_f n3, u2_e, if_neg (fun c => hj c.2), u2_e, if_neg (fun c => hj c.2), u2_e, if_neg (fun c => hj c.2), u2_e, if_neg (fun c => hj c.2), u2_f n2, u2_f n1]
  · next z => rw [u2_e, if_neg (fun c => hj2 z c.1 c.2), u2_e, if_neg (fun c => hj c.2), u2_e, if_neg (fun c => hj c.2), u2_e, if_neg (fun c => hj c.2), u2_e, if_neg (fun c => hj c.2), u2_f n2, u2_f n1]
theorem adsS_n (z : m ≠ 0) : adsS S k sk rk m nm ty v f_Md_slotNext (S f_Md_thingLast k).toNat = (sk : Int) := by
  unfold adsS
  rw [if_neg z, u2_f (by decide), u2_f (by decide), u2_s]
/-- slots of the thing -/
theorem adsS_s (hl : m ≠ 0 → S f_Md_thingLast k = (slS S k (m - 1) : Int)) (hd : ∀ i i', i < m → i' < m → slS S k i = slS S k i' → i = i') (hs : ∀ i, i < m → slS S k i < sk) : ∀ i, i ≤ m → slS (adsS S k sk rk m nm ty v) k i = if i = m then sk else slS S k i
  | 0, _ => by
    unfold slS
    rw [adsS_1.2.2.2.2.1]
    by_cases z : m = 0
    · rw [if_pos z, if_pos z.symm]; rfl
    · rw [if_neg z, if_neg (fun c => z c.symm)]
  | i + 1, hi => by
    have z : m ≠ 0 := by omega
    have ih := adsS_s hl hd hs i (by omega)
    rw [if_neg (by omega)] at ih
    have e : slS (adsS S k sk rk m nm ty v) k (i + 1) = (adsS S k sk rk m nm ty v f_Md_slotNext (slS S k i)).toNat := by
      show (adsS S k sk rk m nm ty v f_Md_slotNext (slS (adsS S k sk rk m nm ty v) k i)).toNat = _
      rw [ih]
    rw [e]
    have hlt := hs i (by omega)
    by_cases w : i + 1 = m
    · have : slS S k i = (S f_Md_thingLast k).toNat := by rw [hl z, Int.toNat_natCast]; congr 1; omega
      rw [if_pos w, this, adsS_n z, Int.toNat_natCast]
    · rw [if_neg w, adsS_l (by decide) (by omega) (fun _ _ c => ?_)]
      · rfl
      · rw [hl z, Int.toNat_natCast] at c
        have := hd _ _ (by omega) (by omega) c
        omega
end
