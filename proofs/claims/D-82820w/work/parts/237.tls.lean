/-! T: push, pop -/
set_option maxRecDepth 20000
section
variable {ρ : Nat → Nat} {P : ah → Nat → Prop} {d : Nat} {Q : QT} {Γ : GH} {h h0 : ah} {C ho T k n m f i j N M b r a s rr mn sn tn row c t E pp x sz tm mb am ab sk rk y0 : Nat} {S S' S1 S2 SX : SS} {X : X3} {Y : Y3} {g : HG} {l L bs ts : List Int} {v p y nm ty cnt κ hd w La bv el st LL bb iv : Int} {ls l2 : List ENT} {e : Option (Option AV)}
theorem TAC.lists' (he : e = none ∨ e = some none) (Z : RWQ S s x mn sz E rr κ ty) (hκ : κ = 5) (hty : ty = 6) (H : TC ρ (PTO ρ g N M) 196 m_Md_lists 0 [(1, vI (s : Int)), (2, vI (x : Int))] [] S e S') : TAC ρ g N M s S e S' := TAC.row' Z.1 Z.2.1 Z.2.2.2.1 he (fun d h0 T Q K q => by
  have O := K.1.1
  refine s_row95 O Z ?_
  rw [hκ, if_pos hty]
  exact b_Md_actsOnRow_95 (d := d + 196) ⟨fun _ => ⟨fun _ => ⟨fun _ => ⟨fun c => absurd c (by decide), fun _ => ⟨O.1, H d h0 T _ K (cV_oT he O.kh q)⟩⟩, fun c => absurd c (by decide)⟩, fun c => absurd c (by decide)⟩, fun c => absurd c (by decide)⟩)
theorem s_ls25 (O : TOK h0 T) (Z : RWQ S s x mn sz E rr κ ty) (hm : mn = 1) (e1 : S f_Md_allSlots 0 = (rk : Int)) (q0 : ¬ rk < 60000 → wpB PGm ρ (d + 1) m_Md_lists 25 [(0, vR T), (2, vI (x : Int))] [vI 0, vR T] (cn h0 T S) Q) (q1 : rk < 60000 → wpB PGm ρ (d + 1) m_Md_lists 25 [(0, vR T), (2, vI (x : Int))] [vI 1, vR T] (cn h0 T S) Q) : wpB PGm ρ (d + 1) m_Md_lists 0 [(0, vR T), (1, vI (s : Int)), (2, vI (x : Int))] [] (cn h0 T S) Q := by
  have kT := O.1
  have G := O.2.1
  have hs := Z.1
  have em : S f_Md_siteMany s = 1 := by rw [Z.2.2.1, hm]; rfl
  have b1 : 0 ≤ (s : Int) ∧ (s : Int) < ((4000 : Nat) : Int) := by omega
  have z1 : (60000 : Int) ≤ (rk : Int) → ¬ rk < 60000 := fun z => by omega
  have z2 : (rk : Int) < 60000 → rk < 60000 := fun z => by omega
  refine b_Md_lists_0 ?_
  clear Z
  simp (decide := true) (disch := first | decide | omega) only [cnI, cnR, cnK, cnl, cnA' G, kT, KN G, LN G, em, e1, Int.toNat_natCast, true_and, and_true, not_true_eq_false, false_implies, forall_const]
  exact ⟨b1, fun z => q0 (z1 z), fun z => q1 (z2 z)⟩
theorem TAC.pushF (Z : RWQ S s x mn sz E rr κ ty) (hκ : κ = 5) (hty : ty = 6) (hm : mn = 1) (e1 : S f_Md_allSlots 0 = (rk : Int)) (hr : rk = 60000) : TAC ρ g N M s S none (erS S 99) := TAC.lists' (Or.inl rfl) Z hκ hty (fun d h0 T Q K q => s_ls25 (d := d + 195) K.1.1 Z hm e1 (fun _ => b_Md_lists_25 ⟨K.1.1.1, s_room (d := d + 194) K.1.1 (fun c => absurd rfl c) (fun _ => ⟨K.1.1.kh, q⟩)⟩) (fun c => by omega))
theorem TAC.pushA (Z : RWQ S s x mn sz E rr κ ty) (hκ : κ = 5) (hty : ty = 6) (hm : mn = 1) (hE : E = 1) (e1 : S f_Md_allSlots 0 = (rk : Int)) (hr : rk < 60000) (e0 : S f_Md_slots 0 = (sk : Int)) (hs : sk < 60000) (hz : sz ≤ 60000) (e3 : sz ≠ 0 → S f_Md_thingLast x = (y0 : Int) ∧ y0 < 60000) (H : GFR S t n c rr m pp) : TAC ρ g N M s S (some none) (gvS (adsS S x sk rk sz (-1) (S f_Md_pileType (rr + 1)) (S f_Md_pileValue (rr + 1))) t m c pp 2 ((sz + 1 : Nat) : Int)) := TAC.lists' (Or.inr rfl) Z hκ hty (fun d h0 T Q K q => by
  have O := K.1.1
  have kT := O.1
  have G := O.2.1
  obtain ⟨-, hx, ec⟩ := Z.2.2.2.2.2.2.1.resolve_right (fun c => by rw [hty] at c; exact absurd c.1 (by decide))
  have hr2 := Z.2.2.2.2.2.2.2.2.2.2
  have er := H.2.2.1
  have b1 : 0 ≤ (x : Int) ∧ (x : Int) < ((8000 : Nat) : Int) := by omega
  have b2 : 0 ≤ ((rr + 1 : Nat) : Int) ∧ ((rr + 1 : Nat) : Int) < ((4200 : Nat) : Int) := by omega
  generalize ep : S f_Md_pileType (rr + 1) = pt at *
  generalize ev : S f_Md_pileValue (rr + 1) = pv at *
  have oa : OFF LAS S (adsS S x sk rk sz (-1) pt pv) := adsS_off'
  have ct : adsS S x sk rk sz (-1) pt pv f_Md_thingCount x = ((sz + 1 : Nat) : Int) := by unfold adsS; rw [u2_s]
  have gg := s_gives (ρ := ρ) (d := d + 193) (Q := cV (fun h21 => Q (Sum.inl none) h21) (fun e24 h23 => hK h23 e24 ≠ 0 ∧ Q (Sum.inr e24) h23)) O (H.ex (oa.ex (by decide))) q
  have gas : wpB PGm ρ (d + 195) m_Md_addSlot 0 [(0, vR T), (1, vI (x : Int)), (2, vI (-1)), (3, vI pt), (4, vL pv)] [] (cn h0 T S) (cV (fun h12 => hK h12 T = k_Md ∧ (hK h12 (hR h12 f_Md_thingCount T) ∈ [1, 11] ∧ 0 ≤ (x : Int) ∧ (x : Int) < (hl h12 (hR h12 f_Md_thingCount T) : Int)) ∧ wpB PGm ρ (d + 195) m_Md_gives 0 [(0, vR T), (1, vI 2), (2, vL (hA h12 (hR h12 f_Md_thingCount T) x))] [] h12 (cV (fun h21 => Q (Sum.inl none) h21) (fun e24 h23 => hK h23 e24 ≠ 0 ∧ Q (Sum.inr e24) h23))) (fun e15 h14 => hK h14 e15 ≠ 0 ∧ Q (Sum.inr e15) h14)) := by
    refine s_addSlot O e0 hs e1 (by omega) hx ec hz e3 ⟨kT, ?_⟩
    clear q H oa Z e3
    simp (decide := true) (disch := first | decide | omega) only [cnI, cnR, cnK, cnl, cnA' G, kT, KN G, LN G, ct, Int.toNat_natCast, true_and, and_true]
    exact ⟨b1, gg⟩
  have m1 : rr ≤ 2000000000 := by omega
  refine s_ls25 (d := d + 195) O Z hm e1 (fun c => absurd hr c) (fun _ => b_Md_lists_25 ⟨kT, s_room (d := d + 194) O (fun _ => ⟨kT, ?_⟩) (fun c => absurd c (by decide))⟩)
  have y1 : w32 ((rr : Int) + 1) = ((rr + 1 : Nat) : Int) := w32_p1 m1
  clear q H oa Z e3 gg
  simp (decide := true) (disch := first | decide | omega) only [cnI, cnR, cnK, cnl, cnA' G, kT, KN G, LN G, er, y1, ep, ev, Int.toNat_natCast, true_and, and_true]
  exact ⟨b2, b2, gas⟩)
theorem TAC.pop0 (Z : RWQ S s x mn sz E rr κ ty) (hκ : κ = 5) (hty : ty = 6) (hm : ¬ mn = 1) (hz : sz = 0) (H : GFR S t n c rr m pp) : TAC ρ g N M s S (some none) (gvS S t m c pp 0 0) := TAC.lists' (Or.inr rfl) Z hκ hty (fun d h0 T Q K q => by
  have O := K.1.1
  have kT := O.1
  have G := O.2.1
  obtain ⟨-, hx, ec⟩ := Z.2.2.2.2.2.2.1.resolve_right (fun c => by rw [hty] at c; exact absurd c.1 (by decide))
  have hs := Z.1
  have em := Z.2.2.1
  have b1 : 0 ≤ (s : Int) ∧ (s : Int) < ((4000 : Nat) : Int) := by omega
  have b2 : 0 ≤ (x : Int) ∧ (x : Int) < ((8000 : Nat) : Int) := by omega
  have n1 : ¬ (mn : Int) = 1 := by omega
  rw [hz] at ec
  have e0 : ((0 : Nat) : Int) = 0 := rfl
  rw [e0] at ec
  have gg := s_gives (ρ := ρ) (d := d + 193) (Q := cV (fun h21 => Q (Sum.inl none) h21) (fun e24 h23 => hK h23 e24 ≠ 0 ∧ Q (Sum.inr e24) h23)) O H q
  refine b_Md_lists_0 ?_
  clear Z H q
  simp (decide := true) (disch := first | decide | omega) only [cnI, cnR, cnK, cnl, cnA' G, kT, KN G, LN G, em, ec, n1, Int.toNat_natCast, true_and, and_true, not_true_eq_false, not_false_eq_true, false_implies, forall_const]
  exact ⟨b1, b2, gg⟩)
theorem TAC.pop (Z : RWQ S s x mn sz E rr κ ty) (hκ : κ = 5) (hty : ty = 6) (hm : ¬ mn = 1) (hz : 0 < sz) (L : SLG S x sz) (un : ∀ a b, a < sz → b < sz → slS S x a = slS S x b → a = b) (H : GFR S t n c rr m pp) : TAC ρ g N M s S (some none) (gvS (drS S x (sz - 1) sz) t m c pp (S f_Md_slotType (slS S x (sz - 1))) (S f_Md_slotValue (slS S x (sz - 1)))) := TAC.lists' (Or.inr rfl) Z hκ hty (fun d h0 T Q K q => by
  have O := K.1.1
  have kT := O.1
  have G := O.2.1
  obtain ⟨-, hx, ec⟩ := Z.2.2.2.2.2.2.1.resolve_right (fun c => by rw [hty] at c; exact absurd c.1 (by decide))
  have hs := Z.1
  have em := Z.2.2.1
  have b1 : 0 ≤ (s : Int) ∧ (s : Int) < ((4000 : Nat) : Int) := by omega
  have b2 : 0 ≤ (x : Int) ∧ (x : Int) < ((8000 : Nat) : Int) := by omega
  have n1 : ¬ (mn : Int) = 1 := by omega
  have n2 : ¬ (sz : Int) = 0 := by omega
  have l6 := L.2.1
  have sl := L.2.2.2.2.1 (sz - 1) (by omega)
  have b3 : 0 ≤ (slS S x (sz - 1) : Int) ∧ (slS S x (sz - 1) : Int) < ((60000 : Nat) : Int) := by omega
  have od : OFF [f_Md_thingFirst, f_Md_slotNext, f_Md_thingCount, f_Md_thingLast] S (drS S x (sz - 1) sz) := fun f i hf => drS_o hf
  have gg := s_gives (ρ := ρ) (d := d + 193) (Q := cV (fun h12 => Q (Sum.inl none) h12) (fun e15 h14 => hK h14 e15 ≠ 0 ∧ Q (Sum.inr e15) h14)) O (H.ex (od.ex (by decide))) q
  have m1 : 1 ≤ sz ∧ sz ≤ 2000000000 := by omega
  have hi : sz - 1 < sz := by omega
  have gd := s_dropSlot (ρ := ρ) (d := d + 194) (Q := cV (fun h5 => hK h5 T = k_Md ∧ wpB PGm ρ (d + 195) m_Md_gives 0 [(0, vR T), (1, vI (S f_Md_slotType (slS S x (sz - 1)))), (2, vL (S f_Md_slotValue (slS S x (sz - 1))))] [] h5 (cV (fun h12 => Q (Sum.inl none) h12) (fun e15 h14 => hK h14 e15 ≠ 0 ∧ Q (Sum.inr e15) h14))) (fun e8 h7 => hK h7 e8 ≠ 0 ∧ Q (Sum.inr e8) h7)) O L hi un ⟨kT, gg⟩
  have y1 : w32 ((sz : Int) - 1) = ((sz - 1 : Nat) : Int) := w32_m1 m1
  have g111 : wpB PGm ρ (d + 196) m_Md_lists 111 [(0, vR T), (2, vI (x : Int)), (3, vI (slS S x (sz - 1) : Int)), (4, vI (S f_Md_slotType (slS S x (sz - 1))))] [] (cn h0 T S) Q := by
    refine b_Md_lists_111 ?_
    clear Z H q od gg un L
    simp (decide := true) (disch := first | decide | omega) only [cnI, cnR, cnK, cnl, cnA' G, kT, KN G, LN G, ec, y1, Int.toNat_natCast, true_and, and_true]
    exact ⟨b3, b2, gd⟩
  have sa : wpB PGm ρ (d + 195) m_Md_slotAt 0 [(0, vR T), (1, vI (x : Int)), (2, vI ((sz - 1 : Nat) : Int))] [] (cn h0 T S) (cI (fun x18 h13 => hK h13 T = k_Md ∧ (hK h13 (hR h13 f_Md_slotType T) ∈ [1, 11] ∧ 0 ≤ x18 ∧ x18 < (hl h13 (hR h13 f_Md_slotType T) : Int)) ∧ wpB PGm ρ (d + 196) m_Md_lists 111 [(0, vR T), (2, vI (x : Int)), (3, vI x18), (4, vI (hA h13 (hR h13 f_Md_slotType T) (x18).toNat))] [] h13 Q) (fun e16 h15 => hK h15 e16 ≠ 0 ∧ Q (Sum.inr e16) h15)) := by
    refine s_slotAt O L hi ⟨kT, ?_⟩
    clear Z H q od gg un L gd
    simp (decide := true) (disch := first | decide | omega) only [cnI, cnR, cnK, cnl, cnA' G, kT, KN G, LN G, Int.toNat_natCast, true_and, and_true]
    exact ⟨b3, g111⟩
  refine b_Md_lists_0 ?_
  clear Z H q od gg un L gd g111
  simp (decide := true) (disch := first | decide | omega) only [cnI, cnR, cnK, cnl, cnA' G, kT, KN G, LN G, em, ec, n1, n2, y1, Int.toNat_natCast, true_and, and_true, not_true_eq_false, not_false_eq_true, false_implies, forall_const]
  exact ⟨b1, b2, b2, sa⟩)
end
