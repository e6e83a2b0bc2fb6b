/-! T: guards of entries; entries move -/
set_option maxRecDepth 20000
/-- an entry is copied -/
def cpyS (S : SS) (a b : Nat) : SS := u2 (u2 (u2 (u2 (u2 (u2 (u2 (u2 (u2 S f_Md_linker b (S f_Md_linker a)) f_Md_guard b (S f_Md_guard a)) f_Md_guardName b (S f_Md_guardName a)) f_Md_holder b (S f_Md_holder a)) f_Md_which b (S f_Md_which a)) f_Md_toShape b (S f_Md_toShape a)) f_Md_linkedAt b (S f_Md_linkedAt a)) f_Md_guardMany b (S f_Md_guardMany a)) f_Md_guardTypes b (S f_Md_guardTypes a)
section
variable {ρ : Nat → Nat} {P : ah → Nat → Prop} {d : Nat} {Q : QT} {Γ : GH} {h h0 : ah} {C ho T k n m f i j N M b r a s rr mn sn tn row : Nat} {S S' S1 S2 SX : SS} {X : X3} {Y : Y3} {g : HG} {l L bs : List Int} {v p x y nm ty cnt κ u hd w La bv el : Int}
theorem cpyS_g (hf : LRW.elem f = true) : cpyS S a b f i = if i = b then S f a else S f i := by
  have : f = f_Md_linker ∨ f = f_Md_guard ∨ f = f_Md_guardName ∨ f = f_Md_holder ∨ f = f_Md_which ∨ f = f_Md_toShape ∨ f = f_Md_linkedAt ∨ f = f_Md_guardMany ∨ f = f_Md_guardTypes := by simpa [LRW] using hf
  rcases this with rfl | rfl | rfl | rfl | rfl | rfl | rfl | rfl | rfl <;> simp (decide := true) [cpyS, u2_e]
theorem cpyS_off : OFF LRW S (cpyS S a b) := by
  unfold cpyS
  exact ((((((((OFF.rf.u (by decide)).u (by decide)).u (by decide)).u (by decide)).u (by decide)).u (by decide)).u (by decide)).u (by decide)).u (by decide)
theorem cpyS_r : rowE (cpyS S a b) i = if i = b then rowE S a else rowE S i := by
  funext f
  by_cases e : i = b
  · rw [if_pos e]
    show (if LRW.elem f = true then cpyS S a b f i else 0) = (if LRW.elem f = true then S f a else 0)
    by_cases w : LRW.elem f = true
    · rw [if_pos w, if_pos w, cpyS_g w, if_pos e]
    · rw [if_neg w, if_neg w]
  · rw [if_neg e]
    show (if LRW.elem f = true then cpyS S a b f i else 0) = (if LRW.elem f = true then S f i else 0)
    by_cases w : LRW.elem f = true
    · rw [if_pos w, if_pos w, cpyS_g w, if_neg e]
    · rw [if_neg w, if_neg w]
theorem s_copies (O : TOK h0 T) (ha : a < 20000) (hb : b < 20000) (ne : a ≠ b) (q : Q (Sum.inl none) (cn h0 T (cpyS S a b))) : wpB PGm ρ d m_Md_copies 0 [(0, vR T), (1, vI (a : Int)), (2, vI (b : Int))] [] (cn h0 T S) Q := by
  have kT := O.1
  have G := O.2.1
  have b1 : 0 ≤ (a : Int) ∧ (a : Int) < ((20000 : Nat) : Int) := by omega
  have b2 : 0 ≤ (b : Int) ∧ (b : Int) < ((20000 : Nat) : Int) := by omega
  unfold cpyS at q
  refine b_Md_copies_0 ?_
  simp (decide := true) (disch := first | decide | omega) only [cnI, cnR, cnK, cnl, cnA' G, cn_sA' G, kT, KN G, LN G, u2_f, Int.toNat_natCast, true_and, and_true]
  refine ⟨b1, b2, b1, b2, b1, b2, b1, b2, b1, b2, b1, b2, b1, b2, b_Md_copies_84 ?_⟩
  simp (decide := true) (disch := first | decide | omega) only [cnI, cnR, cnK, cnl, cnA' G, cn_sA' G, kT, KN G, LN G, u2_f, Int.toNat_natCast, true_and, and_true]
  exact ⟨b1, b2, b1, b2, q⟩
theorem s_guards (O : TOK h0 T) (hr : row < 20000) (ty1 : S f_Md_goesType 0 = ty) (v1 : S f_Md_goesValue 0 = v) (e1 : S f_Md_elementName 0 = el) (vb : ty = 4 ∨ ty = 5 ∨ ty = 7 ∨ ty = 8 → 0 ≤ v ∧ v < 8000) (hN : N ≤ 60) (gm : ¬ (ty = 4 ∨ ty = 5) → S f_Md_linker row = gdL ty → ∃ n : Nat, S f_Md_guardMany row = (n : Int) ∧ n ≤ 8 ∧ PVS S N rr n ∧ ∃ w : Nat, S f_Md_guardTypes row = (w : Int) ∧ w < 2 ^ 56) (q1 : GDE S κ ty v el rr (rowE S row) → Q (Sum.inl (some (vI 1))) (cn h0 T S)) (q0 : ¬ GDE S κ ty v el rr (rowE S row) → Q (Sum.inl (some (vI 0))) (cn h0 T S)) (gm0 : 0 ≤ S f_Md_guardMany row) : wpB PGm ρ (d + 1) m_Md_guards 0 [(0, vR T), (1, vI (row : Int)), (2, vI κ)] [] (cn h0 T S) Q := by
  have kT := O.1
  have G := O.2.1
  have b1 : 0 ≤ (row : Int) ∧ (row : Int) < ((20000 : Nat) : Int) := by omega
  unfold GDE at q1 q0
  rw [rowE_g (by decide), rowE_g (by decide), rowE_g (by decide), rowE_g (by decide), rowE_g (by decide)] at q1 q0
  refine b_Md_guards_0 ⟨kT, ?_⟩
  rw [cnI (by decide), ty1]
  refine s_hasShape (fun hs => ⟨fun c => absurd c (by decide), fun _ => ?_⟩) (fun hs => ⟨fun _ => ?_, fun c => absurd rfl c⟩)
  · -- things
    have vv := vb (by omega)
    have y1 : w32 v = v := w32_of (by omega) (by omega)
    have b2 : 0 ≤ v ∧ v < ((8000 : Nat) : Int) := by omega
    have z0 : ¬ S f_Md_linker row = 0 → Q (Sum.inl (some (vI 0))) (cn h0 T S) := fun z => q0 (fun c => by
      rcases c with ⟨-, c, -⟩ | ⟨c, -⟩
      · exact z c
      · exact c hs)
    have g33 : S f_Md_linker row = 0 → (κ = 4 ∨ κ = 6) → wpB PGm ρ (d + 1) m_Md_guards 33 [(0, vR T), (1, vI (row : Int))] [] (cn h0 T S) Q := fun a1 a2 => by
      have x1 : ¬ ty = 5 → Q (Sum.inl (some (vI 0))) (cn h0 T S) := fun z => q0 (fun c => by
        rcases c with ⟨-, -, ⟨-, c, -⟩ | ⟨c, -⟩⟩ | ⟨c, -⟩
        · exact z c
        · exact c a2
        · exact c hs)
      have x2 : ty = 5 → ¬ S f_Md_thingFunction v.toNat = S f_Md_guard row → Q (Sum.inl (some (vI 0))) (cn h0 T S) := fun _ z => q0 (fun c => by
        rcases c with ⟨-, -, ⟨-, -, c⟩ | ⟨c, -⟩⟩ | ⟨c, -⟩
        · exact z c
        · exact c a2
        · exact c hs)
      have x3 : ty = 5 → S f_Md_thingFunction v.toNat = S f_Md_guard row → Q (Sum.inl (some (vI 1))) (cn h0 T S) := fun z zz => q1 (Or.inl ⟨hs, a1, Or.inl ⟨a2, z, zz⟩⟩)
      refine b_Md_guards_33 ?_
      clear q1 q0 z0 gm vb
      simp (decide := true) (disch := first | decide | omega) only [cnI, cnR, cnK, cnl, cnA' G, kT, KN G, LN G, ty1, v1, y1, Int.toNat_natCast, true_and, and_true]
      exact ⟨x1, fun z => ⟨b2, b1, fun zz => x2 z zz, fun zz => x3 z zz⟩⟩
    have x4 : S f_Md_linker row = 0 → ¬ κ = 4 → ¬ κ = 6 → ¬ S f_Md_thingShape v.toNat = S f_Md_guard row → Q (Sum.inl (some (vI 0))) (cn h0 T S) := fun _ k4 k6 z => q0 (fun c => by
      rcases c with ⟨-, -, ⟨c, -⟩ | ⟨-, c, -⟩⟩ | ⟨c, -⟩
      · exact c.elim k4 k6
      · exact z c
      · exact c hs)
    have x5 : S f_Md_linker row = 0 → ¬ κ = 4 → ¬ κ = 6 → ¬ S f_Md_guardName row = el → Q (Sum.inl (some (vI 0))) (cn h0 T S) := fun _ k4 k6 z => q0 (fun c => by
      rcases c with ⟨-, -, ⟨c, -⟩ | ⟨-, -, c⟩⟩ | ⟨c, -⟩
      · exact c.elim k4 k6
      · exact z c
      · exact c hs)
    have x6 : S f_Md_linker row = 0 → ¬ κ = 4 → ¬ κ = 6 → S f_Md_thingShape v.toNat = S f_Md_guard row → S f_Md_guardName row = el → Q (Sum.inl (some (vI 1))) (cn h0 T S) := fun a1 k4 k6 z zz => q1 (Or.inl ⟨hs, a1, Or.inr ⟨fun c => c.elim k4 k6, z, zz⟩⟩)
    clear q1 q0 gm vb
    simp (decide := true) (disch := first | decide | omega) only [cnI, cnR, cnK, cnl, cnA' G, kT, KN G, LN G, ty1, v1, y1, e1, Int.toNat_natCast, true_and, and_true]
    exact ⟨b1, fun a1 => ⟨fun k4 => g33 a1 (Or.inl k4), fun k4 => ⟨fun k6 => ⟨b2, b1, fun z => x4 a1 k4 k6 z, fun z => ⟨b1, fun zz => x5 a1 k4 k6 zz, fun zz => x6 a1 k4 k6 z zz⟩⟩, fun k6 => g33 a1 (Or.inr k6)⟩⟩, z0⟩
  · -- others
    have bad : ¬ (S f_Md_linker row = gdL ty ∧ S f_Md_guard row = gdG S ty v) → Q (Sum.inl (some (vI 0))) (cn h0 T S) := fun z => q0 (fun c => by
      rcases c with ⟨c, -⟩ | ⟨-, c1, c2, -⟩
      · exact hs c
      · exact z ⟨c1, c2⟩)
    have g239b : ¬ (S f_Md_linker row = gdL ty ∧ S f_Md_guard row = gdG S ty v ∧ ∀ k : Nat, (k : Int) < S f_Md_guardMany row → gtA (S f_Md_guardTypes row) k = tyT S (S f_Md_pileType (rr + 1 + k)) (S f_Md_pileValue (rr + 1 + k))) → ∀ j : Int, wpB PGm ρ (d + 1) m_Md_guards 239 [(0, vR T), (1, vI (row : Int)), (5, vI 0), (6, vI j)] [] (cn h0 T S) Q := fun z j => by
      have zz := q0 (fun c => by
        rcases c with ⟨c, -⟩ | ⟨-, c⟩
        · exact hs c
        · exact z c)
      refine b_Md_guards_239 ?_
      clear q1 q0 gm vb bad
      simp (decide := true) (disch := first | decide | omega) only [cnI, cnR, cnK, cnl, cnA' G, kT, KN G, LN G, Int.toNat_natCast, true_and, and_true, true_or, forall_const, not_true_eq_false, false_implies]
      exact ⟨b1, fun _ => zz, fun _ => zz⟩
    have lp : S f_Md_linker row = gdL ty → S f_Md_guard row = gdG S ty v → ∀ n : Nat, S f_Md_guardMany row = (n : Int) → n ≤ 8 → PVS S N rr n → ∀ w : Nat, S f_Md_guardTypes row = (w : Int) → w < 2 ^ 56 → ∀ mm j, j + mm = n → (∀ i, i < j → gtA (w : Int) i = tyT S (S f_Md_pileType (rr + 1 + i)) (S f_Md_pileValue (rr + 1 + i))) → wpB PGm ρ (d + 1) m_Md_guards 239 [(0, vR T), (1, vI (row : Int)), (5, vI 1), (6, vI (j : Int))] [] (cn h0 T S) Q := fun a1 a2 n en hn pv w ew hw mm => by
      induction mm with
      | zero =>
        intro j hj hi
        have zz := q1 (Or.inr ⟨hs, a1, a2, fun k hk => by rw [ew]; exact hi k (by omega)⟩)
        have n1 : (n : Int) ≤ (j : Int) := by omega
        have n2 : ¬ (j : Int) < (n : Int) := by omega
        refine b_Md_guards_239 ?_
        clear q1 q0 gm vb bad g239b hi pv
        simp (decide := true) (disch := first | decide | omega) only [cnI, cnR, cnK, cnl, cnA' G, kT, KN G, LN G, en, n1, n2, Int.toNat_natCast, true_and, and_true, or_true, forall_const, false_implies]
        exact ⟨b1, zz⟩
      | succ mm ih =>
        intro j hj hi
        obtain ⟨p1, p2, p3, p4⟩ := pv
        obtain ⟨V, hc⟩ := p4 j (by omega)
        have gg := gt_get w j (by omega) hw
        have n1 : ¬ (n : Int) ≤ (j : Int) := by omega
        have n2 : (j : Int) < (n : Int) := by omega
        have b3 : 0 ≤ ((rr + 1 + j : Nat) : Int) ∧ ((rr + 1 + j : Nat) : Int) < ((4200 : Nat) : Int) := by omega
        have m1 : rr ≤ 2000000000 := by omega
        have m2 : rr + 1 + j ≤ 2000000000 := by omega
        have m3 : j ≤ 2000000000 := by omega
        have z1 : gtA (w : Int) j = tyT S (S f_Md_pileType (rr + 1 + j)) (S f_Md_pileValue (rr + 1 + j)) → wpB PGm ρ (d + 1) m_Md_guards 239 [(0, vR T), (1, vI (row : Int)), (5, vI 1), (6, vI ((j + 1 : Nat) : Int))] [] (cn h0 T S) Q := fun e => ih (j + 1) (by omega) (fun i h => by
          by_cases c : i = j
          · rw [c]; exact e
          · exact hi i (by omega))
        have z0 : ¬ gtA (w : Int) j = tyT S (S f_Md_pileType (rr + 1 + j)) (S f_Md_pileValue (rr + 1 + j)) → wpB PGm ρ (d + 1) m_Md_guards 239 [(0, vR T), (1, vI (row : Int)), (5, vI 0), (6, vI ((j + 1 : Nat) : Int))] [] (cn h0 T S) Q := fun e => g239b (fun c => e (by have := c.2.2 j (by omega); rw [ew] at this; exact this)) ((j + 1 : Nat) : Int)
        have y3 : w32 ((j : Int) + 1) = ((j + 1 : Nat) : Int) := w32_p1 m3
        have gt : wpB PGm ρ d m_Md_typeOf 0 [(0, vR T), (1, vI (S f_Md_pileType (rr + 1 + j))), (2, vL (S f_Md_pileValue (rr + 1 + j)))] [] (cn h0 T S) (cI (fun x18 h13 => ((¬ (if gtA (w : Int) j < x18 then (-1 : Int) else if gtA (w : Int) j = x18 then 0 else 1) = 0 → wpB PGm ρ (d + 1) m_Md_guards 313 [(0, vR T), (1, vI (row : Int)), (6, vI (j : Int))] [vI 0] h13 Q) ∧ ((if gtA (w : Int) j < x18 then (-1 : Int) else if gtA (w : Int) j = x18 then 0 else 1) = 0 → wpB PGm ρ (d + 1) m_Md_guards 313 [(0, vR T), (1, vI (row : Int)), (6, vI (j : Int))] [vI 1] h13 Q))) (fun e16 h15 => hK h15 e16 ≠ 0 ∧ Q (Sum.inr e16) h15)) := by
          refine s_typeOf O V p3 hc hN ?_
          generalize tyT S (S f_Md_pileType (rr + 1 + j)) (S f_Md_pileValue (rr + 1 + j)) = tv at *
          refine ⟨fun c => b_Md_guards_313 (by rw [y3]; exact z0 (fun e => c (by rw [if_neg (by omega), if_pos e]))), fun c => ?_⟩
          have e : gtA (w : Int) j = tv := by
            by_cases c1 : gtA (w : Int) j < tv
            · rw [if_pos c1] at c; exact absurd c (by decide)
            · rw [if_neg c1] at c
              by_cases c2 : gtA (w : Int) j = tv
              · exact c2
              · rw [if_neg c2] at c; exact absurd c (by decide)
          exact b_Md_guards_313 (by rw [y3]; exact z1 e)
        have y1 : w32 ((rr : Int) + 1) = ((rr + 1 : Nat) : Int) := w32_p1 m1
        have y2 : w32 (((rr + 1 : Nat) : Int) + (j : Int)) = ((rr + 1 + j : Nat) : Int) := w32_aa m2
        refine b_Md_guards_239 ?_
        clear q1 q0 gm vb bad g239b hi ih z1 z0 p4 V hc
        simp (decide := true) (disch := first | decide | omega) only [cnI, cnR, cnK, cnl, cnA' G, kT, KN G, LN G, en, ew, gg, p1, y1, y2, n1, n2, Int.toNat_natCast, true_and, and_true, forall_const, false_implies]
        exact ⟨b1, b1, b3, b3, gt⟩
    have g206 : ∀ L0 g0 : Int, L0 = gdL ty → g0 = gdG S ty v → wpB PGm ρ (d + 1) m_Md_guards 206 [(0, vR T), (1, vI (row : Int)), (3, vI L0)] [vI g0] (cn h0 T S) Q := fun L0 g0 eL eg => by
      have x0 : ¬ (S f_Md_linker row = gdL ty ∧ S f_Md_guard row = gdG S ty v) → wpB PGm ρ (d + 1) m_Md_guards 234 [(0, vR T), (1, vI (row : Int))] [vI 0] (cn h0 T S) Q := fun z => b_Md_guards_234 (g239b (fun c => z ⟨c.1, c.2.1⟩) 0)
      have x1 : S f_Md_linker row = gdL ty → S f_Md_guard row = gdG S ty v → wpB PGm ρ (d + 1) m_Md_guards 234 [(0, vR T), (1, vI (row : Int))] [vI 1] (cn h0 T S) Q := fun a1 a2 => by
        obtain ⟨n, en, hn, pv, w, ew, hw⟩ := gm hs a1
        exact b_Md_guards_234 (lp a1 a2 n en hn pv w ew hw n 0 (by omega) (fun i h => absurd h (by omega)))
      refine b_Md_guards_206 ?_
      rw [eL, eg]
      clear q1 q0 gm vb bad g239b lp
      simp (decide := true) (disch := first | decide | omega) only [cnI, cnR, cnK, cnl, cnA' G, kT, KN G, LN G, Int.toNat_natCast, true_and, and_true]
      exact ⟨b1, fun z => x0 (fun c => z c.1), fun z => ⟨b1, fun zz => x0 (fun c => zz c.2), fun zz => x1 z zz⟩⟩
    have g152 : ∀ L0 : Int, L0 = gdL ty → wpB PGm ρ (d + 1) m_Md_guards 152 [(0, vR T), (1, vI (row : Int))] [vI L0] (cn h0 T S) Q := fun L0 eL => by
      have k7 : ty = 7 → wpB PGm ρ (d + 1) m_Md_guards 206 [(0, vR T), (1, vI (row : Int)), (3, vI L0)] [vI (S f_Md_thingClass v.toNat)] (cn h0 T S) Q := fun e => g206 _ _ eL (by unfold gdG; rw [if_pos e])
      have k8 : ¬ ty = 7 → ty = 8 → wpB PGm ρ (d + 1) m_Md_guards 206 [(0, vR T), (1, vI (row : Int)), (3, vI L0)] [vI v] (cn h0 T S) Q := fun e e2 => g206 _ _ eL (by unfold gdG; rw [if_neg e, if_pos e2])
      have k6 : ¬ ty = 7 → ¬ ty = 8 → ty = 6 → wpB PGm ρ (d + 1) m_Md_guards 206 [(0, vR T), (1, vI (row : Int)), (3, vI L0)] [vI 0] (cn h0 T S) Q := fun e e2 e3 => g206 _ _ eL (by unfold gdG; rw [if_neg e, if_neg e2, if_pos e3])
      have kx : ¬ ty = 7 → ¬ ty = 8 → ¬ ty = 6 → wpB PGm ρ (d + 1) m_Md_guards 206 [(0, vR T), (1, vI (row : Int)), (3, vI L0)] [vI 1] (cn h0 T S) Q := fun e e2 e3 => g206 _ _ eL (by unfold gdG; rw [if_neg e, if_neg e2, if_neg e3])
      have y1 : ty = 7 ∨ ty = 8 → w32 v = v := fun e => by have := vb (by omega); exact w32_of (by omega) (by omega)
      have b2 : ty = 7 → 0 ≤ v ∧ v < ((8000 : Nat) : Int) := fun e => by have := vb (by omega); omega
      refine b_Md_guards_152 ?_
      clear q1 q0 gm vb bad g239b lp g206
      simp (decide := true) (disch := first | decide | omega) only [cnI, cnR, cnK, cnl, cnA' G, kT, KN G, LN G, ty1, v1, true_and, and_true]
      refine ⟨fun e => ⟨fun e2 => ⟨fun e3 => kx e e2 e3, fun e3 => k6 e e2 e3⟩, fun e2 => ?_⟩, fun e => ?_⟩
      · rw [y1 (Or.inr e2)]; exact k8 e e2
      · rw [y1 (Or.inl e)]; exact ⟨b2 e, k7 e⟩
    have kk : hK (cn h0 T S) T = k_Md := kT
    refine ⟨kT, ?_⟩
    rw [cnI (by decide), ty1]
    refine ⟨fun e => ⟨fun e2 => ⟨fun e3 => g152 3 (by unfold gdL; rw [if_neg e, if_neg e2, if_pos e3]), fun e3 => ⟨fun e4 => g152 (-1) (by unfold gdL; rw [if_neg e, if_neg e2, if_neg e3, if_neg e4]), fun e4 => g152 3 (by unfold gdL; rw [if_neg e, if_neg e2, if_neg e3, if_pos e4])⟩⟩, fun e2 => b_Md_guards_126 (g152 2 (by unfold gdL; rw [if_neg e, if_pos e2]))⟩, fun e => g152 1 (by unfold gdL; rw [if_pos e])⟩
end
