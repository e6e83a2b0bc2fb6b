/-! C: a value is asked: objects, joined -/
set_option maxRecDepth 20000
section
variable {ρ : Nat → Nat} {d : Nat} {Q : QT} {Γ : GH} {h h' h0 h1 h2 H : ah} {C ho T k n m f i j N M b a rr mn sn tn row e t z s s0 c o at_ r m0 E : Nat} {S S' S1 S2 SX : SS} {X X' X1 X2 : X3} {Y Y' Y1 Y2 : Y3} {g : HG} {v p x y nm ty κ hd w La bv el now : Int} {ws hw : List (List Int)} {l : List Int}
/-- what is asked of an object -/
def obX (X : X3) (nm : Int) : X3 := u3 (askX X nm) 53 f_Found_linker 0 0
def obY (h : ah) (C : Nat) (Y : Y3) (S : SS) (ty v : Int) : Y3 := u3 (u3 (askY Y) 53 f_Found_shape 0 (hB h (C + 52) (S f_Md_thingShape v.toNat).toNat)) 53 f_Found_code 0 (if ty = 5 then hB h (C + 56) (S f_Md_thingFunction v.toNat).toNat else 0)
theorem obX_a : AXJ X (obX X nm) := askX_a.u (by decide)
theorem obY_a : AYJ Y (obY h C Y S ty v) := (askY_a.u (by decide)).u (by decide)
/-- what is asked of it goes by its shape, its code and a name -/
theorem ob_fda (A : AXJ X X1) (hty : ty = 4 ∨ ty = 5) (e1 : X1 53 f_Found_linker 0 = 0) (e2 : X1 53 f_Found_element 0 = if κ = 2 ∨ κ = 3 then el else nm) : FDA h C ho X1 (obY h C Y S ty v) S κ ty v el nm rr mn := by
  refine ⟨by rw [if_pos hty]; exact e1, fun _ => ⟨?_, e2, u3_s⟩, fun c => by omega, fun c => by omega⟩
  unfold obY
  rw [u3_f (by decide), u3_s]
theorem r_ask84 (HC : CORE Γ h C ho X Y S N) (NM : NMR h C S ws) (I : IX h C X Y o n c) (PL : ∀ i, i < n → VR Γ S N (X o f_Task_tags i) (X o f_Task_words i) (S f_Md_pileType (2100 * t + i)) (S f_Md_pileValue (2100 * t + i))) (er : rr = 2100 * t + m0) (ety : S f_Md_pileType rr = ty) (ev : S f_Md_pileValue rr = v) (hty : ty = 4 ∨ ty = 5) (ka : hK h a = k_Site) (ek : hI h f_Site_kind a = κ) (hm0 : m0 < n) (hm : κ = 2 ∨ κ = 3 → m0 + 1 < n) (es : EXS LNE S S1)
    (q1 : ¬ (κ = 2 ∨ κ = 3) → ∀ X1 Y1, AXJ X X1 → AYJ Y Y1 → FDA h C ho X1 Y1 S κ ty v (-1) nm rr mn → X1 53 f_Found_isText 0 = X 53 f_Found_isText 0 → Q (Sum.inl none) (cc h C X1 Y1))
    (q2 : κ = 2 ∨ κ = 3 → ∀ el X1 Y1, NEL S1 ws rr el S1 → (el = -1 ∨ 0 ≤ el ∧ el < (ws.length : Int)) → AXJ X X1 → AYJ Y Y1 → FDA h C ho X1 Y1 S κ ty v el nm rr mn → X1 53 f_Found_isText 0 = X 53 f_Found_isText 0 → Q (Sum.inl none) (cc h C X1 Y1))
    (q3 : κ = 2 ∨ κ = 3 → ∀ l h1 X1 Y1, NEL S1 ws rr (ws.length : Int) (naS S1 ws.length l) → NMR h1 C (naS S1 ws.length l) (ws ++ [l]) → AC h1 C → FC h1 C → Fr LCC (WP (C + 34)) 5 (3 * 4000 + 4096 + 240000) h h1 → hz h1 + WNZ h1 C ≤ hz h + WNZ h C → hs h1 + WNS h1 C ≤ hs h + WNS h C → AXJ X X1 → AYJ Y Y1 → FDA h C ho X1 Y1 S κ ty v (ws.length : Int) nm rr mn → X1 53 f_Found_isText 0 = X 53 f_Found_isText 0 → Q (Sum.inl none) (cc h1 C X1 Y1))
    (q4 : κ = 2 ∨ κ = 3 → NEM S1 ws rr → ∀ X1 Y1, AXJ X X1 → AYJ Y Y1 → X1 53 f_Found_isText 0 = X 53 f_Found_isText 0 → Q (Sum.inr (C + 33)) (cc h C (erX X1 0) Y1)) : wpB PGm ρ (d + 21) m_Machine_ask 84 [(0, vR (C + 32)), (1, vR a), (2, vI (m0 : Int)), (3, vR (C + 53)), (4, vI ty)] [] (cc h C (askX X nm) (askY Y)) Q := by
  have F := HC.1.2
  have G := HC.1.1
  have ht := I.2.2.1
  have hn := I.2.2.2.2.1
  have ko : hK h (C + 53) = k_Found := F.1.2.2.2.2.2.2.1
  have e1 : askY Y 32 f_Machine_t 0 = C + o := by rw [askY_a _ _ _ (by decide)]; exact I.2.2.2.1.1
  have V := PL m0 hm0
  rw [← er, ety, ev] at V
  obtain ⟨A1, AE⟩ := V.obj HC.2.2.2.2.2.2.2.2.2.1 (h := h) (C := C)
  obtain ⟨w1, w2, w3, w4, w5, w6⟩ := A1 (by rw [AE]; exact hty)
  obtain ⟨tn, sn, sm, d1, d2, d5, d6', d3, d4, d6, d7, d8, U, m1, m2, m3, m4⟩ := HC.shp
  have T1 := (d7 v.toNat (by omega)).p
  have sh : hR h f_Obj_shape (hB h (C + 51) v.toNat) = hB h (C + 52) (S f_Md_thingShape v.toNat).toNat := (T1.2.2.1.1 (by omega)).2.1
  have fu : ty = 5 → hK h (hB h (C + 51) v.toNat) = k_Fun ∧ hR h f_Fun_code (hB h (C + 51) v.toNat) = hB h (C + 56) (S f_Md_thingFunction v.toNat).toNat := fun c => by
    have k5 : S f_Md_thingKind v.toNat = 5 := by omega
    obtain ⟨-, ⟨t1, t2, t3⟩, -, tf, -⟩ := T1.1
    refine ⟨by rw [t1, k5]; decide, ?_⟩
    rcases tf with tf | ⟨-, -, -, tf, -⟩
    · exact absurd k5 tf.1
    · exact tf
  rw [w1] at w5 w6
  have wv : askX X nm o f_Task_words m0 = v := by rw [askX_a _ _ _ (by decide)]; exact w1
  have b1 : 0 ≤ (m0 : Int) ∧ (m0 : Int) < ((2001 : Nat) : Int) := by omega
  have g134 : ∀ x : Nat, x = (if ty = 5 then hB h (C + 56) (S f_Md_thingFunction v.toNat).toNat else 0) → wpB PGm ρ (d + 21) m_Machine_ask 134 [(0, vR (C + 32)), (1, vR a), (2, vI (m0 : Int)), (3, vR (C + 53))] [vR x, vR (C + 53)] (cc h C (obX X nm) (u3 (askY Y) 53 f_Found_shape 0 (hB h (C + 52) (S f_Md_thingShape v.toNat).toNat))) Q := fun x ex => by
    subst ex
    have ik : hI (cc h C (obX X nm) (obY h C Y S ty v)) f_Site_kind a = κ := by rw [ccIo (by decide)]; exact ek
    have l0 : obX X nm 53 f_Found_linker 0 = 0 := u3_s
    have el0 : obX X nm 53 f_Found_element 0 = nm := by unfold obX askX; rw [u3_f (by decide), u3_f (by decide), u3_s]
    have it0 : obX X nm 53 f_Found_isText 0 = X 53 f_Found_isText 0 := by unfold obX askX; rw [u3_f (by decide), u3_f (by decide), u3_f (by decide)]
    have g153 : κ = 2 ∨ κ = 3 → wpB PGm ρ (d + 21) m_Machine_ask 153 [(0, vR (C + 32)), (2, vI (m0 : Int)), (3, vR (C + 53))] [] (cc h C (obX X nm) (obY h C Y S ty v)) Q := fun ck => by
      have HC1 := HC.fnd (obX_a (X := X) (nm := nm)) (obY_a (h := h) (C := C) (Y := Y) (S := S) (ty := ty) (v := v))
      have I1 := I.fnd (obX_a (X := X) (nm := nm)) (obY_a (h := h) (C := C) (Y := Y) (S := S) (ty := ty) (v := v))
      have V2 := PL (m0 + 1) (hm ck)
      rw [show 2100 * t + (m0 + 1) = rr + 1 by omega, ← obX_a (X := X) (nm := nm) o f_Task_tags _ (by decide), ← obX_a (X := X) (nm := nm) o f_Task_words _ (by decide)] at V2
      have kS : ∀ {X' : X3} {Y' : Y3}, hK (cc h C X' Y') (C + 33) ≠ 0 := fun {X' Y'} => by rw [ccK, F.1.2.1]; decide
      have z0 : m0 ≤ 2000000000 := by omega
      refine b_Machine_ask_153 (d := d + 20) ⟨F.1.1, ?_⟩
      rw [w32_p1 z0]
      refine r_elem (d := d) HC1 NM I1 (hm ck) V2 es (fun el n1 n2 => ⟨ko, ?_⟩) (fun l h1 n1 n2 n3 n4 n5 n6 n7 => ⟨?_, ?_⟩) (fun n1 => ⟨kS, q4 ck n1 _ _ obX_a obY_a it0⟩)
      · show Q (Sum.inl none) (sI (cc h C (obX X nm) (obY h C Y S ty v)) f_Found_element (C + 53) el)
        rw [cc_sI (by decide)]
        exact q2 ck el _ _ n1 n2 (obX_a.u (by decide)) obY_a (ob_fda (obX_a.u (by decide)) hty (by rw [u3_f (by decide)]; exact l0) (by rw [u3_s, if_pos ck])) (by rw [u3_f (by decide)]; exact it0)
      · exact n4.1.2.2.2.2.2.2.1
      · show Q (Sum.inl none) (sI (cc h1 C (obX X nm) (obY h C Y S ty v)) f_Found_element (C + 53) (ws.length : Int))
        rw [cc_sI (by decide)]
        exact q3 ck l h1 _ _ n1 n2 n3 n4 n5 n6 n7 (obX_a.u (by decide)) obY_a (ob_fda (obX_a.u (by decide)) hty (by rw [u3_f (by decide)]; exact l0) (by rw [u3_s, if_pos ck])) (by rw [u3_f (by decide)]; exact it0)
    refine b_Machine_ask_134 ⟨ko, ?_⟩
    show hK (sR (cc h C (obX X nm) (u3 (askY Y) 53 f_Found_shape 0 (hB h (C + 52) (S f_Md_thingShape v.toNat).toNat))) f_Found_code (C + 53) (if ty = 5 then hB h (C + 56) (S f_Md_thingFunction v.toNat).toNat else 0)) a = k_Site ∧ _
    rw [cc_sR (by decide)]
    refine ⟨ka, ?_⟩
    rw [show u3 (u3 (askY Y) 53 f_Found_shape 0 (hB h (C + 52) (S f_Md_thingShape v.toNat).toNat)) 53 f_Found_code 0 (if ty = 5 then hB h (C + 56) (S f_Md_thingFunction v.toNat).toNat else 0) = obY h C Y S ty v from rfl, ik]
    refine ⟨fun c => g153 (Or.inl c), fun c2 => ⟨fun c3 => ?_, fun c => g153 (Or.inr c)⟩⟩
    have nk : ¬ (κ = 2 ∨ κ = 3) := fun c => c.elim c2 c3
    exact q1 nk _ _ obX_a obY_a (ob_fda obX_a hty l0 (by rw [if_neg nk]; exact el0)) it0
  have gob := r_objectOf (ρ := ρ) (d := d + 20) (h := h) (C := C) (X := askX X nm) (Y := askY Y) (x := ty) (y := v) (tn := tn) (Q := cR (fun x12 h7 => hK h7 (C + 53) = k_Found ∧ (hK (sI h7 f_Found_linker (C + 53) 0) x12 ∈ [244, 245] ∧ ((¬ ty = 5 → wpB PGm ρ (d + 21) m_Machine_ask 134 [(0, vR (C + 32)), (1, vR a), (2, vI (m0 : Int)), (3, vR (C + 53))] [vR 0, vR (C + 53)] (sR (sI h7 f_Found_linker (C + 53) 0) f_Found_shape (C + 53) (hR (sI h7 f_Found_linker (C + 53) 0) f_Obj_shape x12)) Q) ∧ (ty = 5 → (x12 = 0 ∨ hK (sR (sI h7 f_Found_linker (C + 53) 0) f_Found_shape (C + 53) (hR (sI h7 f_Found_linker (C + 53) 0) f_Obj_shape x12)) x12 ∈ [245]) ∧ hK (sR (sI h7 f_Found_linker (C + 53) 0) f_Found_shape (C + 53) (hR (sI h7 f_Found_linker (C + 53) 0) f_Obj_shape x12)) x12 = k_Fun ∧ wpB PGm ρ (d + 21) m_Machine_ask 134 [(0, vR (C + 32)), (1, vR a), (2, vI (m0 : Int)), (3, vR (C + 53))] [vR (hR (sR (sI h7 f_Found_linker (C + 53) 0) f_Found_shape (C + 53) (hR (sI h7 f_Found_linker (C + 53) 0) f_Obj_shape x12)) f_Fun_code x12), vR (C + 53)] (sR (sI h7 f_Found_linker (C + 53) 0) f_Found_shape (C + 53) (hR (sI h7 f_Found_linker (C + 53) 0) f_Obj_shape x12)) Q)))) (fun e10 h9 => hK h9 e10 ≠ 0 ∧ Q (Sum.inr e10) h9)) G F (by omega) d3 d6 (fun _ => ⟨w2, by omega, w5⟩) (by
    have eo : obA h C ty v = hB h (C + 51) v.toNat := if_pos hty
    rw [eo]
    show hK h (C + 53) = k_Found ∧ _
    refine ⟨ko, ?_⟩
    rw [cc_sI (by decide)]
    refine ⟨w5, ?_⟩
    rw [ccRo (by decide), sh, cc_sR (by decide)]
    refine ⟨fun c => g134 0 (by rw [if_neg c]), fun c => ⟨Or.inr (by rw [ccK, (fu c).1]; decide), (fu c).1, ?_⟩⟩
    rw [ccRo (by decide), (fu c).2]
    exact g134 _ (by rw [if_pos c]))
  refine b_Machine_ask_84 (d := d + 20) ?_
  clear g134 q1 q2 q3 q4 PL V T1 d7 d8 A1 NM
  have f1 := F.t ht
  unfold FCt at f1
  have f2 := F
  unfold FC at f2
  simp (decide := true) only [ccI, ccR, ccRo, ccK, ccl, ccA G, ccAt G ht, KC G, KCt G ht, f1, f2, e1, wv, Int.toNat_natCast, true_and, and_true]
  exact ⟨b1, gob⟩
end
