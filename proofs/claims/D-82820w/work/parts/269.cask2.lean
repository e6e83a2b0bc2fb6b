/-! C: a value is asked, joined -/
set_option maxRecDepth 20000
section
variable {ρ : Nat → Nat} {d : Nat} {Q : QT} {Γ : GH} {h h' h0 h1 h2 H : ah} {C ho T k n m f i j N M b a rr mn sn tn row e t z s s0 c o at_ r m0 : Nat} {S S' S1 S2 SX : SS} {X X' X1 X2 : X3} {Y Y' Y1 Y2 : Y3} {g : HG} {v p x y nm ty κ hd w La bv el now : Int} {ws hw : List (List Int)} {l : List Int}
/-- a list or a text -/
theorem r_ask165 (HC : CORE Γ h C ho X Y S N) (q : Q (Sum.inl none) (cc h C (u3 (u3 X 53 f_Found_linker 0 3) 53 f_Found_isText 0 (if ty = 3 then 1 else 0)) Y)) : wpB PGm ρ d m_Machine_ask 165 [(3, vR (C + 53)), (4, vI ty)] [] (cc h C X Y) Q := by
  have ko : hK h (C + 53) = k_Found := HC.1.2.1.2.2.2.2.2.2.1
  refine b_Machine_ask_165 ⟨ko, ?_⟩
  show (¬ ty = 3 → Q (Sum.inl none) (sI (sI (cc h C X Y) f_Found_linker (C + 53) 3) f_Found_isText (C + 53) 0)) ∧ (ty = 3 → Q (Sum.inl none) (sI (sI (cc h C X Y) f_Found_linker (C + 53) 3) f_Found_isText (C + 53) 1))
  rw [cc_sI (by decide), cc_sI (by decide), cc_sI (by decide)]
  refine ⟨fun c => ?_, fun c => ?_⟩
  · rw [if_neg c] at q; exact q
  · rw [if_pos c] at q; exact q
/-- an object of a host, or a class -/
theorem r_ask186 (HC : CORE Γ h C ho X Y S N) (HX : HCX ρ h ho g N M hw) (yo : Y 32 f_Machine_host 0 = ho) (I : IX h C X Y o n c) (A : AXJ X X1) (B : AYJ Y Y1) (PL : ∀ i, i < n → VR Γ S N (X o f_Task_tags i) (X o f_Task_words i) (S f_Md_pileType (2100 * t + i)) (S f_Md_pileValue (2100 * t + i))) (er : rr = 2100 * t + m0) (ety : S f_Md_pileType rr = ty) (ev : S f_Md_pileValue rr = v) (hty : ty = 7 ∨ ty = 8) (ka : hK h a = k_Site) (ek : hI h f_Site_kind a = κ) (em : hI h f_Site_operands a = (mn : Int)) (hm8 : mn ≤ 8) (hm0 : m0 < n) (hm : m0 + 1 + opC κ mn ≤ n) (q : Q (Sum.inl none) (cc h C (fcX S rr (u3 (u3 X1 53 f_Found_linker 0 (if ty = 8 then 2 else 1)) 53 f_Found_operands 0 (opC κ mn : Int)) (opC κ mn)) (u3 Y1 53 f_Found_type 0 (hB h (ho + 2) (gdG S ty v).toNat)))) : wpB PGm ρ (d + 20) m_Machine_ask 186 [(0, vR (C + 32)), (1, vR a), (2, vI (m0 : Int)), (3, vR (C + 53)), (4, vI ty)] [] (cc h C X1 Y1) Q := by
  generalize eL : (if ty = 8 then (2 : Int) else 1) = lk at *
  have F := HC.1.2
  have G := HC.1.1
  have ht := I.2.2.1
  have hn := I.2.2.2.2.1
  have ko : hK h (C + 53) = k_Found := F.1.2.2.2.2.2.2.1
  have e1 : Y1 32 f_Machine_t 0 = C + o := by rw [B _ _ _ (by decide)]; exact I.2.2.2.1.1
  have yo1 : Y1 32 f_Machine_host 0 = ho := by rw [B _ _ _ (by decide)]; exact yo
  have V := PL m0 hm0
  rw [← er, ety, ev] at V
  obtain ⟨v1, v2, V⟩ := V
  have n3 : ¬ ty = 3 := by omega
  have wv : X1 o f_Task_words m0 = v := by
    rw [A _ _ _ (by decide), v2]
    unfold cw
    rw [if_neg n3]
  obtain ⟨tn, sn, sm, d1, d2, d5, d6', d3, d4, d6, d7, d8, U, m1, m2, m3, m4⟩ := HC.shp
  obtain ⟨x1, x2, x3, x4, x5, x6, x7, x8, x9, x10, x11⟩ := HX.hh
  have eB : ∀ i, hB (cc h C (u3 X1 53 f_Found_linker 0 lk) Y1) (C + 51) i = hB h (C + 51) i := fun i => by
    have gz := G.1
    have := ccBo (X := u3 X1 53 f_Found_linker 0 lk) (Y := Y1) (i := i) (f := f_Heap_things) (b := C + 50) G (by decide) (by omega)
    rw [F.2.2.1.2.1] at this; exact this
  have eB2 : ∀ i, hB (cc h C (u3 X1 53 f_Found_linker 0 lk) Y1) (ho + 2) i = hB h (ho + 2) i := fun i => by
    have := ccBo (X := u3 X1 53 f_Found_linker 0 lk) (Y := Y1) (i := i) (f := f_Host_types) (b := ho) G (by decide) x2
    rw [x3] at this; exact this
  have o8 : opC κ mn ≤ 8 := opC_8 hm8
  have b1 : 0 ≤ (m0 : Int) ∧ (m0 : Int) < ((2001 : Nat) : Int) := by omega
  -- behind the class
  have g262 : wpB PGm ρ (d + 20) m_Machine_ask 262 [(0, vR (C + 32)), (1, vR a), (2, vI (m0 : Int)), (3, vR (C + 53))] [vR (hB h (ho + 2) (gdG S ty v).toNat), vR (C + 53)] (cc h C (u3 X1 53 f_Found_linker 0 lk) Y1) Q := by
    have AJ : AXJ X (u3 (u3 X1 53 f_Found_linker 0 lk) 53 f_Found_operands 0 (opC κ mn : Int)) := (A.u (by decide)).u (by decide)
    have BJ : AYJ Y (u3 Y1 53 f_Found_type 0 (hB h (ho + 2) (gdG S ty v).toNat)) := B.u (by decide)
    have g309 := r_ask309 (d := d) (Q := Q) HC HX I AJ BJ PL er (k := opC κ mn) u3_s o8 hm q (opC κ mn) 0 (by omega)
    have g303 : ∀ x : Int, x = (opC κ mn : Int) → wpB PGm ρ (d + 20) m_Machine_ask 303 [(0, vR (C + 32)), (2, vI (m0 : Int)), (3, vR (C + 53))] [vI x, vR (C + 53)] (cc h C (u3 X1 53 f_Found_linker 0 lk) (u3 Y1 53 f_Found_type 0 (hB h (ho + 2) (gdG S ty v).toNat))) Q := fun x ex => by
      subst ex
      refine b_Machine_ask_303 ⟨ko, ?_⟩
      rw [cc_sI (by decide)]
      exact g309
    have ik : hI (cc h C (u3 X1 53 f_Found_linker 0 lk) (u3 Y1 53 f_Found_type 0 (hB h (ho + 2) (gdG S ty v).toNat))) f_Site_kind a = κ := by rw [ccIo (by decide)]; exact ek
    have io : hI (cc h C (u3 X1 53 f_Found_linker 0 lk) (u3 Y1 53 f_Found_type 0 (hB h (ho + 2) (gdG S ty v).toNat))) f_Site_operands a = (mn : Int) := by rw [ccIo (by decide)]; exact em
    have g295 : κ = 5 ∨ κ = 6 → wpB PGm ρ (d + 20) m_Machine_ask 295 [(0, vR (C + 32)), (1, vR a), (2, vI (m0 : Int)), (3, vR (C + 53))] [vR (C + 53)] (cc h C (u3 X1 53 f_Found_linker 0 lk) (u3 Y1 53 f_Found_type 0 (hB h (ho + 2) (gdG S ty v).toNat))) Q := fun c => b_Machine_ask_295 ⟨ka, by rw [io]; exact g303 _ (by unfold opC; rw [if_neg (by omega), if_pos c])⟩
    refine b_Machine_ask_262 ⟨ko, ?_⟩
    rw [cc_sR (by decide)]
    refine ⟨ka, ?_⟩
    rw [ik]
    exact ⟨fun c1 => ⟨fun c => g295 (Or.inl c), fun c5 => ⟨fun c6 => g303 0 (by unfold opC; rw [if_neg c1, if_neg (by omega)]; rfl), fun c => g295 (Or.inr c)⟩⟩, fun c => g303 1 (by unfold opC; rw [if_pos c]; rfl)⟩
  -- the class
  have g199 : ∀ s0 : Int, s0 = lk → wpB PGm ρ (d + 20) m_Machine_ask 199 [(0, vR (C + 32)), (1, vR a), (2, vI (m0 : Int)), (3, vR (C + 53)), (4, vI ty)] [vI s0, vR (C + 53)] (cc h C X1 Y1) Q := fun s0 es0 => by
    rw [es0]; clear es0
    rcases hty with t7 | t8
    · have t7' : ¬ ty = 8 := by omega
      have vv : 0 ≤ v ∧ v < S f_Md_things 0 ∧ S f_Md_thingKind v.toNat = 7 := by
        rcases V with z | z | z | z | z | z
        all_goals try (exfalso; omega)
        obtain ⟨-, -, z1, z2, z3⟩ := z
        exact ⟨z1, z2, by omega⟩
      have TA := (d7 v.toNat (by omega)).p.1
      obtain ⟨-, ⟨t1, t2, t3⟩, -, -, tc⟩ := TA
      have tc3 : hR h f_Instance_type (hB h (C + 51) v.toNat) = hB h (ho + 2) (gdG S ty v).toNat := by
        rcases tc with tc | ⟨-, tc1, tc2, tc3⟩
        · exact absurd vv.2.2 tc.1
        · unfold gdG; rw [if_pos t7]; exact tc3
      have kI : hK h (hB h (C + 51) v.toNat) = k_Instance := by rw [t1, vv.2.2]; decide
      have b2 : 0 ≤ v ∧ v < (hl h (C + 51) : Int) := by omega
      have dd : 10 ≤ d + 20 := by omega
      have w1 : w32 v = v := w32_of (by omega) (by omega)
      have r1 : hR (cc h C (u3 X1 53 f_Found_linker 0 lk) Y1) f_Instance_type (hB h (C + 51) v.toNat) = hB h (ho + 2) (gdG S ty v).toNat := by rw [ccRo (by decide)]; exact tc3
      have k51 : hK h (C + 51) = k_ArrayList := F.2.2.2.1.1.1
      have l51 : lok h (C + 51) := F.2.2.2.1.1
      refine b_Machine_ask_199 dd ?_
      clear PL V d7 d8 q
      have f1 := F.t ht
      unfold FCt at f1
      have f2 := F
      unfold FC at f2
      have wv' : u3 X1 53 f_Found_linker 0 lk o f_Task_words m0 = v := by rw [u3_f (by decide)]; exact wv
      simp (decide := true) only [ccI, ccR, ccRo, ccK, ccl, cclok, ccA G, ccAt G ht, cc_sI, KC G, KCt G ht, f1, f2, e1, w1, eB, k51, l51, r1, wv', t7', Int.toNat_natCast, true_and, and_true, forall_const, false_implies, not_false_eq_true, ko]
      exact ⟨b1, b2, Or.inr (by rw [kI]; decide), kI, g262⟩
    · have vv : 0 ≤ v ∧ v < (N : Int) := by
        rcases V with z | z | z | z | z | z
        all_goals try (exfalso; omega)
        exact z.2
      have gg : gdG S ty v = v := by unfold gdG; rw [if_neg (by omega), if_pos t8]
      have b2 : 0 ≤ v ∧ v < (hl h (ho + 2) : Int) := by omega
      have dd : 10 ≤ d + 20 := by omega
      have kt := (HX.tp (i := v.toNat) (by omega)).1.1
      have w1 : w32 v = v := w32_of (by omega) (by omega)
      rw [gg] at g262
      refine b_Machine_ask_199 dd ?_
      clear PL V d7 d8 q
      have f1 := F.t ht
      unfold FCt at f1
      have f2 := F
      unfold FC at f2
      have wv' : u3 X1 53 f_Found_linker 0 lk o f_Task_words m0 = v := by rw [u3_f (by decide)]; exact wv
      have k2 : hK h (ho + 2) = k_ArrayList := x6.1.1
      have l2 : lok h (ho + 2) := x6.1
      simp (decide := true) only [ccI, ccR, ccRo, ccK, ccl, cclok, ccA G, ccAt G ht, cc_sI, KC G, KCt G ht, f1, f2, e1, yo1, x1, x3, w1, eB2, k2, l2, wv', t8, Int.toNat_natCast, true_and, and_true, forall_const, false_implies, not_true_eq_false, ko]
      exact ⟨b1, b2, Or.inr (by rw [kt]; decide), g262⟩
  refine b_Machine_ask_186 ⟨fun c => g199 1 (by rw [← eL, if_neg c]), fun c => g199 2 (by rw [← eL, if_pos c])⟩
end
