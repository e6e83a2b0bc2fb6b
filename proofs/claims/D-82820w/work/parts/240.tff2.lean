/-! T: the field that a method is for, joined -/
set_option maxRecDepth 20000
section
variable {ρ : Nat → Nat} {P : ah → Nat → Prop} {d : Nat} {Q : QT} {Γ : GH} {h h0 : ah} {C ho T k n m f i j N M b r a s rr mn sn tn row c t E pp x sz tm mb am ab sk rk y0 : Nat} {S S' S1 S2 SX : SS} {X : X3} {Y : Y3} {g : HG} {l L bs ts pf : List Int} {v p y nm ty cnt κ hd w La bv el st LL bb iv : Int} {ls l2 : List ENT} {e : Option (Option AV)}
theorem mem_memG (h : m ∈ memG g k) (W2 : HMW g N M) (hk : k < N) : m < M := by
  unfold memG at h
  obtain ⟨i, hi, rfl⟩ := List.mem_map.mp h
  rw [List.mem_range] at hi
  have := W2 k hk
  omega
theorem fld_lt (W : HWF g N M) {z : Int} (hc : z < (N : Int)) (e : fldG g st l b z = some f) : f < M ∧ fbB g st l f = true := by
  unfold fldG at e
  obtain ⟨x, hx, hf⟩ := List.exists_of_findSome?_eq_some e
  exact ⟨mem_memG (List.mem_of_find?_eq_some hf) W.2.1 ((chnG_ok W.1 b z hc).1.2 x hx), List.find?_some hf⟩
theorem s_fieldFor (W : HWF g N M) (hm : m < M) (hL6 : (g.2 3 m).length ≤ 60) (ec : g.1 5 m = (c : Int)) (hc : c < N) (hn : ∀ i, i < (g.2 3 m).length → 0 ≤ (g.2 3 m).getD i 0) : ∃ S', OFF LWN S S' ∧ TC ρ (PTO ρ g N M) 24 m_Md_fieldFor 0 [(1, vI (m : Int))] [] S (some (some (vI (ffG g m)))) S' := by
  generalize eS : (if setB g m = true ∨ getB g m = true then wnS S (smL (skG (g.2 3 m)) (g.2 3 m)) else S) = S'
  refine ⟨S', ?_, fun d h0 T Q K q => ?_⟩
  · rw [← eS]; split
    · exact wnS_off
    · exact OFF.rf
  have O := K.1.1
  have kT := O.1
  have G := O.2.1
  obtain ⟨⟨a1, a2, -⟩, ⟨r5, -, r7, r8, r9, r10, -, r11, a, r1, r2, hsg⟩, m4⟩ := K.mem hm
  have tA := tAH (S := S) O a2
  have tK := tKH a2.1
  have tL := tLH a2.1
  have kk := a2.2
  have sk1 := K.tx (q := (19, xGET)) (by decide)
  have sk2 := K.tx (q := (20, xIS)) (by decide)
  have sk3 := K.tx (q := (21, xSET)) (by decide)
  have m1 : a ≤ a + (g.2 3 m).length ∧ a + (g.2 3 m).length ≤ 2000000000 := by have := hsg.1; omega
  have m2 : a + (g.2 3 m).length - a = (g.2 3 m).length := by omega
  have m8 : -2147483648 ≤ 8 * (m : Int) ∧ 8 * (m : Int) < 2147483648 ∧ 8 * (m : Int) = ((8 * m : Nat) : Int) := by omega
  have b8 : 0 ≤ ((8 * m : Nat) : Int) ∧ ((8 * m : Nat) : Int) < ((3200 : Nat) : Int) := by omega
  -- the end
  have fin : (setB g m = true ∨ getB g m = true) → ∀ k : Nat, k = skG (g.2 3 m) → k < (g.2 3 m).length → (65 ≤ (g.2 3 m).getD k 0 ∧ (g.2 3 m).getD k 0 ≤ 90) → ∀ y : Int, (y = 1 ∧ setB g m = true ∨ y = 0 ∧ ¬ setB g m = true) → wpB PGm ρ (d + 24) m_Md_fieldFor 177 [(0, vR T), (1, vI (m : Int)), (2, vI ((g.2 3 m).length : Int)), (3, vI y)] [vI (k : Int)] (cn h0 T S) Q := fun sg k ek hk cp y hy => by
    have eS' : wnS S (smL k (g.2 3 m)) = S' := by rw [← eS, if_pos sg, ek]
    have k23 : k = 2 ∨ k = 3 := by rw [ek]; unfold skG; split <;> omega
    refine s_ff188 (d := d + 11) K W hm k23 hk hL6 cp ec hc (by rcases hy with ⟨z, -⟩ | ⟨z, -⟩ <;> omega) ?_
    rw [eS']
    have wn : WNT S' (smL k (g.2 3 m)) := by rw [← eS']; exact wnS_w (by rw [smL_len]; omega)
    have tA' := tAH (S := S') O a2
    refine s_field (d := d + 22) K W.1 W.2.1 hc wn (Or.inl rfl) ?_
    have ff : ffG g m = (match fldG g (-1) (smL k (g.2 3 m)) 61 (c : Int) with | none => -1 | some f => if g.1 7 f = g.1 7 m ∧ g.1 8 f = (if setB g m = true then (g.2 2 m).getD 0 0 else g.1 8 m) then (f : Int) else -1) := by unfold ffG; rw [if_pos sg, ec, ← ek]; rfl
    cases ef : fldG g (-1) (smL k (g.2 3 m)) 61 (c : Int) with
    | none =>
      rw [ef] at ff
      rw [ff] at q
      exact ⟨fun _ => b_Md_fieldFor_348 ⟨fun _ => q, fun z => absurd rfl z⟩, fun z => absurd z (by decide)⟩
    | some f =>
      rw [ef] at ff
      have ff2 : ffG g m = if g.1 7 f = g.1 7 m ∧ g.1 8 f = (if setB g m = true then (g.2 2 m).getD 0 0 else g.1 8 m) then (f : Int) else -1 := ff
      obtain ⟨fM, -⟩ := fld_lt W (by omega) ef
      obtain ⟨-, ⟨-, -, u7, u8, -⟩, f4⟩ := K.mem fM
      have f0 : 0 ≤ (f : Int) := f4.1
      have f0' : ¬ (f : Int) < 0 := by omega
      have z0 : ¬ (g.1 7 f = g.1 7 m ∧ g.1 8 f = (if setB g m = true then (g.2 2 m).getD 0 0 else g.1 8 m)) → wpB PGm ρ (d + 24) m_Md_fieldFor 348 [(6, vI (f : Int))] [vI 0] (cn h0 T S') Q := fun z => b_Md_fieldFor_348 ⟨fun _ => by rw [ff2, if_neg z] at q; exact q, fun z => absurd rfl z⟩
      have z1 : g.1 7 f = g.1 7 m → g.1 8 f = (if setB g m = true then (g.2 2 m).getD 0 0 else g.1 8 m) → wpB PGm ρ (d + 24) m_Md_fieldFor 348 [(6, vI (f : Int))] [vI 1] (cn h0 T S') Q := fun z z' => b_Md_fieldFor_348 ⟨fun c => absurd c (by decide), fun _ => by rw [ff2, if_pos ⟨z, z'⟩] at q; exact q⟩
      have z3 : g.1 7 f = g.1 7 m → y = 0 → wpB PGm ρ (d + 24) m_Md_fieldFor 340 [(6, vI (f : Int))] [vI (g.1 8 m), vI (g.1 8 f)] (cn h0 T S') Q := fun z hy0 => by
        have ns : ¬ setB g m = true := by rcases hy with ⟨c, -⟩ | ⟨-, c⟩; omega; exact c
        exact b_Md_fieldFor_340 ⟨fun c => z0 (fun z => c (by rw [if_neg ns] at z; exact z.2)), fun c => z1 z (by rw [if_neg ns]; exact c)⟩
      have z4 : g.1 7 f = g.1 7 m → ¬ y = 0 → hA h0 (hR h0 f_MdHost_parameter (hR h0 f_Md_host T)) (8 * m) = (g.2 2 m).getD 0 0 ∧ wpB PGm ρ (d + 24) m_Md_fieldFor 340 [(6, vI (f : Int))] [vI ((g.2 2 m).getD 0 0), vI (g.1 8 f)] (cn h0 T S') Q := fun z hy0 => by
        have ns : setB g m = true := by rcases hy with ⟨-, c⟩ | ⟨c, -⟩; exact c; omega
        have l1 : (g.2 2 m).length = 1 := by
          have := ns
          unfold setB at this
          rw [Bool.and_eq_true, Bool.and_eq_true, Bool.and_eq_true] at this
          exact of_decide_eq_true this.2.2.1
        exact ⟨r11 0 (by omega), b_Md_fieldFor_340 ⟨fun c => z0 (fun z => c (by rw [if_pos ns] at z; exact z.2)), fun c => z1 z (by rw [if_pos ns]; exact c)⟩⟩
      have z0' : ¬ g.1 7 f = g.1 7 m → wpB PGm ρ (d + 24) m_Md_fieldFor 348 [(6, vI (f : Int))] [vI 0] (cn h0 T S') Q := fun z => z0 (fun c => z c.1)
      refine ⟨fun z => absurd z f0', fun _ => ?_⟩
      have y8 : w32 (8 * (m : Int)) = ((8 * m : Nat) : Int) := by rw [w32_of m8.1 m8.2.1]; exact m8.2.2
      clear z0 z1 q ff ff2 wn r11 hsg hn
      show _ ∧ _
      simp (decide := true) only [oN, cnI, cnR, cnK, cnl, kT, kk, tA', tK, tL, r7, r8, u7, u8, y8, Int.toNat_natCast, true_and, and_true]
      refine ⟨f4, m4, z0', fun z => ⟨f4, fun h => ⟨m4, z3 z h⟩, fun h => ?_⟩⟩
      obtain ⟨w1, w2⟩ := z4 z h
      rw [w1]
      exact ⟨b8, w2⟩
  -- which letters are skipped
  have g139 : (setB g m = true ∨ getB g m = true) → ∀ y : Int, (y = 1 ∧ setB g m = true ∨ y = 0 ∧ ¬ setB g m = true) → wpB PGm ρ (d + 24) m_Md_fieldFor 139 [(0, vR T), (1, vI (m : Int)), (2, vI ((g.2 3 m).length : Int)), (3, vI y)] [] (cn h0 T S) Q := fun sg y hy => by
    have any : pfxB xSET (g.2 3 m) = true ∨ pfxB xGET (g.2 3 m) = true ∨ pfxB xIS (g.2 3 m) = true := by
      rcases sg with z | z
      · unfold setB at z; rw [Bool.and_eq_true] at z; exact Or.inl z.1
      · unfold getB at z
        rw [Bool.and_eq_true, Bool.or_eq_true, Bool.and_eq_true] at z
        rcases z.2 with z | z
        · exact Or.inr (Or.inl z)
        · exact Or.inr (Or.inr z.1)
    have f3 : ¬ (pfxB xIS (g.2 3 m) = true ∧ ¬ pfxB xSET (g.2 3 m) = true ∧ ¬ pfxB xGET (g.2 3 m) = true) → wpB PGm ρ (d + 24) m_Md_fieldFor 177 [(0, vR T), (1, vI (m : Int)), (2, vI ((g.2 3 m).length : Int)), (3, vI y)] [vI 3] (cn h0 T S) Q := fun z => by
      have e3 : pfxB xSET (g.2 3 m) = true ∨ pfxB xGET (g.2 3 m) = true := by
        by_cases c1 : pfxB xSET (g.2 3 m) = true
        · exact Or.inl c1
        · by_cases c2 : pfxB xGET (g.2 3 m) = true
          · exact Or.inr c2
          · exact absurd ⟨(any.resolve_left c1).resolve_left c2, c1, c2⟩ z
      have pl : 3 < (g.2 3 m).length ∧ 65 ≤ (g.2 3 m).getD 3 0 ∧ (g.2 3 m).getD 3 0 ≤ 90 := by
        rcases e3 with w | w
        · exact pfx_len w
        · exact pfx_len w
      exact fin sg 3 (by unfold skG; rw [if_neg z]) pl.1 pl.2 y hy
    refine b_Md_fieldFor_139 ⟨kT, s_prefixed (d := d + 12) K sk2 hm (fun w => ⟨fun c => absurd c (by decide), fun _ => ⟨kT, s_prefixed (d := d + 12) K sk3 hm (fun w2 => ⟨fun _ => f3 (fun c => c.2.1 w2), fun c => absurd c (by decide)⟩) (fun w2 => ⟨fun c => absurd rfl c, fun _ => ⟨kT, s_prefixed (d := d + 12) K sk1 hm (fun w3 => ⟨fun _ => f3 (fun c => c.2.2 w3), fun c => absurd c (by decide)⟩) (fun w3 => ⟨fun c => absurd rfl c, fun _ => ?_⟩)⟩⟩)⟩⟩) (fun w => ⟨fun _ => f3 (fun c => w c.1), fun c => absurd rfl c⟩)⟩
    have pl := pfx_len w
    exact fin sg 2 (by unfold skG; rw [if_pos ⟨w, w2, w3⟩]) pl.1 pl.2 y hy
  have non : ¬ (setB g m = true ∨ getB g m = true) → Q (Sum.inl (some (vI (-1)))) (cn h0 T S) := fun z => by
    rw [if_neg z] at eS
    unfold ffG at q
    rw [if_neg z, ← eS] at q
    exact q
  have g126 : ∀ y x : Int, (y = 1 ∧ setB g m = true ∨ y = 0 ∧ ¬ setB g m = true) → (x = 1 ∧ getB g m = true ∨ x = 0 ∧ ¬ getB g m = true) → wpB PGm ρ (d + 24) m_Md_fieldFor 126 [(0, vR T), (1, vI (m : Int)), (2, vI ((g.2 3 m).length : Int)), (3, vI y)] [vI x] (cn h0 T S) Q := fun y x hy hx => by
    refine b_Md_fieldFor_126 ⟨fun z => g139 (Or.inl ?_) y hy, fun z => ⟨fun z2 => g139 (Or.inr ?_) y hy, fun z2 => non ?_⟩⟩
    · rcases hy with ⟨-, c⟩ | ⟨c, -⟩; exact c; omega
    · rcases hx with ⟨-, c⟩ | ⟨c, -⟩; exact c; omega
    · rcases hy with ⟨c, -⟩ | ⟨-, c1⟩
      · omega
      · rcases hx with ⟨c, -⟩ | ⟨-, c2⟩
        · omega
        · exact fun c => c.elim c1 c2
  have g73 : ∀ y : Int, (y = 1 ∧ setB g m = true ∨ y = 0 ∧ ¬ setB g m = true) → wpB PGm ρ (d + 24) m_Md_fieldFor 73 [(0, vR T), (1, vI (m : Int)), (2, vI ((g.2 3 m).length : Int))] [vI y] (cn h0 T S) Q := fun y hy => by
    have e0 : ¬ ((g.2 2 m).length : Int) = 0 → ¬ getB g m = true := fun z c => by
      unfold getB at c; rw [Bool.and_eq_true] at c
      have := of_decide_eq_true c.1
      omega
    have e1 : ((g.2 2 m).length : Int) = 0 → (getB g m = true ↔ (pfxB xGET (g.2 3 m) = true ∨ (pfxB xIS (g.2 3 m) = true ∧ g.1 8 m = 3))) := fun z => by
      unfold getB
      rw [Bool.and_eq_true, Bool.or_eq_true, Bool.and_eq_true, decide_eq_true_iff, decide_eq_true_iff]
      exact ⟨fun c => c.2, fun c => ⟨by omega, c⟩⟩
    have q0 := fun z => g126 y 0 hy (Or.inr ⟨rfl, z⟩)
    have q1 := fun z => g126 y 1 hy (Or.inl ⟨rfl, z⟩)
    have gp : ((g.2 2 m).length : Int) = 0 → wpB PGm ρ (d + 23) m_Md_isPrefixed 0 [(0, vR T), (1, vI (m : Int)), (2, vR (ρ 19))] [] (cn h0 T S) (cI (fun x16 h11 => ((¬ x16 = 0 → wpB PGm ρ (d + 24) m_Md_fieldFor 126 [(0, vR T), (1, vI (m : Int)), (2, vI ((g.2 3 m).length : Int)), (3, vI y)] [vI 1] h11 Q) ∧ (x16 = 0 → hK h11 T = k_Md ∧ wpB PGm ρ (d + 23) m_Md_isPrefixed 0 [(0, vR T), (1, vI (m : Int)), (2, vR (ρ 20))] [] h11 (cI (fun x28 h23 => ((x28 = 0 → wpB PGm ρ (d + 24) m_Md_fieldFor 126 [(0, vR T), (1, vI (m : Int)), (2, vI ((g.2 3 m).length : Int)), (3, vI y)] [vI 0] h23 Q) ∧ (¬ x28 = 0 → hK h23 T = k_Md ∧ hK h23 (hR h23 f_Md_host T) = k_MdHost ∧ (hK h23 (hR h23 f_MdHost_type (hR h23 f_Md_host T)) ∈ [1, 11] ∧ 0 ≤ (m : Int) ∧ (m : Int) < (hl h23 (hR h23 f_MdHost_type (hR h23 f_Md_host T)) : Int)) ∧ ((¬ (hA h23 (hR h23 f_MdHost_type (hR h23 f_Md_host T)) m) = 3 → wpB PGm ρ (d + 24) m_Md_fieldFor 126 [(0, vR T), (1, vI (m : Int)), (2, vI ((g.2 3 m).length : Int)), (3, vI y)] [vI 0] h23 Q) ∧ ((hA h23 (hR h23 f_MdHost_type (hR h23 f_Md_host T)) m) = 3 → wpB PGm ρ (d + 24) m_Md_fieldFor 126 [(0, vR T), (1, vI (m : Int)), (2, vI ((g.2 3 m).length : Int)), (3, vI y)] [vI 1] h23 Q))))) (fun e26 h25 => hK h25 e26 ≠ 0 ∧ Q (Sum.inr e26) h25))))) (fun e14 h13 => hK h13 e14 ≠ 0 ∧ Q (Sum.inr e14) h13)) := fun z => by
      refine s_prefixed (d := d + 12) K sk1 hm (fun w => ⟨fun _ => q1 ((e1 z).mpr (Or.inl w)), fun c => absurd c (by decide)⟩) (fun w => ⟨fun c => absurd rfl c, fun _ => ⟨kT, s_prefixed (d := d + 12) K sk2 hm (fun w2 => ⟨fun c => absurd c (by decide), fun _ => ?_⟩) (fun w2 => ⟨fun _ => q0 (fun c => ((e1 z).mp c).elim w (fun c => w2 c.1)), fun c => absurd rfl c⟩)⟩⟩)
      have x0 : ¬ g.1 8 m = 3 → wpB PGm ρ (d + 24) m_Md_fieldFor 126 [(0, vR T), (1, vI (m : Int)), (2, vI ((g.2 3 m).length : Int)), (3, vI y)] [vI 0] (cn h0 T S) Q := fun c => q0 (fun c2 => ((e1 z).mp c2).elim w (fun c3 => c c3.2))
      have x1 : g.1 8 m = 3 → wpB PGm ρ (d + 24) m_Md_fieldFor 126 [(0, vR T), (1, vI (m : Int)), (2, vI ((g.2 3 m).length : Int)), (3, vI y)] [vI 1] (cn h0 T S) Q := fun c => q1 ((e1 z).mpr (Or.inr ⟨w2, c⟩))
      clear q0 q1 g126 g139 fin non q e0 e1 hy r11 hsg hn
      simp (decide := true) (disch := first | decide | omega) only [cnI, cnR, cnK, cnl, kT, kk, tA, tK, tL, r8, Int.toNat_natCast, true_and, and_true]
      exact ⟨m4, x0, x1⟩
    have x0 : ¬ ((g.2 2 m).length : Int) = 0 → wpB PGm ρ (d + 24) m_Md_fieldFor 126 [(0, vR T), (1, vI (m : Int)), (2, vI ((g.2 3 m).length : Int)), (3, vI y)] [vI 0] (cn h0 T S) Q := fun z => q0 (e0 z)
    refine b_Md_fieldFor_73 ?_
    clear q0 q1 g126 g139 fin non q e0 e1 hy r11 hsg hn
    simp (decide := true) (disch := first | decide | omega) only [cnI, cnR, cnK, cnl, kT, kk, tA, tK, tL, r10, Int.toNat_natCast, true_and, and_true]
    exact ⟨m4, x0, gp⟩
  have sB : setB g m = true ↔ (pfxB xSET (g.2 3 m) = true ∧ g.1 8 m = 0 ∧ ((g.2 2 m).length : Int) = 1 ∧ g.1 9 m = 0) := by
    unfold setB
    rw [Bool.and_eq_true, Bool.and_eq_true, Bool.and_eq_true, decide_eq_true_iff, decide_eq_true_iff, decide_eq_true_iff]
    exact ⟨fun c => ⟨c.1, c.2.1, by omega, c.2.2.2⟩, fun c => ⟨c.1, c.2.1, by omega, c.2.2.2⟩⟩
  have y0 := g73 0
  have y1 := g73 1
  have gp : wpB PGm ρ (d + 23) m_Md_isPrefixed 0 [(0, vR T), (1, vI (m : Int)), (2, vR (ρ 21))] [] (cn h0 T S) (cI (fun x12 h7 => ((x12 = 0 → wpB PGm ρ (d + 24) m_Md_fieldFor 73 [(0, vR T), (1, vI (m : Int)), (2, vI ((g.2 3 m).length : Int))] [vI 0] h7 Q) ∧ (¬ x12 = 0 → hK h7 T = k_Md ∧ hK h7 (hR h7 f_Md_host T) = k_MdHost ∧ (hK h7 (hR h7 f_MdHost_type (hR h7 f_Md_host T)) ∈ [1, 11] ∧ 0 ≤ (m : Int) ∧ (m : Int) < (hl h7 (hR h7 f_MdHost_type (hR h7 f_Md_host T)) : Int)) ∧ ((¬ (hA h7 (hR h7 f_MdHost_type (hR h7 f_Md_host T)) m) = 0 → wpB PGm ρ (d + 24) m_Md_fieldFor 73 [(0, vR T), (1, vI (m : Int)), (2, vI ((g.2 3 m).length : Int))] [vI 0] h7 Q) ∧ ((hA h7 (hR h7 f_MdHost_type (hR h7 f_Md_host T)) m) = 0 → (hK h7 (hR h7 f_MdHost_parameters (hR h7 f_Md_host T)) ∈ [1, 11] ∧ 0 ≤ (m : Int) ∧ (m : Int) < (hl h7 (hR h7 f_MdHost_parameters (hR h7 f_Md_host T)) : Int)) ∧ ((¬ (hA h7 (hR h7 f_MdHost_parameters (hR h7 f_Md_host T)) m) = 1 → wpB PGm ρ (d + 24) m_Md_fieldFor 73 [(0, vR T), (1, vI (m : Int)), (2, vI ((g.2 3 m).length : Int))] [vI 0] h7 Q) ∧ ((hA h7 (hR h7 f_MdHost_parameters (hR h7 f_Md_host T)) m) = 1 → (hK h7 (hR h7 f_MdHost_variable (hR h7 f_Md_host T)) ∈ [3, 4, 13] ∧ 0 ≤ (m : Int) ∧ (m : Int) < (hl h7 (hR h7 f_MdHost_variable (hR h7 f_Md_host T)) : Int)) ∧ ((¬ (hA h7 (hR h7 f_MdHost_variable (hR h7 f_Md_host T)) m) = 0 → wpB PGm ρ (d + 24) m_Md_fieldFor 73 [(0, vR T), (1, vI (m : Int)), (2, vI ((g.2 3 m).length : Int))] [vI 0] h7 Q) ∧ ((hA h7 (hR h7 f_MdHost_variable (hR h7 f_Md_host T)) m) = 0 → wpB PGm ρ (d + 24) m_Md_fieldFor 73 [(0, vR T), (1, vI (m : Int)), (2, vI ((g.2 3 m).length : Int))] [vI 1] h7 Q))))))))) (fun e10 h9 => hK h9 e10 ≠ 0 ∧ Q (Sum.inr e10) h9)) := by
    refine s_prefixed (d := d + 12) K sk3 hm (fun w => ⟨fun c => absurd c (by decide), fun _ => ?_⟩) (fun w => ⟨fun _ => y0 (Or.inr ⟨rfl, fun c => w (sB.mp c).1⟩), fun c => absurd rfl c⟩)
    have x1 : ¬ g.1 8 m = 0 → wpB PGm ρ (d + 24) m_Md_fieldFor 73 [(0, vR T), (1, vI (m : Int)), (2, vI ((g.2 3 m).length : Int))] [vI 0] (cn h0 T S) Q := fun z => y0 (Or.inr ⟨rfl, fun c => z (sB.mp c).2.1⟩)
    have x2 : ¬ ((g.2 2 m).length : Int) = 1 → wpB PGm ρ (d + 24) m_Md_fieldFor 73 [(0, vR T), (1, vI (m : Int)), (2, vI ((g.2 3 m).length : Int))] [vI 0] (cn h0 T S) Q := fun z => y0 (Or.inr ⟨rfl, fun c => z (sB.mp c).2.2.1⟩)
    have x3 : ¬ g.1 9 m = 0 → wpB PGm ρ (d + 24) m_Md_fieldFor 73 [(0, vR T), (1, vI (m : Int)), (2, vI ((g.2 3 m).length : Int))] [vI 0] (cn h0 T S) Q := fun z => y0 (Or.inr ⟨rfl, fun c => z (sB.mp c).2.2.2⟩)
    have x4 : g.1 8 m = 0 → ((g.2 2 m).length : Int) = 1 → g.1 9 m = 0 → wpB PGm ρ (d + 24) m_Md_fieldFor 73 [(0, vR T), (1, vI (m : Int)), (2, vI ((g.2 3 m).length : Int))] [vI 1] (cn h0 T S) Q := fun z1 z2 z3 => y1 (Or.inl ⟨rfl, sB.mpr ⟨w, z1, z2, z3⟩⟩)
    clear y0 y1 g73 g126 g139 fin non q sB r11 hsg hn
    simp (decide := true) (disch := first | decide | omega) only [cnI, cnR, cnK, cnl, kT, kk, tA, tK, tL, r8, r9, r10, Int.toNat_natCast, true_and, and_true]
    exact ⟨m4, x1, fun z => ⟨m4, x2, fun z2 => ⟨m4, x3, fun z3 => x4 z z2 z3⟩⟩⟩
  have yy : w32 (((a + (g.2 3 m).length : Nat) : Int) - (a : Int)) = ((g.2 3 m).length : Int) := by rw [w32_ss m1, m2]
  refine b_Md_fieldFor_0 ?_
  clear y0 y1 g73 g126 g139 fin non q sB r11 hsg hn
  simp (decide := true) (disch := first | decide | omega) only [cnI, cnR, cnK, cnl, kT, kk, tA, tK, tL, r1, r2, yy, Int.toNat_natCast, true_and, and_true]
  exact ⟨m4, m4, gp⟩
end
