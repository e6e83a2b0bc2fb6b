/-! add and clear, over the heap itself -/
set_option maxRecDepth 100000
theorem d_g0_0 : decode prog_75_method_7_code 0 = .ok (.aload_n 0, 1) := by decide +kernel
theorem d_g0_1 : decode prog_75_method_7_code 1 = .ok (.aload_n 0, 1) := by decide +kernel
theorem d_g0_2 : decode prog_75_method_7_code 2 = .ok (.getfield 48, 3) := by decide +kernel
theorem d_g0_5 : decode prog_75_method_7_code 5 = .ok (.iconst 1, 1) := by decide +kernel
theorem d_g0_6 : decode prog_75_method_7_code 6 = .ok (.iadd, 1) := by decide +kernel
theorem d_g0_7 : decode prog_75_method_7_code 7 = .ok (.invokevirtual 69, 3) := by decide +kernel
theorem d_g0_10 : decode prog_75_method_7_code 10 = .ok (.areturn, 1) := by decide +kernel
theorem d_a3_0 : decode prog_75_method_24_code 0 = .ok (.iload_n 3, 1) := by decide +kernel
theorem d_a3_1 : decode prog_75_method_24_code 1 = .ok (.aload_n 2, 1) := by decide +kernel
theorem d_a3_2 : decode prog_75_method_24_code 2 = .ok (.arraylength, 1) := by decide +kernel
theorem d_a3_3 : decode prog_75_method_24_code 3 = .ok (.if_icmp .ne 8, 3) := by decide +kernel
theorem d_a3_6 : decode prog_75_method_24_code 6 = .ok (.aload_n 0, 1) := by decide +kernel
theorem d_a3_7 : decode prog_75_method_24_code 7 = .ok (.invokevirtual 129, 3) := by decide +kernel
theorem d_a3_10 : decode prog_75_method_24_code 10 = .ok (.astore_n 2, 1) := by decide +kernel
theorem d_a3_11 : decode prog_75_method_24_code 11 = .ok (.aload_n 2, 1) := by decide +kernel
theorem d_a3_12 : decode prog_75_method_24_code 12 = .ok (.iload_n 3, 1) := by decide +kernel
theorem d_a3_13 : decode prog_75_method_24_code 13 = .ok (.aload_n 1, 1) := by decide +kernel
theorem d_a3_14 : decode prog_75_method_24_code 14 = .ok (.aastore, 1) := by decide +kernel
theorem d_a3_15 : decode prog_75_method_24_code 15 = .ok (.aload_n 0, 1) := by decide +kernel
theorem d_a3_16 : decode prog_75_method_24_code 16 = .ok (.iload_n 3, 1) := by decide +kernel
theorem d_a3_17 : decode prog_75_method_24_code 17 = .ok (.iconst 1, 1) := by decide +kernel
theorem d_a3_18 : decode prog_75_method_24_code 18 = .ok (.iadd, 1) := by decide +kernel
theorem d_a3_19 : decode prog_75_method_24_code 19 = .ok (.putfield 48, 3) := by decide +kernel
theorem d_a3_22 : decode prog_75_method_24_code 22 = .ok (.return_, 1) := by decide +kernel
theorem d_ad_0 : decode prog_75_method_25_code 0 = .ok (.aload_n 0, 1) := by decide +kernel
theorem d_ad_1 : decode prog_75_method_25_code 1 = .ok (.dup, 1) := by decide +kernel
theorem d_ad_2 : decode prog_75_method_25_code 2 = .ok (.getfield 63, 3) := by decide +kernel
theorem d_ad_5 : decode prog_75_method_25_code 5 = .ok (.iconst 1, 1) := by decide +kernel
theorem d_ad_6 : decode prog_75_method_25_code 6 = .ok (.iadd, 1) := by decide +kernel
theorem d_ad_7 : decode prog_75_method_25_code 7 = .ok (.putfield 63, 3) := by decide +kernel
theorem d_ad_10 : decode prog_75_method_25_code 10 = .ok (.aload_n 0, 1) := by decide +kernel
theorem d_ad_11 : decode prog_75_method_25_code 11 = .ok (.aload_n 1, 1) := by decide +kernel
theorem d_ad_12 : decode prog_75_method_25_code 12 = .ok (.aload_n 0, 1) := by decide +kernel
theorem d_ad_13 : decode prog_75_method_25_code 13 = .ok (.getfield 9, 3) := by decide +kernel
theorem d_ad_16 : decode prog_75_method_25_code 16 = .ok (.aload_n 0, 1) := by decide +kernel
theorem d_ad_17 : decode prog_75_method_25_code 17 = .ok (.getfield 48, 3) := by decide +kernel
theorem d_ad_20 : decode prog_75_method_25_code 20 = .ok (.invokevirtual 131, 3) := by decide +kernel
theorem d_ad_23 : decode prog_75_method_25_code 23 = .ok (.iconst 1, 1) := by decide +kernel
theorem d_ad_24 : decode prog_75_method_25_code 24 = .ok (.ireturn, 1) := by decide +kernel
theorem d_cl_0 : decode prog_75_method_40_code 0 = .ok (.aload_n 0, 1) := by decide +kernel
theorem d_cl_1 : decode prog_75_method_40_code 1 = .ok (.dup, 1) := by decide +kernel
theorem d_cl_2 : decode prog_75_method_40_code 2 = .ok (.getfield 63, 3) := by decide +kernel
theorem d_cl_5 : decode prog_75_method_40_code 5 = .ok (.iconst 1, 1) := by decide +kernel
theorem d_cl_6 : decode prog_75_method_40_code 6 = .ok (.iadd, 1) := by decide +kernel
theorem d_cl_7 : decode prog_75_method_40_code 7 = .ok (.putfield 63, 3) := by decide +kernel
theorem d_cl_10 : decode prog_75_method_40_code 10 = .ok (.aload_n 0, 1) := by decide +kernel
theorem d_cl_11 : decode prog_75_method_40_code 11 = .ok (.getfield 9, 3) := by decide +kernel
theorem d_cl_14 : decode prog_75_method_40_code 14 = .ok (.astore_n 1, 1) := by decide +kernel
theorem d_cl_15 : decode prog_75_method_40_code 15 = .ok (.aload_n 0, 1) := by decide +kernel
theorem d_cl_16 : decode prog_75_method_40_code 16 = .ok (.getfield 48, 3) := by decide +kernel
theorem d_cl_19 : decode prog_75_method_40_code 19 = .ok (.istore_n 2, 1) := by decide +kernel
theorem d_cl_20 : decode prog_75_method_40_code 20 = .ok (.aload_n 0, 1) := by decide +kernel
theorem d_cl_21 : decode prog_75_method_40_code 21 = .ok (.iconst 0, 1) := by decide +kernel
theorem d_cl_22 : decode prog_75_method_40_code 22 = .ok (.dup_x1, 1) := by decide +kernel
theorem d_cl_23 : decode prog_75_method_40_code 23 = .ok (.putfield 48, 3) := by decide +kernel
theorem d_cl_26 : decode prog_75_method_40_code 26 = .ok (.istore_n 3, 1) := by decide +kernel
theorem d_cl_27 : decode prog_75_method_40_code 27 = .ok (.iload_n 3, 1) := by decide +kernel
theorem d_cl_28 : decode prog_75_method_40_code 28 = .ok (.iload_n 2, 1) := by decide +kernel
theorem d_cl_29 : decode prog_75_method_40_code 29 = .ok (.if_icmp .ge 13, 3) := by decide +kernel
theorem d_cl_32 : decode prog_75_method_40_code 32 = .ok (.aload_n 1, 1) := by decide +kernel
theorem d_cl_33 : decode prog_75_method_40_code 33 = .ok (.iload_n 3, 1) := by decide +kernel
theorem d_cl_34 : decode prog_75_method_40_code 34 = .ok (.aconst_null, 1) := by decide +kernel
theorem d_cl_35 : decode prog_75_method_40_code 35 = .ok (.aastore, 1) := by decide +kernel
theorem d_cl_36 : decode prog_75_method_40_code 36 = .ok (.iinc 3 1, 3) := by decide +kernel
theorem d_cl_39 : decode prog_75_method_40_code 39 = .ok (.goto (-12), 3) := by decide +kernel
theorem d_cl_42 : decode prog_75_method_40_code 42 = .ok (.return_, 1) := by decide +kernel
section
variable {G : GX}
theorem hclsL {s : State} (hEV : EV8 G s) : s.vm.findClass "java/util/ArrayList" = some ((gD G).1 190) := (hEV.2.1.1 clsR190 (by simp [clsT])).2.1
theorem jx_g0 (hG : GOK G) : JX G ⟨"java/util/ArrayList", "grow", "()[Ljava/lang/Object;"⟩ prog_75_method_7_code 1 (some (.array (.object "java/lang/Object"))) 4 130 (fun a H KH mc ms => ∃ (x ee k : Nat) (mo : Int32) (F : Nat → Value), a = #[.ref x] ∧ LAt G H x ee mo (Int32.ofNat k) k k F ∧ k ≤ 2000000 ∧ (k = 0 → ee = gE G) ∧ (∀ i, i < k → isO G H (F i)) ∧ gB G ≤ x ∧ gB G ≤ H.size ∧ (∀ q, q < gB G → H[q]? = (gH G)[q]?) ∧ 1 ≤ mc ∧ lgrow k ≤ ms ∧
    ∀ H', LAt G H' x H.size mo (Int32.ofNat k) (lgrow k) k F → H'.size = H.size + 1 → (∀ q, q < H.size → q ≠ x → H'[q]? = H[q]?) → KH (some (.ref H.size)) H' (lgrow k)) := by
  intro p l e R s m args below meth c KH hexec hEV hown hb hml hr hlk hfr hlo hPH
  obtain ⟨x, ee, k, mo, F, rfl, hLA, hk2, hk0, hO', hBx, hB, hlow, h9, h10, hk⟩ := hPH
  obtain ⟨cell, cE, c1, c2, c3, c4, c5, c6, c7, c8, c9, c10, c11⟩ := id hLA
  show W p l e R s m _ below meth c s.heap [] 0 0 _ (F0 m 0 #[.val (.ref x)] [])
  refine lv_aload_n hexec hb d_g0_0 rfl rfl ?_
  refine lv_aload_n hexec hb d_g0_1 rfl rfl ?_
  refine xg_n hexec hb hEV hown c1 c2 c6 d_g0_2 ?_
  refine lv_iconst hexec hb (v := 1) d_g0_5 (by decide) ?_
  refine lv_iadd hexec hb d_g0_6 ?_
  have e1 : Int32.ofNat k + 1 = Int32.ofNat (k + 1) := nI_1 k
  rw [e1]
  refine x_P hG.1 (jx_gI hG) hexec hEV hown q1040 q1042 q1041 q528 q1043 ⟨by decide, by decide⟩ (by decide +kernel) (np0 (n := 1) (by decide +kernel)) hb (by rw [hml]; rfl) d_g0_7 [.int (Int32.ofNat (k + 1))] [] c1 c2 rfl nil_locs (by omega) (by show 0 + (4 + 11) + 100 ≤ _; omega) (Nat.zero_le _) (Nat.zero_le _) (KH := fun v H' z => v = some (.ref s.heap.size) ∧ LAt G H' x s.heap.size mo (Int32.ofNat k) (lgrow k) k F ∧ H'.size = s.heap.size + 1 ∧ (∀ q, q < s.heap.size → q ≠ x → H'[q]? = s.heap[q]?) ∧ z = lgrow k) ⟨x, ee, k, mo, _, F, rfl, hLA, rfl, hk2, hk0, hO', hBx, hB, hlow, h9, h10, fun H' a b d => ⟨rfl, a, b, d, rfl⟩⟩ (fun H' locs' k n hk9 => by cases hk9.1) ?_
  rintro v H' locs' k' n' ⟨hv, a, b, d, rfl⟩ hL hsz
  cases hv
  refine x_aret hexec hb hlk hr (Or.inr ⟨_, rfl⟩) (Or.inr ⟨_, rfl⟩) d_g0_10 hL (by omega) ?_
  rw [Nat.zero_add]; exact hk H' a b d
/-- what add leaves -/
def ladded (G : GX) (H H' : Heap) (x ee : Nat) (mo : Int32) (n cap : Nat) (F : Nat → Value) (v : Value) : Prop :=
  ∃ ee' cap', LAt G H' x ee' mo (Int32.ofNat (n + 1)) cap' (n + 1) (fun i => if i = n then v else F i) ∧ ((n < cap ∧ ee' = ee ∧ cap' = cap ∧ H'.size = H.size ∧ ∀ q, q ≠ x → q ≠ ee → H'[q]? = H[q]?) ∨ (n = cap ∧ ee' = H.size ∧ cap' = lgrow n ∧ H'.size = H.size + 1 ∧ ∀ q, q < H.size → q ≠ x → H'[q]? = H[q]?))
def addPre (G : GX) (H : Heap) (x ee : Nat) (mo : Int32) (n cap : Nat) (F : Nat → Value) (v : Value) (mc ms : Nat) : Prop :=
  LAt G H x ee mo (Int32.ofNat n) cap n F ∧ n ≤ cap ∧ cap ≤ 3000000 ∧ n ≤ 1000000 ∧ x ≠ ee ∧ isO G H v ∧ (cap = 0 → ee = gE G) ∧ (0 < cap → gB G ≤ ee) ∧ (∀ i, i < n → isO G H (F i)) ∧ gB G ≤ x ∧ gB G ≤ H.size ∧ (∀ q, q < gB G → H[q]? = (gH G)[q]?) ∧ (n = cap → 1 ≤ mc ∧ lgrow n ≤ ms)
def addS (n cap : Nat) : Nat := if n = cap then lgrow n else 0
theorem jx_a3 (hG : GOK G) : JX G ⟨"java/util/ArrayList", "add", "(Ljava/lang/Object;[Ljava/lang/Object;I)V"⟩ prog_75_method_24_code 4 none 5 160 (fun a H KH mc ms => ∃ (x ee n cap : Nat) (mo : Int32) (F : Nat → Value) (v : Value), a = #[.ref x, v, .ref ee, .int (Int32.ofNat n)] ∧ addPre G H x ee mo n cap F v mc ms ∧ ∀ H', ladded G H H' x ee mo n cap F v → KH none H' (addS n cap)) := by
  intro p l e R s m args below meth c KH hexec hEV hown hb hml hr hlk hfr hlo hPH
  obtain ⟨x, ee, n, cap, mo, F, v, rfl, ⟨hLA, hnc, hc3, hn1, hxe, hv, hc0, hcB, hO', hBx, hB, hlow, hroom⟩, hk⟩ := hPH
  obtain ⟨cell, cE, c1, c2, c3, c4, c5, c6, c7, c8, c9, c10, c11⟩ := id hLA
  have hxl : x < s.heap.size := (Array.getElem?_eq_some_iff.mp c1).1
  have o31 : ∀ z : Nat, z < 2147483648 → (Int32.ofNat z).toInt = z := fun z hz => Int32.toInt_ofNat_of_lt hz
  have clN : ∀ z : Nat, z < 2147483648 → (Int32.ofNat z).toNatClampNeg = z := fun z hz => by show (Int32.ofNat z).toInt.toNat = z; rw [o31 z hz]; rfl
  have e1 : Int32.ofNat n + 1 = Int32.ofNat (n + 1) := nI_1 n
  have key : W p l e R s m #[.ref x, v, .ref ee, .int (Int32.ofNat n)] below meth c s.heap [] 0 0 (XQ s below (gB G) KH) (F0 m 0 #[.val (.ref x), .val v, .val (.ref ee), .val (.int (Int32.ofNat n))] []) := by
    have hl : lv_has #[.val (.ref x), .val v, .val (.ref ee), .val (.int (Int32.ofNat n))] 4 [(0, .ref x), (1, v), (2, .ref ee), (3, .int (Int32.ofNat n))] := by
      rcases isO_r hv with rfl | ⟨b, rfl⟩
      · exact lv_entry (n := 4) [.ref x, .null, .ref ee, .int (Int32.ofNat n)] (Nat.le_of_ble_eq_true rfl)
      · exact lv_entry (n := 4) [.ref x, .ref b, .ref ee, .int (Int32.ofNat n)] (Nat.le_of_ble_eq_true rfl)
    have tail : ∀ (H1 : Heap) (locs1 : List Loc) (cells1 : Nat) (ls1 : Array Slot) (e1' cap1 : Nat), LAt G H1 x e1' mo (Int32.ofNat n) cap1 n F → n < cap1 → x ≠ e1' → gB G ≤ e1' → isO G H1 v → lv_has ls1 4 [(2, .ref e1'), (0, .ref x), (1, v), (3, .int (Int32.ofNat n))] → (∀ q ∈ locs1, gB G ≤ q.base) → H1.size = s.heap.size + cells1 → (∀ H', LAt G H' x e1' mo (Int32.ofNat (n + 1)) cap1 (n + 1) (fun i => if i = n then v else F i) → H'.size = H1.size → (∀ q, q ≠ x → q ≠ e1' → H'[q]? = H1[q]?) → KH none H' (addS n cap)) → W p l e R s m #[.ref x, v, .ref ee, .int (Int32.ofNat n)] below meth c H1 locs1 cells1 (addS n cap) (XQ s below (gB G) KH) (F0 m 11 ls1 []) := by
      rintro H1 locs1 cells1 ls1 e1' cap1 ⟨cl, cA, a1, a2, a3, a4, a5, a6, a7, a8, a9, a10, a11⟩ hlt hxe' hBe hvO hl1 hL1 hsz1 hpost
      refine lv_aload_n hexec hb d_a3_11 rfl (by first | exact lv_k hl1 0 rfl | exact lv_k hl1 1 rfl | exact lv_k hl1 2 rfl | exact lv_k hl1 3 rfl) ?_
      refine lv_iload_n hexec hb d_a3_12 rfl (by first | exact lv_k hl1 0 rfl | exact lv_k hl1 1 rfl | exact lv_k hl1 2 rfl | exact lv_k hl1 3 rfl) ?_
      have ld : W p l e R s m #[.ref x, v, .ref ee, .int (Int32.ofNat n)] below meth c H1 locs1 cells1 (addS n cap) (XQ s below (gB G) KH) (F0 m 14 ls1 [v, .int (Int32.ofNat n), .ref e1']) → W p l e R s m #[.ref x, v, .ref ee, .int (Int32.ofNat n)] below meth c H1 locs1 cells1 (addS n cap) (XQ s below (gB G) KH) (F0 m 13 ls1 [.int (Int32.ofNat n), .ref e1']) := by
        intro kk
        rcases isO_r hvO with rfl | ⟨b, rfl⟩
        · exact lv_aload_nN hexec hb d_a3_13 rfl (by first | exact lv_k hl1 0 rfl | exact lv_k hl1 1 rfl | exact lv_k hl1 2 rfl | exact lv_k hl1 3 rfl) kk
        · exact lv_aload_n hexec hb d_a3_13 rfl (by first | exact lv_k hl1 0 rfl | exact lv_k hl1 1 rfl | exact lv_k hl1 2 rfl | exact lv_k hl1 3 rfl) kk
      refine ld ?_
      refine x_aast hexec hb hEV a7 a8 a9 (by rw [Int32.lt_iff_toInt_lt, o31 _ (by omega), Int32.toInt_zero]; omega) (by rw [clN _ (by omega), a10.2 (by omega)]; omega) hvO hL1 hBe d_a3_14 fun H2 locs2 o2 hL2 => ?_
      rw [clN _ (by omega)] at o2
      obtain ⟨o21, o22, o23⟩ := o2
      refine lv_aload_n hexec hb d_a3_15 rfl (by first | exact lv_k hl1 0 rfl | exact lv_k hl1 1 rfl | exact lv_k hl1 2 rfl | exact lv_k hl1 3 rfl) ?_
      refine lv_iload_n hexec hb d_a3_16 rfl (by first | exact lv_k hl1 0 rfl | exact lv_k hl1 1 rfl | exact lv_k hl1 2 rfl | exact lv_k hl1 3 rfl) ?_
      refine lv_iconst hexec hb (v := 1) d_a3_17 (by decide) ?_
      refine lv_iadd hexec hb d_a3_18 ?_
      rw [e1]
      refine xp_n hexec hb hEV hown (a := x) (by rw [o23 x hxe']; exact a1) a2 a3 a6 hL2 hBx d_a3_19 fun H3 locs3 f1 f2 f3 hL3 => ?_
      refine x_vret hexec hb hlk hr d_a3_22 hL3 (by rw [f2, o22]; exact hsz1) ?_
      have n02 := l_apart hEV (i := 2) (j := 0) (by decide) (by decide) (by decide)
      have n12 := l_apart hEV (i := 2) (j := 1) (by decide) (by decide) (by decide)
      have hsn : cA.slots.size = cap1 := a10.2 (by omega)
      have hex : ∃ w, cA.slots[n]? = some w := ⟨cA.slots[n]'(by omega), Array.getElem?_eq_getElem (by omega)⟩
      obtain ⟨w, hw⟩ := hex
      refine hpost H3 ⟨_, cA.setSlot n v, f1, a2, a3, by rw [st_ne n02]; exact a4, by rw [st_ne n12]; exact a5, st_eq a6, by rw [f3 _ (Ne.symm hxe')]; exact o21, a8, a9, szC_of (by simp [Cell.setSlot, a10.2 (show 0 < cap1 by omega)]), fun i hi => ?_⟩ (by rw [f2, o22]) (fun q h1 h2 => by rw [f3 q h1, o23 q h2])
      show (cA.setSlot n v).slots[i]? = some (if i = n then v else F i)
      by_cases hin : i = n
      · subst hin; rw [if_pos rfl]; exact st_eq hw
      · rw [if_neg hin, st_ne (Ne.symm hin)]; exact a11 i (by omega)
    refine lv_iload_n hexec hb d_a3_0 rfl (by first | exact lv_k hl 0 rfl | exact lv_k hl 1 rfl | exact lv_k hl 2 rfl | exact lv_k hl 3 rfl) ?_
    refine lv_aload_n hexec hb d_a3_1 rfl (by first | exact lv_k hl 0 rfl | exact lv_k hl 1 rfl | exact lv_k hl 2 rfl | exact lv_k hl 3 rfl) ?_
    refine x_alen hexec hb hEV c7 c8 c9 (n := Int32.ofNat cap) c10.1 d_a3_2 ?_
    refine lv_icmp_ne hexec hb d_a3_3 (tgt := 11) rfl (fun z => ?_) (fun z => ?_)
    · have hne : n ≠ cap := fun z9 => z (by rw [z9])
      have hs0 : addS n cap = 0 := by unfold addS; rw [if_neg hne]
      have := tail s.heap [] 0 _ ee cap hLA (by omega) hxe (hcB (by omega)) hv ⟨hl.1, hl.2.1, fun q hq => hl.2.2 q (by simp only [List.mem_cons, List.not_mem_nil, or_false] at hq ⊢; rcases hq with h9 | h9 | h9 | h9 <;> simp [h9])⟩ nil_locs rfl (fun H' b1 b2 b3 => hk H' ⟨ee, cap, b1, Or.inl ⟨by omega, rfl, rfl, b2, b3⟩⟩)
      rw [hs0] at this
      exact this
    · have heq : n = cap := by
        have := congrArg Int32.toInt z
        rw [o31 _ (by omega), o31 _ (by omega)] at this
        omega
      obtain ⟨hm1, hm2⟩ := hroom heq
      have hs0 : addS n cap = lgrow n := by unfold addS; rw [if_pos heq]
      refine lv_aload_n hexec hb d_a3_6 rfl (by first | exact lv_k hl 0 rfl | exact lv_k hl 1 rfl | exact lv_k hl 2 rfl | exact lv_k hl 3 rfl) ?_
      refine x_P hG.1 (jx_g0 hG) hexec hEV hown q1036 q1038 q1037 q528 q1039 ⟨by decide, by decide⟩ (by decide +kernel) (np0 (n := 0) (by decide +kernel)) hb (by rw [hml]; rfl) d_a3_7 [] [] c1 c2 rfl nil_locs (by omega) (by show 0 + (1 + 11) + 130 ≤ _; omega) (Nat.zero_le _) (Nat.zero_le _) (KH := fun v9 H' z => v9 = some (.ref s.heap.size) ∧ LAt G H' x s.heap.size mo (Int32.ofNat n) (lgrow n) n F ∧ H'.size = s.heap.size + 1 ∧ (∀ q, q < s.heap.size → q ≠ x → H'[q]? = s.heap[q]?) ∧ z = lgrow n) ⟨x, ee, n, mo, F, rfl, (by rw [heq] at hLA ⊢; exact hLA), by omega, fun z9 => hc0 (by omega), hO', hBx, hB, hlow, hm1, hm2, fun H' a b d => ⟨rfl, a, b, d, rfl⟩⟩ (fun H' locs' k n hk9 => by cases hk9.1) ?_
      rintro v9 H' locs' k' n' ⟨hv9, a, b, d, rfl⟩ hL hsz
      cases hv9
      obtain rfl : k' = 1 := by omega
      have hlg : n < lgrow n := by unfold lgrow; split <;> omega
      refine lv_astore_n hexec hb d_a3_10 rfl hl (by decide) rfl fun ls2 hl2 => ?_
      have hvO : isO G H' v := by
        refine hv.mono fun q c9 hq => ?_
        by_cases hqx : q = x
        · subst hqx
          cases c1.symm.trans hq
          obtain ⟨cl, -, a1, a2, a3, -⟩ := a
          exact ⟨cl, a1, by rw [a3, c3], by rw [a2, c2]⟩
        · exact ⟨c9, by rw [d q (Array.getElem?_eq_some_iff.mp hq).1 hqx]; exact hq, rfl, rfl⟩
      have hcat : v.category = 1 := by rcases isO_r hv with h9 | ⟨b9, h9⟩ <;> (rw [h9]; rfl)
      have hl3 : lv_has ls2 4 [(2, .ref s.heap.size), (0, .ref x), (1, v), (3, .int (Int32.ofNat n))] := by
        refine ⟨hl2.1, hl2.2.1, fun q hq => hl2.2.2 q ?_⟩
        simp only [List.mem_cons, List.not_mem_nil, or_false] at hq
        rcases hq with h9 | h9 | h9 | h9 <;> subst h9 <;> simp [hcat]
      have := tail H' locs' (0 + 1) ls2 s.heap.size (lgrow n) a hlg (by omega) hB hvO hl3 hL (by omega) (fun H2 b1 b2 b3 => hk H2 ⟨s.heap.size, lgrow n, b1, Or.inr ⟨heq, rfl, rfl, by rw [b2, b], fun q h1 h2 => by rw [b3 q h2 (by omega), d q h1 h2]⟩⟩)
      rw [hs0] at this
      rw [Nat.zero_add (lgrow n)]
      exact this
  rcases isO_r hv with rfl | ⟨b, rfl⟩ <;> exact key
theorem jx_add (hG : GOK G) : JX G ⟨"java/util/ArrayList", "add", "(Ljava/lang/Object;)Z"⟩ prog_75_method_25_code 2 (some .boolean) 6 190 (fun a H KH mc ms => ∃ (x ee n cap : Nat) (mo : Int32) (F : Nat → Value) (v : Value), a = #[.ref x, v] ∧ addPre G H x ee mo n cap F v mc ms ∧ ∀ H' mo', ladded G H H' x ee mo' n cap F v → KH (some (.int 1)) H' (addS n cap)) := by
  intro p l e R s m args below meth c KH hexec hEV hown hb hml hr hlk hfr hlo hPH
  obtain ⟨x, ee, n, cap, mo, F, v, rfl, ⟨hLA, hnc, hc3, hn1, hxe, hv, hc0, hcB, hO', hBx, hB, hlow, hroom⟩, hk⟩ := hPH
  obtain ⟨cell, cE, c1, c2, c3, c4, c5, c6, c7, c8, c9, c10, c11⟩ := id hLA
  have hxl : x < s.heap.size := (Array.getElem?_eq_some_iff.mp c1).1
  have n01 := l_apart hEV (i := 0) (j := 1) (by decide) (by decide) (by decide)
  have n02 := l_apart hEV (i := 0) (j := 2) (by decide) (by decide) (by decide)
  have key : W p l e R s m #[.ref x, v] below meth c s.heap [] 0 0 (XQ s below (gB G) KH) (F0 m 0 #[.val (.ref x), .val v] []) := by
    refine lv_aload_n hexec hb d_ad_0 rfl rfl ?_
    refine lv_dup hexec hb d_ad_1 rfl ?_
    refine xg_m hexec hb hEV hown c1 c2 c4 d_ad_2 ?_
    refine lv_iconst hexec hb (v := 1) d_ad_5 (by decide) ?_
    refine lv_iadd hexec hb d_ad_6 ?_
    refine xp_m hexec hb hEV hown c1 c2 c3 c4 nil_locs hBx d_ad_7 fun H1 locs1 f1 f2 f3 hL1 => ?_
    have hLA1 : LAt G H1 x ee (mo + 1) (Int32.ofNat n) cap n F := ⟨_, cE, f1, c2, c3, st_eq c4, by rw [st_ne n01]; exact c5, by rw [st_ne n02]; exact c6, by rw [f3 _ (Ne.symm hxe)]; exact c7, c8, c9, c10, c11⟩
    obtain ⟨cell1, cE1, g1, g2, g3, g4, g5, g6, g7, -⟩ := id hLA1
    have mo1 : ∀ w, isO G s.heap w → isO G H1 w := fun w hw => hw.mono fun q c9 hq => by
      by_cases hqx : q = x
      · subst hqx
        cases c1.symm.trans hq
        exact ⟨_, f1, rfl, rfl⟩
      · exact ⟨c9, by rw [f3 q hqx]; exact hq, rfl, rfl⟩
    refine lv_aload_n hexec hb d_ad_10 rfl rfl ?_
    have ld : W p l e R s m #[.ref x, v] below meth c H1 locs1 0 0 (XQ s below (gB G) KH) (F0 m 12 #[.val (.ref x), .val v] [v, .ref x]) → W p l e R s m #[.ref x, v] below meth c H1 locs1 0 0 (XQ s below (gB G) KH) (F0 m 11 #[.val (.ref x), .val v] [.ref x]) := by
      intro kk
      rcases isO_r hv with rfl | ⟨b, rfl⟩
      · exact lv_aload_nN hexec hb d_ad_11 rfl rfl kk
      · exact lv_aload_n hexec hb d_ad_11 rfl rfl kk
    refine ld ?_
    refine lv_aload_n hexec hb d_ad_12 rfl rfl ?_
    refine xg_E hexec hb hEV hown g1 g2 g5 d_ad_13 ?_
    refine lv_aload_n hexec hb d_ad_16 rfl rfl ?_
    refine xg_n hexec hb hEV hown g1 g2 g6 d_ad_17 ?_
    refine x_P hG.1 (jx_a3 hG) hexec hEV hown q1032 q1034 q1033 q528 q1035 ⟨by decide, by decide⟩ (by decide +kernel) (np0 (n := 3) (by decide +kernel)) hb (by rw [hml]; rfl) d_ad_20 [v, .ref ee, .int (Int32.ofNat n)] [] g1 g2 rfl hL1 (by omega) (by show 0 + (4 + 11) + 160 ≤ _; omega) (Nat.zero_le _) (Nat.zero_le _) (KH := fun v9 H' z => v9 = none ∧ ladded G H1 H' x ee (mo + 1) n cap F v ∧ z = addS n cap) ⟨x, ee, n, cap, mo + 1, F, v, rfl, ⟨hLA1, hnc, hc3, hn1, hxe, mo1 v hv, hc0, hcB, fun i hi => mo1 _ (hO' i hi), hBx, by rw [f2]; exact hB, fun q hq => by rw [f3 q (by omega)]; exact hlow q hq, hroom⟩, fun H' a => ⟨rfl, a, rfl⟩⟩ ?_ (fun v H' locs' k n hk9 => by cases hk9.1)
    rintro H' locs' k' n' ⟨-, a, rfl⟩ hL hsz
    refine lv_iconst hexec hb (v := 1) d_ad_23 (by decide) ?_
    refine x_iret hexec hb hlk hr (by decide) d_ad_24 hL (by rw [hsz, f2]; omega) ?_
    rw [Nat.zero_add]
    obtain ⟨ee', cap', b1, b2⟩ := a
    refine hk H' (mo + 1) ⟨ee', cap', b1, ?_⟩
    rcases b2 with ⟨b2, b3, b4, b5, b6⟩ | ⟨b2, b3, b4, b5, b6⟩
    · exact Or.inl ⟨b2, b3, b4, by rw [b5, f2], fun q h1 h2 => by rw [b6 q h1 h2, f3 q h1]⟩
    · exact Or.inr ⟨b2, by rw [b3, f2], b4, by rw [b5, f2], fun q h1 h2 => by rw [b6 q (by rw [f2]; exact h1) h2, f3 q h2]⟩
  rcases isO_r hv with rfl | ⟨b, rfl⟩ <;> exact key
theorem jx_cl : JX G ⟨"java/util/ArrayList", "clear", "()V"⟩ prog_75_method_40_code 4 none 0 0 (fun a H KH mc ms => ∃ (x ee n cap : Nat) (mo : Int32) (F : Nat → Value), a = #[.ref x] ∧ LAt G H x ee mo (Int32.ofNat n) cap n F ∧ n ≤ cap ∧ cap ≤ 3000000 ∧ x ≠ ee ∧ (0 < cap → gB G ≤ ee) ∧ gB G ≤ x ∧ ∀ H' mo', LAt G H' x ee mo' 0 cap 0 F → H'.size = H.size → (∀ q, q ≠ x → q ≠ ee → H'[q]? = H[q]?) → (cap = 0 → H'[ee]? = H[ee]?) → KH none H' 0) := by
  intro p l e R s m args below meth c KH hexec hEV hown hb hml hr hlk hfr hlo hPH
  obtain ⟨x, ee, n, cap, mo, F, rfl, hLA, hnc, hc3, hxe, hcB, hBx, hk⟩ := hPH
  obtain ⟨cell, cE, c1, c2, c3, c4, c5, c6, c7, c8, c9, c10, c11⟩ := id hLA
  have n01 := l_apart hEV (i := 0) (j := 1) (by decide) (by decide) (by decide)
  have n02 := l_apart hEV (i := 0) (j := 2) (by decide) (by decide) (by decide)
  have n20 := l_apart hEV (i := 2) (j := 0) (by decide) (by decide) (by decide)
  have n21 := l_apart hEV (i := 2) (j := 1) (by decide) (by decide) (by decide)
  have o31 : ∀ z : Nat, z < 2147483648 → (Int32.ofNat z).toInt = z := fun z hz => Int32.toInt_ofNat_of_lt hz
  have clN : ∀ z : Nat, z < 2147483648 → (Int32.ofNat z).toNatClampNeg = z := fun z hz => by show (Int32.ofNat z).toInt.toNat = z; rw [o31 z hz]; rfl
  show W p l e R s m _ below meth c s.heap [] 0 0 _ (F0 m 0 #[.val (.ref x), .unset, .unset, .unset] [])
  have hl : lv_has #[.val (.ref x), .unset, .unset, .unset] 4 [(0, .ref x)] := lv_entry (n := 4) [.ref x] (Nat.le_of_ble_eq_true rfl)
  refine lv_aload_n hexec hb d_cl_0 rfl rfl ?_
  refine lv_dup hexec hb d_cl_1 rfl ?_
  refine xg_m hexec hb hEV hown c1 c2 c4 d_cl_2 ?_
  refine lv_iconst hexec hb (v := 1) d_cl_5 (by decide) ?_
  refine lv_iadd hexec hb d_cl_6 ?_
  refine xp_m hexec hb hEV hown c1 c2 c3 c4 nil_locs hBx d_cl_7 fun H1 locs1 f1 f2 f3 hL1 => ?_
  refine lv_aload_n hexec hb d_cl_10 rfl rfl ?_
  refine xg_E hexec hb hEV hown f1 c2 (by rw [st_ne n01]; exact c5) d_cl_11 ?_
  refine lv_astore_n hexec hb d_cl_14 rfl hl (by decide) rfl fun ls1 hl1 => ?_
  refine lv_aload_n hexec hb d_cl_15 rfl (by first | exact lv_k hl1 0 rfl | exact lv_k hl1 1 rfl | exact lv_k hl1 2 rfl | exact lv_k hl1 3 rfl) ?_
  refine xg_n hexec hb hEV hown f1 c2 (by rw [st_ne n02]; exact c6) d_cl_16 ?_
  refine lv_istore_n hexec hb d_cl_19 rfl hl1 (by decide) rfl fun ls2 hl2 => ?_
  refine lv_aload_n hexec hb d_cl_20 rfl (by first | exact lv_k hl2 0 rfl | exact lv_k hl2 1 rfl | exact lv_k hl2 2 rfl | exact lv_k hl2 3 rfl) ?_
  refine lv_iconst hexec hb (v := 0) d_cl_21 (by decide) ?_
  refine lv_dup_x1 hexec hb d_cl_22 rfl rfl ?_
  refine xp_n hexec hb hEV hown f1 c2 c3 (by rw [st_ne n02]; exact c6) hL1 hBx d_cl_23 fun H2 locs2 g1 g2 g3 hL2 => ?_
  refine lv_istore_n hexec hb d_cl_26 rfl hl2 (by decide) rfl fun ls3 hl3 => ?_
  have loop : ∀ (r i : Nat) (H3 : Heap) (locs3 : List Loc) (ls4 : Array Slot) (cA : Cell), r + i = n → H3[x]? = some ((cell.setSlot ((gD G).2 190 0) (.int (mo + 1))).setSlot ((gD G).2 190 2) (.int 0)) → H3[ee]? = some cA → cA.cls = (gA G) 20 → okV cA.vm → szC cA cap → H3.size = s.heap.size → (∀ q, q ≠ x → q ≠ ee → H3[q]? = s.heap[q]?) → (cap = 0 → H3[ee]? = s.heap[ee]?) → (∀ q ∈ locs3, gB G ≤ q.base) → lv_has ls4 4 [(3, .int (Int32.ofNat i)), (2, .int (Int32.ofNat n)), (1, .ref ee), (0, .ref x)] →
      W p l e R s m #[.ref x] below meth c H3 locs3 0 0 (XQ s below (gB G) KH) (F0 m 27 ls4 []) := by
    intro r
    induction r with
    | zero =>
      intro i H3 locs3 ls4 cA hri a1 a2 a3 a4 a5 a6 a7 a8 hL3 hl4
      refine lv_iload_n hexec hb d_cl_27 rfl (by first | exact lv_k hl4 0 rfl | exact lv_k hl4 1 rfl | exact lv_k hl4 2 rfl | exact lv_k hl4 3 rfl) ?_
      refine lv_iload_n hexec hb d_cl_28 rfl (by first | exact lv_k hl4 0 rfl | exact lv_k hl4 1 rfl | exact lv_k hl4 2 rfl | exact lv_k hl4 3 rfl) ?_
      refine lv_icmp_ge hexec hb d_cl_29 (tgt := 42) rfl (fun _ => ?_) (fun z => absurd (by rw [Int32.le_iff_toInt_le, o31 _ (by omega), o31 _ (by omega)]; omega) z)
      exact x_vret hexec hb hlk hr d_cl_42 hL3 a6 (hk H3 (mo + 1) ⟨_, cA, a1, c2, c3, by rw [st_ne n20]; exact st_eq c4, by rw [st_ne n21, st_ne n01]; exact c5, st_eq (by rw [st_ne n02]; exact c6), a2, a3, a4, a5, fun i hi => by omega⟩ a6 a7 a8)
    | succ r ih =>
      intro i H3 locs3 ls4 cA hri a1 a2 a3 a4 a5 a6 a7 a8 hL3 hl4
      refine lv_iload_n hexec hb d_cl_27 rfl (by first | exact lv_k hl4 0 rfl | exact lv_k hl4 1 rfl | exact lv_k hl4 2 rfl | exact lv_k hl4 3 rfl) ?_
      refine lv_iload_n hexec hb d_cl_28 rfl (by first | exact lv_k hl4 0 rfl | exact lv_k hl4 1 rfl | exact lv_k hl4 2 rfl | exact lv_k hl4 3 rfl) ?_
      refine lv_icmp_ge hexec hb d_cl_29 (tgt := 42) rfl (fun z => absurd z (by rw [Int32.le_iff_toInt_le, o31 _ (by omega), o31 _ (by omega)]; omega)) (fun _ => ?_)
      refine lv_aload_n hexec hb d_cl_32 rfl (by first | exact lv_k hl4 0 rfl | exact lv_k hl4 1 rfl | exact lv_k hl4 2 rfl | exact lv_k hl4 3 rfl) ?_
      refine lv_iload_n hexec hb d_cl_33 rfl (by first | exact lv_k hl4 0 rfl | exact lv_k hl4 1 rfl | exact lv_k hl4 2 rfl | exact lv_k hl4 3 rfl) ?_
      refine lv_null hexec hb d_cl_34 ?_
      refine x_aast hexec hb hEV a2 a3 a4 (by rw [Int32.lt_iff_toInt_lt, o31 _ (by omega), Int32.toInt_zero]; omega) (by rw [clN _ (by omega), a5.2 (by omega)]; omega) (Or.inl rfl) hL3 (hcB (by omega)) d_cl_35 fun H4 locs4 o4 hL4 => ?_
      refine lv_iinc hexec hb d_cl_36 hl4 (k := 0) rfl (v := Int32.ofNat (i + 1)) ?_ (by decide) rfl fun ls5 hl5 => ?_
      · exact nI_1 i
      refine lv_goto hexec hb d_cl_39 (tgt := 27) rfl ?_
      exact ih (i + 1) H4 locs4 ls5 _ (by omega) (by rw [o4.2.2 x hxe]; exact a1) o4.1 a3 a4 (szC_of (by simp [Cell.setSlot, a5.2 (show 0 < cap by omega)])) (by rw [o4.2.1]; exact a6) (fun q h1 h2 => by rw [o4.2.2 q h2]; exact a7 q h1 h2) (fun z => by omega) hL4 hl5
  exact loop n 0 H2 locs2 ls3 cE (by omega) g1 (by rw [g3 _ (Ne.symm hxe), f3 _ (Ne.symm hxe)]; exact c7) c8 c9 c10 (by rw [g2, f2]) (fun q h1 h2 => by rw [g3 q h1, f3 q h1]) (fun _ => by rw [g3 _ (Ne.symm hxe), f3 _ (Ne.symm hxe)]) hL2 hl3
end
