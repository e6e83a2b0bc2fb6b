/-! lists that grow, over the heap itself -/
set_option maxRecDepth 100000
theorem d_c3_0 : decode prog_76_method_120_code 0 = .ok (.aload_n 2, 1) := by decide +kernel
theorem d_c3_1 : decode prog_76_method_120_code 1 = .ok (.ldc 110, 2) := by decide +kernel
theorem d_c3_3 : decode prog_76_method_120_code 3 = .ok (.if_acmp .ne 10, 3) := by decide +kernel
theorem d_c3_6 : decode prog_76_method_120_code 6 = .ok (.iload_n 1, 1) := by decide +kernel
theorem d_c3_7 : decode prog_76_method_120_code 7 = .ok (.anewarray 2, 3) := by decide +kernel
theorem d_c3_10 : decode prog_76_method_120_code 10 = .ok (.goto 14, 3) := by decide +kernel
theorem d_c3_24 : decode prog_76_method_120_code 24 = .ok (.astore_n 3, 1) := by decide +kernel
theorem d_c3_25 : decode prog_76_method_120_code 25 = .ok (.aload_n 0, 1) := by decide +kernel
theorem d_c3_26 : decode prog_76_method_120_code 26 = .ok (.iconst 0, 1) := by decide +kernel
theorem d_c3_27 : decode prog_76_method_120_code 27 = .ok (.aload_n 3, 1) := by decide +kernel
theorem d_c3_28 : decode prog_76_method_120_code 28 = .ok (.iconst 0, 1) := by decide +kernel
theorem d_c3_29 : decode prog_76_method_120_code 29 = .ok (.aload_n 0, 1) := by decide +kernel
theorem d_c3_30 : decode prog_76_method_120_code 30 = .ok (.arraylength, 1) := by decide +kernel
theorem d_c3_31 : decode prog_76_method_120_code 31 = .ok (.iload_n 1, 1) := by decide +kernel
theorem d_c3_32 : decode prog_76_method_120_code 32 = .ok (.invokestatic 304, 3) := by decide +kernel
theorem d_c3_35 : decode prog_76_method_120_code 35 = .ok (.invokestatic 150, 3) := by decide +kernel
theorem d_c3_38 : decode prog_76_method_120_code 38 = .ok (.aload_n 3, 1) := by decide +kernel
theorem d_c3_39 : decode prog_76_method_120_code 39 = .ok (.areturn, 1) := by decide +kernel
theorem d_c2_0 : decode prog_76_method_119_code 0 = .ok (.aload_n 0, 1) := by decide +kernel
theorem d_c2_1 : decode prog_76_method_119_code 1 = .ok (.iload_n 1, 1) := by decide +kernel
theorem d_c2_2 : decode prog_76_method_119_code 2 = .ok (.aload_n 0, 1) := by decide +kernel
theorem d_c2_3 : decode prog_76_method_119_code 3 = .ok (.invokevirtual 86, 3) := by decide +kernel
theorem d_c2_6 : decode prog_76_method_119_code 6 = .ok (.invokestatic 300, 3) := by decide +kernel
theorem d_c2_9 : decode prog_76_method_119_code 9 = .ok (.areturn, 1) := by decide +kernel
theorem d_gI_0 : decode prog_75_method_6_code 0 = .ok (.aload_n 0, 1) := by decide +kernel
theorem d_gI_1 : decode prog_75_method_6_code 1 = .ok (.getfield 9, 3) := by decide +kernel
theorem d_gI_4 : decode prog_75_method_6_code 4 = .ok (.arraylength, 1) := by decide +kernel
theorem d_gI_5 : decode prog_75_method_6_code 5 = .ok (.istore_n 2, 1) := by decide +kernel
theorem d_gI_6 : decode prog_75_method_6_code 6 = .ok (.iload_n 2, 1) := by decide +kernel
theorem d_gI_7 : decode prog_75_method_6_code 7 = .ok (.ifCond .gt 13, 3) := by decide +kernel
theorem d_gI_10 : decode prog_75_method_6_code 10 = .ok (.aload_n 0, 1) := by decide +kernel
theorem d_gI_11 : decode prog_75_method_6_code 11 = .ok (.getfield 9, 3) := by decide +kernel
theorem d_gI_14 : decode prog_75_method_6_code 14 = .ok (.getstatic 39, 3) := by decide +kernel
theorem d_gI_17 : decode prog_75_method_6_code 17 = .ok (.if_acmp .eq 28, 3) := by decide +kernel
theorem d_gI_20 : decode prog_75_method_6_code 20 = .ok (.iload_n 2, 1) := by decide +kernel
theorem d_gI_21 : decode prog_75_method_6_code 21 = .ok (.iload_n 1, 1) := by decide +kernel
theorem d_gI_22 : decode prog_75_method_6_code 22 = .ok (.iload_n 2, 1) := by decide +kernel
theorem d_gI_23 : decode prog_75_method_6_code 23 = .ok (.isub, 1) := by decide +kernel
theorem d_gI_24 : decode prog_75_method_6_code 24 = .ok (.iload_n 2, 1) := by decide +kernel
theorem d_gI_25 : decode prog_75_method_6_code 25 = .ok (.iconst 1, 1) := by decide +kernel
theorem d_gI_26 : decode prog_75_method_6_code 26 = .ok (.ishr, 1) := by decide +kernel
theorem d_gI_27 : decode prog_75_method_6_code 27 = .ok (.invokestatic 73, 3) := by decide +kernel
theorem d_gI_30 : decode prog_75_method_6_code 30 = .ok (.istore_n 3, 1) := by decide +kernel
theorem d_gI_31 : decode prog_75_method_6_code 31 = .ok (.aload_n 0, 1) := by decide +kernel
theorem d_gI_32 : decode prog_75_method_6_code 32 = .ok (.aload_n 0, 1) := by decide +kernel
theorem d_gI_33 : decode prog_75_method_6_code 33 = .ok (.getfield 9, 3) := by decide +kernel
theorem d_gI_36 : decode prog_75_method_6_code 36 = .ok (.iload_n 3, 1) := by decide +kernel
theorem d_gI_37 : decode prog_75_method_6_code 37 = .ok (.invokestatic 66, 3) := by decide +kernel
theorem d_gI_40 : decode prog_75_method_6_code 40 = .ok (.dup_x1, 1) := by decide +kernel
theorem d_gI_41 : decode prog_75_method_6_code 41 = .ok (.putfield 9, 3) := by decide +kernel
theorem d_gI_44 : decode prog_75_method_6_code 44 = .ok (.areturn, 1) := by decide +kernel
theorem d_gI_45 : decode prog_75_method_6_code 45 = .ok (.aload_n 0, 1) := by decide +kernel
theorem d_gI_46 : decode prog_75_method_6_code 46 = .ok (.bipush 10, 2) := by decide +kernel
theorem d_gI_48 : decode prog_75_method_6_code 48 = .ok (.iload_n 1, 1) := by decide +kernel
theorem d_gI_49 : decode prog_75_method_6_code 49 = .ok (.invokestatic 79, 3) := by decide +kernel
theorem d_gI_52 : decode prog_75_method_6_code 52 = .ok (.anewarray 7, 3) := by decide +kernel
theorem d_gI_55 : decode prog_75_method_6_code 55 = .ok (.dup_x1, 1) := by decide +kernel
theorem d_gI_56 : decode prog_75_method_6_code 56 = .ok (.putfield 9, 3) := by decide +kernel
theorem d_gI_59 : decode prog_75_method_6_code 59 = .ok (.areturn, 1) := by decide +kernel
section
variable {G : GX}
theorem repl_arr (cA : ClassId) (n : Nat) : ({ cls := cA, slots := Array.replicate n .null, vm := .none } : Cell) = arrV cA n (fun _ => .null) := by
  unfold arrV
  congr 1
  apply Array.ext
  · simp
  · intro i h1 h2; simp
theorem isO.mono {H H' : Heap} {v : Value} (h : isO G H v) (hs : ∀ (q : Nat) (cell : Cell), H[q]? = some cell → ∃ cell' : Cell, H'[q]? = some cell' ∧ cell'.cls = cell.cls ∧ cell'.vm = cell.vm) : isO G H' v := by
  rcases h with h | ⟨y, kd, cV, h1, h2, h3, h4, h5⟩
  · exact Or.inl h
  · obtain ⟨c', a1, a2, a3⟩ := hs y cV h2
    exact Or.inr ⟨y, kd, c', h1, a1, by rw [a3]; exact h3, by rw [a2]; exact h4, h5⟩
/-- an array of objects that is longer and begins as another one -/
def newC (G : GX) (H H' : Heap) (N k : Nat) (F : Nat → Value) : Prop := H'[H.size]? = some (arrV ((gA G) 20) N (fun i => if i < k then F i else .null)) ∧ H'.size = H.size + 1 ∧ ∀ q, q < H.size → H'[q]? = H[q]?
theorem jx_c3 (hG : GOK G) : JX G ⟨"java/util/Arrays", "copyOf", "([Ljava/lang/Object;ILjava/lang/Class;)[Ljava/lang/Object;"⟩ prog_76_method_120_code 4 (some (.array (.object "java/lang/Object"))) 1 40 (fun a H KH mc ms => ∃ (a0 k : Nat) (n : Int32) (cE : Cell) (F : Nat → Value), a = #[.ref a0, .int n, .ref (gρ G 1002)] ∧ H[a0]? = some cE ∧ cE.cls = (gA G) 20 ∧ okV cE.vm ∧ cE.slots.size = k ∧ (∀ i, i < k → cE.slots[i]? = some (F i) ∧ isO G H (F i)) ∧ ¬ n < 0 ∧ k ≤ n.toNatClampNeg ∧ n.toNatClampNeg ≤ 67108864 ∧ gB G ≤ H.size ∧ 1 ≤ mc ∧ n.toNatClampNeg ≤ ms ∧
    ∀ H', newC G H H' n.toNatClampNeg k F → KH (some (.ref H.size)) H' n.toNatClampNeg) := by
  intro p l e R s m args below meth c KH hexec hEV hown hb hml hr hlk hfr hlo hPH
  obtain ⟨a0, k, n, cE, F, rfl, h1, h2, h3, h4, h5, h6, h7, h8, hB, h9, h10, hk⟩ := hPH
  have ha0 : a0 < s.heap.size := (Array.getElem?_eq_some_iff.mp h1).1
  obtain ⟨kA, comp, k1, k2, k3, k4⟩ := (hO hEV).2
  show W p l e R s m _ below meth c s.heap [] 0 0 _ (F0 m 0 #[.val (.ref a0), .val (.int n), .val (.ref (gρ G 1002)), .unset] [])
  have hl : lv_has #[.val (.ref a0), .val (.int n), .val (.ref (gρ G 1002)), .unset] 4 [(0, .ref a0), (1, .int n), (2, .ref (gρ G 1002))] := lv_entry (n := 4) [.ref a0, .int n, .ref (gρ G 1002)] (Nat.le_of_ble_eq_true rfl)
  refine lv_aload_n hexec hb d_c3_0 rfl rfl ?_
  refine va_ldcM hexec hb hown (hEV.1.all q1122) (hG.2 s hEV.2.2.2.2.2).2.2.1 d_c3_1 ?_
  refine lv_acmp_ne (rx := some (gρ G 1002)) (ry := some (gρ G 1002)) hexec hb d_c3_3 (tgt := 13) rfl (fun z => absurd rfl z) (fun _ => ?_)
  refine lv_iload_n hexec hb d_c3_6 rfl rfl ?_
  refine x_anew hexec hb hEV hown q1124 h6 h8 (by omega) (by omega) d_c3_7 fun H1 b => ?_
  obtain ⟨b1, b2, b3⟩ := b
  rw [repl_arr] at b1
  refine lv_goto hexec hb d_c3_10 (tgt := 24) rfl ?_
  refine lv_astore_n hexec hb d_c3_24 rfl hl (by decide) rfl fun ls1 hl1 => ?_
  refine lv_aload_n hexec hb d_c3_25 rfl (by first | exact lv_k hl1 0 rfl | exact lv_k hl1 1 rfl | exact lv_k hl1 2 rfl | exact lv_k hl1 3 rfl) ?_
  refine lv_iconst hexec hb d_c3_26 rfl ?_
  refine lv_aload_n hexec hb d_c3_27 rfl (by first | exact lv_k hl1 0 rfl | exact lv_k hl1 1 rfl | exact lv_k hl1 2 rfl | exact lv_k hl1 3 rfl) ?_
  refine lv_iconst hexec hb d_c3_28 rfl ?_
  refine lv_aload_n hexec hb d_c3_29 rfl (by first | exact lv_k hl1 0 rfl | exact lv_k hl1 1 rfl | exact lv_k hl1 2 rfl | exact lv_k hl1 3 rfl) ?_
  have h1' : H1[a0]? = some cE := by rw [b3 a0 ha0]; exact h1
  refine x_alen hexec hb hEV h1' h2 h3 rfl d_c3_30 ?_
  refine lv_iload_n hexec hb d_c3_31 rfl (by first | exact lv_k hl1 0 rfl | exact lv_k hl1 1 rfl | exact lv_k hl1 2 rfl | exact lv_k hl1 3 rfl) ?_
  have hki : (cE.slots.size.toInt32).toInt = k := by rw [h4]; simpa [Nat.toInt32] using Int32.toInt_ofNat_of_lt (show k < 2 ^ 31 by omega)
  have hni : n.toInt = (n.toNatClampNeg : Int) := by
    have : (0 : Int) ≤ n.toInt := by rw [Int32.lt_iff_toInt_lt, Int32.toInt_zero] at h6; omega
    show n.toInt = (n.toInt.toNat : Int); omega
  have hmin : (if n < cE.slots.size.toInt32 then n else cE.slots.size.toInt32) = Int32.ofNat k := by
    rw [if_neg (by rw [Int32.lt_iff_toInt_lt, hki, hni]; omega), h4]
  refine x_S hG.1 jx_min hexec hEV hown q1125 q1126 q323 q1127 ⟨by decide, by decide⟩ (by decide +kernel) (np0 (n := 2) (by decide +kernel)) hb (hl1.1.trans hml.symm) d_c3_32 [.int cE.slots.size.toInt32, .int n] [.int 0, .ref s.heap.size, .int 0, .ref a0] rfl nil_locs (by omega) (by show 1 + (1 + (1 + (1 + 0))) + (2 + 11) + 0 ≤ _; omega) (by omega) (by omega) (KH := fun v H' n => v = some (.int (Int32.ofNat k)) ∧ H' = H1 ∧ n = 0) ⟨_, n, rfl, by rw [hmin], rfl, rfl⟩ (fun H' locs' k n hk9 => by cases hk9.1) ?_
  rintro v H' locs' k' n' ⟨hv, rfl, rfl⟩ hL hsz
  cases hv
  obtain rfl : k' = 0 := by omega
  refine x_acopy (n := k) (n1 := n.toNatClampNeg) (ty := .object "java/lang/Object") hexec hb (hl1.1.trans hml.symm) hEV hown q1128 F (fun _ => .null) h1' h3 (fun i hi => (h5 i hi).1) b1 (k0 := kA) (m0 := comp) (by rw [h2]; exact k1) k2 k1 k2 (by omega) h7 (by omega) rfl ?_ hL hB hfr (by show 0 + 30 ≤ _; omega) d_c3_35 fun H2 locs2 o1 hL2 => ?_
  · intro T hT hal i hi
    have ho := isO.mono (G := G) (h5 i hi).2 (H' := H') (fun q cell hq => ⟨cell, by rw [b3 q (Array.getElem?_eq_some_iff.mp hq).1]; exact hq, rfl, rfl⟩)
    rcases ho with e0 | ⟨y, kd, cV, e0, v1, v2, v3, v4⟩
    · rw [e0]; exact ⟨rfl, trivial⟩
    · rw [e0]
      obtain ⟨⟨kC, hkC⟩, hasg⟩ := kasg hEV v4 k3
      obtain ⟨kC', hkC', -⟩ := hal.2.2 _ _ hkC
      obtain ⟨kcomp, hkcomp, -⟩ := Vm.findClass_spec k3
      obtain ⟨kcomp', hkcomp', -⟩ := hal.2.2 _ _ hkcomp
      refine ⟨rfl, ?_⟩
      show ∃ c, T.heap[y]? = some c ∧ (∀ k, c.vm ≠ .statics k) ∧ (∃ k, T.vm.classes[c.cls]? = some k) ∧ (∃ k, T.vm.classes[comp]? = some k) ∧ T.vm.assignable c.cls comp = true
      refine ⟨cV, by rw [hT]; exact v1, (fun q z => (by rw [z] at v2; cases v2)), ⟨kC', by rw [v3]; exact hkC'⟩, ⟨kcomp', hkcomp'⟩, ?_⟩
      rw [v3, hal.assignable]; exact hasg
  · refine lv_aload_n hexec hb d_c3_38 rfl (by first | exact lv_k hl1 0 rfl | exact lv_k hl1 1 rfl | exact lv_k hl1 2 rfl | exact lv_k hl1 3 rfl) ?_
    refine x_aret hexec hb hlk hr (Or.inr ⟨_, rfl⟩) (Or.inr ⟨_, rfl⟩) d_c3_39 hL2 (by rw [o1.2.1, b2]) ?_
    have := hk H2 ⟨o1.1, by rw [o1.2.1, b2], fun q hq => by rw [o1.2.2 q (by omega), b3 q hq]⟩
    simpa using this
theorem jx_c2 (hG : GOK G) : JX G ⟨"java/util/Arrays", "copyOf", "([Ljava/lang/Object;I)[Ljava/lang/Object;"⟩ prog_76_method_119_code 2 (some (.array (.object "java/lang/Object"))) 2 70 (fun a H KH mc ms => ∃ (a0 k : Nat) (n : Int32) (cE : Cell) (F : Nat → Value), a = #[.ref a0, .int n] ∧ H[a0]? = some cE ∧ cE.cls = (gA G) 20 ∧ okV cE.vm ∧ cE.slots.size = k ∧ (∀ i, i < k → cE.slots[i]? = some (F i) ∧ isO G H (F i)) ∧ ¬ n < 0 ∧ k ≤ n.toNatClampNeg ∧ n.toNatClampNeg ≤ 67108864 ∧ gB G ≤ H.size ∧ 1 ≤ mc ∧ n.toNatClampNeg ≤ ms ∧
    ∀ H', newC G H H' n.toNatClampNeg k F → KH (some (.ref H.size)) H' n.toNatClampNeg) := by
  intro p l e R s m args below meth c KH hexec hEV hown hb hml hr hlk hfr hlo hPH
  obtain ⟨a0, k, n, cE, F, rfl, h1, h2, h3, h4, h5, h6, h7, h8, hB, h9, h10, hk⟩ := hPH
  obtain ⟨kA, comp, k1, k2, k3, k4⟩ := (hO hEV).2
  have hnm : s.vm.findClass "[Ljava/lang/Object;" = some ((gA G) 20) := by
    have e1 : "[" ++ (FieldType.object "java/lang/Object").toString = "[Ljava/lang/Object;" := by decide +kernel
    rw [← e1]; exact k4
  show W p l e R s m _ below meth c s.heap [] 0 0 _ (F0 m 0 #[.val (.ref a0), .val (.int n)] [])
  refine lv_aload_n hexec hb d_c2_0 rfl rfl ?_
  refine lv_iload_n hexec hb d_c2_1 rfl rfl ?_
  refine lv_aload_n hexec hb d_c2_2 rfl rfl ?_
  refine va_getC (C := "[Ljava/lang/Object;") hexec hb (by rw [hml]; rfl) hown (hEV.1.all q1057) (hEV.1 _ q5510 rfl _) (hEV.1.all q5509) (hEV.1.all q1058) (hEV.1.all q1118) (hG.2 s hEV.2.2.2.2.2).2.2.1 ⟨cE, h1, h3.1, by rw [h2]; exact hnm⟩ (by omega) (by show 1 + (1 + 0) + 14 ≤ _; omega) d_c2_3 ?_
  refine x_S hG.1 (jx_c3 hG) hexec hEV hown q1119 q1120 q324 q1121 ⟨by decide, by decide⟩ (by decide +kernel) (np0 (n := 3) (by decide +kernel)) hb (by rw [hml]; rfl) d_c2_6 [.ref a0, .int n, .ref (gρ G 1002)] [] rfl nil_locs (by omega) (by show 0 + (4 + 11) + 40 ≤ _; omega) (Nat.zero_le _) (Nat.zero_le _) (KH := fun v H' z => v = some (.ref s.heap.size) ∧ newC G s.heap H' n.toNatClampNeg k F ∧ z = n.toNatClampNeg) ⟨a0, k, n, cE, F, rfl, h1, h2, h3, h4, h5, h6, h7, h8, hB, h9, h10, fun H' a => ⟨rfl, a, rfl⟩⟩ (fun H' locs' k n hk9 => by cases hk9.1) ?_
  rintro v H' locs' k' n' ⟨hv, hn', rfl⟩ hL hsz
  cases hv
  refine x_aret hexec hb hlk hr (Or.inr ⟨_, rfl⟩) (Or.inr ⟨_, rfl⟩) d_c2_9 hL (by omega) ?_
  rw [Nat.zero_add]; exact hk H' hn'
/-- a list, and the array that it has, in the heap -/
def LAt (G : GX) (H : Heap) (x ee : Nat) (mc n : Int32) (cap k : Nat) (F : Nat → Value) : Prop := ∃ cell cE : Cell, H[x]? = some cell ∧ cell.vm = .none ∧ cell.cls = (gD G).1 190 ∧ cell.slots[(gD G).2 190 0]? = some (.int mc) ∧ cell.slots[(gD G).2 190 1]? = some (.ref ee) ∧ cell.slots[(gD G).2 190 2]? = some (.int n) ∧ H[ee]? = some cE ∧ cE.cls = (gA G) 20 ∧ okV cE.vm ∧ szC cE cap ∧ ∀ i, i < k → cE.slots[i]? = some (F i)
def lgrow (k : Nat) : Nat := if k = 0 then 10 else k + max 1 (k / 2)
theorem jx_gI (hG : GOK G) : JX G ⟨"java/util/ArrayList", "grow", "(I)[Ljava/lang/Object;"⟩ prog_75_method_6_code 4 (some (.array (.object "java/lang/Object"))) 3 100 (fun a H KH mc ms => ∃ (x ee k : Nat) (mo n : Int32) (F : Nat → Value), a = #[.ref x, .int n] ∧ LAt G H x ee mo (Int32.ofNat k) k k F ∧ n = Int32.ofNat (k + 1) ∧ k ≤ 2000000 ∧ (k = 0 → ee = gE G) ∧ (∀ i, i < k → isO G H (F i)) ∧ gB G ≤ x ∧ gB G ≤ H.size ∧ (∀ q, q < gB G → H[q]? = (gH G)[q]?) ∧ 1 ≤ mc ∧ lgrow k ≤ ms ∧
    ∀ H', LAt G H' x H.size mo (Int32.ofNat k) (lgrow k) k F → H'.size = H.size + 1 → (∀ q, q < H.size → q ≠ x → H'[q]? = H[q]?) → KH (some (.ref H.size)) H' (lgrow k)) := by
  intro p l e R s m args below meth c KH hexec hEV hown hb hml hr hlk hfr hlo hPH
  obtain ⟨x, ee, k, mo, n, F, rfl, ⟨cell, cE, c1, c2, c3, c4, c5, c6, c7, c8, c9, c10, c11⟩, rfl, hk2, hk0, hO', hBx, hB, hlow, h9, h10, hk⟩ := hPH
  have hxl : x < s.heap.size := (Array.getElem?_eq_some_iff.mp c1).1
  have hal := l_apart hEV (i := 1) (j := 0) (by decide) (by decide) (by decide)
  have hal2 := l_apart hEV (i := 1) (j := 2) (by decide) (by decide) (by decide)
  have o31 : ∀ z : Nat, z < 2147483648 → (Int32.ofNat z).toInt = z := fun z hz => Int32.toInt_ofNat_of_lt hz
  have clN : ∀ z : Nat, z < 2147483648 → (Int32.ofNat z).toNatClampNeg = z := fun z hz => by show (Int32.ofNat z).toInt.toNat = z; rw [o31 z hz]; rfl
  show W p l e R s m _ below meth c s.heap [] 0 0 _ (F0 m 0 #[.val (.ref x), .val (.int (Int32.ofNat (k + 1))), .unset, .unset] [])
  have hl : lv_has #[.val (.ref x), .val (.int (Int32.ofNat (k + 1))), .unset, .unset] 4 [(0, .ref x), (1, .int (Int32.ofNat (k + 1)))] := lv_entry (n := 4) [.ref x, .int (Int32.ofNat (k + 1))] (Nat.le_of_ble_eq_true rfl)
  have fin : ∀ (H1 : Heap) (locs1 : List Loc) (ls1 : Array Slot) (N : Nat) (pc : Nat), N = lgrow k → newC G s.heap H1 N k F → (∀ q ∈ locs1, gB G ≤ q.base) → decode prog_75_method_6_code pc = .ok (.dup_x1, 1) → decode prog_75_method_6_code (pc + 1) = .ok (.putfield 9, 3) → decode prog_75_method_6_code (pc + 4) = .ok (.areturn, 1) → W p l e R s m #[.ref x, .int (Int32.ofNat (k + 1))] below meth c H1 locs1 (0 + 1) (0 + N) (XQ s below (gB G) KH) (F0 m pc ls1 [.ref s.heap.size, .ref x]) := by
    rintro H1 locs1 ls1 N pc rfl ⟨b1, b2, b3⟩ hL d1 d2 d3
    refine lv_dup_x1 hexec hb d1 rfl rfl ?_
    refine xp_E hexec hb hEV hown (a := x) (b := s.heap.size) (by rw [b3 x hxl]; exact c1) c2 c3 c5 hL hBx d2 fun H2 locs2 e1 e2 e3 hL' => ?_
    refine x_aret hexec hb hlk hr (Or.inr ⟨_, rfl⟩) (Or.inr ⟨_, rfl⟩) d3 hL' (by rw [e2, b2]) ?_
    rw [Nat.zero_add]
    refine hk H2 ⟨_, _, e1, c2, c3, by rw [st_ne hal]; exact c4, st_eq c5, by rw [st_ne hal2]; exact c6, by rw [e3 _ (by omega)]; exact b1, rfl, okV_n, szC_of (arrV_size _ _ _), fun i hi => ?_⟩ (by rw [e2, b2]) (fun q hq hne => by rw [e3 q hne, b3 q hq])
    rw [arrV_read _ _ (by unfold lgrow; split <;> omega), if_pos hi]
  refine lv_aload_n hexec hb d_gI_0 rfl rfl ?_
  refine xg_E hexec hb hEV hown c1 c2 c5 d_gI_1 ?_
  refine x_alen hexec hb hEV c7 c8 c9 (n := Int32.ofNat k) c10.1 d_gI_4 ?_
  refine lv_istore_n hexec hb d_gI_5 rfl hl (by decide) rfl fun ls1 hl1 => ?_
  refine lv_iload_n hexec hb d_gI_6 rfl (by first | exact lv_k hl1 0 rfl | exact lv_k hl1 1 rfl | exact lv_k hl1 2 rfl | exact lv_k hl1 3 rfl) ?_
  have path2 : 0 < k → W p l e R s m #[.ref x, .int (Int32.ofNat (k + 1))] below meth c s.heap [] 0 0 (XQ s below (gB G) KH) (F0 m 20 ls1 []) := by
    intro hkp
    refine lv_iload_n hexec hb d_gI_20 rfl (by first | exact lv_k hl1 0 rfl | exact lv_k hl1 1 rfl | exact lv_k hl1 2 rfl | exact lv_k hl1 3 rfl) ?_
    refine lv_iload_n hexec hb d_gI_21 rfl (by first | exact lv_k hl1 0 rfl | exact lv_k hl1 1 rfl | exact lv_k hl1 2 rfl | exact lv_k hl1 3 rfl) ?_
    refine lv_iload_n hexec hb d_gI_22 rfl (by first | exact lv_k hl1 0 rfl | exact lv_k hl1 1 rfl | exact lv_k hl1 2 rfl | exact lv_k hl1 3 rfl) ?_
    refine lv_isub hexec hb d_gI_23 ?_
    refine lv_iload_n hexec hb d_gI_24 rfl (by first | exact lv_k hl1 0 rfl | exact lv_k hl1 1 rfl | exact lv_k hl1 2 rfl | exact lv_k hl1 3 rfl) ?_
    refine lv_iconst hexec hb (v := 1) d_gI_25 (by decide) ?_
    refine lv_ishr hexec hb d_gI_26 ?_
    have e1 : Int32.ofNat (k + 1) - Int32.ofNat k = Int32.ofNat 1 := by
      have k9 := pk_sub (a := k + 1) (b := k) (by omega)
      rw [Nat.add_sub_cancel_left] at k9
      exact k9
    have e2 : Int32.ofNat k >>> ((1 : Int32) &&& 31) = Int32.ofNat (k / 2) := by
      have k9 := pk_shrN (n := k) (by omega) ((1 : Int32) &&& 31) 1 (by decide)
      rw [Nat.pow_one] at k9
      exact k9
    have hN : lgrow k = k + max 1 (k / 2) := by unfold lgrow; rw [if_neg (by omega)]
    have e3 : Int32.ofNat k + (if Int32.ofNat 1 < Int32.ofNat (k / 2) then Int32.ofNat (k / 2) else Int32.ofNat 1) = Int32.ofNat (lgrow k) := by
      rw [hN]
      by_cases c9 : 1 < k / 2
      · rw [if_pos (show Int32.ofNat 1 < Int32.ofNat (k / 2) from nI_lt c9 (by omega)), show max 1 (k / 2) = k / 2 by omega]
        exact nI_add k (k / 2)
      · rw [if_neg (show ¬ Int32.ofNat 1 < Int32.ofNat (k / 2) from nI_nlt (by omega) (by decide)), show max 1 (k / 2) = 1 by omega]
        exact nI_add k 1
    have hNb : lgrow k ≤ 3000000 := by rw [hN]; omega
    have h47 : (2147483639 : Int32).toInt = 2147483639 := by decide
    rw [e1, e2]
    refine x_S hG.1 (jx_nl hG) hexec hEV hown q1044 q1045 q322 q1046 ⟨by decide, by decide⟩ (by decide +kernel) (np0 (n := 3) (by decide +kernel)) hb (hl1.1.trans hml.symm) d_gI_27 [.int (Int32.ofNat k), .int (Int32.ofNat 1), .int (Int32.ofNat (k / 2))] [] rfl nil_locs (by omega) (by show 0 + (4 + 11) + 20 ≤ _; omega) (Nat.zero_le _) (Nat.zero_le _) (KH := fun v H' z => v = some (.int (Int32.ofNat (lgrow k))) ∧ H' = s.heap ∧ z = 0) ⟨_, _, _, _, rfl, e3, (by rw [Int32.le_iff_toInt_le, o31 _ (by omega), Int32.toInt_zero]; omega), (by rw [Int32.lt_iff_toInt_lt, o31 _ (by omega), h47]; omega), rfl, rfl, rfl⟩ (fun H' locs' k n hk9 => by cases hk9.1) ?_
    rintro v H' locs' k' n' ⟨hv, rfl, rfl⟩ hL hsz
    cases hv
    obtain rfl : k' = 0 := by omega
    refine lv_istore_n hexec hb d_gI_30 rfl hl1 (by decide) rfl fun ls2 hl2 => ?_
    refine lv_aload_n hexec hb d_gI_31 rfl (by first | exact lv_k hl2 0 rfl | exact lv_k hl2 1 rfl | exact lv_k hl2 2 rfl | exact lv_k hl2 3 rfl) ?_
    refine lv_aload_n hexec hb d_gI_32 rfl (by first | exact lv_k hl2 0 rfl | exact lv_k hl2 1 rfl | exact lv_k hl2 2 rfl | exact lv_k hl2 3 rfl) ?_
    refine xg_E hexec hb hEV hown c1 c2 c5 d_gI_33 ?_
    refine lv_iload_n hexec hb d_gI_36 rfl (by first | exact lv_k hl2 0 rfl | exact lv_k hl2 1 rfl | exact lv_k hl2 2 rfl | exact lv_k hl2 3 rfl) ?_
    refine x_S hG.1 (jx_c2 hG) hexec hEV hown q1054 q1055 q324 q1056 ⟨by decide, by decide⟩ (by decide +kernel) (np0 (n := 2) (by decide +kernel)) hb (hl2.1.trans hml.symm) d_gI_37 [.ref ee, .int (Int32.ofNat (lgrow k))] [.ref x] rfl hL (by omega) (by show 1 + 0 + (2 + 11) + 70 ≤ _; omega) (Nat.zero_le _) (Nat.zero_le _) (KH := fun v H' z => v = some (.ref s.heap.size) ∧ newC G s.heap H' (lgrow k) k F ∧ z = lgrow k) ⟨ee, k, _, cE, F, rfl, c7, c8, c9, c10.2 hkp, fun i hi => ⟨c11 i hi, hO' i hi⟩, (by rw [Int32.lt_iff_toInt_lt, o31 _ (by omega), Int32.toInt_zero]; omega), (by rw [clN _ (by omega), hN]; omega), (by rw [clN _ (by omega)]; omega), hB, (by omega), (by rw [clN _ (by omega)]; omega), fun H' a => ?_⟩ (fun H' locs' k n hk9 => by cases hk9.1) ?_
    · rw [clN _ (by omega)] at a ⊢
      exact ⟨rfl, a, rfl⟩
    · rintro v H' locs' k' n' ⟨hv, hn', rfl⟩ hL hsz
      cases hv
      obtain rfl : k' = 1 := by have := hn'.2.1; omega
      exact fin H' locs' ls2 (lgrow k) 40 rfl hn' hL d_gI_40 d_gI_41 d_gI_44
  refine lv_if_gt hexec hb d_gI_7 (tgt := 20) rfl (fun z => path2 (by rw [Int32.lt_iff_toInt_lt, o31 _ (by omega), Int32.toInt_zero] at z; omega)) (fun z => ?_)
  have hk00 : k = 0 := by rw [Int32.lt_iff_toInt_lt, o31 _ (by omega), Int32.toInt_zero] at z; omega
  have hee := hk0 hk00
  subst hk00
  refine lv_aload_n hexec hb d_gI_10 rfl (by first | exact lv_k hl1 0 rfl | exact lv_k hl1 1 rfl | exact lv_k hl1 2 rfl | exact lv_k hl1 3 rfl) ?_
  refine xg_E hexec hb hEV hown c1 c2 c5 d_gI_11 ?_
  refine xg_s hexec hb (hG.2 s hEV.2.2.2.2.2).1 hlow hown (hEV.1.all q539) d_gI_14 ?_
  refine lv_acmp_eq (rx := some ee) (ry := some (gE G)) hexec hb d_gI_17 (tgt := 45) rfl (fun _ => ?_) (fun z => absurd (by rw [hee]) z)
  refine lv_aload_n hexec hb d_gI_45 rfl (by first | exact lv_k hl1 0 rfl | exact lv_k hl1 1 rfl | exact lv_k hl1 2 rfl | exact lv_k hl1 3 rfl) ?_
  refine lv_bipush hexec hb (v := 10) d_gI_46 (by decide) ?_
  refine lv_iload_n hexec hb d_gI_48 rfl (by first | exact lv_k hl1 0 rfl | exact lv_k hl1 1 rfl | exact lv_k hl1 2 rfl | exact lv_k hl1 3 rfl) ?_
  refine x_S hG.1 jx_max hexec hEV hown q1131 q1048 q323 q1049 ⟨by decide, by decide⟩ (by decide +kernel) (np0 (n := 2) (by decide +kernel)) hb (hl1.1.trans hml.symm) d_gI_49 [.int 10, .int (Int32.ofNat (0 + 1))] [.ref x] rfl nil_locs (by omega) (by show 1 + 0 + (2 + 11) + 0 ≤ _; omega) (Nat.zero_le _) (Nat.zero_le _) (KH := fun v H' n => v = some (.int 10) ∧ H' = s.heap ∧ n = 0) ⟨_, _, rfl, (by congr 2), rfl, rfl⟩ (fun H' locs' k n hk9 => by cases hk9.1) ?_
  rintro v H' locs' k' n' ⟨hv, rfl, rfl⟩ hL hsz
  cases hv
  obtain rfl : k' = 0 := by omega
  have ten : (10 : Int32).toNatClampNeg = 10 := by decide
  have hl10 : lgrow 0 = 10 := by decide
  refine x_anew hexec hb hEV hown q1132 (by decide) (by rw [ten]; decide) (by omega) (by rw [ten]; omega) d_gI_52 fun H1 b => ?_
  rw [ten] at b ⊢
  obtain ⟨b1, b2, b3⟩ := b
  rw [repl_arr] at b1
  exact fin H1 locs' ls1 10 55 hl10.symm ⟨by rw [b1]; congr 2, b2, b3⟩ hL d_gI_55 d_gI_56 d_gI_59
end
