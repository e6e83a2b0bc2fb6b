/-! small methods, arrays of objects, over the heap itself -/
set_option maxRecDepth 100000
theorem d_mx_0 : decode prog_65_method_65_code 0 = .ok (.iload_n 0, 1) := by decide +kernel
theorem d_mx_1 : decode prog_65_method_65_code 1 = .ok (.iload_n 1, 1) := by decide +kernel
theorem d_mx_2 : decode prog_65_method_65_code 2 = .ok (.if_icmp .lt 7, 3) := by decide +kernel
theorem d_mx_5 : decode prog_65_method_65_code 5 = .ok (.iload_n 0, 1) := by decide +kernel
theorem d_mx_6 : decode prog_65_method_65_code 6 = .ok (.goto 4, 3) := by decide +kernel
theorem d_mx_9 : decode prog_65_method_65_code 9 = .ok (.iload_n 1, 1) := by decide +kernel
theorem d_mx_10 : decode prog_65_method_65_code 10 = .ok (.ireturn, 1) := by decide +kernel
theorem d_mn_0 : decode prog_65_method_69_code 0 = .ok (.iload_n 0, 1) := by decide +kernel
theorem d_mn_1 : decode prog_65_method_69_code 1 = .ok (.iload_n 1, 1) := by decide +kernel
theorem d_mn_2 : decode prog_65_method_69_code 2 = .ok (.if_icmp .gt 7, 3) := by decide +kernel
theorem d_mn_5 : decode prog_65_method_69_code 5 = .ok (.iload_n 0, 1) := by decide +kernel
theorem d_mn_6 : decode prog_65_method_69_code 6 = .ok (.goto 4, 3) := by decide +kernel
theorem d_mn_9 : decode prog_65_method_69_code 9 = .ok (.iload_n 1, 1) := by decide +kernel
theorem d_mn_10 : decode prog_65_method_69_code 10 = .ok (.ireturn, 1) := by decide +kernel
theorem d_nl_0 : decode prog_83_method_27_code 0 = .ok (.iload_n 0, 1) := by decide +kernel
theorem d_nl_1 : decode prog_83_method_27_code 1 = .ok (.iload_n 1, 1) := by decide +kernel
theorem d_nl_2 : decode prog_83_method_27_code 2 = .ok (.iload_n 2, 1) := by decide +kernel
theorem d_nl_3 : decode prog_83_method_27_code 3 = .ok (.invokestatic 194, 3) := by decide +kernel
theorem d_nl_6 : decode prog_83_method_27_code 6 = .ok (.iadd, 1) := by decide +kernel
theorem d_nl_7 : decode prog_83_method_27_code 7 = .ok (.istore_n 3, 1) := by decide +kernel
theorem d_nl_8 : decode prog_83_method_27_code 8 = .ok (.iconst 0, 1) := by decide +kernel
theorem d_nl_9 : decode prog_83_method_27_code 9 = .ok (.iload_n 3, 1) := by decide +kernel
theorem d_nl_10 : decode prog_83_method_27_code 10 = .ok (.if_icmp .ge 11, 3) := by decide +kernel
theorem d_nl_13 : decode prog_83_method_27_code 13 = .ok (.iload_n 3, 1) := by decide +kernel
theorem d_nl_14 : decode prog_83_method_27_code 14 = .ok (.ldc 200, 2) := by decide +kernel
theorem d_nl_16 : decode prog_83_method_27_code 16 = .ok (.if_icmp .gt 5, 3) := by decide +kernel
theorem d_nl_19 : decode prog_83_method_27_code 19 = .ok (.iload_n 3, 1) := by decide +kernel
theorem d_nl_20 : decode prog_83_method_27_code 20 = .ok (.ireturn, 1) := by decide +kernel
theorem lv_k {ls : Array Slot} {n : Nat} {lv : List (Nat × Value)} (h : lv_has ls n lv) (k : Nat) {i : Nat} {v : Value} (hm : lv[k]? = some (i, v)) : ls[i]? = some (.val v) := h.2.2 (i, v) (List.mem_of_getElem? hm)
theorem jx_max {G : GX} : JX G ⟨"java/lang/Math", "max", "(II)I"⟩ prog_65_method_65_code 2 (some .int) 0 0 (fun a H KH _ _ => ∃ (x y : Int32), a = #[.int x, .int y] ∧ KH (some (.int (if x < y then y else x))) H 0) := by
  intro p l e R s m args below meth c KH hexec hEV hown hb hml hr hlk hfr hlo hPH
  obtain ⟨x, y, rfl, hk⟩ := hPH
  show W p l e R s m _ below meth c s.heap [] 0 0 _ (F0 m 0 #[.val (.int x), .val (.int y)] [])
  refine lv_iload_n hexec hb d_mx_0 rfl rfl ?_
  refine lv_iload_n hexec hb d_mx_1 rfl rfl ?_
  refine lv_icmp_lt hexec hb d_mx_2 (tgt := 9) rfl (fun z => ?_) (fun z => ?_)
  · refine lv_iload_n hexec hb d_mx_9 rfl rfl ?_
    rw [if_pos z] at hk
    exact x_iret hexec hb hlk hr rfl d_mx_10 nil_locs rfl hk
  · refine lv_iload_n hexec hb d_mx_5 rfl rfl ?_
    refine lv_goto hexec hb d_mx_6 (tgt := 10) rfl ?_
    rw [if_neg z] at hk
    exact x_iret hexec hb hlk hr rfl d_mx_10 nil_locs rfl hk
theorem jx_min {G : GX} : JX G ⟨"java/lang/Math", "min", "(II)I"⟩ prog_65_method_69_code 2 (some .int) 0 0 (fun a H KH _ _ => ∃ (x y : Int32), a = #[.int x, .int y] ∧ KH (some (.int (if y < x then y else x))) H 0) := by
  intro p l e R s m args below meth c KH hexec hEV hown hb hml hr hlk hfr hlo hPH
  obtain ⟨x, y, rfl, hk⟩ := hPH
  show W p l e R s m _ below meth c s.heap [] 0 0 _ (F0 m 0 #[.val (.int x), .val (.int y)] [])
  refine lv_iload_n hexec hb d_mn_0 rfl rfl ?_
  refine lv_iload_n hexec hb d_mn_1 rfl rfl ?_
  refine lv_icmp_gt hexec hb d_mn_2 (tgt := 9) rfl (fun z => ?_) (fun z => ?_)
  · refine lv_iload_n hexec hb d_mn_9 rfl rfl ?_
    rw [if_pos z] at hk
    exact x_iret hexec hb hlk hr rfl d_mn_10 nil_locs rfl hk
  · refine lv_iload_n hexec hb d_mn_5 rfl rfl ?_
    refine lv_goto hexec hb d_mn_6 (tgt := 10) rfl ?_
    rw [if_neg z] at hk
    exact x_iret hexec hb hlk hr rfl d_mn_10 nil_locs rfl hk
section
variable {G : GX}
theorem jx_nl (hG : GOK G) : JX G ⟨"jdk/internal/util/ArraysSupport", "newLength", "(III)I"⟩ prog_83_method_27_code 4 (some .int) 1 20 (fun a H KH _ _ => ∃ (x y z r : Int32), a = #[.int x, .int y, .int z] ∧ x + (if y < z then z else y) = r ∧ ¬ r ≤ 0 ∧ ¬ 2147483639 < r ∧ KH (some (.int r)) H 0) := by
  intro p l e R s m args below meth c KH hexec hEV hown hb hml hr hlk hfr hlo hPH
  obtain ⟨x, y, z, r, rfl, h1, h2, h3, hk⟩ := hPH
  show W p l e R s m _ below meth c s.heap [] 0 0 _ (F0 m 0 #[.val (.int x), .val (.int y), .val (.int z), .unset] [])
  have hl : lv_has #[.val (.int x), .val (.int y), .val (.int z), .unset] 4 [(0, .int x), (1, .int y), (2, .int z)] := lv_entry (n := 4) [.int x, .int y, .int z] (Nat.le_of_ble_eq_true rfl)
  refine lv_iload_n hexec hb d_nl_0 rfl rfl ?_
  refine lv_iload_n hexec hb d_nl_1 rfl rfl ?_
  refine lv_iload_n hexec hb d_nl_2 rfl rfl ?_
  refine x_S hG.1 jx_max hexec hEV hown q1047 q1048 q323 q1049 ⟨by decide, by decide⟩ (by decide +kernel) (np0 (n := 2) (by decide +kernel)) hb (by rw [hml]; rfl) d_nl_3 [.int y, .int z] [.int x] rfl nil_locs (by omega) (by show 1 + 0 + (2 + 11) + 0 ≤ _; omega) (Nat.zero_le _) (Nat.zero_le _) (KH := fun v H' n => v = some (.int (if y < z then z else y)) ∧ H' = s.heap ∧ n = 0) ⟨y, z, rfl, rfl, rfl, rfl⟩ (fun H' locs' k n hk9 => by cases hk9.1) ?_
  rintro v H' locs' k n ⟨hv, rfl, rfl⟩ hL hsz
  cases hv
  obtain rfl : k = 0 := by omega
  refine lv_iadd hexec hb d_nl_6 ?_
  rw [h1]
  refine lv_istore_n hexec hb d_nl_7 rfl hl (by decide) rfl fun ls1 hl1 => ?_
  refine lv_iconst hexec hb d_nl_8 rfl ?_
  refine lv_iload_n hexec hb d_nl_9 rfl (by first | exact lv_k hl1 0 rfl | exact lv_k hl1 1 rfl | exact lv_k hl1 2 rfl | exact lv_k hl1 3 rfl) ?_
  refine lv_icmp_ge hexec hb d_nl_10 (tgt := 21) rfl (fun w => absurd w h2) (fun _ => ?_)
  refine lv_iload_n hexec hb d_nl_13 rfl (by first | exact lv_k hl1 0 rfl | exact lv_k hl1 1 rfl | exact lv_k hl1 2 rfl | exact lv_k hl1 3 rfl) ?_
  refine lv_ldc hexec hb hown (hEV.1.all q1050) d_nl_14 ?_
  refine lv_icmp_gt hexec hb d_nl_16 (tgt := 21) rfl (fun w => absurd w h3) (fun _ => ?_)
  refine lv_iload_n hexec hb d_nl_19 rfl (by first | exact lv_k hl1 0 rfl | exact lv_k hl1 1 rfl | exact lv_k hl1 2 rfl | exact lv_k hl1 3 rfl) ?_
  exact x_iret hexec hb hlk hr rfl d_nl_20 hL rfl hk
/-- what an array of objects may hold -/
def isO (G : GX) (H : Heap) (v : Value) : Prop := v = .null ∨ ∃ (y kd : Nat) (cellV : Cell), v = .ref y ∧ H[y]? = some cellV ∧ cellV.vm.isStatics = false ∧ cellV.cls = (gD G).1 kd ∧ kd ∈ (ekT.lookup 20).getD []
theorem isO_r {H : Heap} {v : Value} (h : isO G H v) : v = .null ∨ ∃ b, v = .ref b := h.imp_right fun ⟨y, _, _, h, _⟩ => ⟨y, h⟩
theorem kcls {s : State} (hEV : EV8 G s) {kd : Nat} (h : kd ∈ (ekT.lookup 20).getD []) : ClassAt s (kName kd) ((gD G).1 kd) := by
  rcases ek20c kd h with rfl | ⟨q, hq, rfl⟩
  · exact hEV.2.2.1
  · have := (hEV.2.1.1 q hq).2
    rw [← kName_cls hq] at this
    exact this
theorem kasg {s : State} (hEV : EV8 G s) {kd : Nat} (h : kd ∈ (ekT.lookup 20).getD []) {comp : ClassId} (hc : s.vm.findClass "java/lang/Object" = some comp) : (∃ kC, s.vm.classes[(gD G).1 kd]? = some kC) ∧ s.vm.assignable ((gD G).1 kd) comp = true := by
  have y4 := kcls hEV h
  obtain ⟨kC, hkC, -⟩ := y4.2
  obtain ⟨c0, t0, f1, f2, f3⟩ := Cond.castable_spec (hEV.1 _ (ek20 kd h) rfl #[])
  cases y4.1.symm.trans f1
  cases hc.symm.trans f2
  exact ⟨⟨kC, hkC⟩, f3⟩
section
variable {p : Program} {l : Launch} {e : Env} {R : Room} {s : State} {m : MethodId} {args : Array Value} {below : List Frame} {meth : Method} {c : Code} {H : Heap} {locs : List Loc} {cells slots : Nat} {Q : State → Prop}
variable {cc : ByteArray} {pc : Nat} {ls : Array Slot} {rest : List Value}
theorem isArr (hEV : EV8 G s) {cE : Cell} (h1 : cE.cls = (gA G) 20) (h2 : okV cE.vm) : s.isArrayOf cE (.object "java/lang/Object") := by
  obtain ⟨g1, g2⟩ := (hO hEV).1 0 (fun _ => .null)
  exact ⟨h2.st, by rw [h1]; exact g2⟩
/-- something goes into an array of objects -/
theorem x_aast (hexec : p.tables.exec = Jvm.exec) (hb : c.code = cc) (hEV : EV8 G s) {a : Nat} {cE : Cell} {v : Value} {j : Int32} (h1 : H[a]? = some cE) (h2 : cE.cls = (gA G) 20) (h3 : okV cE.vm) (hj : ¬ j < 0) (hj2 : j.toNatClampNeg < cE.slots.size) (hv : isO G H v) (hL : ∀ q ∈ locs, gB G ≤ q.base) (hB : gB G ≤ a) (hdg : decode cc pc = .ok (.aastore, 1))
    (k : ∀ H' locs', one1 H H' a (cE.setSlot j.toNatClampNeg v) → (∀ q ∈ locs', gB G ≤ q.base) → W p l e R s m args below meth c H' locs' cells slots Q (F0 m (pc + 1) ls rest)) : W p l e R s m args below meth c H locs cells slots Q (F0 m pc ls (v :: .int j :: .ref a :: rest)) := by
  obtain ⟨kA, comp, k1, k2, k3, -⟩ := (hO hEV).2
  rcases hv with rfl | ⟨y, kd, cV, rfl, v1, v2, v3, v4⟩
  · exact va_WaastN (C := "java/lang/Object") hexec hb h1 (isArr hEV h2 h3) h3.2 (fun z => z.elim hj (fun z => by omega)) rfl rfl hdg fun H' f1 f2 f3 => k H' _ ⟨f1, f2, f3⟩ (locs1 hL hB)
  · obtain ⟨⟨kC, hkC⟩, hasg⟩ := kasg hEV v4 k3
    obtain ⟨kcomp, hkcomp, -⟩ := Vm.findClass_spec k3
    exact W.aast hexec hb h1 h3.st h3.2 (by rw [h2]; exact k1) k2 rfl hkcomp ⟨hj, hj2⟩ v1 (fun q z => by rw [z] at v2; cases v2) (by rw [v3]; exact hkC) (by rw [v3]; exact hasg) rfl rfl hdg fun H' f1 f2 f3 => k H' _ ⟨f1, f2, f3⟩ (locs1 hL hB)
theorem x_alen (hexec : p.tables.exec = Jvm.exec) (hb : c.code = cc) (hEV : EV8 G s) {a : Nat} {cE : Cell} {n : Int32} (h1 : H[a]? = some cE) (h2 : cE.cls = (gA G) 20) (h3 : okV cE.vm) (hn : cE.slots.size.toInt32 = n) (hdg : decode cc pc = .ok (.arraylength, 1)) (k : W p l e R s m args below meth c H locs cells slots Q (F0 m (pc + 1) ls (.int n :: rest))) : W p l e R s m args below meth c H locs cells slots Q (F0 m pc ls (.ref a :: rest)) :=
  W.alen hexec hb h1 (isArr hEV h2 h3) hn rfl rfl hdg k
theorem stretch_f {cs : Cell} {n : Nat} {f : Nat → Value} (hf : ∀ i, i < n → cs.slots[i]? = some (f i)) (c0 : ClassId) : cs.stretch 0 n = (arrV c0 n f).stretch 0 n := by
  unfold Cell.stretch
  apply List.map_congr_left
  intro i hi
  have hi' := List.mem_range.mp hi
  rw [Array.getD_eq_getD_getElem?, Array.getD_eq_getD_getElem?, arrV_read _ _ (by omega), Nat.zero_add, hf i hi']
/-- System.arraycopy, from the beginning on -/
theorem x_acopy (hexec : p.tables.exec = Jvm.exec) (hb : c.code = cc) (hnL : ls.size = c.maxLocals) (hEV : EV8 G s) {own : String} {idx : Nat} (hown : s.vm.findClass own = some m.cls) (hlink : Cond.methodLink own idx arraycopyName ∈ lw_all) {a0 a n n1 : Nat} {cs : Cell} {c1 : ClassId} {ty : FieldType} (f g : Nat → Value) (h0 : H[a0]? = some cs) (h0v : okV cs.vm) (hf : ∀ i, i < n → cs.slots[i]? = some (f i)) (h1 : H[a]? = some (arrV c1 n1 g))
    {k0 k1 : Class} {m0 m1 : ClassId} (hk0 : s.vm.classes[cs.cls]? = some k0) (hk0' : k0.kind = .array m0 ty) (hk1 : s.vm.classes[c1]? = some k1) (hk1' : k1.kind = .array m1 ty) (hn0 : n ≤ cs.slots.size) (hn1 : n ≤ n1) (hn : n < 2147483648) {nI : Int32} (hnI : nI = Int32.ofNat n)
    (hv : ∀ T : State, T.heap = H → s.vm.Alike T.vm → ∀ i, i < n → fits ty (f i) = true ∧ T.takes m1 (f i)) (hL : ∀ q ∈ locs, gB G ≤ q.base) (hB : gB G ≤ a) (hfr : 1 ≤ R.frames) (hlo : (rest.map fun v => v.category).sum + 30 ≤ R.locals) (hdg : decode cc pc = .ok (.invokestatic idx, 3))
    (k : ∀ H' locs', one1 H H' a (arrV c1 n1 (fun i => if i < n then f i else g i)) → (∀ q ∈ locs', gB G ≤ q.base) → W p l e R s m args below meth c H' locs' cells slots Q (F0 m (pc + 3) ls rest)) : W p l e R s m args below meth c H locs cells slots Q (F0 m pc ls (.int nI :: .int 0 :: .ref a :: .int 0 :: .ref a0 :: rest)) := by
  subst hnI
  have hci : (Int32.ofNat n).toInt = n := Int32.toInt_ofNat_of_lt hn
  have hcl : (Int32.ofNat n).toNatClampNeg = n := by show (Int32.ofNat n).toInt.toNat = n; rw [hci]; rfl
  have hz : ((0 : Int32).toNatClampNeg) = 0 := by decide
  have hnn : ¬ Int32.ofNat n < 0 := by rw [Int32.lt_iff_toInt_lt, hci, Int32.toInt_zero]; omega
  intro T hT X
  obtain ⟨vm', X', step⟩ := X.arraycopy hexec hown (hEV.1.all hlink) (hEV.1.all q1130) (hEV.1.all q1129) (hEV.1.all q325) (src := a0) (dst := a) (cs := cs) (cd := arrV c1 n1 g) (srcPos := 0) (destPos := 0) (n := Int32.ofNat n) (by rw [hT]; exact h0) (by rw [hT]; exact h1)
    h0v.st (fun _ z => by cases z) h0v.2 (fun z => by cases z) hk0 hk1 hk0' hk1' (by cases ty <;> simp [refKind]) (by decide) (by decide) hnn
    (by rw [hci, Int32.toInt_zero]; omega) (by rw [hci, Int32.toInt_zero, arrV_size]; omega)
    (fun vm₁ ha i hi => by
      rw [hcl] at hi
      rw [hz, Nat.zero_add, Array.getD_eq_getD_getElem?, hf i hi]
      exact hv (T.setVm vm₁) hT ha i hi)
    (g := F0 m pc ls (.int (Int32.ofNat n) :: .int 0 :: .ref a :: .int 0 :: .ref a0 :: rest)) rfl hnL (rest := rest) rfl (by rw [hb]; exact hdg) hfr (by have hw : nativeFrameWords "java/lang/System" "arraycopy" 5 ≤ 19 := (by decide); show 2 * 0 + _ + _ ≤ _; omega)
  have ec : copied cs (arrV c1 n1 g) 0 0 (Int32.ofNat n) = arrV c1 n1 (fun i => if i < n then f i else g i) := by
    show (arrV c1 n1 g).storeRun (0 : Int32).toNatClampNeg (cs.stretch (0 : Int32).toNatClampNeg (Int32.ofNat n).toNatClampNeg) = _
    rw [hz, hcl, stretch_f hf c1]
    have := va_copied (mk := id) c1 c1 (n0 := n) (n1 := n1) (sp := 0) (dp := 0) (n := n) f g (by omega)
    simp only [id] at this
    rw [this]
    congr 1
    funext i
    unfold va_cpy
    by_cases hi : i < n
    · rw [if_pos ⟨Nat.zero_le _, by omega⟩, if_pos hi]; congr 1; omega
    · rw [if_neg (by omega), if_neg hi]
  rw [ec] at X' step
  have hlt : a < T.heap.size := by rw [hT]; exact (Array.getElem?_eq_some_iff.mp h1).1
  obtain ⟨t, b1, b2⟩ := k _ _ ⟨heapAt_setCell_self (s := T.setVm vm') _ hlt, by rw [size_setCell]; show T.heap.size = _; rw [hT], fun q hq => by rw [heapAt_setCell_ne _ (Ne.symm hq)]; show T.heap[q]? = _; rw [hT]⟩ (fun q hq => by
      rcases List.mem_append.mp hq with hq | hq
      · exact hL q hq
      · obtain ⟨w, -, rfl⟩ := List.mem_map.mp hq
        exact hB) _ rfl X'
  exact ⟨t, step t b1, b2⟩
end
end
