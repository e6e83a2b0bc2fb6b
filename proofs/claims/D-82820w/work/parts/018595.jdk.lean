/-! copies of arrays, over the heap itself -/
set_option maxRecDepth 100000
theorem d_cI_0 : decode prog_76_method_123_code 0 = .ok (.iload_n 1, 1) := by decide +kernel
theorem d_cI_1 : decode prog_76_method_123_code 1 = .ok (.aload_n 0, 1) := by decide +kernel
theorem d_cI_2 : decode prog_76_method_123_code 2 = .ok (.arraylength, 1) := by decide +kernel
theorem d_cI_3 : decode prog_76_method_123_code 3 = .ok (.if_icmp .ne 11, 3) := by decide +kernel
theorem d_cI_6 : decode prog_76_method_123_code 6 = .ok (.aload_n 0, 1) := by decide +kernel
theorem d_cI_7 : decode prog_76_method_123_code 7 = .ok (.invokevirtual 316, 3) := by decide +kernel
theorem d_cI_10 : decode prog_76_method_123_code 10 = .ok (.checkcast 317, 3) := by decide +kernel
theorem d_cI_13 : decode prog_76_method_123_code 13 = .ok (.areturn, 1) := by decide +kernel
theorem d_cI_14 : decode prog_76_method_123_code 14 = .ok (.iload_n 1, 1) := by decide +kernel
theorem d_cI_15 : decode prog_76_method_123_code 15 = .ok (.newarray .int, 2) := by decide +kernel
theorem d_cI_17 : decode prog_76_method_123_code 17 = .ok (.astore_n 2, 1) := by decide +kernel
theorem d_cI_18 : decode prog_76_method_123_code 18 = .ok (.aload_n 0, 1) := by decide +kernel
theorem d_cI_19 : decode prog_76_method_123_code 19 = .ok (.iconst 0, 1) := by decide +kernel
theorem d_cI_20 : decode prog_76_method_123_code 20 = .ok (.aload_n 2, 1) := by decide +kernel
theorem d_cI_21 : decode prog_76_method_123_code 21 = .ok (.iconst 0, 1) := by decide +kernel
theorem d_cI_22 : decode prog_76_method_123_code 22 = .ok (.aload_n 0, 1) := by decide +kernel
theorem d_cI_23 : decode prog_76_method_123_code 23 = .ok (.arraylength, 1) := by decide +kernel
theorem d_cI_24 : decode prog_76_method_123_code 24 = .ok (.iload_n 1, 1) := by decide +kernel
theorem d_cI_25 : decode prog_76_method_123_code 25 = .ok (.invokestatic 304, 3) := by decide +kernel
theorem d_cI_28 : decode prog_76_method_123_code 28 = .ok (.invokestatic 150, 3) := by decide +kernel
theorem d_cI_31 : decode prog_76_method_123_code 31 = .ok (.aload_n 2, 1) := by decide +kernel
theorem d_cI_32 : decode prog_76_method_123_code 32 = .ok (.areturn, 1) := by decide +kernel
theorem d_cB_0 : decode prog_76_method_121_code 0 = .ok (.iload_n 1, 1) := by decide +kernel
theorem d_cB_1 : decode prog_76_method_121_code 1 = .ok (.aload_n 0, 1) := by decide +kernel
theorem d_cB_2 : decode prog_76_method_121_code 2 = .ok (.arraylength, 1) := by decide +kernel
theorem d_cB_3 : decode prog_76_method_121_code 3 = .ok (.if_icmp .ne 11, 3) := by decide +kernel
theorem d_cB_6 : decode prog_76_method_121_code 6 = .ok (.aload_n 0, 1) := by decide +kernel
theorem d_cB_7 : decode prog_76_method_121_code 7 = .ok (.invokevirtual 310, 3) := by decide +kernel
theorem d_cB_10 : decode prog_76_method_121_code 10 = .ok (.checkcast 311, 3) := by decide +kernel
theorem d_cB_13 : decode prog_76_method_121_code 13 = .ok (.areturn, 1) := by decide +kernel
theorem d_cB_14 : decode prog_76_method_121_code 14 = .ok (.iload_n 1, 1) := by decide +kernel
theorem d_cB_15 : decode prog_76_method_121_code 15 = .ok (.newarray .byte, 2) := by decide +kernel
theorem d_cB_17 : decode prog_76_method_121_code 17 = .ok (.astore_n 2, 1) := by decide +kernel
theorem d_cB_18 : decode prog_76_method_121_code 18 = .ok (.aload_n 0, 1) := by decide +kernel
theorem d_cB_19 : decode prog_76_method_121_code 19 = .ok (.iconst 0, 1) := by decide +kernel
theorem d_cB_20 : decode prog_76_method_121_code 20 = .ok (.aload_n 2, 1) := by decide +kernel
theorem d_cB_21 : decode prog_76_method_121_code 21 = .ok (.iconst 0, 1) := by decide +kernel
theorem d_cB_22 : decode prog_76_method_121_code 22 = .ok (.aload_n 0, 1) := by decide +kernel
theorem d_cB_23 : decode prog_76_method_121_code 23 = .ok (.arraylength, 1) := by decide +kernel
theorem d_cB_24 : decode prog_76_method_121_code 24 = .ok (.iload_n 1, 1) := by decide +kernel
theorem d_cB_25 : decode prog_76_method_121_code 25 = .ok (.invokestatic 304, 3) := by decide +kernel
theorem d_cB_28 : decode prog_76_method_121_code 28 = .ok (.invokestatic 150, 3) := by decide +kernel
theorem d_cB_31 : decode prog_76_method_121_code 31 = .ok (.aload_n 2, 1) := by decide +kernel
theorem d_cB_32 : decode prog_76_method_121_code 32 = .ok (.areturn, 1) := by decide +kernel
theorem d_cJ_0 : decode prog_76_method_124_code 0 = .ok (.iload_n 1, 1) := by decide +kernel
theorem d_cJ_1 : decode prog_76_method_124_code 1 = .ok (.aload_n 0, 1) := by decide +kernel
theorem d_cJ_2 : decode prog_76_method_124_code 2 = .ok (.arraylength, 1) := by decide +kernel
theorem d_cJ_3 : decode prog_76_method_124_code 3 = .ok (.if_icmp .ne 11, 3) := by decide +kernel
theorem d_cJ_6 : decode prog_76_method_124_code 6 = .ok (.aload_n 0, 1) := by decide +kernel
theorem d_cJ_7 : decode prog_76_method_124_code 7 = .ok (.invokevirtual 319, 3) := by decide +kernel
theorem d_cJ_10 : decode prog_76_method_124_code 10 = .ok (.checkcast 320, 3) := by decide +kernel
theorem d_cJ_13 : decode prog_76_method_124_code 13 = .ok (.areturn, 1) := by decide +kernel
theorem d_cJ_14 : decode prog_76_method_124_code 14 = .ok (.iload_n 1, 1) := by decide +kernel
theorem d_cJ_15 : decode prog_76_method_124_code 15 = .ok (.newarray .long, 2) := by decide +kernel
theorem d_cJ_17 : decode prog_76_method_124_code 17 = .ok (.astore_n 2, 1) := by decide +kernel
theorem d_cJ_18 : decode prog_76_method_124_code 18 = .ok (.aload_n 0, 1) := by decide +kernel
theorem d_cJ_19 : decode prog_76_method_124_code 19 = .ok (.iconst 0, 1) := by decide +kernel
theorem d_cJ_20 : decode prog_76_method_124_code 20 = .ok (.aload_n 2, 1) := by decide +kernel
theorem d_cJ_21 : decode prog_76_method_124_code 21 = .ok (.iconst 0, 1) := by decide +kernel
theorem d_cJ_22 : decode prog_76_method_124_code 22 = .ok (.aload_n 0, 1) := by decide +kernel
theorem d_cJ_23 : decode prog_76_method_124_code 23 = .ok (.arraylength, 1) := by decide +kernel
theorem d_cJ_24 : decode prog_76_method_124_code 24 = .ok (.iload_n 1, 1) := by decide +kernel
theorem d_cJ_25 : decode prog_76_method_124_code 25 = .ok (.invokestatic 304, 3) := by decide +kernel
theorem d_cJ_28 : decode prog_76_method_124_code 28 = .ok (.invokestatic 150, 3) := by decide +kernel
theorem d_cJ_31 : decode prog_76_method_124_code 31 = .ok (.aload_n 2, 1) := by decide +kernel
theorem d_cJ_32 : decode prog_76_method_124_code 32 = .ok (.areturn, 1) := by decide +kernel
theorem d_cZ_0 : decode prog_76_method_128_code 0 = .ok (.iload_n 1, 1) := by decide +kernel
theorem d_cZ_1 : decode prog_76_method_128_code 1 = .ok (.aload_n 0, 1) := by decide +kernel
theorem d_cZ_2 : decode prog_76_method_128_code 2 = .ok (.arraylength, 1) := by decide +kernel
theorem d_cZ_3 : decode prog_76_method_128_code 3 = .ok (.if_icmp .ne 11, 3) := by decide +kernel
theorem d_cZ_6 : decode prog_76_method_128_code 6 = .ok (.aload_n 0, 1) := by decide +kernel
theorem d_cZ_7 : decode prog_76_method_128_code 7 = .ok (.invokevirtual 331, 3) := by decide +kernel
theorem d_cZ_10 : decode prog_76_method_128_code 10 = .ok (.checkcast 332, 3) := by decide +kernel
theorem d_cZ_13 : decode prog_76_method_128_code 13 = .ok (.areturn, 1) := by decide +kernel
theorem d_cZ_14 : decode prog_76_method_128_code 14 = .ok (.iload_n 1, 1) := by decide +kernel
theorem d_cZ_15 : decode prog_76_method_128_code 15 = .ok (.newarray .boolean, 2) := by decide +kernel
theorem d_cZ_17 : decode prog_76_method_128_code 17 = .ok (.astore_n 2, 1) := by decide +kernel
theorem d_cZ_18 : decode prog_76_method_128_code 18 = .ok (.aload_n 0, 1) := by decide +kernel
theorem d_cZ_19 : decode prog_76_method_128_code 19 = .ok (.iconst 0, 1) := by decide +kernel
theorem d_cZ_20 : decode prog_76_method_128_code 20 = .ok (.aload_n 2, 1) := by decide +kernel
theorem d_cZ_21 : decode prog_76_method_128_code 21 = .ok (.iconst 0, 1) := by decide +kernel
theorem d_cZ_22 : decode prog_76_method_128_code 22 = .ok (.aload_n 0, 1) := by decide +kernel
theorem d_cZ_23 : decode prog_76_method_128_code 23 = .ok (.arraylength, 1) := by decide +kernel
theorem d_cZ_24 : decode prog_76_method_128_code 24 = .ok (.iload_n 1, 1) := by decide +kernel
theorem d_cZ_25 : decode prog_76_method_128_code 25 = .ok (.invokestatic 304, 3) := by decide +kernel
theorem d_cZ_28 : decode prog_76_method_128_code 28 = .ok (.invokestatic 150, 3) := by decide +kernel
theorem d_cZ_31 : decode prog_76_method_128_code 31 = .ok (.aload_n 2, 1) := by decide +kernel
theorem d_cZ_32 : decode prog_76_method_128_code 32 = .ok (.areturn, 1) := by decide +kernel
section
variable {G : GX}
section
variable {p : Program} {l : Launch} {e : Env} {R : Room} {s : State} {m : MethodId} {args : Array Value} {below : List Frame} {meth : Method} {c : Code} {H : Heap} {locs : List Loc} {cells slots : Nat} {Q : State → Prop}
variable {cc : ByteArray} {pc : Nat} {ls : Array Slot} {rest : List Value}
theorem x_clone (hexec : p.tables.exec = Jvm.exec) (hb : c.code = cc) (hnL : ls.size = c.maxLocals) (hEV : EV8 G s) {own ad : String} {idx : Nat} (hown : s.vm.findClass own = some m.cls) (w0 : Cond.methodLink own idx ⟨ad, "clone", "()Ljava/lang/Object;"⟩ ∈ lw_all) (w1 : Cond.sameMethod ad "java/lang/Object" "clone" "()Ljava/lang/Object;" ∈ lw_all) (w2 : Cond.selects ad ⟨ad, "clone", "()Ljava/lang/Object;"⟩ ⟨"java/lang/Object", "clone", "()Ljava/lang/Object;"⟩ ∈ lw_all) (w3 : Cond.castable ad "java/lang/Cloneable" ∈ lw_tbl)
    {a n : Nat} {cA : ClassId} {ty : FieldType} {F : Nat → Value} (hnm : s.vm.findClass ad = some cA) (hA : ArrOfT s cA ty) (h1 : H[a]? = some (arrV cA n F)) (hfit : ∀ i, i < n → fits ty (F i) = true) (hfr : 1 ≤ R.frames) (hlo : (rest.map fun v => v.category).sum + 14 ≤ R.locals) (hce : cells + 1 ≤ R.cells) (hsl : slots + n ≤ R.slots) (hdg : decode cc pc = .ok (.invokevirtual idx, 3))
    (k : ∀ H', H'[H.size]? = some (arrV cA n F) → H'.size = H.size + 1 → (∀ q, q < H.size → H'[q]? = H[q]?) → W p l e R s m args below meth c H' locs (cells + 1) (slots + n) Q (F0 m (pc + 3) ls (.ref H.size :: rest))) : W p l e R s m args below meth c H locs cells slots Q (F0 m pc ls (.ref a :: rest)) := by
  obtain ⟨c0, t0', f1, f2, f3⟩ := Cond.castable_spec (hEV.1 _ w3 rfl args)
  cases hnm.symm.trans f1
  intro T hT X
  have hcellT : T.heap[a]? = some (arrV cA n F) := by rw [hT]; exact h1
  obtain ⟨-, kA, hkA, comp, hkind⟩ := State.isArrayOf_alike X.warmed.alike (hA 0 (fun _ => .null))
  obtain ⟨-, kS, hkS, compS, hkindS⟩ := hA 0 (fun _ => .null)
  obtain ⟨vm', X', st⟩ := X.cloneArray hexec hown (hEV.1.all w0) (hEV.1.all w1) (hEV.1.all q1318) (hEV.1.all q1319) (hEV.1.all w2) (a := a) (cell := arrV cA n F) hcellT (fun k h => by cases h) (fun h => by cases h) hnm f2 f3
    (fun i v hv => by
      have hk' : T.vm.classes[cA]? = some kA := hkA
      have := va_fit hfit i v hv
      simpa [State.fitsSlot, State.slotType?, hk', hkind, arrV] using this)
    (g := F0 m pc ls (.ref a :: rest)) rfl hnL rfl (by rw [hb]; exact hdg) hfr (by show 2 * 0 + _ + 14 ≤ _; omega) hce (by rw [arrV_size]; exact hsl) (hloader := Vm.clonesLoader_of_array hkS hkindS)
  have hE : ({ cls := (arrV cA n F).cls, slots := (arrV cA n F).slots } : Cell) = arrV cA n F := rfl
  rw [hE, arrV_size] at X'
  rw [hE] at st
  obtain ⟨t, b1, b2⟩ := k (H.push (arrV cA n F)) Array.getElem?_push_size (by simp) (fun q hq => by rw [Array.getElem?_push, if_neg (Nat.ne_of_lt hq)]) ((T.setVm vm').pushCell (arrV cA n F)) (by rw [← hT]; rfl) X'
  refine ⟨t, st t ?_, b2⟩
  rw [hT]
  exact b1
theorem x_castA (hexec : p.tables.exec = Jvm.exec) (hb : c.code = cc) (hEV : EV8 G s) {own nm : String} {idx : Nat} (hown : s.vm.findClass own = some m.cls) (w0 : Cond.classLink own idx nm ∈ lw_all) {a : Nat} {cell : Cell} (h1 : H[a]? = some cell) (h2 : cell.vm = .none) (hnm : s.vm.findClass nm = some cell.cls) (hdg : decode cc pc = .ok (.checkcast idx, 3))
    (k : W p l e R s m args below meth c H locs cells slots Q (F0 m (pc + 3) ls (.ref a :: rest))) : W p l e R s m args below meth c H locs cells slots Q (F0 m pc ls (.ref a :: rest)) := by
  intro T hT X
  obtain ⟨vm', X', st⟩ := X.checkcastYes hexec hown (hEV.1.all w0) (by rw [hT]; exact h1) (by rw [h2]; rfl) hnm (va_asg _ _) (g := F0 m pc ls (.ref a :: rest)) rfl rfl (by rw [hb]; exact hdg)
  obtain ⟨t, a1, b1⟩ := k (T.setVm vm') hT X'
  exact ⟨t, st t a1, b1⟩
end
/-- what copyOf leaves -/
def cpd (cA : ClassId) (d : Value) (H H' : Heap) (n0 N : Nat) (F : Nat → Value) : Prop := H'[H.size]? = some (arrV cA N (fun i => if i < n0 ∧ i < N then F i else d)) ∧ H'.size = H.size + 1 ∧ ∀ q, q < H.size → H'[q]? = H[q]?
theorem arrV_congr {cA : ClassId} {N : Nat} {f g : Nat → Value} (h : ∀ i, i < N → f i = g i) : arrV cA N f = arrV cA N g := by
  unfold arrV
  congr 1
  apply Array.ext
  · simp
  · intro i h1 h2
    have h3 : i < N := by simpa using h1
    simp [h i h3]
theorem jx_cp (hG : GOK G) {k : Nat} {ty : FieldType} {at_ : ArrayType} {bytes : ByteArray} {ad desc : String} {ic ik : Nat} (hk : (k, ty) ∈ arrT) (hty : newarray.typeOf at_ = ty) (hnm : ∀ s : State, va_RA s ((gA G) k) ty → s.vm.findClass ad = some ((gA G) k)) (hnm2 : "[" ++ ty.toString = ad) (wA : Cond.arrayClass ty ∈ lw_all) (hby : componentBytes ty ≤ 8)
    (w0 : Cond.methodLink "java/util/Arrays" ic ⟨ad, "clone", "()Ljava/lang/Object;"⟩ ∈ lw_all) (w1 : Cond.sameMethod ad "java/lang/Object" "clone" "()Ljava/lang/Object;" ∈ lw_all) (w2 : Cond.selects ad ⟨ad, "clone", "()Ljava/lang/Object;"⟩ ⟨"java/lang/Object", "clone", "()Ljava/lang/Object;"⟩ ∈ lw_all) (w3 : Cond.castable ad "java/lang/Cloneable" ∈ lw_tbl) (w4 : Cond.classLink "java/util/Arrays" ik ad ∈ lw_all)
    (d0 : decode bytes 0 = .ok (.iload_n 1, 1)) (d1 : decode bytes 1 = .ok (.aload_n 0, 1)) (d2 : decode bytes 2 = .ok (.arraylength, 1)) (d3 : decode bytes 3 = .ok (.if_icmp .ne 11, 3)) (d6 : decode bytes 6 = .ok (.aload_n 0, 1)) (d7 : decode bytes 7 = .ok (.invokevirtual ic, 3)) (d10 : decode bytes 10 = .ok (.checkcast ik, 3)) (d13 : decode bytes 13 = .ok (.areturn, 1))
    (d14 : decode bytes 14 = .ok (.iload_n 1, 1)) (d15 : decode bytes 15 = .ok (.newarray at_, 2)) (d17 : decode bytes 17 = .ok (.astore_n 2, 1)) (d18 : decode bytes 18 = .ok (.aload_n 0, 1)) (d19 : decode bytes 19 = .ok (.iconst 0, 1)) (d20 : decode bytes 20 = .ok (.aload_n 2, 1)) (d21 : decode bytes 21 = .ok (.iconst 0, 1)) (d22 : decode bytes 22 = .ok (.aload_n 0, 1)) (d23 : decode bytes 23 = .ok (.arraylength, 1)) (d24 : decode bytes 24 = .ok (.iload_n 1, 1)) (d25 : decode bytes 25 = .ok (.invokestatic 304, 3)) (d28 : decode bytes 28 = .ok (.invokestatic 150, 3)) (d31 : decode bytes 31 = .ok (.aload_n 2, 1)) (d32 : decode bytes 32 = .ok (.areturn, 1)) :
    JX G ⟨"java/util/Arrays", "copyOf", desc⟩ bytes 3 (some (.array ty)) 1 60 (fun a H KH mc ms => ∃ (a0 n0 : Nat) (n : Int32) (F : Nat → Value), a = #[.ref a0, .int n] ∧ H[a0]? = some (arrV ((gA G) k) n0 F) ∧ (∀ i, i < n0 → fits ty (F i) = true ∧ ∀ (T : State) (z : ClassId), T.takes z (F i)) ∧ ¬ n < 0 ∧ n0 ≤ 67108864 ∧ n.toNatClampNeg ≤ 67108864 ∧ gB G ≤ H.size ∧ 1 ≤ mc ∧ n.toNatClampNeg ≤ ms ∧
      ∀ H', cpd ((gA G) k) (defaultValue ty) H H' n0 n.toNatClampNeg F → KH (some (.ref H.size)) H' n.toNatClampNeg) := by
  intro p l e R s m args below meth c KH hexec hEV hown hb hml hr hlk hfr hlo hPH
  obtain ⟨a0, n0, n, F, rfl, h1, hF, h6, h7, h8, hB, h9, h10, hkk⟩ := hPH
  have ha0 : a0 < s.heap.size := (Array.getElem?_eq_some_iff.mp h1).1
  obtain ⟨hA, hRA⟩ := hEV.2.1.2.1 _ hk
  have hnm' := hnm s hRA
  have o31 : ∀ z : Nat, z < 2147483648 → (Int32.ofNat z).toInt = z := fun z hz => Int32.toInt_ofNat_of_lt hz
  have hni : n.toInt = (n.toNatClampNeg : Int) := by
    have : (0 : Int) ≤ n.toInt := by rw [Int32.lt_iff_toInt_lt, Int32.toInt_zero] at h6; omega
    show n.toInt = (n.toInt.toNat : Int); omega
  have hlen : ∀ F' : Nat → Value, (arrV ((gA G) k) n0 F').slots.size.toInt32 = Int32.ofNat n0 := fun F' => by rw [arrV_size]
  show W p l e R s m _ below meth c s.heap [] 0 0 _ (F0 m 0 #[.val (.ref a0), .val (.int n), .unset] [])
  have hl : lv_has #[.val (.ref a0), .val (.int n), .unset] 3 [(0, .ref a0), (1, .int n)] := lv_entry (n := 3) [.ref a0, .int n] (Nat.le_of_ble_eq_true rfl)
  refine lv_iload_n hexec hb d0 rfl rfl ?_
  refine lv_aload_n hexec hb d1 rfl rfl ?_
  refine W.alen hexec hb h1 (hA _ _) (hlen _) rfl rfl d2 ?_
  refine lv_icmp_ne hexec hb d3 (tgt := 14) rfl (fun _ => ?_) (fun z => ?_)
  · refine lv_iload_n hexec hb d14 rfl rfl ?_
    refine W.newa hexec hb (by rw [hty]; exact hEV.1.all wA) rfl d15 (n := n) rfl h6 ?_ (by omega) (by omega) fun cA kA comp g1 g2 g3 => ?_
    · rw [hty]
      calc n.toNatClampNeg * componentBytes ty ≤ 67108864 * 8 := Nat.mul_le_mul h8 hby
        _ = 536870912 := rfl
    rw [hty] at g1 g3 ⊢
    rw [hnm2] at g1
    have hcA : cA = (gA G) k := Option.some.inj (g1.symm.trans hnm')
    subst hcA
    have hrp : ({ cls := (gA G) k, slots := Array.replicate n.toNatClampNeg (defaultValue ty), vm := .none } : Cell) = arrV ((gA G) k) n.toNatClampNeg (fun _ => defaultValue ty) := by
      unfold arrV
      congr 1
      apply Array.ext
      · simp
      · intro i h1 h2; simp
    rw [hrp]
    generalize hH1 : s.heap.push (arrV ((gA G) k) n.toNatClampNeg (fun _ => defaultValue ty)) = H1
    have b1 : H1[s.heap.size]? = some (arrV ((gA G) k) n.toNatClampNeg (fun _ => defaultValue ty)) := by rw [← hH1]; exact Array.getElem?_push_size
    have b2 : H1.size = s.heap.size + 1 := by rw [← hH1]; simp
    have b3 : ∀ q, q < s.heap.size → H1[q]? = s.heap[q]? := fun q hq => by rw [← hH1, Array.getElem?_push, if_neg (Nat.ne_of_lt hq)]
    have h1' : H1[a0]? = some (arrV ((gA G) k) n0 F) := by rw [b3 a0 ha0]; exact h1
    refine lv_astore_n hexec hb d17 rfl hl (by decide) rfl fun ls1 hl1 => ?_
    refine lv_aload_n hexec hb d18 rfl (by first | exact lv_k hl1 0 rfl | exact lv_k hl1 1 rfl | exact lv_k hl1 2 rfl | exact lv_k hl1 3 rfl) ?_
    refine lv_iconst hexec hb d19 rfl ?_
    refine lv_aload_n hexec hb d20 rfl (by first | exact lv_k hl1 0 rfl | exact lv_k hl1 1 rfl | exact lv_k hl1 2 rfl | exact lv_k hl1 3 rfl) ?_
    refine lv_iconst hexec hb d21 rfl ?_
    refine lv_aload_n hexec hb d22 rfl (by first | exact lv_k hl1 0 rfl | exact lv_k hl1 1 rfl | exact lv_k hl1 2 rfl | exact lv_k hl1 3 rfl) ?_
    refine W.alen hexec hb h1' (hA _ _) (hlen _) rfl rfl d23 ?_
    refine lv_iload_n hexec hb d24 rfl (by first | exact lv_k hl1 0 rfl | exact lv_k hl1 1 rfl | exact lv_k hl1 2 rfl | exact lv_k hl1 3 rfl) ?_
    have hmin : (if n < Int32.ofNat n0 then n else Int32.ofNat n0) = Int32.ofNat (min n.toNatClampNeg n0) := by
      apply Int32.toInt_inj.mp
      rw [o31 _ (by omega)]
      by_cases c9 : n < Int32.ofNat n0
      · rw [if_pos c9, hni]
        rw [Int32.lt_iff_toInt_lt, hni, o31 _ (by omega)] at c9
        omega
      · rw [if_neg c9, o31 _ (by omega)]
        rw [Int32.lt_iff_toInt_lt, hni, o31 _ (by omega)] at c9
        omega
    refine x_S hG.1 jx_min hexec hEV hown q1125 q1126 q323 q1127 ⟨by decide, by decide⟩ (by decide +kernel) (np0 (n := 2) (by decide +kernel)) hb (hl1.1.trans hml.symm) d25 [.int (Int32.ofNat n0), .int n] [.int 0, .ref s.heap.size, .int 0, .ref a0] rfl nil_locs (by omega) (by show 1 + (1 + (1 + (1 + 0))) + (2 + 11) + 0 ≤ _; omega) (by omega) (by omega) (KH := fun v H' z => v = some (.int (Int32.ofNat (min n.toNatClampNeg n0))) ∧ H' = H1 ∧ z = 0) ⟨_, n, rfl, by rw [hmin], rfl, rfl⟩ (fun H' locs' k n hk9 => by cases hk9.1) ?_
    rintro v H' locs' k' n' ⟨hv, rfl, rfl⟩ hL hsz
    cases hv
    obtain rfl : k' = 0 := by omega
    obtain ⟨-, kS, hkS, compS, hkindS⟩ := hA 0 (fun _ => .null)
    refine x_acopy (n := min n.toNatClampNeg n0) (n1 := n.toNatClampNeg) (ty := ty) hexec hb (hl1.1.trans hml.symm) hEV hown q1128 F (fun _ => defaultValue ty) h1' okV_n (fun i hi => arrV_read _ _ (by omega)) b1 (k0 := kS) (m0 := compS) hkS hkindS hkS hkindS (by rw [arrV_size]; omega) (by omega) (by omega) rfl (fun T _ _ i hi => ⟨(hF i (by omega)).1, (hF i (by omega)).2 T _⟩) hL hB hfr (by show 0 + 30 ≤ _; omega) d28 fun H2 locs2 o1 hL2 => ?_
    refine lv_aload_n hexec hb d31 rfl (by first | exact lv_k hl1 0 rfl | exact lv_k hl1 1 rfl | exact lv_k hl1 2 rfl | exact lv_k hl1 3 rfl) ?_
    refine x_aret hexec hb hlk hr (Or.inr ⟨_, rfl⟩) (Or.inr ⟨_, rfl⟩) d32 hL2 (by rw [o1.2.1, b2]) ?_
    have := hkk H2 ⟨by rw [o1.1]; congr 1; exact arrV_congr (fun i hi => by
      by_cases c9 : i < n0
      · rw [if_pos (by omega), if_pos ⟨c9, hi⟩]
      · rw [if_neg (by omega), if_neg (fun z => c9 z.1)]), by rw [o1.2.1, b2], fun q hq => by rw [o1.2.2 q (by omega), b3 q hq]⟩
    simpa using this
  · have heq : n.toNatClampNeg = n0 := by
      have := congrArg Int32.toInt z
      rw [hni, o31 _ (by omega)] at this
      omega
    refine lv_aload_n hexec hb d6 rfl rfl ?_
    refine x_clone hexec hb (by rw [hml]; rfl) hEV hown w0 w1 w2 w3 hnm' hA h1 (fun i hi => (hF i hi).1) hfr (by show 0 + 14 ≤ _; omega) (by omega) (by omega) d7 fun H' a1 a2 a3 => ?_
    refine x_castA hexec hb hEV hown w4 a1 rfl hnm' d10 ?_
    refine x_aret hexec hb hlk hr (Or.inr ⟨_, rfl⟩) (Or.inr ⟨_, rfl⟩) d13 nil_locs (by rw [a2]) ?_
    have := hkk H' ⟨by rw [a1, heq]; congr 1; exact arrV_congr (fun i hi => by rw [if_pos ⟨hi, hi⟩]), a2, a3⟩
    rw [heq] at this
    simpa using this
end
