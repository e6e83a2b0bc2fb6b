/-! lists: their methods, over the heap itself -/
set_option maxRecDepth 100000
theorem d_ac_0 : decode prog_73_method_1_code 0 = .ok (.aload_n 0, 1) := by decide +kernel
theorem d_ac_1 : decode prog_73_method_1_code 1 = .ok (.invokespecial 1, 3) := by decide +kernel
theorem d_ac_4 : decode prog_73_method_1_code 4 = .ok (.return_, 1) := by decide +kernel
theorem d_al_0 : decode prog_74_method_1_code 0 = .ok (.aload_n 0, 1) := by decide +kernel
theorem d_al_1 : decode prog_74_method_1_code 1 = .ok (.invokespecial 1, 3) := by decide +kernel
theorem d_al_4 : decode prog_74_method_1_code 4 = .ok (.aload_n 0, 1) := by decide +kernel
theorem d_al_5 : decode prog_74_method_1_code 5 = .ok (.iconst 0, 1) := by decide +kernel
theorem d_al_6 : decode prog_74_method_1_code 6 = .ok (.putfield 7, 3) := by decide +kernel
theorem d_al_9 : decode prog_74_method_1_code 9 = .ok (.return_, 1) := by decide +kernel
theorem d_li_0 : decode prog_75_method_2_code 0 = .ok (.aload_n 0, 1) := by decide +kernel
theorem d_li_1 : decode prog_75_method_2_code 1 = .ok (.invokespecial 1, 3) := by decide +kernel
theorem d_li_4 : decode prog_75_method_2_code 4 = .ok (.aload_n 0, 1) := by decide +kernel
theorem d_li_5 : decode prog_75_method_2_code 5 = .ok (.getstatic 39, 3) := by decide +kernel
theorem d_li_8 : decode prog_75_method_2_code 8 = .ok (.putfield 9, 3) := by decide +kernel
theorem d_li_11 : decode prog_75_method_2_code 11 = .ok (.return_, 1) := by decide +kernel
theorem d_ln_0 : decode prog_75_method_1_code 0 = .ok (.aload_n 0, 1) := by decide +kernel
theorem d_ln_1 : decode prog_75_method_1_code 1 = .ok (.invokespecial 1, 3) := by decide +kernel
theorem d_ln_4 : decode prog_75_method_1_code 4 = .ok (.iload_n 1, 1) := by decide +kernel
theorem d_ln_5 : decode prog_75_method_1_code 5 = .ok (.ifCond .le 14, 3) := by decide +kernel
theorem d_ln_8 : decode prog_75_method_1_code 8 = .ok (.aload_n 0, 1) := by decide +kernel
theorem d_ln_9 : decode prog_75_method_1_code 9 = .ok (.iload_n 1, 1) := by decide +kernel
theorem d_ln_10 : decode prog_75_method_1_code 10 = .ok (.anewarray 7, 3) := by decide +kernel
theorem d_ln_13 : decode prog_75_method_1_code 13 = .ok (.putfield 9, 3) := by decide +kernel
theorem d_ln_16 : decode prog_75_method_1_code 16 = .ok (.goto 44, 3) := by decide +kernel
theorem d_ln_60 : decode prog_75_method_1_code 60 = .ok (.return_, 1) := by decide +kernel
theorem d_lz_0 : decode prog_75_method_8_code 0 = .ok (.aload_n 0, 1) := by decide +kernel
theorem d_lz_1 : decode prog_75_method_8_code 1 = .ok (.getfield 48, 3) := by decide +kernel
theorem d_lz_4 : decode prog_75_method_8_code 4 = .ok (.ireturn, 1) := by decide +kernel
theorem d_ed_0 : decode prog_75_method_18_code 0 = .ok (.aload_n 0, 1) := by decide +kernel
theorem d_ed_1 : decode prog_75_method_18_code 1 = .ok (.getfield 9, 3) := by decide +kernel
theorem d_ed_4 : decode prog_75_method_18_code 4 = .ok (.iload_n 1, 1) := by decide +kernel
theorem d_ed_5 : decode prog_75_method_18_code 5 = .ok (.aaload, 1) := by decide +kernel
theorem d_ed_6 : decode prog_75_method_18_code 6 = .ok (.areturn, 1) := by decide +kernel
theorem d_lg_0 : decode prog_75_method_20_code 0 = .ok (.iload_n 1, 1) := by decide +kernel
theorem d_lg_1 : decode prog_75_method_20_code 1 = .ok (.aload_n 0, 1) := by decide +kernel
theorem d_lg_2 : decode prog_75_method_20_code 2 = .ok (.getfield 48, 3) := by decide +kernel
theorem d_lg_5 : decode prog_75_method_20_code 5 = .ok (.invokestatic 118, 3) := by decide +kernel
theorem d_lg_8 : decode prog_75_method_20_code 8 = .ok (.pop, 1) := by decide +kernel
theorem d_lg_9 : decode prog_75_method_20_code 9 = .ok (.aload_n 0, 1) := by decide +kernel
theorem d_lg_10 : decode prog_75_method_20_code 10 = .ok (.iload_n 1, 1) := by decide +kernel
theorem d_lg_11 : decode prog_75_method_20_code 11 = .ok (.invokevirtual 123, 3) := by decide +kernel
theorem d_lg_14 : decode prog_75_method_20_code 14 = .ok (.areturn, 1) := by decide +kernel
theorem d_oc_0 : decode prog_80_method_17_code 0 = .ok (.iload_n 0, 1) := by decide +kernel
theorem d_oc_1 : decode prog_80_method_17_code 1 = .ok (.iload_n 1, 1) := by decide +kernel
theorem d_oc_2 : decode prog_80_method_17_code 2 = .ok (.aconst_null, 1) := by decide +kernel
theorem d_oc_3 : decode prog_80_method_17_code 3 = .ok (.invokestatic 105, 3) := by decide +kernel
theorem d_oc_6 : decode prog_80_method_17_code 6 = .ok (.ireturn, 1) := by decide +kernel
theorem d_pc_0 : decode prog_84_method_11_code 0 = .ok (.iload_n 0, 1) := by decide +kernel
theorem d_pc_1 : decode prog_84_method_11_code 1 = .ok (.ifCond .lt 8, 3) := by decide +kernel
theorem d_pc_4 : decode prog_84_method_11_code 4 = .ok (.iload_n 0, 1) := by decide +kernel
theorem d_pc_5 : decode prog_84_method_11_code 5 = .ok (.iload_n 1, 1) := by decide +kernel
theorem d_pc_6 : decode prog_84_method_11_code 6 = .ok (.if_icmp .lt 10, 3) := by decide +kernel
theorem d_pc_16 : decode prog_84_method_11_code 16 = .ok (.iload_n 0, 1) := by decide +kernel
theorem d_pc_17 : decode prog_84_method_11_code 17 = .ok (.ireturn, 1) := by decide +kernel
def GOK (G : GX) : Prop := (∀ s U : State, s.WarmedH U.vm → gP G s → gP G U) ∧ ∀ s, gP G s → EP (gD G) (gA G) (gB G) (gH G) (gE G) (gρ G 1002) s
theorem np0 {y : MethodName} {n : Nat} (h : (match parseMethodDescriptor y.desc with | some sig => Nat.beq n sig.parameters.length | none => true) = true) : npar y n := by
  intro sig hs
  rw [hs] at h
  exact Nat.eq_of_beq_eq_true h
theorem st_eq {cell : Cell} {i : Nat} {v w : Value} (h : cell.slots[i]? = some w) : (cell.setSlot i v).slots[i]? = some v := by
  have hlt := k2_hasslot h
  simp [Cell.setSlot, hlt]
theorem st_ne {cell : Cell} {i j : Nat} {v : Value} (h : i ≠ j) : (cell.setSlot i v).slots[j]? = cell.slots[j]? := by
  simp [Cell.setSlot, Array.getElem?_setIfInBounds, h]
theorem nil_locs {B : Nat} : ∀ q ∈ ([] : List Loc), B ≤ q.base := fun q hq => by cases hq
/-- one cell is other -/
def one1 (H H' : Heap) (x : Nat) (cell : Cell) : Prop := H'[x]? = some cell ∧ H'.size = H.size ∧ ∀ q, q ≠ x → H'[q]? = H[q]?
section
variable {G : GX}
theorem jx_ac : JX G ⟨"java/util/AbstractCollection", "<init>", "()V"⟩ prog_73_method_1_code 1 none 1 20 (fun a H KH _ _ => ∃ x : Nat, a = #[.ref x] ∧ KH none H 0) := by
  intro p l e R s m args below meth c KH hexec hEV hown hb hml hr hlk hfr hlo hPH
  obtain ⟨x, rfl, hk⟩ := hPH
  show W p l e R s m _ below meth c s.heap [] 0 0 _ (F0 m 0 #[.val (.ref x)] [])
  refine lv_aload_n hexec hb d_ac_0 rfl rfl ?_
  refine W.objInit hexec hb hown (hEV.1.all q538) (hEV.1.all q384) (hEV.1.all q385) rfl (by rw [hml]; rfl) rfl d_ac_1 hfr (by show 2 * 0 + 0 + 12 ≤ _; omega) ?_
  exact x_vret hexec hb hlk hr d_ac_4 nil_locs rfl hk
theorem jx_al (hG : GOK G) : JX G ⟨"java/util/AbstractList", "<init>", "()V"⟩ prog_74_method_1_code 1 none 2 50 (fun a H KH _ _ => ∃ (x : Nat) (cell : Cell) (w : Value), a = #[.ref x] ∧ H[x]? = some cell ∧ cell.vm = .none ∧ cell.cls = (gD G).1 190 ∧ cell.slots[(gD G).2 190 0]? = some w ∧ gB G ≤ x ∧ ∀ H', one1 H H' x (cell.setSlot ((gD G).2 190 0) (.int 0)) → KH none H' 0) := by
  intro p l e R s m args below meth c KH hexec hEV hown hb hml hr hlk hfr hlo hPH
  obtain ⟨x, cell, w, rfl, h1, h2, h3, h4, h5, hk⟩ := hPH
  show W p l e R s m _ below meth c s.heap [] 0 0 _ (F0 m 0 #[.val (.ref x)] [])
  refine lv_aload_n hexec hb d_al_0 rfl rfl ?_
  refine x_I hG.1 jx_ac hexec hEV hown q535 rfl q536 q537 ⟨by decide, by decide⟩ (by decide +kernel) (np0 (n := 0) (by decide +kernel)) hb (by rw [hml]; rfl) d_al_1 [] [] x rfl nil_locs (by omega) (by show 0 + (1 + 11) + 20 ≤ _; omega) (Nat.zero_le _) (Nat.zero_le _) (KH := fun v H' n => v = none ∧ H' = s.heap ∧ n = 0) ⟨x, rfl, rfl, rfl, rfl⟩ ?_ (fun v H' locs' k n hk9 => by cases hk9.1)
  rintro H' locs' k n ⟨-, rfl, rfl⟩ hL hsz
  obtain rfl : k = 0 := by omega
  refine lv_aload_n hexec hb d_al_4 rfl rfl ?_
  refine lv_iconst hexec hb d_al_5 rfl ?_
  refine xp_m0 hexec hb hEV hown h1 h2 h3 h4 hL h5 d_al_6 fun H' locs' e1 e2 e3 hL' => ?_
  exact x_vret hexec hb hlk hr d_al_9 hL' (by rw [e2]; rfl) (hk H' ⟨e1, e2, e3⟩)
theorem jx_li (hG : GOK G) : JX G ⟨"java/util/ArrayList", "<init>", "()V"⟩ prog_75_method_2_code 1 none 3 80 (fun a H KH _ _ => ∃ (x : Nat) (cell : Cell), a = #[.ref x] ∧ H[x]? = some cell ∧ cell.vm = .none ∧ cell.cls = (gD G).1 190 ∧ (∀ j, j < 3 → ∃ w, cell.slots[(gD G).2 190 j]? = some w) ∧ gB G ≤ x ∧ (∀ q, q < gB G → H[q]? = (gH G)[q]?) ∧
    ∀ H', one1 H H' x ((cell.setSlot ((gD G).2 190 0) (.int 0)).setSlot ((gD G).2 190 1) (.ref (gE G))) → KH none H' 0) := by
  intro p l e R s m args below meth c KH hexec hEV hown hb hml hr hlk hfr hlo hPH
  obtain ⟨x, cell, rfl, h1, h2, h3, h4, h5, hlow, hk⟩ := hPH
  obtain ⟨w0, hw0⟩ := h4 0 (by decide)
  obtain ⟨w1, hw1⟩ := h4 1 (by decide)
  have hne := l_apart hEV (i := 0) (j := 1) (by decide) (by decide) (by decide)
  show W p l e R s m _ below meth c s.heap [] 0 0 _ (F0 m 0 #[.val (.ref x)] [])
  refine lv_aload_n hexec hb d_li_0 rfl rfl ?_
  refine x_I hG.1 (jx_al hG) hexec hEV hown q532 rfl q533 q534 ⟨by decide, by decide⟩ (by decide +kernel) (np0 (n := 0) (by decide +kernel)) hb (by rw [hml]; rfl) d_li_1 [] [] x rfl nil_locs (by omega) (by show 0 + (1 + 11) + 50 ≤ _; omega) (Nat.zero_le _) (Nat.zero_le _) (KH := fun v H' n => v = none ∧ one1 s.heap H' x (cell.setSlot ((gD G).2 190 0) (.int 0)) ∧ n = 0) ⟨x, cell, w0, rfl, h1, h2, h3, hw0, h5, fun H' a => ⟨rfl, a, rfl⟩⟩ ?_ (fun v H' locs' k n hk9 => by cases hk9.1)
  rintro H' locs' k n ⟨-, ⟨a1, a2, a3⟩, rfl⟩ hL hsz
  obtain rfl : k = 0 := by omega
  refine lv_aload_n hexec hb d_li_4 rfl rfl ?_
  refine xg_s hexec hb (hG.2 s hEV.2.2.2.2.2).1 (fun q hq => (a3 q (by omega)).trans (hlow q hq)) hown (hEV.1.all q539) d_li_5 ?_
  refine xp_E hexec hb hEV hown a1 h2 h3 (by rw [st_ne hne]; exact hw1) hL h5 d_li_8 fun H2 locs2 e1 e2 e3 hL' => ?_
  exact x_vret hexec hb hlk hr d_li_11 hL' (by rw [e2, a2]; rfl) (hk H2 ⟨e1, by rw [e2, a2], fun q hq => (e3 q hq).trans (a3 q hq)⟩)
/-- a new array of references is behind what was -/
def newO (G : GX) (H H' : Heap) (n : Nat) : Prop := H'[H.size]? = some { cls := (gA G) 20, slots := Array.replicate n .null, vm := .none } ∧ H'.size = H.size + 1 ∧ ∀ q, q < H.size → H'[q]? = H[q]?
section
variable {p : Program} {l : Launch} {e : Env} {R : Room} {s : State} {m : MethodId} {args : Array Value} {below : List Frame} {meth : Method} {c : Code} {H : Heap} {locs : List Loc} {cells slots : Nat} {Q : State → Prop}
variable {cc : ByteArray} {pc : Nat} {ls : Array Slot} {rest : List Value}
theorem hO (hEV : EV8 G s) : ArrOfT s ((gA G) 20) (.object "java/lang/Object") ∧ va_RA s ((gA G) 20) (.object "java/lang/Object") := hEV.2.1.2.1 (20, .object "java/lang/Object") (by simp [arrT])
theorem x_anew (hexec : p.tables.exec = Jvm.exec) (hb : c.code = cc) (hEV : EV8 G s) {own : String} {index : Nat} (hown : s.vm.findClass own = some m.cls) (hlink : Cond.classLink own index "java/lang/Object" ∈ lw_all) {n : Int32} (hn : ¬ n < 0) (h1 : n.toNatClampNeg ≤ 67108864) (hcells : cells + 1 ≤ R.cells) (hslots : slots + n.toNatClampNeg ≤ R.slots) (hdg : decode cc pc = .ok (.anewarray index, 3))
    (k : ∀ H', newO G H H' n.toNatClampNeg → W p l e R s m args below meth c H' locs (cells + 1) (slots + n.toNatClampNeg) Q (F0 m (pc + 3) ls (.ref H.size :: rest))) : W p l e R s m args below meth c H locs cells slots Q (F0 m pc ls (.int n :: rest)) := by
  refine W.anew hexec hb hown (hEV.1.all hlink) (hEV.1 _ q1123 rfl args) rfl hdg (n := n) rfl hn (by omega) hcells hslots fun cA kA comp g1 g2 g3 g4 => ?_
  obtain ⟨kA', comp', a1, a2, a3, a4⟩ := (hO hEV).2
  have hcA : cA = (gA G) 20 := Option.some.inj (g1.symm.trans a4)
  subst hcA
  exact k _ ⟨Array.getElem?_push_size, by simp, fun q hq => by rw [Array.getElem?_push, if_neg (Nat.ne_of_lt hq)]⟩
end
theorem jx_ln (hG : GOK G) : JX G ⟨"java/util/ArrayList", "<init>", "(I)V"⟩ prog_75_method_1_code 2 none 3 80 (fun a H KH mc ms => ∃ (x : Nat) (cell : Cell) (n : Int32), a = #[.ref x, .int n] ∧ H[x]? = some cell ∧ cell.vm = .none ∧ cell.cls = (gD G).1 190 ∧ (∀ j, j < 3 → ∃ w, cell.slots[(gD G).2 190 j]? = some w) ∧ gB G ≤ x ∧ 0 < n ∧ n.toNatClampNeg ≤ 1000 ∧ 1 ≤ mc ∧ n.toNatClampNeg ≤ ms ∧
    ∀ H1 H', newO G H H1 n.toNatClampNeg → one1 H1 H' x ((cell.setSlot ((gD G).2 190 0) (.int 0)).setSlot ((gD G).2 190 1) (.ref H.size)) → KH none H' n.toNatClampNeg) := by
  intro p l e R s m args below meth c KH hexec hEV hown hb hml hr hlk hfr hlo hPH
  obtain ⟨x, cell, n, rfl, h1, h2, h3, h4, h5, h6, h7, h8, h9, hk⟩ := hPH
  obtain ⟨w0, hw0⟩ := h4 0 (by decide)
  obtain ⟨w1, hw1⟩ := h4 1 (by decide)
  have hxl : x < s.heap.size := (Array.getElem?_eq_some_iff.mp h1).1
  have hne := l_apart hEV (i := 0) (j := 1) (by decide) (by decide) (by decide)
  show W p l e R s m _ below meth c s.heap [] 0 0 _ (F0 m 0 #[.val (.ref x), .val (.int n)] [])
  refine lv_aload_n hexec hb d_ln_0 rfl rfl ?_
  refine x_I hG.1 (jx_al hG) hexec hEV hown q532 rfl q533 q534 ⟨by decide, by decide⟩ (by decide +kernel) (np0 (n := 0) (by decide +kernel)) hb (by rw [hml]; rfl) d_ln_1 [] [] x rfl nil_locs (by omega) (by show 0 + (1 + 11) + 50 ≤ _; omega) (Nat.zero_le _) (Nat.zero_le _) (KH := fun v H' n => v = none ∧ one1 s.heap H' x (cell.setSlot ((gD G).2 190 0) (.int 0)) ∧ n = 0) ⟨x, cell, w0, rfl, h1, h2, h3, hw0, h5, fun H' a => ⟨rfl, a, rfl⟩⟩ ?_ (fun v H' locs' k n hk9 => by cases hk9.1)
  rintro H' locs' k n' ⟨-, ⟨a1, a2, a3⟩, rfl⟩ hL hsz
  obtain rfl : k = 0 := by omega
  refine lv_iload_n hexec hb d_ln_4 rfl rfl ?_
  refine lv_if_le hexec hb d_ln_5 (tgt := 19) rfl (fun z => absurd h6 (Int32.not_lt.mpr z)) fun _ => ?_
  refine lv_aload_n hexec hb d_ln_8 rfl rfl ?_
  refine lv_iload_n hexec hb d_ln_9 rfl rfl ?_
  have hnn : ¬ n < 0 := by
    rw [Int32.lt_iff_toInt_lt] at h6 ⊢
    omega
  refine x_anew hexec hb hEV hown q1132 hnn (by omega) (by omega) (by omega) d_ln_10 fun H2 b => ?_
  obtain ⟨b1, b2, b3⟩ := b
  have ea : H'.size = s.heap.size := a2
  have hx2 : H2[x]? = some (cell.setSlot ((gD G).2 190 0) (.int 0)) := by rw [b3 x (by omega)]; exact a1
  refine xp_E hexec hb hEV hown (a := x) (b := H'.size) hx2 h2 h3 (by rw [st_ne hne]; exact hw1) hL h5 d_ln_13 fun H3 locs3 e1 e2 e3 hL' => ?_
  refine lv_goto hexec hb d_ln_16 (tgt := 60) rfl ?_
  refine x_vret hexec hb hlk hr d_ln_60 hL' (by rw [e2, b2, ea]) ?_
  have hH1 := hk (H3.setIfInBounds x cell) H3 ?_ ?_
  · rw [Nat.zero_add]; exact hH1
  · refine ⟨?_, by simp only [Array.size_setIfInBounds]; rw [e2, b2, ea], fun q hq => ?_⟩
    · rw [Array.getElem?_setIfInBounds, if_neg (by omega), e3 _ (by omega), ← ea]; exact b1
    · by_cases hqx : x = q
      · subst hqx
        rw [Array.getElem?_setIfInBounds, if_pos rfl, if_pos (by rw [e2, b2]; omega)]; exact h1.symm
      · rw [Array.getElem?_setIfInBounds, if_neg hqx, e3 q (fun z => hqx z.symm), b3 q (by omega), a3 q (fun z => hqx z.symm)]
  · refine ⟨?_, by simp, fun q hq => by rw [Array.getElem?_setIfInBounds, if_neg (fun z => hq z.symm)]⟩
    rw [← ea]; exact e1
theorem jx_lz : JX G ⟨"java/util/ArrayList", "size", "()I"⟩ prog_75_method_8_code 1 (some .int) 0 0 (fun a H KH _ _ => ∃ (x : Nat) (cell : Cell) (n : Int32), a = #[.ref x] ∧ H[x]? = some cell ∧ cell.vm = .none ∧ cell.slots[(gD G).2 190 2]? = some (.int n) ∧ KH (some (.int n)) H 0) := by
  intro p l e R s m args below meth c KH hexec hEV hown hb hml hr hlk hfr hlo hPH
  obtain ⟨x, cell, n, rfl, h1, h2, h3, hk⟩ := hPH
  show W p l e R s m _ below meth c s.heap [] 0 0 _ (F0 m 0 #[.val (.ref x)] [])
  refine lv_aload_n hexec hb d_lz_0 rfl rfl ?_
  refine xg_n hexec hb hEV hown h1 h2 h3 d_lz_1 ?_
  exact x_iret hexec hb hlk hr rfl d_lz_4 nil_locs rfl hk
theorem jx_pc : JX G ⟨"jdk/internal/util/Preconditions", "checkIndex", "(IILjava/util/function/BiFunction;)I"⟩ prog_84_method_11_code 3 (some .int) 0 0 (fun a H KH _ _ => ∃ (i n : Int32) (v : Value), a = #[.int i, .int n, v] ∧ (v = .null ∨ ∃ b, v = .ref b) ∧ ¬ i < 0 ∧ i < n ∧ KH (some (.int i)) H 0) := by
  intro p l e R s m args below meth c KH hexec hEV hown hb hml hr hlk hfr hlo hPH
  obtain ⟨i, n, v, rfl, hv, h1, h2, hk⟩ := hPH
  have key : W p l e R s m #[.int i, .int n, v] below meth c s.heap [] 0 0 (XQ s below (gB G) KH) (F0 m 0 #[.val (.int i), .val (.int n), .val v] []) := by
    refine lv_iload_n hexec hb d_pc_0 rfl rfl ?_
    refine lv_if_lt hexec hb d_pc_1 (tgt := 9) rfl (fun z => absurd z h1) fun _ => ?_
    refine lv_iload_n hexec hb d_pc_4 rfl rfl ?_
    refine lv_iload_n hexec hb d_pc_5 rfl rfl ?_
    refine lv_icmp_lt hexec hb d_pc_6 (tgt := 16) rfl (fun _ => ?_) (fun z => absurd h2 z)
    refine lv_iload_n hexec hb d_pc_16 rfl rfl ?_
    exact x_iret hexec hb hlk hr rfl d_pc_17 nil_locs rfl hk
  rcases hv with rfl | ⟨b, rfl⟩ <;> exact key
theorem jx_oc (hG : GOK G) : JX G ⟨"java/util/Objects", "checkIndex", "(II)I"⟩ prog_80_method_17_code 2 (some .int) 1 20 (fun a H KH _ _ => ∃ (i n : Int32), a = #[.int i, .int n] ∧ ¬ i < 0 ∧ i < n ∧ KH (some (.int i)) H 0) := by
  intro p l e R s m args below meth c KH hexec hEV hown hb hml hr hlk hfr hlo hPH
  obtain ⟨i, n, rfl, h1, h2, hk⟩ := hPH
  show W p l e R s m _ below meth c s.heap [] 0 0 _ (F0 m 0 #[.val (.int i), .val (.int n)] [])
  refine lv_iload_n hexec hb d_oc_0 rfl rfl ?_
  refine lv_iload_n hexec hb d_oc_1 rfl rfl ?_
  refine lv_null hexec hb d_oc_2 ?_
  refine x_S hG.1 jx_pc hexec hEV hown q1145 q1146 q327 q1147 ⟨by decide, by decide⟩ (by decide +kernel) (np0 (n := 3) (by decide +kernel)) hb (by rw [hml]; rfl) d_oc_3 [.int i, .int n, .null] [] rfl nil_locs (by omega) (by show 0 + (3 + 11) + 0 ≤ _; omega) (Nat.zero_le _) (Nat.zero_le _) (KH := fun v H' n => v = some (.int i) ∧ H' = s.heap ∧ n = 0) ⟨i, n, .null, rfl, Or.inl rfl, h1, h2, rfl, rfl, rfl⟩ (fun H' locs' k n hk9 => by cases hk9.1) ?_
  rintro v H' locs' k n ⟨hv, rfl, rfl⟩ hL hsz
  cases hv
  obtain rfl : k = 0 := by omega
  exact x_iret hexec hb hlk hr rfl d_oc_6 hL rfl hk
theorem jx_ed : JX G ⟨"java/util/ArrayList", "elementData", "(I)Ljava/lang/Object;"⟩ prog_75_method_18_code 2 (some (.object "java/lang/Object")) 0 0 (fun a H KH _ _ => ∃ (x ee : Nat) (cell cE : Cell) (i : Int32) (v : Value), a = #[.ref x, .int i] ∧ H[x]? = some cell ∧ cell.vm = .none ∧ cell.slots[(gD G).2 190 1]? = some (.ref ee) ∧ H[ee]? = some cE ∧ cE.cls = (gA G) 20 ∧ okV cE.vm ∧ ¬ i < 0 ∧ cE.slots[i.toNatClampNeg]? = some v ∧ (v = .null ∨ ∃ b, v = .ref b) ∧ KH (some v) H 0) := by
  intro p l e R s m args below meth c KH hexec hEV hown hb hml hr hlk hfr hlo hPH
  obtain ⟨x, ee, cell, cE, i, v, rfl, h1, h2, h3, h4, h5, h6, h7, h8, h9, hk⟩ := hPH
  have harr : s.isArrayOf cE (.object "java/lang/Object") := by
    obtain ⟨g1, g2⟩ := (hO hEV).1 0 (fun _ => .null)
    exact ⟨h6.st, by rw [h5]; exact g2⟩
  show W p l e R s m _ below meth c s.heap [] 0 0 _ (F0 m 0 #[.val (.ref x), .val (.int i)] [])
  refine lv_aload_n hexec hb d_ed_0 rfl rfl ?_
  refine xg_E hexec hb hEV hown h1 h2 h3 d_ed_1 ?_
  refine lv_iload_n hexec hb d_ed_4 rfl rfl ?_
  refine W.aald hexec hb h4 harr rfl h6.2 (fun z => z.elim h7 (fun z => by have := k2_hasslot h8; omega)) h8 rfl rfl d_ed_5 ?_
  exact x_aret hexec hb hlk hr (Or.inl ⟨_, rfl⟩) h9 d_ed_6 nil_locs rfl hk
theorem jx_lg (hG : GOK G) : JX G ⟨"java/util/ArrayList", "get", "(I)Ljava/lang/Object;"⟩ prog_75_method_20_code 2 (some (.object "java/lang/Object")) 2 60 (fun a H KH _ _ => ∃ (x ee : Nat) (cell cE : Cell) (i n : Int32) (v : Value), a = #[.ref x, .int i] ∧ H[x]? = some cell ∧ cell.vm = .none ∧ cell.cls = (gD G).1 190 ∧ cell.slots[(gD G).2 190 1]? = some (.ref ee) ∧ cell.slots[(gD G).2 190 2]? = some (.int n) ∧ H[ee]? = some cE ∧ cE.cls = (gA G) 20 ∧ okV cE.vm ∧ ¬ i < 0 ∧ i < n ∧ cE.slots[i.toNatClampNeg]? = some v ∧ (v = .null ∨ ∃ b, v = .ref b) ∧ KH (some v) H 0) := by
  intro p l e R s m args below meth c KH hexec hEV hown hb hml hr hlk hfr hlo hPH
  obtain ⟨x, ee, cell, cE, i, n, v, rfl, h1, h2, h2', h3, h3', h4, h5, h6, h7, h7', h8, h9, hk⟩ := hPH
  have hcls : s.vm.findClass "java/util/ArrayList" = some cell.cls := by rw [h2']; exact (hEV.2.1.1 clsR190 (by simp [clsT])).2.1
  show W p l e R s m _ below meth c s.heap [] 0 0 _ (F0 m 0 #[.val (.ref x), .val (.int i)] [])
  refine lv_iload_n hexec hb d_lg_0 rfl rfl ?_
  refine lv_aload_n hexec hb d_lg_1 rfl rfl ?_
  refine xg_n hexec hb hEV hown h1 h2 h3' d_lg_2 ?_
  refine x_S hG.1 (jx_oc hG) hexec hEV hown q1142 q1143 q326 q1144 ⟨by decide, by decide⟩ (by decide +kernel) (np0 (n := 2) (by decide +kernel)) hb (by rw [hml]; rfl) d_lg_5 [.int i, .int n] [] rfl nil_locs (by omega) (by show 0 + (2 + 11) + 20 ≤ _; omega) (Nat.zero_le _) (Nat.zero_le _) (KH := fun v H' n => v = some (.int i) ∧ H' = s.heap ∧ n = 0) ⟨i, n, rfl, h7, h7', rfl, rfl, rfl⟩ (fun H' locs' k n hk9 => by cases hk9.1) ?_
  rintro v' H' locs' k n' ⟨hv, rfl, rfl⟩ hL hsz
  cases hv
  obtain rfl : k = 0 := by omega
  refine lv_pop hexec hb d_lg_8 rfl ?_
  refine lv_aload_n hexec hb d_lg_9 rfl rfl ?_
  refine lv_iload_n hexec hb d_lg_10 rfl rfl ?_
  refine x_V hG.1 jx_ed hexec hEV hown q1148 q1149 q1150 q1151 ⟨by decide, by decide⟩ (by decide +kernel) (np0 (n := 1) (by decide +kernel)) hb (by rw [hml]; rfl) d_lg_11 [.int i] [] h1 h2 hcls rfl hL (by omega) (by show 0 + (2 + 11) + 0 ≤ _; omega) (Nat.zero_le _) (Nat.zero_le _) (KH := fun v' H' n => v' = some v ∧ H' = s.heap ∧ n = 0) ⟨x, ee, cell, cE, i, v, rfl, h1, h2, h3, h4, h5, h6, h7, h8, h9, rfl, rfl, rfl⟩ (fun H' locs' k n hk9 => by cases hk9.1) ?_
  rintro v' H' locs' k n' ⟨hv, rfl, rfl⟩ hL hsz
  cases hv
  obtain rfl : k = 0 := by omega
  exact x_aret hexec hb hlk hr (Or.inl ⟨_, rfl⟩) h9 d_lg_14 hL rfl hk
end
