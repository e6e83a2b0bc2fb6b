/-! texts and longs, over the heap itself -/
set_option maxRecDepth 100000
theorem d_co_0 : decode prog_67_method_152_code 0 = .ok (.getstatic 38, 3) := by decide +kernel
theorem d_co_3 : decode prog_67_method_152_code 3 = .ok (.ifCond .eq 10, 3) := by decide +kernel
theorem d_co_6 : decode prog_67_method_152_code 6 = .ok (.aload_n 0, 1) := by decide +kernel
theorem d_co_7 : decode prog_67_method_152_code 7 = .ok (.getfield 15, 3) := by decide +kernel
theorem d_co_10 : decode prog_67_method_152_code 10 = .ok (.goto 4, 3) := by decide +kernel
theorem d_co_14 : decode prog_67_method_152_code 14 = .ok (.ireturn, 1) := by decide +kernel
theorem d_la_0 : decode prog_67_method_154_code 0 = .ok (.getstatic 38, 3) := by decide +kernel
theorem d_la_3 : decode prog_67_method_154_code 3 = .ok (.ifCond .eq 14, 3) := by decide +kernel
theorem d_la_6 : decode prog_67_method_154_code 6 = .ok (.aload_n 0, 1) := by decide +kernel
theorem d_la_7 : decode prog_67_method_154_code 7 = .ok (.getfield 15, 3) := by decide +kernel
theorem d_la_10 : decode prog_67_method_154_code 10 = .ok (.ifCond .ne 7, 3) := by decide +kernel
theorem d_la_13 : decode prog_67_method_154_code 13 = .ok (.iconst 1, 1) := by decide +kernel
theorem d_la_14 : decode prog_67_method_154_code 14 = .ok (.goto 4, 3) := by decide +kernel
theorem d_la_18 : decode prog_67_method_154_code 18 = .ok (.ireturn, 1) := by decide +kernel
theorem d_le_0 : decode prog_67_method_54_code 0 = .ok (.aload_n 0, 1) := by decide +kernel
theorem d_le_1 : decode prog_67_method_54_code 1 = .ok (.getfield 9, 3) := by decide +kernel
theorem d_le_4 : decode prog_67_method_54_code 4 = .ok (.arraylength, 1) := by decide +kernel
theorem d_le_5 : decode prog_67_method_54_code 5 = .ok (.aload_n 0, 1) := by decide +kernel
theorem d_le_6 : decode prog_67_method_54_code 6 = .ok (.invokevirtual 335, 3) := by decide +kernel
theorem d_le_9 : decode prog_67_method_54_code 9 = .ok (.ishr, 1) := by decide +kernel
theorem d_le_10 : decode prog_67_method_54_code 10 = .ok (.ireturn, 1) := by decide +kernel
theorem d_ci_0 : decode prog_67_method_155_code 0 = .ok (.iload_n 0, 1) := by decide +kernel
theorem d_ci_1 : decode prog_67_method_155_code 1 = .ok (.iload_n 1, 1) := by decide +kernel
theorem d_ci_2 : decode prog_67_method_155_code 2 = .ok (.getstatic 1053, 3) := by decide +kernel
theorem d_ci_5 : decode prog_67_method_155_code 5 = .ok (.invokestatic 1059, 3) := by decide +kernel
theorem d_ci_8 : decode prog_67_method_155_code 8 = .ok (.pop, 1) := by decide +kernel
theorem d_ci_9 : decode prog_67_method_155_code 9 = .ok (.return_, 1) := by decide +kernel
theorem d_lc_0 : decode prog_69_method_2_code 0 = .ok (.iload_n 1, 1) := by decide +kernel
theorem d_lc_1 : decode prog_69_method_2_code 1 = .ok (.aload_n 0, 1) := by decide +kernel
theorem d_lc_2 : decode prog_69_method_2_code 2 = .ok (.arraylength, 1) := by decide +kernel
theorem d_lc_3 : decode prog_69_method_2_code 3 = .ok (.invokestatic 9, 3) := by decide +kernel
theorem d_lc_6 : decode prog_69_method_2_code 6 = .ok (.aload_n 0, 1) := by decide +kernel
theorem d_lc_7 : decode prog_69_method_2_code 7 = .ok (.iload_n 1, 1) := by decide +kernel
theorem d_lc_8 : decode prog_69_method_2_code 8 = .ok (.baload, 1) := by decide +kernel
theorem d_lc_9 : decode prog_69_method_2_code 9 = .ok (.sipush 255, 3) := by decide +kernel
theorem d_lc_12 : decode prog_69_method_2_code 12 = .ok (.iand, 1) := by decide +kernel
theorem d_lc_13 : decode prog_69_method_2_code 13 = .ok (.i2c, 1) := by decide +kernel
theorem d_lc_14 : decode prog_69_method_2_code 14 = .ok (.ireturn, 1) := by decide +kernel
theorem d_ch_0 : decode prog_67_method_56_code 0 = .ok (.aload_n 0, 1) := by decide +kernel
theorem d_ch_1 : decode prog_67_method_56_code 1 = .ok (.invokevirtual 492, 3) := by decide +kernel
theorem d_ch_4 : decode prog_67_method_56_code 4 = .ok (.ifCond .eq 12, 3) := by decide +kernel
theorem d_ch_7 : decode prog_67_method_56_code 7 = .ok (.aload_n 0, 1) := by decide +kernel
theorem d_ch_8 : decode prog_67_method_56_code 8 = .ok (.getfield 9, 3) := by decide +kernel
theorem d_ch_11 : decode prog_67_method_56_code 11 = .ok (.iload_n 1, 1) := by decide +kernel
theorem d_ch_12 : decode prog_67_method_56_code 12 = .ok (.invokestatic 495, 3) := by decide +kernel
theorem d_ch_15 : decode prog_67_method_56_code 15 = .ok (.ireturn, 1) := by decide +kernel
theorem d_ab_0 : decode prog_65_method_61_code 0 = .ok (.lload_n 0, 1) := by decide +kernel
theorem d_ab_1 : decode prog_65_method_61_code 1 = .ok (.lconst 0, 1) := by decide +kernel
theorem d_ab_2 : decode prog_65_method_61_code 2 = .ok (.lcmp, 1) := by decide +kernel
theorem d_ab_3 : decode prog_65_method_61_code 3 = .ok (.ifCond .ge 8, 3) := by decide +kernel
theorem d_ab_6 : decode prog_65_method_61_code 6 = .ok (.lload_n 0, 1) := by decide +kernel
theorem d_ab_7 : decode prog_65_method_61_code 7 = .ok (.lneg, 1) := by decide +kernel
theorem d_ab_8 : decode prog_65_method_61_code 8 = .ok (.goto 4, 3) := by decide +kernel
theorem d_ab_11 : decode prog_65_method_61_code 11 = .ok (.lload_n 0, 1) := by decide +kernel
theorem d_ab_12 : decode prog_65_method_61_code 12 = .ok (.lreturn, 1) := by decide +kernel
theorem d_lm_0 : decode prog_64_method_42_code 0 = .ok (.lload_n 0, 1) := by decide +kernel
theorem d_lm_1 : decode prog_64_method_42_code 1 = .ok (.lload_n 2, 1) := by decide +kernel
theorem d_lm_2 : decode prog_64_method_42_code 2 = .ok (.lcmp, 1) := by decide +kernel
theorem d_lm_3 : decode prog_64_method_42_code 3 = .ok (.ifCond .ge 7, 3) := by decide +kernel
theorem d_lm_6 : decode prog_64_method_42_code 6 = .ok (.iconst (-1), 1) := by decide +kernel
theorem d_lm_7 : decode prog_64_method_42_code 7 = .ok (.goto 14, 3) := by decide +kernel
theorem d_lm_10 : decode prog_64_method_42_code 10 = .ok (.lload_n 0, 1) := by decide +kernel
theorem d_lm_11 : decode prog_64_method_42_code 11 = .ok (.lload_n 2, 1) := by decide +kernel
theorem d_lm_12 : decode prog_64_method_42_code 12 = .ok (.lcmp, 1) := by decide +kernel
theorem d_lm_13 : decode prog_64_method_42_code 13 = .ok (.ifCond .ne 7, 3) := by decide +kernel
theorem d_lm_16 : decode prog_64_method_42_code 16 = .ok (.iconst 0, 1) := by decide +kernel
theorem d_lm_17 : decode prog_64_method_42_code 17 = .ok (.goto 4, 3) := by decide +kernel
theorem d_lm_20 : decode prog_64_method_42_code 20 = .ok (.iconst 1, 1) := by decide +kernel
theorem d_lm_21 : decode prog_64_method_42_code 21 = .ok (.ireturn, 1) := by decide +kernel
theorem lc_lt {x y : Int64} (h : x < y) : lg_cmp x y = -1 := by
  have h1 : ¬ y < x := fun z => by rw [Int64.lt_iff_toInt_lt] at h z; omega
  have h2 : ¬ x = y := fun z => by rw [z, Int64.lt_iff_toInt_lt] at h; omega
  unfold lg_cmp; simp [h1, h2]
theorem lc_eq (x : Int64) : lg_cmp x x = 0 := by unfold lg_cmp; simp
theorem lc_gt {x y : Int64} (h : ¬ x < y) (h2 : ¬ x = y) : lg_cmp x y = 1 := by
  have h1 : y < x := by
    rw [Int64.lt_iff_toInt_lt] at h ⊢
    rw [← Int64.toInt_inj] at h2
    omega
  unfold lg_cmp; simp [h1]
section
variable {G : GX}
section
variable {p : Program} {l : Launch} {e : Env} {R : Room} {s : State} {m : MethodId} {args : Array Value} {below : List Frame} {meth : Method} {c : Code} {H : Heap} {locs : List Loc} {cells slots : Nat} {Q : State → Prop}
variable {cc : ByteArray} {pc : Nat} {ls : Array Slot} {rest : List Value}
theorem xs_v (hG : GOK G) (hexec : p.tables.exec = Jvm.exec) (hb : c.code = cc) (hEV : EV8 G s) (hown : s.vm.findClass "java/lang/String" = some m.cls) {a : Nat} {cell : Cell} {v : Value} (hc : H[a]? = some cell) (hvm : cell.vm.isStatics = false ∧ cell.vm ≠ .unknown) (hs : cell.slots[(gD G).2 191 0]? = some v) (hdg : decode cc pc = .ok (.getfield 9, 3)) (k : W p l e R s m args below meth c H locs cells slots Q (F0 m (pc + 3) ls (v :: rest))) : W p l e R s m args below meth c H locs cells slots Q (F0 m pc ls (.ref a :: rest)) := by
  obtain ⟨cf, kf, fi, fd, f1, f2, f3⟩ := (hG.2 s hEV.2.2.2.2.2).2.2.2.2.2.2.2.1 0 (by decide)
  exact W.getf hexec hb hown (hEV.1.all q2298) f1 f2 hc hvm.2 (by rw [f3]; exact hs) rfl rfl hdg k
theorem xs_c (hG : GOK G) (hexec : p.tables.exec = Jvm.exec) (hb : c.code = cc) (hEV : EV8 G s) (hown : s.vm.findClass "java/lang/String" = some m.cls) {a : Nat} {cell : Cell} {v : Value} (hc : H[a]? = some cell) (hvm : cell.vm.isStatics = false ∧ cell.vm ≠ .unknown) (hs : cell.slots[(gD G).2 191 1]? = some v) (hdg : decode cc pc = .ok (.getfield 15, 3)) (k : W p l e R s m args below meth c H locs cells slots Q (F0 m (pc + 3) ls (v :: rest))) : W p l e R s m args below meth c H locs cells slots Q (F0 m pc ls (.ref a :: rest)) := by
  obtain ⟨cf, kf, fi, fd, f1, f2, f3⟩ := (hG.2 s hEV.2.2.2.2.2).2.2.2.2.2.2.2.1 1 (by decide)
  exact W.getf hexec hb hown (hEV.1.all q2299) f1 f2 hc hvm.2 (by rw [f3]; exact hs) rfl rfl hdg k
end
/-- a text, in the heap -/
def SAt (G : GX) (H : Heap) (x vv : Nat) (n : Nat) (f : Nat → Int32) : Prop := ∃ cell : Cell, H[x]? = some cell ∧ (cell.vm.isStatics = false ∧ cell.vm ≠ .unknown) ∧ cell.cls = (gD G).1 191 ∧ cell.slots[(gD G).2 191 0]? = some (.ref vv) ∧ cell.slots[(gD G).2 191 1]? = some (.int 0) ∧ (∃ cV, H[vv]? = some cV ∧ roA (gA G) 1 n (fun i => .int (f i)) cV) ∧ n ≤ 1000 ∧ ∀ q, q < gB G → H[q]? = (gH G)[q]?
theorem jx_co (hG : GOK G) : JX G ⟨"java/lang/String", "coder", "()B"⟩ prog_67_method_152_code 1 (some .byte) 0 0 (fun a H KH _ _ => ∃ (x vv n : Nat) (f : Nat → Int32), a = #[.ref x] ∧ SAt G H x vv n f ∧ KH (some (.int 0)) H 0) := by
  intro p l e R s m args below meth c KH hexec hEV hown hb hml hr hlk hfr hlo hPH
  obtain ⟨x, vv, n, f, rfl, ⟨cell, c1, c2, c3, c4, c5, c6, c7, c8⟩, hk⟩ := hPH
  show W p l e R s m _ below meth c s.heap [] 0 0 _ (F0 m 0 #[.val (.ref x)] [])
  refine xg_s hexec hb (hG.2 s hEV.2.2.2.2.2).2.2.2.2.2.2.1 c8 hown (hEV.1.all q1399) d_co_0 ?_
  refine lv_if_eq hexec hb d_co_3 (tgt := 13) rfl (fun z => by cases z) (fun _ => ?_)
  refine lv_aload_n hexec hb d_co_6 rfl rfl ?_
  refine xs_c hG hexec hb hEV hown c1 c2 c5 d_co_7 ?_
  refine lv_goto hexec hb d_co_10 (tgt := 14) rfl ?_
  exact x_iret hexec hb hlk hr (by decide) d_co_14 nil_locs rfl hk
theorem jx_la (hG : GOK G) : JX G ⟨"java/lang/String", "isLatin1", "()Z"⟩ prog_67_method_154_code 1 (some .boolean) 0 0 (fun a H KH _ _ => ∃ (x vv n : Nat) (f : Nat → Int32), a = #[.ref x] ∧ SAt G H x vv n f ∧ KH (some (.int 1)) H 0) := by
  intro p l e R s m args below meth c KH hexec hEV hown hb hml hr hlk hfr hlo hPH
  obtain ⟨x, vv, n, f, rfl, ⟨cell, c1, c2, c3, c4, c5, c6, c7, c8⟩, hk⟩ := hPH
  show W p l e R s m _ below meth c s.heap [] 0 0 _ (F0 m 0 #[.val (.ref x)] [])
  refine xg_s hexec hb (hG.2 s hEV.2.2.2.2.2).2.2.2.2.2.2.1 c8 hown (hEV.1.all q1399) d_la_0 ?_
  refine lv_if_eq hexec hb d_la_3 (tgt := 17) rfl (fun z => by cases z) (fun _ => ?_)
  refine lv_aload_n hexec hb d_la_6 rfl rfl ?_
  refine xs_c hG hexec hb hEV hown c1 c2 c5 d_la_7 ?_
  refine lv_if_ne hexec hb d_la_10 (tgt := 17) rfl (fun z => absurd rfl z) (fun _ => ?_)
  refine lv_iconst hexec hb (v := 1) d_la_13 (by decide) ?_
  refine lv_goto hexec hb d_la_14 (tgt := 18) rfl ?_
  exact x_iret hexec hb hlk hr (by decide) d_la_18 nil_locs rfl hk
theorem hclsS {s : State} (hEV : EV8 G s) : s.vm.findClass "java/lang/String" = some ((gD G).1 191) := hEV.2.2.1.1
theorem shr0 (z : Int32) : z >>> ((0 : Int32) &&& 31) = z := by
  have h0 : ((0 : Int32) &&& 31) = 0 := by decide
  rw [h0]
  apply Int32.toInt_inj.mp
  simp
theorem jx_le (hG : GOK G) : JX G ⟨"java/lang/String", "length", "()I"⟩ prog_67_method_54_code 1 (some .int) 1 20 (fun a H KH _ _ => ∃ (x vv n : Nat) (f : Nat → Int32), a = #[.ref x] ∧ SAt G H x vv n f ∧ KH (some (.int (Int32.ofNat n))) H 0) := by
  intro p l e R s m args below meth c KH hexec hEV hown hb hml hr hlk hfr hlo hPH
  obtain ⟨x, vv, n, f, rfl, hS, hk⟩ := hPH
  obtain ⟨cell, c1, c2, c3, c4, c5, c6, c7, c8⟩ := id hS
  obtain ⟨cV, c6, hro⟩ := c6
  show W p l e R s m _ below meth c s.heap [] 0 0 _ (F0 m 0 #[.val (.ref x)] [])
  refine lv_aload_n hexec hb d_le_0 rfl rfl ?_
  refine xs_v hG hexec hb hEV hown c1 c2 c4 d_le_1 ?_
  refine W.alen hexec hb c6 (hro.arr hEV.2.1 (by decide)) hro.2.2.2.2.1 rfl rfl d_le_4 ?_
  refine lv_aload_n hexec hb d_le_5 rfl rfl ?_
  refine x_Vs hG.1 (jx_co hG) hexec hEV hown q1395 q1396 q1397 q1398 ⟨by decide, by decide⟩ (by decide +kernel) (np0 (n := 0) (by decide +kernel)) hb (by rw [hml]; rfl) d_le_6 [] [.int (Int32.ofNat n)] c1 c2.1 (by rw [c3]; exact hclsS hEV) rfl nil_locs (by omega) (by show 1 + 0 + (1 + 11) + 0 ≤ _; omega) (Nat.zero_le _) (Nat.zero_le _) (KH := fun v H' z => v = some (.int 0) ∧ H' = s.heap ∧ z = 0) ⟨x, vv, n, f, rfl, hS, rfl, rfl, rfl⟩ (fun H' locs' k n hk9 => by cases hk9.1) ?_
  rintro v H' locs' k' n' ⟨hv, rfl, rfl⟩ hL hsz
  cases hv
  obtain rfl : k' = 0 := by omega
  refine lv_ishr hexec hb d_le_9 ?_
  rw [shr0]
  exact x_iret hexec hb hlk hr rfl d_le_10 hL rfl hk
theorem jx_ci (hG : GOK G) : JX G ⟨"java/lang/String", "checkIndex", "(II)V"⟩ prog_67_method_155_code 2 none 1 20 (fun a H KH _ _ => ∃ (i n : Int32), a = #[.int i, .int n] ∧ ¬ i < 0 ∧ i < n ∧ (∀ q, q < gB G → H[q]? = (gH G)[q]?) ∧ KH none H 0) := by
  intro p l e R s m args below meth c KH hexec hEV hown hb hml hr hlk hfr hlo hPH
  obtain ⟨i, n, rfl, h1, h2, hlow, hk⟩ := hPH
  show W p l e R s m _ below meth c s.heap [] 0 0 _ (F0 m 0 #[.val (.int i), .val (.int n)] [])
  refine lv_iload_n hexec hb d_ci_0 rfl rfl ?_
  refine lv_iload_n hexec hb d_ci_1 rfl rfl ?_
  have go : ∀ v : Value, (v = .null ∨ ∃ b, v = .ref b) → va_Z "jdk/internal/util/Preconditions" "SIOOBE_FORMATTER" "Ljava/util/function/BiFunction;" v (nA (gB G)) s (gH G) → W p l e R s m #[.int i, .int n] below meth c s.heap [] 0 0 (XQ s below (gB G) KH) (F0 m 2 #[.val (.int i), .val (.int n)] [.int n, .int i]) := by
    intro v hv hZ
    refine xg_s hexec hb hZ hlow hown (hEV.1.all q1415) d_ci_2 ?_
    refine x_S hG.1 jx_pc hexec hEV hown q1417 q1146 q327 q1147 ⟨by decide, by decide⟩ (by decide +kernel) (np0 (n := 3) (by decide +kernel)) hb (by rw [hml]; rfl) d_ci_5 [.int i, .int n, v] [] rfl nil_locs (by omega) (by show 0 + (3 + 11) + 0 ≤ _; omega) (Nat.zero_le _) (Nat.zero_le _) (KH := fun v H' z => v = some (.int i) ∧ H' = s.heap ∧ z = 0) ⟨i, n, v, rfl, hv, h1, h2, rfl, rfl, rfl⟩ (fun H' locs' k n hk9 => by cases hk9.1) ?_
    rintro v' H' locs' k' n' ⟨hv', rfl, rfl⟩ hL hsz
    cases hv'
    obtain rfl : k' = 0 := by omega
    refine lv_pop hexec hb d_ci_8 rfl ?_
    exact x_vret hexec hb hlk hr d_ci_9 hL rfl hk
  rcases (hG.2 s hEV.2.2.2.2.2).2.2.2.2.2.1 with hZ | ⟨t, hZ⟩
  · exact go _ (Or.inl rfl) hZ
  · exact go _ (Or.inr ⟨t, rfl⟩) hZ
theorem b255 {x : Int} (h0 : 0 ≤ x) (h1 : x ≤ 127) : ((Int32.ofInt x &&& (255 : Int32)).toUInt32 % 65536).toInt32 = Int32.ofInt x := by
  have : x = ((x.toNat : Nat) : Int) := by omega
  rw [this]
  have hn : x.toNat ≤ 127 := by omega
  generalize x.toNat = n at hn
  have hall : ∀ n : Fin 128, ((Int32.ofInt (n : Nat) &&& (255 : Int32)).toUInt32 % 65536).toInt32 = Int32.ofInt (n : Nat) := by decide +kernel
  exact hall ⟨n, by omega⟩
theorem jx_lc (hG : GOK G) : JX G ⟨"java/lang/StringLatin1", "charAt", "([BI)C"⟩ prog_69_method_2_code 2 (some .char) 2 50 (fun a H KH _ _ => ∃ (vv n : Nat) (i : Int32) (f : Nat → Int32) (z : Int), a = #[.ref vv, .int i] ∧ (∃ cV, H[vv]? = some cV ∧ roA (gA G) 1 n (fun i => .int (f i)) cV) ∧ n ≤ 1000 ∧ (∀ q, q < gB G → H[q]? = (gH G)[q]?) ∧ ¬ i < 0 ∧ i.toNatClampNeg < n ∧ f i.toNatClampNeg = Int32.ofInt z ∧ 0 ≤ z ∧ z ≤ 127 ∧ KH (some (.int (Int32.ofInt z))) H 0) := by
  intro p l e R s m args below meth c KH hexec hEV hown hb hml hr hlk hfr hlo hPH
  obtain ⟨vv, n, i, f, z, rfl, c6, c7, c8, h1, h2, h3, h4, h5, hk⟩ := hPH
  obtain ⟨cV, c6, hro⟩ := c6
  show W p l e R s m _ below meth c s.heap [] 0 0 _ (F0 m 0 #[.val (.ref vv), .val (.int i)] [])
  refine lv_iload_n hexec hb d_lc_0 rfl rfl ?_
  refine lv_aload_n hexec hb d_lc_1 rfl rfl ?_
  refine W.alen hexec hb c6 (hro.arr hEV.2.1 (by decide)) (n := Int32.ofNat n) hro.2.2.2.2.1 rfl rfl d_lc_2 ?_
  have hlt : i < Int32.ofNat n := by
    have hn31 : (Int32.ofNat n).toInt = n := Int32.toInt_ofNat_of_lt (by omega)
    rw [Int32.lt_iff_toInt_lt, hn31]
    have : i.toNatClampNeg = i.toInt.toNat := rfl
    omega
  refine x_S hG.1 (jx_ci hG) hexec hEV hown q1412 q1413 q332 q1414 ⟨by decide, by decide⟩ (by decide +kernel) (np0 (n := 2) (by decide +kernel)) hb (by rw [hml]; rfl) d_lc_3 [.int i, .int (Int32.ofNat n)] [] rfl nil_locs (by omega) (by show 0 + (2 + 11) + 20 ≤ _; omega) (Nat.zero_le _) (Nat.zero_le _) (KH := fun v H' z => v = none ∧ H' = s.heap ∧ z = 0) ⟨i, _, rfl, h1, hlt, c8, rfl, rfl, rfl⟩ ?_ (fun v H' locs' k n hk9 => by cases hk9.1)
  rintro H' locs' k' n' ⟨-, rfl, rfl⟩ hL hsz
  obtain rfl : k' = 0 := by omega
  refine lv_aload_n hexec hb d_lc_6 rfl rfl ?_
  refine lv_iload_n hexec hb d_lc_7 rfl rfl ?_
  refine W.bald hexec hb c6 (hro.arr hEV.2.1 (by decide)) hro.2.2.1 (fun z => z.elim h1 (fun z => by have := hro.2.2.2.1; omega)) (show cV.slots[i.toNatClampNeg]? = some (.int (f i.toNatClampNeg)) from hro.2.2.2.2.2 _ h2) rfl rfl d_lc_8 ?_
  rw [h3]
  refine lv_sipush hexec hb (v := 255) d_lc_9 (by decide) ?_
  refine lv_iand hexec hb d_lc_12 ?_
  refine lv_i2c hexec hb d_lc_13 (b255 h4 h5) ?_
  refine x_iret hexec hb hlk hr ?_ d_lc_14 hL rfl hk
  have : z = ((z.toNat : Nat) : Int) := by omega
  rw [this]
  have hn : z.toNat ≤ 127 := by omega
  generalize z.toNat = n9 at hn
  have hall : ∀ n : Fin 128, ((Int32.ofInt (n : Nat)).toUInt32 % 65536).toInt32 = Int32.ofInt (n : Nat) := by decide +kernel
  show Value.int _ = _
  congr 1
  exact hall ⟨n9, by omega⟩
theorem jx_ch (hG : GOK G) : JX G ⟨"java/lang/String", "charAt", "(I)C"⟩ prog_67_method_56_code 2 (some .char) 3 80 (fun a H KH _ _ => ∃ (x vv n : Nat) (i : Int32) (f : Nat → Int32) (z : Int), a = #[.ref x, .int i] ∧ SAt G H x vv n f ∧ ¬ i < 0 ∧ i.toNatClampNeg < n ∧ f i.toNatClampNeg = Int32.ofInt z ∧ 0 ≤ z ∧ z ≤ 127 ∧ KH (some (.int (Int32.ofInt z))) H 0) := by
  intro p l e R s m args below meth c KH hexec hEV hown hb hml hr hlk hfr hlo hPH
  obtain ⟨x, vv, n, i, f, z, rfl, hS, h1, h2, h3, h4, h5, hk⟩ := hPH
  obtain ⟨cell, c1, c2, c3, c4, c5, c6, c7, c8⟩ := id hS
  show W p l e R s m _ below meth c s.heap [] 0 0 _ (F0 m 0 #[.val (.ref x), .val (.int i)] [])
  refine lv_aload_n hexec hb d_ch_0 rfl rfl ?_
  refine x_Vs hG.1 (jx_la hG) hexec hEV hown q1405 q1406 q1407 q1408 ⟨by decide, by decide⟩ (by decide +kernel) (np0 (n := 0) (by decide +kernel)) hb (by rw [hml]; rfl) d_ch_1 [] [] c1 c2.1 (by rw [c3]; exact hclsS hEV) rfl nil_locs (by omega) (by show 0 + (1 + 11) + 0 ≤ _; omega) (Nat.zero_le _) (Nat.zero_le _) (KH := fun v H' z => v = some (.int 1) ∧ H' = s.heap ∧ z = 0) ⟨x, vv, n, f, rfl, hS, rfl, rfl, rfl⟩ (fun H' locs' k n hk9 => by cases hk9.1) ?_
  rintro v H' locs' k' n' ⟨hv, rfl, rfl⟩ hL hsz
  cases hv
  obtain rfl : k' = 0 := by omega
  refine lv_if_eq hexec hb d_ch_4 (tgt := 16) rfl (fun z => by cases z) (fun _ => ?_)
  refine lv_aload_n hexec hb d_ch_7 rfl rfl ?_
  refine xs_v hG hexec hb hEV hown c1 c2 c4 d_ch_8 ?_
  refine lv_iload_n hexec hb d_ch_11 rfl rfl ?_
  refine x_S hG.1 (jx_lc hG) hexec hEV hown q1409 q1410 q333 q1411 ⟨by decide, by decide⟩ (by decide +kernel) (np0 (n := 2) (by decide +kernel)) hb (by rw [hml]; rfl) d_ch_12 [.ref vv, .int i] [] rfl hL (by omega) (by show 0 + (2 + 11) + 50 ≤ _; omega) (Nat.zero_le _) (Nat.zero_le _) (KH := fun v H' w => v = some (.int (Int32.ofInt z)) ∧ H' = s.heap ∧ w = 0) ⟨vv, n, i, f, z, rfl, c6, c7, c8, h1, h2, h3, h4, h5, rfl, rfl, rfl⟩ (fun H' locs' k n hk9 => by cases hk9.1) ?_
  rintro v H' locs' k' n' ⟨hv, rfl, rfl⟩ hL hsz
  cases hv
  obtain rfl : k' = 0 := by omega
  refine x_iret hexec hb hlk hr ?_ d_ch_15 hL rfl hk
  have : z = ((z.toNat : Nat) : Int) := by omega
  rw [this]
  have hn : z.toNat ≤ 127 := by omega
  generalize z.toNat = n9 at hn
  have hall : ∀ n : Fin 128, ((Int32.ofInt (n : Nat)).toUInt32 % 65536).toInt32 = Int32.ofInt (n : Nat) := by decide +kernel
  show Value.int _ = _
  congr 1
  exact hall ⟨n9, by omega⟩
theorem jx_ab : JX G ⟨"java/lang/Math", "abs", "(J)J"⟩ prog_65_method_61_code 2 (some .long) 0 0 (fun a H KH _ _ => ∃ (x : Int64), a = #[.long x] ∧ KH (some (.long (if x < 0 then -x else x))) H 0) := by
  intro p l e R s m args below meth c KH hexec hEV hown hb hml hr hlk hfr hlo hPH
  obtain ⟨x, rfl, hk⟩ := hPH
  show W p l e R s m _ below meth c s.heap [] 0 0 _ (F0 m 0 #[.val (.long x), .second] [])
  refine lv_lload_n hexec hb d_ab_0 rfl rfl ?_
  refine lv_lconst hexec hb d_ab_1 (v := 0) rfl ?_
  refine W.lcmp hexec hb d_ab_2 ?_
  refine lv_if_ge hexec hb d_ab_3 (tgt := 11) rfl (fun z => ?_) (fun z => ?_)
  · have hn : ¬ x < 0 := fun w => by rw [lc_lt w] at z; exact absurd z (by decide)
    refine lv_lload_n hexec hb d_ab_11 rfl rfl ?_
    rw [if_neg hn] at hk
    exact x_lret hexec hb hlk hr d_ab_12 nil_locs rfl hk
  · have hp : x < 0 := Classical.byContradiction fun w => by
      by_cases w2 : x = 0
      · rw [w2, lc_eq] at z; exact z (by decide)
      · rw [lc_gt w w2] at z; exact z (by decide)
    refine lv_lload_n hexec hb d_ab_6 rfl rfl ?_
    refine lv_lneg hexec hb d_ab_7 ?_
    refine lv_goto hexec hb d_ab_8 (tgt := 12) rfl ?_
    rw [if_pos hp] at hk
    exact x_lret hexec hb hlk hr d_ab_12 nil_locs rfl hk
theorem jx_lcmp : JX G ⟨"java/lang/Long", "compare", "(JJ)I"⟩ prog_64_method_42_code 4 (some .int) 0 0 (fun a H KH _ _ => ∃ (x y : Int64), a = #[.long x, .long y] ∧ KH (some (.int (if x < y then -1 else if x = y then 0 else 1))) H 0) := by
  intro p l e R s m args below meth c KH hexec hEV hown hb hml hr hlk hfr hlo hPH
  obtain ⟨x, y, rfl, hk⟩ := hPH
  show W p l e R s m _ below meth c s.heap [] 0 0 _ (F0 m 0 #[.val (.long x), .second, .val (.long y), .second] [])
  refine lv_lload_n hexec hb d_lm_0 rfl rfl ?_
  refine lv_lload_n hexec hb d_lm_1 rfl rfl ?_
  refine W.lcmp hexec hb d_lm_2 ?_
  refine lv_if_ge hexec hb d_lm_3 (tgt := 10) rfl (fun z => ?_) (fun z => ?_)
  · have hn : ¬ x < y := fun w => by rw [lc_lt w] at z; exact absurd z (by decide)
    rw [if_neg hn] at hk
    refine lv_lload_n hexec hb d_lm_10 rfl rfl ?_
    refine lv_lload_n hexec hb d_lm_11 rfl rfl ?_
    refine W.lcmp hexec hb d_lm_12 ?_
    refine lv_if_ne hexec hb d_lm_13 (tgt := 20) rfl (fun z2 => ?_) (fun z2 => ?_)
    · have hn2 : ¬ x = y := fun w => by rw [w, lc_eq] at z2; exact z2 rfl
      rw [if_neg hn2] at hk
      refine lv_iconst hexec hb (v := 1) d_lm_20 (by decide) ?_
      exact x_iret hexec hb hlk hr rfl d_lm_21 nil_locs rfl hk
    · have hp2 : x = y := Classical.byContradiction fun w => by rw [lc_gt hn w] at z2; exact absurd z2 (by decide)
      rw [if_pos hp2] at hk
      refine lv_iconst hexec hb (v := 0) d_lm_16 (by decide) ?_
      refine lv_goto hexec hb d_lm_17 (tgt := 21) rfl ?_
      exact x_iret hexec hb hlk hr rfl d_lm_21 nil_locs rfl hk
  · have hp : x < y := Classical.byContradiction fun w => by
      by_cases w2 : x = y
      · rw [w2, lc_eq] at z; exact z (by decide)
      · rw [lc_gt w w2] at z; exact z (by decide)
    rw [if_pos hp] at hk
    refine lv_iconst hexec hb (v := -1) d_lm_6 (by decide) ?_
    refine lv_goto hexec hb d_lm_7 (tgt := 21) rfl ?_
    exact x_iret hexec hb hlk hr rfl d_lm_21 nil_locs rfl hk
end
