/-! throwables, over the heap itself -/
set_option maxRecDepth 100000
theorem d_t4_0 : decode prog_72_method_5_code 0 = .ok (.aload_n 0, 1) := by decide +kernel
theorem d_t4_1 : decode prog_72_method_5_code 1 = .ok (.invokespecial 1, 3) := by decide +kernel
theorem d_t4_4 : decode prog_72_method_5_code 4 = .ok (.aload_n 0, 1) := by decide +kernel
theorem d_t4_5 : decode prog_72_method_5_code 5 = .ok (.aload_n 0, 1) := by decide +kernel
theorem d_t4_6 : decode prog_72_method_5_code 6 = .ok (.putfield 7, 3) := by decide +kernel
theorem d_t4_9 : decode prog_72_method_5_code 9 = .ok (.aload_n 0, 1) := by decide +kernel
theorem d_t4_10 : decode prog_72_method_5_code 10 = .ok (.getstatic 13, 3) := by decide +kernel
theorem d_t4_13 : decode prog_72_method_5_code 13 = .ok (.putfield 17, 3) := by decide +kernel
theorem d_t4_16 : decode prog_72_method_5_code 16 = .ok (.aload_n 0, 1) := by decide +kernel
theorem d_t4_17 : decode prog_72_method_5_code 17 = .ok (.getstatic 20, 3) := by decide +kernel
theorem d_t4_20 : decode prog_72_method_5_code 20 = .ok (.putfield 24, 3) := by decide +kernel
theorem d_t4_23 : decode prog_72_method_5_code 23 = .ok (.iload 4, 2) := by decide +kernel
theorem d_t4_25 : decode prog_72_method_5_code 25 = .ok (.ifCond .eq 11, 3) := by decide +kernel
theorem d_t4_36 : decode prog_72_method_5_code 36 = .ok (.aload_n 0, 1) := by decide +kernel
theorem d_t4_37 : decode prog_72_method_5_code 37 = .ok (.aconst_null, 1) := by decide +kernel
theorem d_t4_38 : decode prog_72_method_5_code 38 = .ok (.putfield 17, 3) := by decide +kernel
theorem d_t4_41 : decode prog_72_method_5_code 41 = .ok (.aload_n 0, 1) := by decide +kernel
theorem d_t4_42 : decode prog_72_method_5_code 42 = .ok (.aload_n 1, 1) := by decide +kernel
theorem d_t4_43 : decode prog_72_method_5_code 43 = .ok (.putfield 31, 3) := by decide +kernel
theorem d_t4_46 : decode prog_72_method_5_code 46 = .ok (.aload_n 0, 1) := by decide +kernel
theorem d_t4_47 : decode prog_72_method_5_code 47 = .ok (.aload_n 2, 1) := by decide +kernel
theorem d_t4_48 : decode prog_72_method_5_code 48 = .ok (.putfield 7, 3) := by decide +kernel
theorem d_t4_51 : decode prog_72_method_5_code 51 = .ok (.iload_n 3, 1) := by decide +kernel
theorem d_t4_52 : decode prog_72_method_5_code 52 = .ok (.ifCond .ne 8, 3) := by decide +kernel
theorem d_t4_55 : decode prog_72_method_5_code 55 = .ok (.aload_n 0, 1) := by decide +kernel
theorem d_t4_56 : decode prog_72_method_5_code 56 = .ok (.aconst_null, 1) := by decide +kernel
theorem d_t4_57 : decode prog_72_method_5_code 57 = .ok (.putfield 24, 3) := by decide +kernel
theorem d_t4_60 : decode prog_72_method_5_code 60 = .ok (.return_, 1) := by decide +kernel
theorem d_e4_0 : decode prog_58_method_5_code 0 = .ok (.aload_n 0, 1) := by decide +kernel
theorem d_e4_1 : decode prog_58_method_5_code 1 = .ok (.aload_n 1, 1) := by decide +kernel
theorem d_e4_2 : decode prog_58_method_5_code 2 = .ok (.aload_n 2, 1) := by decide +kernel
theorem d_e4_3 : decode prog_58_method_5_code 3 = .ok (.iload_n 3, 1) := by decide +kernel
theorem d_e4_4 : decode prog_58_method_5_code 4 = .ok (.iload 4, 2) := by decide +kernel
theorem d_e4_6 : decode prog_58_method_5_code 6 = .ok (.invokespecial 16, 3) := by decide +kernel
theorem d_e4_9 : decode prog_58_method_5_code 9 = .ok (.return_, 1) := by decide +kernel
theorem d_r4_0 : decode prog_66_method_5_code 0 = .ok (.aload_n 0, 1) := by decide +kernel
theorem d_r4_1 : decode prog_66_method_5_code 1 = .ok (.aload_n 1, 1) := by decide +kernel
theorem d_r4_2 : decode prog_66_method_5_code 2 = .ok (.aload_n 2, 1) := by decide +kernel
theorem d_r4_3 : decode prog_66_method_5_code 3 = .ok (.iload_n 3, 1) := by decide +kernel
theorem d_r4_4 : decode prog_66_method_5_code 4 = .ok (.iload 4, 2) := by decide +kernel
theorem d_r4_6 : decode prog_66_method_5_code 6 = .ok (.invokespecial 16, 3) := by decide +kernel
theorem d_r4_9 : decode prog_66_method_5_code 9 = .ok (.return_, 1) := by decide +kernel
section
variable {G : GX}
theorem clsT_tf : ∀ q ∈ clsT, thK q.1 = true → ∀ j, j < 6 → q.2.2.1 j = TJ14 j ∧ q.2.2.2.2.1 j = tyJ14 j := by
  have h : clsT.all (fun q => !thK q.1 || (List.range 6).all (fun j => decide (q.2.2.1 j = TJ14 j) && decide (q.2.2.2.2.1 j = tyJ14 j))) = true := by decide +kernel
  intro q hq ht j hj
  have := List.all_eq_true.mp h q hq
  simp only [ht, Bool.not_true, Bool.false_or, List.all_eq_true, List.mem_range, Bool.and_eq_true, decide_eq_true_eq] at this
  exact this j hj
theorem thK_q {k : Nat} (h : thK k = true) : ∃ q ∈ clsT, q.1 = k := by
  simp only [thK, Bool.or_eq_true, beq_iff_eq] at h
  rcases h with ((((((rfl | rfl) | rfl) | rfl) | rfl) | rfl) | rfl)
  · exact ⟨clsR192, by simp [clsT], rfl⟩
  · exact ⟨clsR193, by simp [clsT], rfl⟩
  · exact ⟨clsR194, by simp [clsT], rfl⟩
  · exact ⟨clsR195, by simp [clsT], rfl⟩
  · exact ⟨clsR201, by simp [clsT], rfl⟩
  · exact ⟨clsR206, by simp [clsT], rfl⟩
  · exact ⟨clsR215, by simp [clsT], rfl⟩
theorem tfp {s : State} (hEV : EV8 G s) {k : Nat} (hk : thK k = true) (j : Nat) (hj : j < 6) {v : Value} (hn : narrow (tyJ14 j) v = v) (hf : fits (tyJ14 j) v = true) : ∃ cf kk i f, s.fieldFound? (TJ14 j).1 (TJ14 j).2.1 (TJ14 j).2.2.1 = some (cf, kk, i, f) ∧ f.isStatic = false ∧ f.slot = (gD G).2 k j ∧ k2_Sd s f ((gD G).1 k) v := by
  obtain ⟨q, hq, rfl⟩ := thK_q hk
  obtain ⟨t1, t2⟩ := clsT_tf q hq hk j hj
  obtain ⟨t3, -⟩ := clsT_th q hq hk
  have hj' : j < q.2.2.2.1 := by omega
  obtain ⟨hS, hfc, kC, hkC, hkind⟩ := hEV.2.1.1 q hq
  obtain ⟨k1, k2, k3⟩ := clsT_ok q hq
  obtain ⟨cf, kf, fi, fd, hi, hsl⟩ := hS j hj'
  have hst := (u_facts (args := #[]) hfc hkC (u_lays (ws := lw_all) (fun w hw => hEV.1.all hw) k1 hj') hi).1
  have hlay := hEV.1.all (A := #[]) (k1 _ (u_in_lay hj'))
  unfold u_lay at hlay
  have hff : (q.2.2.1 j).2.2.2 = false := by
    rw [t1]
    match j, hj with
    | 0, _ => rfl
    | 1, _ => rfl
    | 2, _ => rfl
    | 3, _ => rfl
    | 4, _ => rfl
    | 5, _ => rfl
  rw [if_neg (by rw [hff]; decide)] at hlay
  have h6 := u_store hfc hkC hkind hlay hi (k3 j hj') (by rw [t2]; exact hn) (by rw [t2]; exact hf)
  rw [t1] at hi
  exact ⟨cf, kf, fi, fd, hi, hst, hsl, h6⟩
theorem t_apart {s : State} (hEV : EV8 G s) {q : CR} (hq : q ∈ clsT) {i j : Nat} (hi : i < q.2.2.2.1) (hj : j < q.2.2.2.1) (hne : i ≠ j) : (gD G).2 q.1 i ≠ (gD G).2 q.1 j := by
  obtain ⟨hS, hfc, kC, hkC, hkind⟩ := hEV.2.1.1 q hq
  obtain ⟨k1, k2, k3⟩ := clsT_ok q hq
  obtain ⟨_, _, _, fa, hia, ea⟩ := hS i hi
  obtain ⟨_, _, _, fb, hib, eb⟩ := hS j hj
  rw [← ea, ← eb]
  refine u_apart (u_lays (args := #[]) (ws := lw_all) (fun w hw => hEV.1.all hw) k1 hi) (u_lays (args := #[]) (ws := lw_all) (fun w hw => hEV.1.all hw) k1 hj) hia hib ?_
  rw [(State.fieldFound?_type hia (k3 i hi)).1, (State.fieldFound?_type hib (k3 j hj)).1]
  exact k2 i hi j hj hne
/-- a throwable's cell is other in its first four fields alone -/
def thS (G : GX) (k : Nat) (cell cell' : Cell) : Prop := cell'.cls = cell.cls ∧ cell'.vm = cell.vm ∧ cell'.monitor.owner = cell.monitor.owner ∧ cell'.monitor.count = cell.monitor.count ∧ cell'.slots.size = cell.slots.size ∧ ∀ i, (∀ j, j < 4 → i ≠ (gD G).2 k j) → cell'.slots[i]? = cell.slots[i]?
theorem thS.rfl {k : Nat} {cell : Cell} : thS G k cell cell := ⟨_root_.rfl, _root_.rfl, _root_.rfl, _root_.rfl, _root_.rfl, fun _ _ => _root_.rfl⟩
theorem thS.set {k j : Nat} {cell cell' : Cell} {v : Value} (h : thS G k cell cell') (hj : j < 4) : thS G k cell (cell'.setSlot ((gD G).2 k j) v) := by
  obtain ⟨h1, h2, h3, h4, h5, h6⟩ := h
  exact ⟨h1, h2, h3, h4, by simp [Cell.setSlot, h5], fun i hi => by rw [st_ne (Ne.symm (hi j hj))]; exact h6 i hi⟩
theorem thS.slot {k j : Nat} {cell cell' : Cell} (h : thS G k cell cell') (hs : ∃ w, cell.slots[(gD G).2 k j]? = some w) : ∃ w, cell'.slots[(gD G).2 k j]? = some w := by
  obtain ⟨w, hw⟩ := hs
  have := k2_hasslot hw
  exact ⟨cell'.slots[(gD G).2 k j]'(by rw [h.2.2.2.2.1]; exact this), Array.getElem?_eq_getElem _⟩
theorem rep_thr {s : State} (hEV : EV8 G s) {h : ah} {H H' : Heap} (r : Rep (gD G) (gA G) (gB G) (gH G) (gE G) h H) {x : Nat} {cell cell' : Cell} (hk : thK (hK h (x + 1)) = true) (hcell : H[x]? = some cell) (ho : one1 H H' x cell') (hs : thS G (hK h (x + 1)) cell cell') : Rep (gD G) (gA G) (gB G) (gH G) (gE G) h H' := by
  obtain ⟨q, hq, hqk⟩ := thK_q hk
  obtain ⟨t3, -, t4⟩ := clsT_th q hq (by rw [hqk]; exact hk)
  have hrange : 192 ≤ hK h (x + 1) ∧ hK h (x + 1) < 300 := by
    simp only [thK, Bool.or_eq_true, beq_iff_eq] at hk
    omega
  have hw : rwK (hK h (x + 1)) = true := by
    unfold rwK
    simp only [Bool.not_eq_true', Bool.or_eq_false_iff, beq_eq_false_iff_ne]
    omega
  obtain ⟨s1, s2, s3, s4, s5, s6⟩ := hs
  refine r.upd hw (by omega) (by omega) ho.1 ho.2.1 ho.2.2 rfl (fun _ => rfl) (fun a _ => ⟨fun _ => rfl, fun _ => rfl, rfl, fun _ => rfl, fun _ => rfl⟩) ?_
  have hc := r.2.2.1 x cell hcell
  unfold cellOf at hc ⊢
  rw [if_neg (by omega), if_neg (by omega), if_neg (by omega), if_neg (by omega)] at hc ⊢
  obtain ⟨q', hq', e1, c1, c2, cth, c3⟩ := hc
  cases clsT_inj q' hq' q hq (e1.trans hqk.symm)
  obtain ⟨a1, a2, a3, a4⟩ := cth hk
  have hap : ∀ i j, i < q.2.2.2.1 → j < 4 → i ≠ j → (gD G).2 (hK h (x + 1)) i ≠ (gD G).2 (hK h (x + 1)) j := fun i j hi hj hne => by rw [← hqk]; exact t_apart hEV hq hi (by omega) hne
  refine ⟨q, hq, hqk, by rw [s1]; exact c1, by rw [s2]; exact c2, fun _ => ⟨fun j hj => ?_, ?_, by rw [s3]; exact a3, by rw [s4]; exact a4⟩, fun j hj hf => ?_⟩
  · obtain ⟨w, hw9⟩ := a1 j hj
    have := k2_hasslot hw9
    exact ⟨cell'.slots[(gD G).2 (hK h (x + 1)) j]'(by rw [s5]; exact this), Array.getElem?_eq_getElem _⟩
  · rw [s6 _ (fun j hj => hap 4 j (by omega) hj (by omega))]; exact a2
  · have hj6 : ¬ j < 6 := fun z => hf (t4 j z)
    rw [s6 _ (fun i hi => hap j i hj hi (by omega))]
    exact c3 j hj hf
section
variable {p : Program} {l : Launch} {e : Env} {R : Room} {s : State} {m : MethodId} {args : Array Value} {below : List Frame} {meth : Method} {c : Code} {H : Heap} {locs : List Loc} {cells slots : Nat} {Q : State → Prop}
variable {cc : ByteArray} {pc : Nat} {ls : Array Slot} {rest : List Value}
theorem xp_t (hexec : p.tables.exec = Jvm.exec) (hb : c.code = cc) (hEV : EV8 G s) (hown : s.vm.findClass "java/lang/Throwable" = some m.cls) {k : Nat} (hk : thK k = true) (j : Nat) (hj : j < 4) {idx : Nat} (hlink : Cond.fieldLink "java/lang/Throwable" idx (TJ14 j).1 (TJ14 j).2.1 (TJ14 j).2.2.1 ∈ lw_all) {a : Nat} {v : Value} (hv : v.isRef = true) {cell0 cell : Cell} (h0 : thS G k cell0 cell) (hs0 : ∃ w, cell0.slots[(gD G).2 k j]? = some w) (hc : H[a]? = some cell) (hvm : cell0.vm = .none) (hcl : cell0.cls = (gD G).1 k) (hL : ∀ q ∈ locs, gB G ≤ q.base) (hB : gB G ≤ a) (hdg : decode cc pc = .ok (.putfield idx, 3))
    (kk : ∀ (H' : Heap) (locs' : List Loc) (cell' : Cell), one1 H H' a cell' → thS G k cell0 cell' → (∀ q ∈ locs', gB G ≤ q.base) → W p l e R s m args below meth c H' locs' cells slots Q (F0 m (pc + 3) ls rest)) : W p l e R s m args below meth c H locs cells slots Q (F0 m pc ls (v :: .ref a :: rest)) := by
  have hft : fits (tyJ14 j) v = true := by
    match j, hj with
    | 0, _ => exact fits_refV_object _ ⟨v, hv⟩
    | 1, _ => exact fits_refV_array _ ⟨v, hv⟩
    | 2, _ => exact fits_refV_object _ ⟨v, hv⟩
    | 3, _ => exact fits_refV_object _ ⟨v, hv⟩
  obtain ⟨cf, kf, fi, fd, f1, f2, f3, f4⟩ := tfp hEV hk j (by omega) (v := v) (narrow_isRef _ hv) hft
  obtain ⟨w, hw⟩ := h0.slot hs0
  exact W.putK hexec hb (f := fd) ⟨hown, hEV.1.all hlink, ⟨_, _, _, f1⟩, f2⟩ (by rw [h0.1, hcl]; exact f4) hc (by rw [h0.2.1]; exact hvm) (by rw [f3]; exact k2_hasslot hw) rfl rfl hdg fun H' e1 e2 e3 => kk H' _ _ ⟨by rw [← f3]; exact e1, e2, e3⟩ (h0.set hj) (locs1 hL hB)
end
def thP (G : GX) (H : Heap) (KH : KHT) (x : Nat) : Prop := ∃ (k : Nat) (cell : Cell), H[x]? = some cell ∧ cell.vm = .none ∧ thK k = true ∧ cell.cls = (gD G).1 k ∧ (∀ j, j < 6 → ∃ w, cell.slots[(gD G).2 k j]? = some w) ∧ gB G ≤ x ∧ (∀ q, q < gB G → H[q]? = (gH G)[q]?) ∧ ∀ H' cell', one1 H H' x cell' → thS G k cell cell' → KH none H' 0
theorem one1.trans {H H1 H2 : Heap} {x : Nat} {c1 c2 : Cell} (h1 : one1 H H1 x c1) (h2 : one1 H1 H2 x c2) : one1 H H2 x c2 := ⟨h2.1, h2.2.1.trans h1.2.1, fun q hq => (h2.2.2 q hq).trans (h1.2.2 q hq)⟩
theorem jx_t4 (hG : GOK G) : JX G ⟨"java/lang/Throwable", "<init>", "(Ljava/lang/String;Ljava/lang/Throwable;ZZ)V"⟩ prog_72_method_5_code 5 none 1 20 (fun a H KH _ _ => ∃ x : Nat, a = #[.ref x, .null, .null, .int 0, .int 0] ∧ thP G H KH x) := by
  intro p l e R s m args below meth c KH hexec hEV hown hb hml hr hlk hfr hlo hPH
  obtain ⟨x, rfl, k, cell, c1, c2, c3, c4, c5, hB, hlow, hkk⟩ := hPH
  have go : ∀ (u0 sen : Value), u0.isRef = true → sen.isRef = true → va_Z "java/lang/Throwable" "UNASSIGNED_STACK" "[Ljava/lang/StackTraceElement;" u0 (nA (gB G)) s (gH G) → va_Z "java/lang/Throwable" "SUPPRESSED_SENTINEL" "Ljava/util/List;" sen (nA (gB G)) s (gH G) → W p l e R s m #[.ref x, .null, .null, .int 0, .int 0] below meth c s.heap [] 0 0 (XQ s below (gB G) KH) (F0 m 0 #[.val (.ref x), .val .null, .val .null, .val (.int 0), .val (.int 0)] []) := by
    intro u0 sen hu hsn hZ1 hZ2
    have low : ∀ {H' : Heap} {c' : Cell}, one1 s.heap H' x c' → ∀ q, q < gB G → H'[q]? = (gH G)[q]? := fun ho q hq => (ho.2.2 q (by omega)).trans (hlow q hq)
    refine lv_aload_n hexec hb d_t4_0 rfl rfl ?_
    refine W.objInit hexec hb hown (hEV.1.all q411) (hEV.1.all q384) (hEV.1.all q385) rfl (by rw [hml]; rfl) rfl d_t4_1 hfr (by show 2 * 0 + 0 + 12 ≤ _; omega) ?_
    refine lv_aload_n hexec hb d_t4_4 rfl rfl ?_
    refine lv_aload_n hexec hb d_t4_5 rfl rfl ?_
    refine xp_t hexec hb hEV hown c3 0 (by decide) q448 rfl thS.rfl (c5 0 (by decide)) c1 c2 c4 nil_locs hB d_t4_6 fun H1 L1 e1 o1 s1 hL1 => ?_
    refine lv_aload_n hexec hb d_t4_9 rfl rfl ?_
    refine xg_s hexec hb hZ1 (low o1) hown (hEV.1.all q412) d_t4_10 ?_
    refine xp_t hexec hb hEV hown c3 1 (by decide) q449 hu s1 (c5 1 (by decide)) o1.1 c2 c4 hL1 hB d_t4_13 fun H2 L2 e2 o2 s2 hL2 => ?_
    have o2 := o1.trans o2
    refine lv_aload_n hexec hb d_t4_16 rfl rfl ?_
    refine xg_s hexec hb hZ2 (low o2) hown (hEV.1.all q414) d_t4_17 ?_
    refine xp_t hexec hb hEV hown c3 2 (by decide) q450 hsn s2 (c5 2 (by decide)) o2.1 c2 c4 hL2 hB d_t4_20 fun H3 L3 e3 o3 s3 hL3 => ?_
    have o3 := o2.trans o3
    refine lv_iload hexec hb d_t4_23 rfl ?_
    refine lv_if_eq hexec hb d_t4_25 (tgt := 36) rfl (fun _ => ?_) (fun z => absurd rfl z)
    refine lv_aload_n hexec hb d_t4_36 rfl rfl ?_
    refine lv_null hexec hb d_t4_37 ?_
    refine xp_t hexec hb hEV hown c3 1 (by decide) q449 rfl s3 (c5 1 (by decide)) o3.1 c2 c4 hL3 hB d_t4_38 fun H4 L4 e4 o4 s4 hL4 => ?_
    have o4 := o3.trans o4
    refine lv_aload_n hexec hb d_t4_41 rfl rfl ?_
    refine lv_aload_nN hexec hb d_t4_42 rfl rfl ?_
    refine xp_t hexec hb hEV hown c3 3 (by decide) q447 rfl s4 (c5 3 (by decide)) o4.1 c2 c4 hL4 hB d_t4_43 fun H5 L5 e5 o5 s5 hL5 => ?_
    have o5 := o4.trans o5
    refine lv_aload_n hexec hb d_t4_46 rfl rfl ?_
    refine lv_aload_nN hexec hb d_t4_47 rfl rfl ?_
    refine xp_t hexec hb hEV hown c3 0 (by decide) q448 rfl s5 (c5 0 (by decide)) o5.1 c2 c4 hL5 hB d_t4_48 fun H6 L6 e6 o6 s6 hL6 => ?_
    have o6 := o5.trans o6
    refine lv_iload_n hexec hb d_t4_51 rfl rfl ?_
    refine lv_if_ne hexec hb d_t4_52 (tgt := 60) rfl (fun z => absurd rfl z) (fun _ => ?_)
    refine lv_aload_n hexec hb d_t4_55 rfl rfl ?_
    refine lv_null hexec hb d_t4_56 ?_
    refine xp_t hexec hb hEV hown c3 2 (by decide) q450 rfl s6 (c5 2 (by decide)) o6.1 c2 c4 hL6 hB d_t4_57 fun H7 L7 e7 o7 s7 hL7 => ?_
    have o7 := o6.trans o7
    exact x_vret hexec hb hlk hr d_t4_60 hL7 (by rw [o7.2.1]; rfl) (hkk H7 e7 o7 s7)
  obtain ⟨-, -, -, z1, z2, -⟩ := hG.2 s hEV.2.2.2.2.2
  rcases z1 with z1 | ⟨t1, z1⟩ <;> rcases z2 with z2 | ⟨t2, z2⟩ <;> exact go _ _ rfl rfl z1 z2
theorem jx_e4 (hG : GOK G) : JX G ⟨"java/lang/Exception", "<init>", "(Ljava/lang/String;Ljava/lang/Throwable;ZZ)V"⟩ prog_58_method_5_code 5 none 2 50 (fun a H KH _ _ => ∃ x : Nat, a = #[.ref x, .null, .null, .int 0, .int 0] ∧ thP G H KH x) := by
  intro p l e R s m args below meth c KH hexec hEV hown hb hml hr hlk hfr hlo hPH
  obtain ⟨x, rfl, k, cell, c1, c2, c3, c4, c5, hB, hlow, hkk⟩ := hPH
  show W p l e R s m _ below meth c s.heap [] 0 0 _ (F0 m 0 #[.val (.ref x), .val .null, .val .null, .val (.int 0), .val (.int 0)] [])
  refine lv_aload_n hexec hb d_e4_0 rfl rfl ?_
  refine lv_aload_nN hexec hb d_e4_1 rfl rfl ?_
  refine lv_aload_nN hexec hb d_e4_2 rfl rfl ?_
  refine lv_iload_n hexec hb d_e4_3 rfl rfl ?_
  refine lv_iload hexec hb d_e4_4 rfl ?_
  refine x_I hG.1 (jx_t4 hG) hexec hEV hown q441 rfl q442 q443 ⟨by decide, by decide⟩ (by decide +kernel) (np0 (n := 4) (by decide +kernel)) hb (by rw [hml]; rfl) d_e4_6 [.null, .null, .int 0, .int 0] [] x rfl nil_locs (by omega) (by show 0 + (5 + 11) + 20 ≤ _; omega) (Nat.zero_le _) (Nat.zero_le _) (KH := fun v H' n => v = none ∧ (∃ c', one1 s.heap H' x c' ∧ thS G k cell c') ∧ n = 0) ⟨x, rfl, k, cell, c1, c2, c3, c4, c5, hB, hlow, fun H' c' a b => ⟨rfl, ⟨c', a, b⟩, rfl⟩⟩ ?_ (fun v H' locs' k n hk9 => by cases hk9.1)
  rintro H' locs' k' n' ⟨-, ⟨c', a, b⟩, rfl⟩ hL hsz
  exact x_vret hexec hb hlk hr d_e4_9 hL (by omega) (hkk H' c' a b)
theorem jx_r4 (hG : GOK G) : JX G ⟨"java/lang/RuntimeException", "<init>", "(Ljava/lang/String;Ljava/lang/Throwable;ZZ)V"⟩ prog_66_method_5_code 5 none 3 80 (fun a H KH _ _ => ∃ x : Nat, a = #[.ref x, .null, .null, .int 0, .int 0] ∧ thP G H KH x) := by
  intro p l e R s m args below meth c KH hexec hEV hown hb hml hr hlk hfr hlo hPH
  obtain ⟨x, rfl, k, cell, c1, c2, c3, c4, c5, hB, hlow, hkk⟩ := hPH
  show W p l e R s m _ below meth c s.heap [] 0 0 _ (F0 m 0 #[.val (.ref x), .val .null, .val .null, .val (.int 0), .val (.int 0)] [])
  refine lv_aload_n hexec hb d_r4_0 rfl rfl ?_
  refine lv_aload_nN hexec hb d_r4_1 rfl rfl ?_
  refine lv_aload_nN hexec hb d_r4_2 rfl rfl ?_
  refine lv_iload_n hexec hb d_r4_3 rfl rfl ?_
  refine lv_iload hexec hb d_r4_4 rfl ?_
  refine x_I hG.1 (jx_e4 hG) hexec hEV hown q438 rfl q439 q440 ⟨by decide, by decide⟩ (by decide +kernel) (np0 (n := 4) (by decide +kernel)) hb (by rw [hml]; rfl) d_r4_6 [.null, .null, .int 0, .int 0] [] x rfl nil_locs (by omega) (by show 0 + (5 + 11) + 50 ≤ _; omega) (Nat.zero_le _) (Nat.zero_le _) (KH := fun v H' n => v = none ∧ (∃ c', one1 s.heap H' x c' ∧ thS G k cell c') ∧ n = 0) ⟨x, rfl, k, cell, c1, c2, c3, c4, c5, hB, hlow, fun H' c' a b => ⟨rfl, ⟨c', a, b⟩, rfl⟩⟩ ?_ (fun v H' locs' k n hk9 => by cases hk9.1)
  rintro H' locs' k' n' ⟨-, ⟨c', a, b⟩, rfl⟩ hL hsz
  exact x_vret hexec hb hlk hr d_r4_9 hL (by omega) (hkk H' c' a b)
end
