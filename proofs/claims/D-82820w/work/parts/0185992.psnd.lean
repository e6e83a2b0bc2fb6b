/-! plain constructors of throwables; all primitive calls are sound -/
set_option maxRecDepth 100000
section
variable {G : GX}
theorem fitsAll {s : State} (hE : EW s) (l1 : (Cond.laysStatic "java/lang/Throwable" "UNASSIGNED_STACK" "[Ljava/lang/StackTraceElement;").before #[] s = true) (l2 : (Cond.laysStatic "java/lang/Throwable" "SUPPRESSED_SENTINEL" "Ljava/util/List;").before #[] s = true) : ∀ x ∈ Bundle.throwableAtoms, x.before #[] s = true := by
  intro x hx
  simp only [Bundle.throwableAtoms, List.mem_cons, List.not_mem_nil, or_false] at hx
  rcases hx with rfl | rfl | rfl | rfl | rfl | rfl | rfl | rfl | rfl | rfl | rfl | rfl | rfl | rfl | rfl | rfl | rfl | rfl | rfl | rfl | rfl | rfl | rfl | rfl
  · exact hE.all q303
  · exact hE.all q408
  · exact hE.all q417
  · exact hE.all q426
  · exact hE.all q429
  · exact hE.all q431
  · exact hE.all q409
  · exact hE.all q410
  · exact hE.all q384
  · exact hE.all q385
  · exact hE.all q411
  · exact hE.all q416
  · exact hE.all q427
  · exact hE.all q448
  · exact hE.all q398
  · exact hE.all q449
  · exact hE.all q400
  · exact hE.all q450
  · exact hE.all q402
  · exact hE.all q412
  · exact l1
  · exact hE.all q414
  · exact l2
  · exact hE.all q404
theorem selF {k : Nat} (h : thK k = true) : Cond.selects (kName k) Bundle.tFill0 Bundle.tFill0 ∈ lw_all ∧ Cond.selects (kName k) Bundle.tFill Bundle.tFill ∈ lw_all := by
  simp only [thK, Bool.or_eq_true, beq_iff_eq] at h
  rcases h with ((((((rfl | rfl) | rfl) | rfl) | rfl) | rfl) | rfl)
  · rw [show kName 192 = "java/lang/IllegalArgumentException" from by decide +kernel]; exact ⟨q2092, q422⟩
  · rw [show kName 193 = "java/lang/IllegalStateException" from by decide +kernel]; exact ⟨q2912, q423⟩
  · rw [show kName 194 = "java/lang/IndexOutOfBoundsException" from by decide +kernel]; exact ⟨q3745, q424⟩
  · rw [show kName 195 = "java/util/NoSuchElementException" from by decide +kernel]; exact ⟨q3773, q425⟩
  · rw [show kName 201 = "LinkedTongue$Fault" from by decide +kernel]; exact ⟨q395, q396⟩
  · rw [show kName 206 = "LinkedTongue$Signal" from by decide +kernel]; exact ⟨q649, q419⟩
  · rw [show kName 215 = "LinkedTongueModel$Halt" from by decide +kernel]; exact ⟨q3802, q420⟩
theorem thrAt (hG : GOK G) {s : State} {pl : Platform} (hEV : EV8 G s) (howns : pl.frameOwnsMonitors = true) (hfin : pl.finalization = false) (hpl : pl.magicAccessors = ({} : Platform).magicAccessors) : ∃ (T : ThrowableC) (Z : Init0T), T.Links pl s ∧ Z.Laid T.toThrowableT ∧ Bundle.Ties T Z { s with heap := gH G } := by
  obtain ⟨-, -, -, -, -, -, -, -, l1, l2⟩ := hG.2 s hEV.2.2.2.2.2
  have hE : EW ({ s with heap := gH G } : State) := hEV.1.warm (State.WarmedH.refl s)
  obtain ⟨T, Z, L, LZ, Y⟩ := ThrowableC.of_atoms (args := #[]) howns hfin hpl (fitsAll hE l1 l2)
  refine ⟨T, Z, ?_, LZ, Y⟩
  cases L; constructor <;> assumption
theorem zq_ref {C n d : String} {A : Nat → Prop} {s : State} {H : Heap} (h : va_Zq C n d A s H) : ∃ u : RefV, va_Z C n d u.v A s H := by
  rcases h with h | ⟨t, h⟩
  · exact ⟨⟨.null, rfl⟩, h⟩
  · exact ⟨⟨.ref t, rfl⟩, h⟩
theorem psnd_17 (hG : GOK G) {ow : String} {idx : Nat} {cls : String} {names : List String} {bytes : ByteArray} (hcls : Bundle.fit cls = true) (hnames : ∀ n ∈ names, Bundle.fit n = true) (hlen : names.length ≤ 3) (hch : ∀ (s : State) (args : Array Value), EV8 G s → ∀ c ∈ Bundle.chain0Atoms cls names, c.before args s = true)
    (w0 : Cond.methodLink ow idx (Bundle.init0 cls) ∈ lw_all) (w1 : Cond.instanceMethod (Bundle.init0 cls) ∈ lw_all) (w3 : Cond.code (Bundle.init0 cls) bytes 1 none ∈ lw_all) : PSND G ow (.invokespecial idx) 1 17 := by
  refine psnd_X fun p l e R s m args below meth c P pc st as h K H locs cells slots ls hexec htr hEV hown hnL hdg f1 f2 f3 hlen1 hcan hce hsl hr hL hcap hpr kn kv => ?_
  obtain ⟨a, s', rfl, h1, h3⟩ := pR_e hpr
  obtain rfl : s' = [] := List.length_eq_zero_iff.mp (by simpa using hlen1)
  obtain ⟨x, cell, rfl, e1, e2, e3, ⟨e4, e6, e7, e8⟩, e5⟩ := thCell hr h1
  show W p l e R s m args below meth c H locs cells slots P (F0 m pc ls (.ref x :: st.map cv))
  intro T hT X
  have howns : e.platform.frameOwnsMonitors = true := by rw [X.admits.platform]
  have hfin : e.platform.finalization = false := by rw [X.admits.platform]
  have hpl : e.platform.magicAccessors = ({} : Platform).magicAccessors := by rw [X.admits.platform]
  have htr' : e.platform.stackTraces = false := by rw [X.admits.platform]; exact htr
  obtain ⟨TT, Z, L, LZ, Y⟩ := thrAt hG hEV howns hfin hpl
  obtain ⟨P1, Ps, hPl, L1, hLs, hP1m, hlink1, hlink⟩ := Bundle.chain0 (args := args) (s := s) hpl Y.init0 names cls hcls hnames (hch s args hEV)
  have kc := kcls hEV (kd := hK h (x + 1)) (by obtain ⟨q, hq, e9⟩ := thK_q h1; rw [← e9]; exact ek20m q hq)
  obtain ⟨sl0, slF⟩ := selF h1
  have hsel0 : selectMethod e.platform s.vm cell.cls TT.fill0 = .method TT.fill0 := by
    obtain ⟨c2, r2, m2, q1, q2, q3, q4, -⟩ := Cond.selects_spec (hEV.1.all sl0 (A := args))
    cases Option.some.inj (q1.symm.trans kc.1)
    cases Option.some.inj (q2.symm.trans (State.methodFound?_of_named Y.fill0 (by decide)))
    cases Option.some.inj (q3.symm.trans Y.fill0)
    rw [Launch.admits_selectMethod X.admits, e3]; exact q4
  have hselF : selectMethod e.platform s.vm cell.cls TT.fill = .method TT.fill := by
    obtain ⟨c2, r2, m2, q1, q2, q3, q4, -⟩ := Cond.selects_spec (hEV.1.all slF (A := args))
    cases Option.some.inj (q1.symm.trans kc.1)
    cases Option.some.inj (q2.symm.trans (State.methodFound?_of_named Y.fill (by decide)))
    cases Option.some.inj (q3.symm.trans Y.fill)
    rw [Launch.admits_selectMethod X.admits, e3]; exact q4
  obtain ⟨-, -, -, z1, z2, -⟩ := hG.2 s hEV.2.2.2.2.2
  obtain ⟨u0, cf1, kf1, fi1, g1, a1, cS, y1, y2, y3, y4, y5, y6, y7, y8⟩ := zq_ref z1
  obtain ⟨sen, cf2, kf2, fi2, g2, a2, cS2, x1, x2, x3, x4, x5, x6, x7, x8⟩ := zq_ref z2
  cases Y.unassigned.symm.trans y1
  cases Y.sentinel.symm.trans x1
  have ea1 : a1 = TT.aS := Option.some.inj (y4.symm.trans L.statics)
  have ea2 : a2 = TT.aS := Option.some.inj (x4.symm.trans L.statics)
  subst ea1
  subst ea2
  cases y5.symm.trans x5
  have haS : TT.aS < gB G := Classical.byContradiction y8
  have hcellS : T.heap[TT.aS]? = some cS := by rw [hT, hr.2.2.2.1 _ haS]; exact y5
  have hknownS : cS.vm ≠ .unknown := fun z => by rw [z] at y6; cases y6
  have hneS : TT.aS ≠ x := fun z => absurd haS (by rw [z]; exact Nat.not_lt.mpr e5)
  obtain ⟨_, _, _, fC, tC1, tC2, tC3, tC4⟩ := tfp hEV h1 0 (by decide) (v := .ref x) rfl rfl
  obtain ⟨_, _, _, fS, tS1, tS2, tS3, tS4⟩ := tfp hEV h1 1 (by decide) (v := u0.v) (narrow_isRef _ u0.ok) (fits_refV_array _ u0)
  obtain ⟨_, _, _, fP, tP1, tP2, tP3, tP4⟩ := tfp hEV h1 2 (by decide) (v := sen.v) (narrow_isRef _ sen.ok) (fits_refV_object _ sen)
  obtain ⟨_, _, _, fB, tB1, tB2, tB3, tB4⟩ := tfp hEV h1 4 (by decide) (v := .null) rfl rfl
  cases Y.cause.symm.trans tC1
  cases Y.stack.symm.trans tS1
  cases Y.supp.symm.trans tP1
  obtain ⟨q, hq, hqk⟩ := thK_q h1
  obtain ⟨t6, -, -⟩ := clsT_th q hq (by rw [hqk]; exact h1)
  have hap : ∀ i j, i < 6 → j < 6 → i ≠ j → (gD G).2 (hK h (x + 1)) i ≠ (gD G).2 (hK h (x + 1)) j := fun i j hi hj hne => by rw [← hqk]; exact t_apart hEV hq (by omega) (by omega) hne
  obtain ⟨ci198, i198, fB', hk198, hg198, ha198, hsB, -, hnB, htB, hffB⟩ := Cond.ownField (s := s) (args := args) (first := s) (o := none) (idx := []) (t := .object "java/lang/Object") Y.found L.cls (by decide +kernel) (hEV.1.all q407 (A := args)) (hEV.1.all q406 (A := args)) e.platform hpl
  obtain rfl : fB' = fB := by
    have := hffB.symm.trans tB1
    simp only [Option.some.injEq, Prod.mk.injEq] at this
    exact this.2.2.2
  have tk : ∀ (f : Field) (v : Value) (j : Nat), j < 6 → f.slot = (gD G).2 (hK h (x + 1)) j → k2_Sd s f ((gD G).1 (hK h (x + 1))) v → Takes s cell f v := fun f v j hj ej hs => by
    obtain ⟨w, hw⟩ := e4 j hj
    exact ⟨by rw [ej]; exact k2_hasslot hw, by rw [e2, e3]; exact hs.2.2⟩
  have hskip : SkipFacts TT e.platform s (fun u => u) u0 ((preparedCellV TT.toThrowableT cell x u0 sen).withEntry T.cur) := by
    refine ⟨{ ci198 := ci198, i198 := i198, fBack := fB' }, ⟨hk198, hg198, ha198, hsB⟩, ?_, fun _ _ => rfl⟩
    have n0 := hap 0 4 (by decide) (by decide) (by decide)
    have n1 := hap 1 4 (by decide) (by decide) (by decide)
    have n2 := hap 2 4 (by decide) (by decide) (by decide)
    rw [← tC3, ← tB3] at n0
    rw [← tS3, ← tB3] at n1
    rw [← tP3, ← tB3] at n2
    have := e6
    rw [← tB3] at this
    simpa [preparedCellV, Cell.setSlot, Cell.withEntry, Array.getElem?_setIfInBounds, n0, n1, n2] using this
  obtain ⟨tm, methC, cdC, kC, vm₁, hnC, -, -, -, -, -, -, -, hW₁, st1⟩ := Steps.initCold (tb := p.tables) (e := e) (below := below) (s := s) (U := T) X.here hexec X.warmed hpl hown (t := Bundle.init0 cls) rfl rfl (Bundle.fit_spec hcls).2 (hEV.1.all w0 (A := args)) (hEV.1.all w1 (A := args)) (hEV.1.all w3 (A := args)) (f := F0 m pc ls (.ref x :: st.map cv)) rfl (a := x) (rest := st.map cv) rfl hdg
  cases Option.some.inj (hnC.symm.trans hP1m)
  have X₁ := X.noted hW₁
  obtain ⟨vm₂, X₂, st2⟩ := X₁.ctorPlainOffV hexec (g := F0 m pc ls (st.map cv)) rfl hnL TT L Z LZ (P1 :: Ps)
    (fun P hP => by rcases List.mem_cons.mp hP with rfl | hP; exact L1; exact hLs P hP) ⟨hlink1, hlink⟩ (u0 := u0) (sen := sen) (self := x) (cell := cell) (cellS := cS)
    (by show T.heap[x]? = some cell; rw [hT]; exact e1) (fun k z => by rw [e2] at z; cases z) (fun z => by rw [e2] at z; cases z) e7 e8 hsel0 hselF hcellS hneS hknownS y7 x7
    (tk _ _ 0 (by decide) tC3 tC4) (tk _ _ 1 (by decide) tS3 tS4) (tk _ _ 2 (by decide) tP3 tP4) Y.objLocals hskip htr' [] hdg
    (by simp only [List.length_cons, hPl]; omega) (by simp only [List.length_cons, hPl]; show 2 * 0 + _ + _ ≤ _; omega)
  have hxl : x < T.heap.size := by rw [hT]; exact (Array.getElem?_eq_some_iff.mp e1).1
  generalize hcell' : (preparedCellV TT.toThrowableT cell x u0 sen).setSlot TT.fStack.slot u0.v = cell' at X₂ st2
  have hth : thS G (hK h (x + 1)) cell cell' := by
    rw [← hcell']
    have : preparedCellV TT.toThrowableT cell x u0 sen = ((cell.setSlot TT.fCause.slot (.ref x)).setSlot TT.fStack.slot u0.v).setSlot TT.fSupp.slot sen.v := rfl
    rw [this, tC3, tS3, tP3]
    exact (((thS.rfl.set (by decide)).set (by decide)).set (by decide)).set (by decide)
  have ho : one1 H (((T.setVm vm₁).setVm vm₂).setCell x cell').heap x cell' := ⟨heapAt_setCell_self _ hxl, by rw [size_setCell]; show T.heap.size = _; rw [hT], fun q hq => by rw [heapAt_setCell_ne _ (Ne.symm hq)]; show T.heap[q]? = _; rw [hT]⟩
  obtain ⟨t, b1, b2⟩ := kn _ _ 0 0 ⟨none, h, h3, rfl, (fun w z => by cases z), rep_thr hEV hr h1 e1 ho hth, rfl⟩ (fun q hq => by
      rcases List.mem_append.mp hq with h9 | h9
      · exact hL q h9
      · simp only [List.mem_cons, List.not_mem_nil, or_false] at h9
        rcases h9 with rfl | rfl | rfl | rfl <;> exact e5) ho.2.1 (((T.setVm vm₁).setVm vm₂).setCell x cell') rfl X₂
  refine ⟨t, st1 t (fun acts => ?_), b2⟩
  rw [doInvoke_state]
  exact st2 _ b1
theorem psnd_19 {ow : String} {idx : Nat} (w0 : Cond.methodLink ow idx Lib.objectInit ∈ lw_all) : PSND G ow (.invokespecial idx) 1 19 := by
  refine psnd_X fun p l e R s m args below meth c P pc st as h K H locs cells slots ls hexec htr hEV hown hnL hdg f1 f2 f3 hlen1 hcan hce hsl hr hL hcap hpr kn kv => ?_
  obtain ⟨a, s', rfl, h1, h3⟩ := pR_e hpr
  obtain rfl : s' = [] := List.length_eq_zero_iff.mp (by simpa using hlen1)
  have ha := (hr.2.1 a h1).1
  obtain ⟨x, rfl⟩ : ∃ x, a = x + 1 := ⟨a - 1, by omega⟩
  show W p l e R s m args below meth c H locs cells slots P (F0 m pc ls (.ref x :: st.map cv))
  refine W.objInit hexec rfl hown (hEV.1.all w0) (hEV.1.all q384) (hEV.1.all q385) rfl hnL rfl hdg (by omega) (by show 2 * 0 + _ + 12 ≤ _; omega) ?_
  exact kn H locs 0 0 ⟨none, h, h3, rfl, (fun w z => by cases z), hr, rfl⟩ hL rfl
end
