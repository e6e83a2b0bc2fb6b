/-! THE CLAIM OUT OF THE LAW'S WP (began as rows of the kit's skeleton: lw_P, lw_Q, lw_Z, lw_At, lw_walk, lw_pre_spec, lw_comes, lw_frame, lw_limb, i_vc) -/
def R_law : String := "LinkedTongueLaw"
def lw_P (b : Addr) (xs : List Int32) (args : Array Value) (s : State) : Prop := args = #[.ref b] ∧ s.IntsAt b xs ∧ xs.length ≤ 320 ∧ (Jvm.Cond.and given_1 narrow_1).before args s = true
def lw_Q (_ : Array Value) (s : State) (o : Outcome) (t : State) : Prop := o = .returned (some (.int 1)) ∧ Framed s o t [] 600384 7288810
def lw_Z (below : List Frame) (a : Array Value) (s : State) : State → Prop := fun t => ∃ o, t.status = .running ∧ Ended t below o ∧ lw_Q a s o t
def lw_At (p : Program) (s : State) (m : MethodId) (meth : Method) (c : Code) (b L : Nat) (xs : Nat → Int32) : Prop :=
  p.tables.exec = Jvm.exec ∧ c.code = code ∧ meth.sig.returnType = ret ∧ c.maxLocals = 8 ∧ s.vm.findClass R_law = some m.cls ∧ (∀ w ∈ lw_tbl, w.before #[Value.ref b] s = true) ∧ va_X b L xs s s.heap ∧ b < s.heap.size ∧ meth.locks = false ∧ (Jvm.Cond.and given_1 narrow_1).before #[Value.ref b] s = true ∧ meth.name = "law" ∧ c.exceptionTable.toList = []
def ROWS : Prop := ∀ (D : va_G) (aC : Nat → ClassId) (B0 : Nat) (H0 : Heap) (eE : Nat) (ρ : Nat → Nat) (C0 S0 : Nat), ∀ q ∈ gT (G0 D aC B0 H0 eE ρ C0 S0), RowOK (G0 D aC B0 H0 eE ρ C0 S0) q
theorem frame_new {s t : State} {L : List Loc} {k n : Nat} (h : s.sameButNew t L k n) (hL : ∀ q ∈ L, s.heap.size ≤ q.base) : s.sameButNew t [] k n := by
  obtain ⟨h1, h2, h3, h4, h5, h6⟩ := h
  refine ⟨h1, h2, h3, h4, h5, fun a c hc => ?_⟩
  obtain ⟨c', g1, g2, g3, g4⟩ := h6 a c hc
  refine ⟨c', g1, g2, g3, fun i _ => g4 i fun z => ?_⟩
  have z1 : s.heap.size ≤ a := hL _ z
  have z2 := (Array.getElem?_eq_some_iff.mp hc).1
  omega
theorem st_end {s : State} {below : List Frame} {D : va_G} {aC : Nat → ClassId} {eE : Nat} {h0 : ah} {a : Array Value} (hz0 : hz h0 = s.heap.size + 1) {t : State} (h : FQ8 s below D aC s.heap.size s.heap eE 0 (fun o h' => o = Sum.inl (some (vI 1)) ∧ hz h' ≤ hz h0 + 600384 ∧ hs h' ≤ 7288810) t) : lw_Z below a s t := by
  obtain ⟨o, h', L, k, n, ⟨rfl, h1, h2⟩, -, -, hL, e1, e2, h3, h4, h5, h6⟩ := h
  refine ⟨_, h3, h4, rfl, ⟨_, rfl⟩, h5, ?_⟩
  exact (frame_new h6 hL).mono (by omega) (by omega)
theorem fl_none {l : Launch} (h : l.flags = flags0) : l.stackTraces = false := by
  unfold Launch.stackTraces
  rw [h]
  decide +kernel
theorem whole_start (hlaw : LAWOK) (hrows : ROWS) {p : Program} {e : Env} {s : State} {m : MethodId} {below : List Frame} {meth : Method} {c : Code} (l : Launch) (htr : l.stackTraces = false) {b L : Nat} {xs : Nat → Int32} (hL : L ≤ 320) (C0 : lw_At p s m meth c b L xs) : W p l e room_1 s m #[Value.ref b] below meth c s.heap [] 0 0 (lw_Z below #[Value.ref b] s) (entryFrame m ([Value.ref b] : List Value).toArray 8) := by
  obtain ⟨hexec, hb, hr, hml, hown, hts, hX, hbl, hlk, hpre, hnm, het⟩ := C0
  have hpre : PC #[Value.ref b] s := hpre
  have hE : EW s := EW.of hts
  -- classes
  obtain ⟨cS, iS, hS⟩ := u_known (ws := lw_all) (s := s) (args := #[Value.ref b]) (C := "java/lang/String") (T := TJ11) (N := 4) (fun w hw => hE.all hw) in_J11 (hE.all q2236)
  obtain ⟨Dc, hDc⟩ := ch_of (fun q : CR => q.1) clsT clsT_pw (β := ClassId × (Nat → Nat)) (0, fun _ => 0) (fun q x => u_Kn s q.2.1 q.2.2.1 q.2.2.2.1 x.1 x.2) (fun q hq => by
    obtain ⟨n, hn⟩ := clsT_inst q hq
    obtain ⟨cC, iC, hC⟩ := u_known (ws := lw_all) (s := s) (args := #[Value.ref b]) (fun w hw => hE.all hw) (clsT_ok q hq).1 (hE.all hn)
    exact ⟨(cC, iC), hC⟩)
  obtain ⟨D, hD1, hD2, hD3⟩ : ∃ D : va_G, (∀ q ∈ clsT, u_Kn s q.2.1 q.2.2.1 q.2.2.2.1 (D.1 q.1) (D.2 q.1)) ∧ D.1 191 = cS ∧ D.2 191 = iS := by
    refine ⟨(fun k => if k = 191 then cS else (Dc k).1, fun k => if k = 191 then iS else (Dc k).2), fun q hq => ?_, rfl, rfl⟩
    have := clsT_kinds q hq
    have hne : ¬ q.1 = 191 := by omega
    simp only [if_neg hne]
    exact hDc q hq
  subst hD2
  subst hD3
  obtain ⟨aC, haC1, haC2⟩ := aC_of hts
  have hEK : EK D aC s := ⟨hD1, haC1, fun o c ho => (haC2 o c ho).1⟩
  have hEN : EN D s := hS.2
  -- texts, statics
  obtain ⟨sa, hsa⟩ := ch_of (fun q : Nat × (String × Nat) × List Int32 => q.1) txT txT_pw (0 : Nat) (fun q a => SP #[Value.ref b] s (D.1 191) (D.2 191) q.2.1.1 q.2.1.2 q.2.2 a) (fun q hq => (sf_all hpre q hq).sp (by have := (txT_ok q hq).2.1; omega) hS)
  have hsv := sv_all hpre hts (sa := sa) (fun q hq => (hsa q hq).1)
  obtain ⟨w, hw, cW, hW, hW2⟩ := (af_W hpre).t (by decide)
  obtain ⟨pr, hp, cP, hP, hP2⟩ := (af_P hpre).t (by decide)
  obtain ⟨eE, he, cE, hE1, hE2, hE3, -, hE4, -⟩ := (af_D hpre).t (by decide)
  obtain ⟨mi, hmi⟩ := va_Mi.of (ir_M hpre)
  obtain ⟨cB, hB, hB2, hB3, hB4, hB5⟩ := hX
  have hB6 : RO s 0 L xs cB := ⟨hB2, hB3, by omega, by rw [hB4], hB5⟩
  have hEl := (Array.getElem?_eq_some_iff.mp hE1).1
  obtain ⟨ρ, hρ, hρ0, hρ1, hρ2⟩ : ∃ ρ : Nat → Nat, (∀ k, k < 1000 → ρ k = sa k + 1) ∧ ρ 1000 = w + 1 ∧ ρ 1001 = pr + 1 ∧ ρ 1002 = mi := by
    refine ⟨fun k => if k < 1000 then sa k + 1 else if k = 1000 then w + 1 else if k = 1001 then pr + 1 else mi, fun k hk => if_pos hk, rfl, rfl, rfl⟩
  obtain ⟨hR, hST⟩ := rep0 (D := D) (aC := aC) (eE := eE) (fun o c ho => (haC2 o c ho).2) hS.2 hsa hB hB6 hL hW hW2 hP hP2 hEl hρ hρ0 hρ1
  generalize hh0 : st0 s.heap (D.2 191 0) (fun a => txT.any (fun q => a == sa q.1 + 1)) b w pr = h0 at hR hST
  have hz0 : hz h0 = s.heap.size + 1 := by rw [← hh0]; rfl
  have hs0 : hs h0 = 0 := by rw [← hh0]; rfl
  have hZW : va_Z "LinkedTongueModel" "WANTS" "[I" (.ref w) (nA s.heap.size) s s.heap := va_Zof (hts _ q4853) (hE.all q328) hw (hnA s)
  have hZP : va_Z "LinkedTongueModel" "PROTO" "[B" (.ref pr) (nA s.heap.size) s s.heap := va_Zof (hts _ q5136) (hE.all q328) hp (hnA s)
  have hER : ER8 ρ strT s.heap.size s.heap s := by
    refine ⟨fun q hq => ⟨sa q.2.2.2, hρ _ (strT_lt q hq), vk_R.of (hsv q hq).1 (hsv q hq).2⟩, ?_, ?_⟩
    · rw [hρ0]; exact hZW
    · rw [hρ1]; exact hZP
  have hcE : cE.cls = aC 20 := by
    obtain ⟨a2, c2, cell2, k2, g1, g2, g3, g4, g5, g6, -⟩ := Cond.exactly_spec (args := #[Value.ref b]) (first := s) (o := none) (s := s) (idx := []) (ex_D hpre)
    cases he.symm.trans g1
    cases hE1.symm.trans g3
    obtain ⟨kA, comp, k1, k2, k3, k4⟩ := (haC1 (20, .object "java/lang/Object") (by simp [arrT])).2
    have e1 : "[" ++ (FieldType.object "java/lang/Object").toString = "[Ljava/lang/Object;" := by decide +kernel
    rw [e1] at k4
    rw [g6]
    exact Option.some.inj (g2.symm.trans k4)
  have hoE : okV cE.vm := by
    refine ⟨?_, hE3⟩
    have h9 := hE2.1
    cases hv : cE.vm with
    | statics k => exact absurd hv (h9 k)
    | _ => rfl
  have hEP : EP D aC s.heap.size s.heap eE (ρ 1002) s := by
    refine ⟨va_Zof (hts _ q540) (hE.all q311) he (hnA s), ⟨cE, hE1, hcE, hoE, hE4⟩, by rw [hρ2]; exact hmi, va_Zqof (hts _ q413) (hE.all q303) (ir_U hpre) (hnA s), va_Zqof (hts _ q415) (hE.all q303) (ir_S hpre) (hnA s), va_Zqof (hts _ q1416) (hE.all q327) (ir_F hpre) (hnA s), va_Zof (hts _ q1400) (hE.all q332) (va_eqt (eq_C hpre)) (hnA s), fun j hj => ?_, ls_only rfl rfl (hts _ q413), ls_only rfl rfl (hts _ q415)⟩
    obtain ⟨cf, kf, fi, fd, g1, g2⟩ := hS.1 j (by omega)
    obtain ⟨kC, hkC, -⟩ := hS.2.2
    exact ⟨cf, kf, fi, fd, g1, (u_facts (args := #[Value.ref b]) hS.2.1 hkC (u_lays (ws := lw_all) (fun w hw => hE.all hw) in_J11 (by omega)) g1).1, g2⟩
  have hEV : EV8 (G0 D aC s.heap.size s.heap eE ρ (hz h0 + 600384) 7288810) s := ⟨hE, hEK, hEN, nc_all hpre, hER, hEP⟩
  have hwp := hlaw ρ h0 (b + 1) L (fun i => (xs i).toInt) hST
  have hZZ := (sound (p := p) (l := l) (e := e) (G := G0 D aC s.heap.size s.heap eE ρ (hz h0 + 600384) 7288810) hexec htr G0P (hrows _ _ _ _ _ _ _ _) hwp).2
  obtain ⟨i0, r0, hc0⟩ : ∃ i r, mCode m_Law_law = (0, i) :: r := ⟨_, _, rfl⟩
  have hsf : sfx (mCode m_Law_law) 0 = mCode m_Law_law := rfl
  rw [hsf] at hZZ
  have hcfg : CFG (G0 D aC s.heap.size s.heap eE ρ (hz h0 + 600384) 7288810) 1500 (m_Law_law, code, (Option.some Jvm.ClassFile.FieldType.boolean), []) room_1 s m meth c 0 := by
    refine ⟨hEV, hown, hb, hml, hr, hlk, hnm, by rw [het]; rfl, by decide, by decide, ?_, show 7288810 ≤ 0 + 7288810 by omega⟩
    show hz h0 + 600384 ≤ s.heap.size + 1 + 600384
    omega
  have hmw := hZZ 0 i0 r0 hc0 (List.suffix_refl _) _ in_m_Law_law rfl room_1 s m #[Value.ref b] below meth c 0 hcfg (fun o h' hq => ⟨hq.2.1, hq.2.2⟩)
  have hLR := LR_entry (as := [vR (b + 1)]) (n := 8) (fun v hv => by cases List.mem_singleton.mp hv; trivial) (Nat.le_of_ble_eq_true rfl)
  rw [lg_entry_eq]
  intro T hT X
  obtain ⟨t, a1, b1⟩ := hmw s.heap [] 0 0 _ hR hLR (fun v hv => by cases hv) (fun q hq => by cases hq) (by rw [hz0]) (by rw [hs0]) T hT X
  exact ⟨t, a1, st_end hz0 b1⟩
