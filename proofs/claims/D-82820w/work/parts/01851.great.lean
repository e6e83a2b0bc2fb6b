/-! one instruction -/
def CFG (G : GX) (d : Nat) (q : MR) (R : Room) (s : State) (m : MethodId) (meth : Method) (c : Code) (σ : Nat) : Prop :=
  EV8 G s ∧ s.vm.findClass q.1.1.cls = some m.cls ∧ c.code = q.2.1 ∧ c.maxLocals = mLoc q.1 ∧ meth.sig.returnType = q.2.2.1 ∧ meth.locks = false ∧ meth.name = q.1.1.name ∧ c.exceptionTable.toList.map (fun h => (h.startPc, h.endPc, h.handlerPc, h.catchType)) = q.2.2.2 ∧ d ≤ R.frames ∧ 60 * d ≤ R.locals ∧ gC G ≤ s.heap.size + 1 + R.cells ∧ gZ8 G ≤ σ + R.slots
def ZM (p : Program) (l : Launch) (e : Env) (G : GX) : XT := fun d M is lv st h Q =>
  ∀ pc i r, is = (pc, i) :: r → is <:+ mCode M → ∀ q ∈ gT G, q.1 = M → ∀ R s m args below meth c σ, CFG G d q R s m meth c σ → (∀ o h', Q o h' → hz h' ≤ gC G ∧ hs h' ≤ gZ8 G) →
    MW p l e R s m args below meth c (FQ8 s below (gD G) (gA G) (gB G) (gH G) (gE G) σ Q) (gD G) (gA G) (gB G) (gH G) (gE G) (mLoc M) σ pc lv st h
def ZZ (p : Program) (l : Launch) (e : Env) (G : GX) : XT := fun d M is lv st h Q => wp PGm (gρ G) d M is lv st h Q ∧ ZM p l e G d M is lv st h Q
theorem ZZ_mon (p : Program) (l : Launch) (e : Env) (G : GX) : XMon (ZZ p l e G) := by
  intro d M is lv lv' st h Q Q' hS hQ hh
  refine ⟨wp_mon d M is lv lv' st h Q Q' hS hQ hh.1, ?_⟩
  intro pc i r e1 e2 q hq eq R s m args below meth c σ hcfg hcap
  exact (hh.2 pc i r e1 e2 q hq eq R s m args below meth c σ hcfg (fun o h' a => hcap o h' (hQ o h' a))).mono (fun t ht => ht.mono hQ) hS
section
variable {p : Program} {l : Launch} {e : Env} {G : GX} {d pc len : Nat} {M : MT} {i j : Instr} {r : List (Nat × Instr)} {lv : LV} {st : List AV} {h : ah} {Q : QT}
variable {R : Room} {s : State} {m : MethodId} {args : Array Value} {below : List Frame} {meth : Method} {c : Code} {σ : Nat}
theorem ZZ_cap {is : List (Nat × Instr)} (hzz : ZZ p l e G d M is lv st h Q) (hcap : ∀ o h', Q o h' → hz h' ≤ gC G ∧ hs h' ≤ gZ8 G) : hz h ≤ gC G ∧ hs h ≤ gZ8 G := by
  obtain ⟨o, h', q1, q2, -⟩ := wp_res PGm_ok hzz.1
  have := hcap o h' q1
  omega
abbrev MG (p : Program) (l : Launch) (e : Env) (G : GX) (R : Room) (s : State) (m : MethodId) (args : Array Value) (below : List Frame) (meth : Method) (c : Code) (Q : QT) (nL σ pc : Nat) (lv : LV) (st : List AV) (h : ah) : Prop :=
  MW p l e R s m args below meth c (FQ8 s below (gD G) (gA G) (gB G) (gH G) (gE G) σ Q) (gD G) (gA G) (gB G) (gH G) (gE G) nL σ pc lv st h
theorem ZZ_at (hexec : p.tables.exec = Jvm.exec) {q : MR} (hq : q ∈ gT G) (hM : q.1 = M) (hcfg : CFG G d q R s m meth c σ) (hcap : ∀ o h', Q o h' → hz h' ≤ gC G ∧ hs h' ≤ gZ8 G) {is : List (Nat × Instr)} {t : Nat} {i2 : Instr} {r2 : List (Nat × Instr)} (e1 : is = (t, i2) :: r2) (e2 : is <:+ mCode M) (hzz : ZZ p l e G d M is lv st h Q) : MG p l e G R s m args below meth c Q (mLoc M) σ t lv st h :=
  hzz.2 t i2 r2 e1 e2 q hq hM R s m args below meth c σ hcfg hcap
theorem ZZ_to (hexec : p.tables.exec = Jvm.exec) {q : MR} (hq : q ∈ gT G) (hM : q.1 = M) (hcfg : CFG G d q R s m meth c σ) (hcap : ∀ o h', Q o h' → hz h' ≤ gC G ∧ hs h' ≤ gZ8 G) {t : Nat} (hzz : ZZ p l e G d M (sfx (mCode M) t) lv st h Q) : MG p l e G R s m args below meth c Q (mLoc M) σ t lv st h := by
  rcases sfx_head (mCode M) t with e1 | ⟨i2, r2, e1⟩
  · rw [e1] at hzz; exact (wp_nil hzz.1).elim
  · exact ZZ_at hexec hq hM hcfg hcap e1 (sfx_suf _ _) hzz
theorem iret {cc : ByteArray} {nL : Nat} {ret : Option FieldType} {v : AV} (hexec : p.tables.exec = Jvm.exec) (hb : c.code = cc) (hlocks : meth.locks = false) (hrt : meth.sig.returnType = ret) (hret : retOK (mRet M) ret) (h1 : mRet M = 1 ∨ mRet M = 4 ∨ mRet M = 5 ∨ mRet M = 6) (h2 : retv (mRet M) v) (hdg : decode cc pc = .ok (.ireturn, 1)) (h3 : Q (Sum.inl (some v)) h) : MG p l e G R s m args below meth c Q nL σ pc lv (v :: st) h := by
  rcases hret with ⟨h4, -⟩ | ⟨h4, h5⟩ | ⟨h4, -⟩ | ⟨h4, -⟩ | ⟨h4, h5⟩ | ⟨h4, h5⟩ | ⟨h4, h5⟩
  · omega
  · rw [h4] at h2
    rcases v with v | v | v
    · exact mw_iret hexec hb hlocks (hrt.trans h5) rfl hdg h3
    · exact h2.elim
    · exact h2.elim
  · omega
  · omega
  · rw [h4] at h2
    rcases v with v | v | v
    · refine mw_iret hexec hb hlocks (hrt.trans h5) ?_ hdg h3
      have h2 : v = 0 ∨ v = 1 := h2
      rcases h2 with rfl | rfl <;> decide
    · exact h2.elim
    · exact h2.elim
  · rw [h4] at h2
    rcases v with v | v | v
    · have h2 : -128 ≤ v ∧ v ≤ 127 := h2
      exact mw_iret hexec hb hlocks (hrt.trans h5) (nf_val (v := vI v) (ty := .byte) (ft := 1) rfl (h := h) (f := 0) (a := 0) (F := fun _ => True) ⟨h2, trivial⟩ (show in32 v from ⟨by omega, by omega⟩)).1 hdg h3
    · exact h2.elim
    · exact h2.elim
  · rw [h4] at h2
    rcases v with v | v | v
    · have h2 : 0 ≤ v ∧ v ≤ 65535 := h2
      refine mw_iret hexec hb hlocks (hrt.trans h5) ?_ hdg h3
      show narrow .char (.int (Int32.ofInt v)) = .int (Int32.ofInt v)
      have hx := i2c_of (x := v) ⟨by omega, by omega⟩
      rw [Int.emod_eq_of_lt (by omega) (by omega)] at hx
      have h7 : ((Int32.ofInt v).toUInt32.toUInt16.toUInt32) = (Int32.ofInt v).toUInt32 % 65536 := by
        apply UInt32.toNat_inj.mp
        simp
      simp only [narrow]
      rw [h7, hx]
    · exact h2.elim
    · exact h2.elim
theorem arrW1 : Cond.arrayClass .int ∈ lw_all := q601
theorem arrW2 : Cond.arrayClass .long ∈ lw_all := q915
theorem arrW3 : Cond.arrayClass .byte ∈ lw_all := q461
theorem arrW4 : Cond.arrayClass .boolean ∈ lw_all := q639
theorem one (hexec : p.tables.exec = Jvm.exec) {q : MR} (hq : q ∈ gT G) (hM : q.1 = M) (hcfg : CFG G d q R s m meth c σ) (hcap : ∀ o h', Q o h' → hz h' ≤ gC G ∧ hs h' ≤ gZ8 G) (hrow : RowOK G q) (hcall : ∀ rr x, ((j = .invokestatic x ∧ SOK8 G M.1.cls x rr) ∨ (j = .invokespecial x ∧ POK G M.1.cls x rr) ∨ (j = .invokevirtual x ∧ VOK G M.1.cls x rr)) → len = 3 → i = .invokestatic rr → MG p l e G R s m args below meth c Q (mLoc M) σ pc lv st h)
    (hdg : decode c.code pc = .ok (j, len)) (hj : JM G M pc j len i) (nx : ∀ lv' st' h', ZZ p l e G d M r lv' st' h' Q → nofall i = false → MG p l e G R s m args below meth c Q (mLoc M) σ (pc + len) lv' st' h') (hh : XI PGm (gρ G) d M pc i r lv st h Q (ZZ p l e G) (ZZ p l e G)) : MG p l e G R s m args below meth c Q (mLoc M) σ pc lv st h := by
  have to : ∀ lv' st' h' t, ZZ p l e G d M (sfx (mCode M) t) lv' st' h' Q → MG p l e G R s m args below meth c Q (mLoc M) σ t lv' st' h' := fun lv' st' h' t hzz => ZZ_to hexec hq hM hcfg hcap hzz
  obtain ⟨⟨hE, hKn, hN, hC, hER, -⟩, hown, hb0, hml, hrt, hlocks, hnm, htab, hdR, hdL, hcc, hcs⟩ := hcfg
  obtain ⟨-, -, -, -, hret, hhr, -, -⟩ := hrow
  rw [hM] at hown hnm hret hhr
  rw [← htab] at hhr
  have hho := hhr.tbl
  have hb : c.code = c.code := rfl
  cases j with
  | iadd =>
    obtain ⟨rfl, rfl⟩ := hj
    obtain ⟨y, s1, rfl, hh1⟩ := pI_e hh
    obtain ⟨x, s2, rfl, hh2⟩ := pI_e hh1
    exact mw_iadd hexec hb hdg (nx _ _ _ hh2 rfl)
  | isub =>
    obtain ⟨rfl, rfl⟩ := hj
    obtain ⟨y, s1, rfl, hh1⟩ := pI_e hh
    obtain ⟨x, s2, rfl, hh2⟩ := pI_e hh1
    exact mw_isub hexec hb hdg (nx _ _ _ hh2 rfl)
  | imul =>
    obtain ⟨rfl, rfl⟩ := hj
    obtain ⟨y, s1, rfl, hh1⟩ := pI_e hh
    obtain ⟨x, s2, rfl, hh2⟩ := pI_e hh1
    exact mw_imul hexec hb hdg (nx _ _ _ hh2 rfl)
  | iand =>
    obtain ⟨rfl, rfl⟩ := hj
    obtain ⟨y, s1, rfl, hh1⟩ := pI_e hh
    obtain ⟨x, s2, rfl, hh2⟩ := pI_e hh1
    exact mw_iand hexec hb hdg (nx _ _ _ hh2 rfl)
  | ior =>
    obtain ⟨rfl, rfl⟩ := hj
    obtain ⟨y, s1, rfl, hh1⟩ := pI_e hh
    obtain ⟨x, s2, rfl, hh2⟩ := pI_e hh1
    exact mw_ior hexec hb hdg (nx _ _ _ hh2 rfl)
  | ixor =>
    obtain ⟨rfl, rfl⟩ := hj
    obtain ⟨y, s1, rfl, hh1⟩ := pI_e hh
    obtain ⟨x, s2, rfl, hh2⟩ := pI_e hh1
    exact mw_ixor hexec hb hdg (nx _ _ _ hh2 rfl)
  | ishl =>
    obtain ⟨rfl, rfl⟩ := hj
    obtain ⟨y, s1, rfl, hh1⟩ := pI_e hh
    obtain ⟨x, s2, rfl, hh2⟩ := pI_e hh1
    exact mw_ishl hexec hb hdg (nx _ _ _ hh2 rfl)
  | ishr =>
    obtain ⟨rfl, rfl⟩ := hj
    obtain ⟨y, s1, rfl, hh1⟩ := pI_e hh
    obtain ⟨x, s2, rfl, hh2⟩ := pI_e hh1
    exact mw_ishr hexec hb hdg (nx _ _ _ hh2 rfl)
  | iushr =>
    obtain ⟨rfl, rfl⟩ := hj
    obtain ⟨y, s1, rfl, hh1⟩ := pI_e hh
    obtain ⟨x, s2, rfl, hh2⟩ := pI_e hh1
    exact mw_iushr hexec hb hdg (nx _ _ _ hh2 rfl)
  | ladd =>
    obtain ⟨rfl, rfl⟩ := hj
    obtain ⟨y, s1, rfl, hh1⟩ := pL_e hh
    obtain ⟨x, s2, rfl, hh2⟩ := pL_e hh1
    exact mw_ladd hexec hb hdg (nx _ _ _ hh2 rfl)
  | lsub =>
    obtain ⟨rfl, rfl⟩ := hj
    obtain ⟨y, s1, rfl, hh1⟩ := pL_e hh
    obtain ⟨x, s2, rfl, hh2⟩ := pL_e hh1
    exact mw_lsub hexec hb hdg (nx _ _ _ hh2 rfl)
  | lmul =>
    obtain ⟨rfl, rfl⟩ := hj
    obtain ⟨y, s1, rfl, hh1⟩ := pL_e hh
    obtain ⟨x, s2, rfl, hh2⟩ := pL_e hh1
    exact mw_lmul hexec hb hdg (nx _ _ _ hh2 rfl)
  | land =>
    obtain ⟨rfl, rfl⟩ := hj
    obtain ⟨y, s1, rfl, hh1⟩ := pL_e hh
    obtain ⟨x, s2, rfl, hh2⟩ := pL_e hh1
    exact mw_land hexec hb hdg (nx _ _ _ hh2 rfl)
  | lor =>
    obtain ⟨rfl, rfl⟩ := hj
    obtain ⟨y, s1, rfl, hh1⟩ := pL_e hh
    obtain ⟨x, s2, rfl, hh2⟩ := pL_e hh1
    exact mw_lor hexec hb hdg (nx _ _ _ hh2 rfl)
  | lcmp =>
    obtain ⟨rfl, rfl⟩ := hj
    obtain ⟨y, s1, rfl, hh1⟩ := pL_e hh
    obtain ⟨x, s2, rfl, hh2⟩ := pL_e hh1
    exact mw_lcmp hexec hb hdg (nx _ _ _ hh2 rfl)
  | lshl =>
    obtain ⟨rfl, rfl⟩ := hj
    obtain ⟨y, s1, rfl, hh1⟩ := pI_e hh
    obtain ⟨x, s2, rfl, hh2⟩ := pL_e hh1
    exact mw_lshl hexec hb hdg (nx _ _ _ hh2 rfl)
  | lshr =>
    obtain ⟨rfl, rfl⟩ := hj
    obtain ⟨y, s1, rfl, hh1⟩ := pI_e hh
    obtain ⟨x, s2, rfl, hh2⟩ := pL_e hh1
    exact mw_lshr hexec hb hdg (nx _ _ _ hh2 rfl)
  | lushr =>
    obtain ⟨rfl, rfl⟩ := hj
    obtain ⟨y, s1, rfl, hh1⟩ := pI_e hh
    obtain ⟨x, s2, rfl, hh2⟩ := pL_e hh1
    exact mw_lushr hexec hb hdg (nx _ _ _ hh2 rfl)
  | idiv =>
    obtain ⟨rfl, rfl⟩ := hj
    obtain ⟨y, s1, rfl, hh1⟩ := pI_e hh
    obtain ⟨x, s2, rfl, hh2⟩ := pI_e hh1
    exact mw_idiv hexec hb hh2.1 hdg (nx _ _ _ hh2.2 rfl)
  | ldiv =>
    obtain ⟨rfl, rfl⟩ := hj
    obtain ⟨y, s1, rfl, hh1⟩ := pL_e hh
    obtain ⟨x, s2, rfl, hh2⟩ := pL_e hh1
    exact mw_ldiv hexec hb hh2.1 hdg (nx _ _ _ hh2.2 rfl)
  | lrem =>
    obtain ⟨rfl, rfl⟩ := hj
    obtain ⟨y, s1, rfl, hh1⟩ := pL_e hh
    obtain ⟨x, s2, rfl, hh2⟩ := pL_e hh1
    exact mw_lrem hexec hb hh2.1 hdg (nx _ _ _ hh2.2 rfl)
  | ineg =>
    obtain ⟨rfl, rfl⟩ := hj
    obtain ⟨x, s1, rfl, hh1⟩ := pI_e hh
    exact mw_ineg hexec hb hdg (nx _ _ _ hh1 rfl)
  | i2l =>
    obtain ⟨rfl, rfl⟩ := hj
    obtain ⟨x, s1, rfl, hh1⟩ := pI_e hh
    exact mw_i2l hexec hb hdg (nx _ _ _ hh1 rfl)
  | i2b =>
    obtain ⟨rfl, rfl⟩ := hj
    obtain ⟨x, s1, rfl, hh1⟩ := pI_e hh
    exact mw_i2b hexec hb hdg (nx _ _ _ hh1 rfl)
  | i2c =>
    obtain ⟨rfl, rfl⟩ := hj
    obtain ⟨x, s1, rfl, hh1⟩ := pI_e hh
    exact mw_i2c hexec hb hdg (nx _ _ _ hh1 rfl)
  | lneg =>
    obtain ⟨rfl, rfl⟩ := hj
    obtain ⟨x, s1, rfl, hh1⟩ := pL_e hh
    exact mw_lneg hexec hb hdg (nx _ _ _ hh1 rfl)
  | l2i =>
    obtain ⟨rfl, rfl⟩ := hj
    obtain ⟨x, s1, rfl, hh1⟩ := pL_e hh
    exact mw_l2i hexec hb hdg (nx _ _ _ hh1 rfl)
  | dup =>
    obtain ⟨rfl, rfl⟩ := hj
    obtain ⟨x, s1, rfl, hh1⟩ := pV_e hh
    exact mw_dup hexec hb hh1.1 hdg (nx _ _ _ hh1.2 rfl)
  | pop =>
    obtain ⟨rfl, rfl⟩ := hj
    obtain ⟨x, s1, rfl, hh1⟩ := pV_e hh
    exact mw_pop hexec hb hh1.1 hdg (nx _ _ _ hh1.2 rfl)
  | dup_x1 =>
    obtain ⟨rfl, rfl⟩ := hj
    obtain ⟨x, s1, rfl, hh1⟩ := pV_e hh
    obtain ⟨y, s2, rfl, hh2⟩ := pV_e hh1
    exact mw_dup_x1 hexec hb hh2.1.1 hh2.1.2 hdg (nx _ _ _ hh2.2 rfl)
  | dup2 =>
    obtain ⟨rfl, rfl⟩ := hj
    obtain ⟨x, s1, rfl, hh1⟩ := pV_e hh
    obtain ⟨y, s2, rfl, hh2⟩ := pV_e hh1
    exact mw_dup2 hexec hb hh2.1.1 hh2.1.2 hdg (nx _ _ _ hh2.2 rfl)
  | aconst_null =>
    obtain ⟨rfl, rfl⟩ := hj
    exact mw_null hexec hb hdg (nx _ _ _ hh rfl)
  | iconst n =>
    obtain ⟨rfl, rfl, hn⟩ := hj
    exact mw_iconst hexec hb hn hdg (nx _ _ _ hh rfl)
  | bipush n =>
    obtain ⟨rfl, rfl, hn⟩ := hj
    exact mw_bipush hexec hb hn hdg (nx _ _ _ hh rfl)
  | sipush n =>
    obtain ⟨rfl, rfl, hn⟩ := hj
    exact mw_sipush hexec hb hn hdg (nx _ _ _ hh rfl)
  | lconst n =>
    obtain ⟨rfl, rfl⟩ := hj
    exact mw_lconst hexec hb hdg (nx _ _ _ hh rfl)
  | ldc x =>
    obtain ⟨rfl, ⟨n, rfl, hn, hw⟩ | ⟨k, tx, rfl, hk⟩⟩ := hj
    · exact mw_ldcI hexec hb hn hown (hE.all hw) hdg (nx _ _ _ hh rfl)
    · exact mw_ldcS hexec hb hER hk hown hdg (nx _ _ _ hh rfl)
  | ldc_w x =>
    obtain ⟨rfl, ⟨n, rfl, hn, hw⟩ | ⟨k, tx, rfl, hk⟩⟩ := hj
    · exact mw_ldcwI hexec hb hn hown (hE.all hw) hdg (nx _ _ _ hh rfl)
    · exact mw_ldcwS hexec hb hER hk hown hdg (nx _ _ _ hh rfl)
  | ldc2_w x =>
    obtain ⟨rfl, n, rfl, hn, hw⟩ := hj
    exact mw_ldc2 hexec hb hn hown (hE.all hw) hdg (nx _ _ _ hh rfl)
  | getstatic x =>
    obtain ⟨rfl, ⟨rfl, hw⟩ | ⟨rfl, hw⟩⟩ := hj
    · exact mw_gets hexec hb hER.2.1 hown (hE.all hw) hdg (nx _ _ _ hh rfl)
    · exact mw_gets hexec hb hER.2.2 hown (hE.all hw) hdg (nx _ _ _ hh rfl)
  | iload k =>
    obtain ⟨rfl, rfl⟩ := hj
    obtain ⟨v, hv, hh1⟩ := gl_e hh
    obtain ⟨x, s1, ev, hh2⟩ := pI_e hh1
    cases ev
    exact mw_iload hexec hb hv hdg (nx _ _ _ hh2 rfl)
  | istore k =>
    obtain ⟨rfl, rfl, hn⟩ := hj
    obtain ⟨x, s1, rfl, hh1⟩ := pI_e hh
    exact mw_istore hexec hb hn hdg (nx _ _ _ hh1 rfl)
  | iload_n k =>
    obtain ⟨rfl, rfl⟩ := hj
    obtain ⟨v, hv, hh1⟩ := gl_e hh
    obtain ⟨x, s1, ev, hh2⟩ := pI_e hh1
    cases ev
    exact mw_iload_n hexec hb hv hdg (nx _ _ _ hh2 rfl)
  | istore_n k =>
    obtain ⟨rfl, rfl, hn⟩ := hj
    obtain ⟨x, s1, rfl, hh1⟩ := pI_e hh
    exact mw_istore_n hexec hb hn hdg (nx _ _ _ hh1 rfl)
  | lload k =>
    obtain ⟨rfl, rfl⟩ := hj
    obtain ⟨v, hv, hh1⟩ := gl_e hh
    obtain ⟨x, s1, ev, hh2⟩ := pL_e hh1
    cases ev
    exact mw_lload hexec hb hv hdg (nx _ _ _ hh2 rfl)
  | lstore k =>
    obtain ⟨rfl, rfl, hn⟩ := hj
    obtain ⟨x, s1, rfl, hh1⟩ := pL_e hh
    exact mw_lstore hexec hb hn hdg (nx _ _ _ hh1 rfl)
  | lload_n k =>
    obtain ⟨rfl, rfl⟩ := hj
    obtain ⟨v, hv, hh1⟩ := gl_e hh
    obtain ⟨x, s1, ev, hh2⟩ := pL_e hh1
    cases ev
    exact mw_lload_n hexec hb hv hdg (nx _ _ _ hh2 rfl)
  | lstore_n k =>
    obtain ⟨rfl, rfl, hn⟩ := hj
    obtain ⟨x, s1, rfl, hh1⟩ := pL_e hh
    exact mw_lstore_n hexec hb hn hdg (nx _ _ _ hh1 rfl)
  | aload k =>
    obtain ⟨rfl, rfl⟩ := hj
    obtain ⟨v, hv, hh1⟩ := gl_e hh
    obtain ⟨x, s1, ev, hh2⟩ := pR_e hh1
    cases ev
    exact mw_aload hexec hb hv hdg (nx _ _ _ hh2 rfl)
  | astore k =>
    obtain ⟨rfl, rfl, hn⟩ := hj
    obtain ⟨x, s1, rfl, hh1⟩ := pR_e hh
    exact mw_astore hexec hb hn hdg (nx _ _ _ hh1 rfl)
  | aload_n k =>
    obtain ⟨rfl, rfl⟩ := hj
    obtain ⟨v, hv, hh1⟩ := gl_e hh
    obtain ⟨x, s1, ev, hh2⟩ := pR_e hh1
    cases ev
    exact mw_aload_n hexec hb hv hdg (nx _ _ _ hh2 rfl)
  | astore_n k =>
    obtain ⟨rfl, rfl, hn⟩ := hj
    obtain ⟨x, s1, rfl, hh1⟩ := pR_e hh
    exact mw_astore_n hexec hb hn hdg (nx _ _ _ hh1 rfl)
  | iinc k n =>
    obtain ⟨rfl, rfl, hn⟩ := hj
    obtain ⟨v, hv, hh1⟩ := gl_e hh
    obtain ⟨x, s1, ev, hh2⟩ := pI_e hh1
    cases ev
    exact mw_iinc hexec hb hv hn hdg (nx _ _ _ hh2 rfl)
  | goto o =>
    obtain ⟨rfl, t, rfl, ht⟩ := hj
    exact mw_goto hexec hb ht hdg (to _ _ _ _ hh)
  | ifCond k o =>
    obtain ⟨rfl, t, rfl, ht⟩ := hj
    obtain ⟨x, s1, rfl, hh1⟩ := pI_e hh
    exact mw_ifc hexec hb ht hdg (fun z => to _ _ _ _ (hh1.1 z)) (fun z => nx _ _ _ (hh1.2 z) rfl)
  | if_icmp k o =>
    obtain ⟨rfl, t, rfl, ht⟩ := hj
    obtain ⟨y, s1, rfl, hh1⟩ := pI_e hh
    obtain ⟨x, s2, rfl, hh2⟩ := pI_e hh1
    exact mw_icmp hexec hb ht hdg (fun z => to _ _ _ _ (hh2.1 z)) (fun z => nx _ _ _ (hh2.2 z) rfl)
  | if_acmp k o =>
    obtain ⟨rfl, t, rfl, ht⟩ := hj
    obtain ⟨y, s1, rfl, hh1⟩ := pR_e hh
    obtain ⟨x, s2, rfl, hh2⟩ := pR_e hh1
    exact mw_acmp hexec hb ht hdg (fun z => to _ _ _ _ (hh2.1 z)) (fun z => nx _ _ _ (hh2.2 z) rfl)
  | ifnull o =>
    obtain ⟨rfl, t, rfl, ht⟩ := hj
    obtain ⟨x, s1, rfl, hh1⟩ := pR_e hh
    exact mw_ifnull hexec hb ht hdg (fun z => to _ _ _ _ (hh1.1 z)) (fun z => nx _ _ _ (hh1.2 z) rfl)
  | ifnonnull o =>
    obtain ⟨rfl, t, rfl, ht⟩ := hj
    obtain ⟨x, s1, rfl, hh1⟩ := pR_e hh
    exact mw_ifnonnull hexec hb ht hdg (fun z => to _ _ _ _ (hh1.1 z)) (fun z => nx _ _ _ (hh1.2 z) rfl)
  | tableswitch df lo hi ts =>
    obtain ⟨ts', rfl, h1, h2, h3, h4⟩ := hj
    obtain ⟨x, s1, rfl, hh1⟩ := pI_e hh
    rw [h1] at hh1
    exact mw_table hexec hb hdg h2 h3 h4 (swt_mono (fun t => to _ _ _ _) (to _ _ _ _) hh1)
  | lookupswitch df ps =>
    obtain ⟨ps', rfl, h1, h2, h3, h4⟩ := hj
    obtain ⟨x, s1, rfl, hh1⟩ := pI_e hh
    rw [h1] at hh1
    exact mw_lookup hexec hb hdg h4 h2 h3 (swl_mono (fun t => to _ _ _ _) (to _ _ _ _) hh1)
  | getfield x =>
    obtain ⟨rfl, f, rfl, h1, h2⟩ := hj
    obtain ⟨a, s1, rfl, hh1⟩ := pR_e hh
    exact mw_get hexec hb hE hKn hown h1 h2 hh1.1 hdg (nx _ _ _ hh1.2 rfl)
  | putfield x =>
    obtain ⟨rfl, f, rfl, h1, h2, h3⟩ := hj
    obtain ⟨v, s1, rfl, hh1⟩ := pV_e hh
    obtain ⟨a, s2, rfl, hh2⟩ := pR_e hh1
    exact mw_put hexec hb hE hKn hown h1 h2 (by rw [hnm]; exact h3) hh2.1 hh2.2 hdg (fun h1 z => nx _ _ _ z rfl)
  | arraylength =>
    obtain ⟨rfl, rfl⟩ := hj
    obtain ⟨a, s1, rfl, hh1⟩ := pR_e hh
    exact mw_alen hexec hb hKn hh1.1.1 hh1.1.2 hdg (nx _ _ _ hh1.2 rfl)
  | iaload =>
    obtain ⟨rfl, rfl⟩ := hj
    obtain ⟨x, s1, rfl, hh1⟩ := pI_e hh
    obtain ⟨a, s2, rfl, hh2⟩ := pR_e hh1
    exact mw_iald hexec hb hKn hh2.1.1 hh2.1.2.1 hh2.1.2.2 hdg (nx _ _ _ hh2.2 rfl)
  | laload =>
    obtain ⟨rfl, rfl⟩ := hj
    obtain ⟨x, s1, rfl, hh1⟩ := pI_e hh
    obtain ⟨a, s2, rfl, hh2⟩ := pR_e hh1
    exact mw_lald hexec hb hKn hh2.1.1 hh2.1.2.1 hh2.1.2.2 hdg (nx _ _ _ hh2.2 rfl)
  | baload =>
    obtain ⟨rfl, rfl⟩ := hj
    obtain ⟨x, s1, rfl, hh1⟩ := pI_e hh
    obtain ⟨a, s2, rfl, hh2⟩ := pR_e hh1
    exact mw_bald hexec hb hKn hh2.1.1 hh2.1.2.1 hh2.1.2.2 hdg (nx _ _ _ hh2.2 rfl)
  | aaload =>
    obtain ⟨rfl, rfl⟩ := hj
    obtain ⟨x, s1, rfl, hh1⟩ := pI_e hh
    obtain ⟨a, s2, rfl, hh2⟩ := pR_e hh1
    exact mw_aald hexec hb hKn hh2.1.1 hh2.1.2.1 hh2.1.2.2.1 hh2.1.2.2.2 hdg (nx _ _ _ hh2.2 rfl)
  | iastore =>
    obtain ⟨rfl, rfl⟩ := hj
    obtain ⟨v, s0, rfl, hh1⟩ := pI_e hh
    obtain ⟨x, s1, rfl, hh2⟩ := pI_e hh1
    obtain ⟨a, s2, rfl, hh3⟩ := pR_e hh2
    exact mw_iast hexec hb hKn hh3.1.1 hh3.1.2.1 hh3.1.2.2 hdg (nx _ _ _ hh3.2 rfl)
  | lastore =>
    obtain ⟨rfl, rfl⟩ := hj
    obtain ⟨v, s0, rfl, hh1⟩ := pL_e hh
    obtain ⟨x, s1, rfl, hh2⟩ := pI_e hh1
    obtain ⟨a, s2, rfl, hh3⟩ := pR_e hh2
    exact mw_last hexec hb hKn hh3.1.1 hh3.1.2.1 hh3.1.2.2 hdg (nx _ _ _ hh3.2 rfl)
  | bastore =>
    obtain ⟨rfl, rfl⟩ := hj
    obtain ⟨v, s0, rfl, hh1⟩ := pI_e hh
    obtain ⟨x, s1, rfl, hh2⟩ := pI_e hh1
    obtain ⟨a, s2, rfl, hh3⟩ := pR_e hh2
    exact mw_bast hexec hb hKn hh3.1.1 hh3.1.2.1 hh3.1.2.2 hdg (nx _ _ _ hh3.2 rfl)
  | aastore =>
    obtain ⟨rfl, k, rfl, h1, h2, h3⟩ := hj
    obtain ⟨v, s0, rfl, hh1⟩ := pR_e hh
    obtain ⟨x, s1, rfl, hh2⟩ := pI_e hh1
    obtain ⟨a, s2, rfl, hh3⟩ := pR_e hh2
    exact mw_aast hexec hb hE hKn hN h3 h1 h2 hh3.1.1.1 hh3.1.1.2 hh3.1.2.1 hh3.1.2.2 hdg (nx _ _ _ hh3.2 rfl)
  | newarray t =>
    obtain ⟨rfl, rfl⟩ := hj
    obtain ⟨n, s1, rfl, ⟨h0, h1⟩, hh1⟩ := pI_e hh
    cases t with
    | int =>
      obtain ⟨c1, c2⟩ := ZZ_cap hh1 hcap
      have c1 : hz h + 1 ≤ gC G := c1
      have c2 : hs h + n.toNat ≤ gZ8 G := c2
      exact mw_newa hexec hb hE hKn (kd := 1) (at_ := .int) (ty := .int) rfl (by simp [arrT]) (by omega) rfl arrW1 (by decide) h0 h1 hdg (by omega) (by omega) (nx _ _ _ hh1 rfl)
    | long =>
      obtain ⟨c1, c2⟩ := ZZ_cap hh1 hcap
      have c1 : hz h + 1 ≤ gC G := c1
      have c2 : hs h + n.toNat ≤ gZ8 G := c2
      exact mw_newa hexec hb hE hKn (kd := 2) (at_ := .long) (ty := .long) rfl (by simp [arrT]) (by omega) rfl arrW2 (by decide) h0 h1 hdg (by omega) (by omega) (nx _ _ _ hh1 rfl)
    | byte =>
      obtain ⟨c1, c2⟩ := ZZ_cap hh1 hcap
      have c1 : hz h + 1 ≤ gC G := c1
      have c2 : hs h + n.toNat ≤ gZ8 G := c2
      exact mw_newa hexec hb hE hKn (kd := 3) (at_ := .byte) (ty := .byte) rfl (by simp [arrT]) (by omega) rfl arrW3 (by decide) h0 h1 hdg (by omega) (by omega) (nx _ _ _ hh1 rfl)
    | boolean =>
      obtain ⟨c1, c2⟩ := ZZ_cap hh1 hcap
      have c1 : hz h + 1 ≤ gC G := c1
      have c2 : hs h + n.toNat ≤ gZ8 G := c2
      exact mw_newa hexec hb hE hKn (kd := 4) (at_ := .boolean) (ty := .boolean) rfl (by simp [arrT]) (by omega) rfl arrW4 (by decide) h0 h1 hdg (by omega) (by omega) (nx _ _ _ hh1 rfl)
    | _ => exact hh1.elim
  | anewarray x =>
    obtain ⟨rfl, k, rfl, h2⟩ := hj
    obtain ⟨n, s1, rfl, ⟨h0, h1⟩, hh1⟩ := pI_e hh
    obtain ⟨c1, c2⟩ := ZZ_cap hh1 hcap
    have c1 : hz h + 1 ≤ gC G := c1
    have c2 : hs h + n.toNat ≤ gZ8 G := c2
    exact mw_anew hexec hb hE hKn hown h2 h0 h1 hdg (by omega) (by omega) (nx _ _ _ hh1 rfl)
  | new x =>
    obtain ⟨rfl, k, rfl, h2⟩ := hj
    obtain ⟨c1, c2⟩ := ZZ_cap hh hcap
    have c1 : hz h + 1 ≤ gC G := c1
    have c2 : hs h + (nsT.lookup k).getD 0 ≤ gZ8 G := c2
    exact mw_new hexec hb hE hKn hown h2 hdg (by omega) (by omega) (nx _ _ _ hh rfl)
  | checkcast x =>
    obtain ⟨rfl, k, rfl, h2⟩ := hj
    obtain ⟨a, s1, rfl, hh1⟩ := pR_e hh
    exact mw_cast hexec hb hE hKn hN hown h2 hh1.1 hdg (nx _ _ _ hh1.2 rfl)
  | instanceof x =>
    obtain ⟨rfl, k, rfl, h2⟩ := hj
    obtain ⟨a, s1, rfl, hh1⟩ := pR_e hh
    exact mw_inst hexec hb hE hKn hN hC hown h2 hdg (fun z => nx _ _ _ (hh1.1 z) rfl) (fun z y => nx _ _ _ ((hh1.2 z).1 y) rfl) (fun z y => ⟨((hh1.2 z).2 y).1, nx _ _ _ ((hh1.2 z).2 y).2 rfl⟩)
  | return_ =>
    obtain ⟨rfl, rfl⟩ := hj
    obtain ⟨h1, h2⟩ := hh
    rcases hret with ⟨-, h3⟩ | ⟨h3, -⟩ | ⟨h3, -⟩ | ⟨h3, -⟩ | ⟨h3, -⟩ | ⟨h3, -⟩ | ⟨h3, -⟩
    · exact mw_vret hexec hb hlocks (hrt.trans h3) hdg h2
    all_goals omega
  | athrow =>
    obtain ⟨rfl, rfl⟩ := hj
    obtain ⟨x, s1, rfl, hh1⟩ := pR_e hh
    exact mw_athrow hexec hb hlocks hE hKn hN hC hown hh1.1 hho hdg (hndl_mono (fun t => to _ _ _ _) hh1.2)
  | areturn =>
    obtain ⟨rfl, rfl, h1⟩ := hj
    obtain ⟨v, s1, rfl, h2, h3⟩ := pV_e hh
    rw [h1] at h2
    rcases v with v | v | v
    · exact h2.elim
    · exact h2.elim
    · rcases hret with ⟨h4, -⟩ | ⟨h4, -⟩ | ⟨h4, -⟩ | ⟨-, rt, h4, h5⟩ | ⟨h4, -⟩ | ⟨h4, -⟩ | ⟨h4, -⟩
      · omega
      · omega
      · omega
      · exact mw_aret hexec hb hlocks (hrt.trans h4) h5 hdg h3
      all_goals omega
  | lreturn =>
    obtain ⟨rfl, rfl, h1⟩ := hj
    obtain ⟨v, s1, rfl, h2, h3⟩ := pV_e hh
    rw [h1] at h2
    rcases v with v | v | v
    · exact h2.elim
    · rcases hret with ⟨h4, -⟩ | ⟨h4, -⟩ | ⟨-, h4⟩ | ⟨h4, -⟩ | ⟨h4, -⟩ | ⟨h4, -⟩ | ⟨h4, -⟩
      · omega
      · omega
      · exact mw_lret hexec hb hlocks (hrt.trans h4) hdg h3
      all_goals omega
    · exact h2.elim
  | ireturn =>
    obtain ⟨rfl, rfl, h1⟩ := hj
    obtain ⟨v, s1, rfl, h2, h3⟩ := pV_e hh
    exact iret hexec hb hlocks hrt hret h1 h2 hdg h3
  | invokestatic x =>
    obtain ⟨h1, rr, h2, h3⟩ := hj
    exact hcall rr x (Or.inl ⟨rfl, h3⟩) h1 h2
  | invokespecial x =>
    obtain ⟨h1, rr, h2, h3⟩ := hj
    exact hcall rr x (Or.inr (Or.inl ⟨rfl, h3⟩)) h1 h2
  | invokevirtual x =>
    obtain ⟨h1, rr, h2, h3⟩ := hj
    exact hcall rr x (Or.inr (Or.inr ⟨rfl, h3⟩)) h1 h2
  | _ => exact hj.elim
end
