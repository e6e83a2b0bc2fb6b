/-! THE GREAT THEOREM: a wp of the abstract machine is a run of the machine -/
theorem pI_e {st : List AV} {F : Int → List AV → Prop} (h : pI st F) : ∃ x s, st = vI x :: s ∧ F x s := by
  unfold pI at h
  split at h
  · exact ⟨_, _, rfl, h⟩
  · exact h.elim
theorem pL_e {st : List AV} {F : Int → List AV → Prop} (h : pL st F) : ∃ x s, st = vL x :: s ∧ F x s := by
  unfold pL at h
  split at h
  · exact ⟨_, _, rfl, h⟩
  · exact h.elim
theorem pR_e {st : List AV} {F : Nat → List AV → Prop} (h : pR st F) : ∃ x s, st = vR x :: s ∧ F x s := by
  unfold pR at h
  split at h
  · exact ⟨_, _, rfl, h⟩
  · exact h.elim
theorem pV_e {st : List AV} {F : AV → List AV → Prop} (h : pV st F) : ∃ x s, st = x :: s ∧ F x s := by
  unfold pV at h
  split at h
  · exact ⟨_, _, rfl, h⟩
  · exact h.elim
theorem gl_e {lv : LV} {k : Nat} {F : AV → Prop} (h : gl lv k F) : ∃ v, lv.lookup k = some v ∧ F v := by
  unfold gl at h
  split at h
  · exact ⟨_, by assumption, h⟩
  · exact h.elim
abbrev MR : Type := MT × ByteArray × Option FieldType × List (Nat × Nat × Nat × Nat)
/-- what is fixed for a whole run -/
abbrev GX : Type := va_G × (Nat → ClassId) × Nat × Heap × Nat × (Nat → Nat) × List (String × String) × List ST × List MR × (State → Prop) × Nat × Nat
def gD (G : GX) : va_G := G.1
def gA (G : GX) : Nat → ClassId := G.2.1
def gB (G : GX) : Nat := G.2.2.1
def gH (G : GX) : Heap := G.2.2.2.1
def gE (G : GX) : Nat := G.2.2.2.2.1
def gρ (G : GX) : Nat → Nat := G.2.2.2.2.2.1
def gN (G : GX) : List (String × String) := G.2.2.2.2.2.2.1
def gS (G : GX) : List ST := G.2.2.2.2.2.2.2.1
def gT (G : GX) : List MR := G.2.2.2.2.2.2.2.2.1
def gP (G : GX) : State → Prop := G.2.2.2.2.2.2.2.2.2.1
def gC (G : GX) : Nat := G.2.2.2.2.2.2.2.2.2.2.1
def gZ8 (G : GX) : Nat := G.2.2.2.2.2.2.2.2.2.2.2
def EV8 (G : GX) (s : State) : Prop := EW s ∧ EK (gD G) (gA G) s ∧ EN (gD G) s ∧ EC (gN G) s ∧ ER8 (gρ G) (gS G) (gB G) (gH G) s ∧ gP G s
/-- a primitive call is sound where an instruction stands in a class' code -/
def PSND (G : GX) (ow : String) (j : Instr) (n prm : Nat) : Prop :=
  ∀ (p : Program) (l : Launch) (e : Env) (R : Room) (s : State) (m : MethodId) (args : Array Value) (below : List Frame) (meth : Method) (c : Code) (P : State → Prop) (nL σ pc : Nat) (lv : LV) (st as : List AV) (h : ah) (K : QT), p.tables.exec = Jvm.exec → l.stackTraces = false → EV8 G s → s.vm.findClass ow = some m.cls → nL = c.maxLocals → decode c.code pc = .ok (j, 3) →
    10 ≤ R.frames → 600 ≤ R.locals → st.length ≤ 14 → as.length = n → (∀ o h', K o h' → hz h' ≤ s.heap.size + 1 + R.cells ∧ hs h' ≤ σ + R.slots) → primS prm as h K →
    (∀ h', K (Sum.inl none) h' → MW p l e R s m args below meth c P (gD G) (gA G) (gB G) (gH G) (gE G) nL σ (pc + 3) lv st h') →
    (∀ v h', K (Sum.inl (some v)) h' → MW p l e R s m args below meth c P (gD G) (gA G) (gB G) (gH G) (gE G) nL σ (pc + 3) lv (v :: st) h') →
    MW p l e R s m args below meth c P (gD G) (gA G) (gB G) (gH G) (gE G) nL σ pc lv (as.reverse ++ st) h
def MLW (ow : String) (idx : Nat) (y : MethodName) : Prop := Cond.methodLink ow idx y ∈ lw_all ∨ ∃ host, Cond.methodLinkNest ow idx y host ∈ lw_tbl
def npar (y : MethodName) (n : Nat) : Prop := ∀ sig, parseMethodDescriptor y.desc = some sig → n = sig.parameters.length
def InT (G : GX) (T : MT) : Prop := T.1.name ≠ "law" ∧ ∃ bytes ret hsr, (T, bytes, ret, hsr) ∈ gT G
def SOK8 (G : GX) (ow : String) (idx r : Nat) : Prop := ∃ n k T ts, mrf r = (n, 0, (k, T) :: ts) ∧
  ((mCode T = [] ∧ PSND G ow (.invokestatic idx) n (mOwn T)) ∨ (MLW ow idx T.1 ∧ Cond.static T.1 ∈ lw_all ∧ Cond.initialized T.1.cls ∈ lw_all ∧ npar T.1 n ∧ InT G T))
def POK (G : GX) (ow : String) (idx r : Nat) : Prop := ∃ n k T ts, mrf r = (n + 1, 1, (k, T) :: ts) ∧
  ((mCode T = [] ∧ PSND G ow (.invokespecial idx) (n + 1) (mOwn T)) ∨ (MLW ow idx T.1 ∧ T.1.name = "<init>" ∧ Cond.instanceMethod T.1 ∈ lw_all ∧ npar T.1 n ∧ ∃ bytes, (T, bytes, none, []) ∈ gT G ∧ Cond.code T.1 bytes (mLoc T) none ∈ lw_all))
def VT8 (G : GX) (ow : String) (idx : Nat) (x : MethodName) (n : Nat) (q : Nat × MT) : Prop := (mCode q.2 = [] ∧ PSND G ow (.invokevirtual idx) (n + 1) (mOwn q.2)) ∨ (190 ≤ q.1 ∧ Cond.instanceMethod q.2.1 ∈ lw_all ∧ npar x n ∧ InT G q.2 ∧
  ((q.2.1 = x ∧ Cond.selects (kName q.1) x x ∈ lw_all) ∨ (q.2.1 = x ∧ Cond.privateMethod x ∈ lw_tbl ∧ ∃ n, Cond.instantiable x.cls n ∈ lw_all) ∨
    (∃ owner, Cond.sameMethod x.cls owner x.name x.desc ∈ lw_all ∧ (owner ≠ "java/lang/invoke/MethodHandle" ∧ owner ≠ "java/lang/invoke/VarHandle") ∧ (Cond.declares ⟨owner, x.name, x.desc⟩ ∈ lw_tbl ∨ (Cond.instanceMethod ⟨owner, x.name, x.desc⟩ ∈ lw_all ∧ ∃ b k r, Cond.code ⟨owner, x.name, x.desc⟩ b k r ∈ lw_all)) ∧ Cond.selects (kName q.1) x q.2.1 ∈ lw_all)))
def VOK (G : GX) (ow : String) (idx r : Nat) : Prop := ∃ n x, (mrf r).1 = n + 1 ∧ (mrf r).2.1 = 2 ∧ Cond.methodLink ow idx x ∈ lw_all ∧ notH x ∧ ∀ q ∈ (mrf r).2.2, VT8 G ow idx x n q
/-- an instruction of the file at a place, and the abstract one for it -/
def JM (G : GX) (M : MT) (pc : Nat) (j : Instr) (len : Nat) (i : Instr) : Prop := match j with
  | .iadd => len = 1 ∧ i = .iadd
  | .isub => len = 1 ∧ i = .isub
  | .imul => len = 1 ∧ i = .imul
  | .ineg => len = 1 ∧ i = .ineg
  | .idiv => len = 1 ∧ i = .idiv
  | .iand => len = 1 ∧ i = .iand
  | .ior => len = 1 ∧ i = .ior
  | .ixor => len = 1 ∧ i = .ixor
  | .ishl => len = 1 ∧ i = .ishl
  | .ishr => len = 1 ∧ i = .ishr
  | .iushr => len = 1 ∧ i = .iushr
  | .ladd => len = 1 ∧ i = .ladd
  | .lsub => len = 1 ∧ i = .lsub
  | .lmul => len = 1 ∧ i = .lmul
  | .lneg => len = 1 ∧ i = .lneg
  | .ldiv => len = 1 ∧ i = .ldiv
  | .lrem => len = 1 ∧ i = .lrem
  | .land => len = 1 ∧ i = .land
  | .lor => len = 1 ∧ i = .lor
  | .lshl => len = 1 ∧ i = .lshl
  | .lshr => len = 1 ∧ i = .lshr
  | .lushr => len = 1 ∧ i = .lushr
  | .lcmp => len = 1 ∧ i = .lcmp
  | .i2l => len = 1 ∧ i = .i2l
  | .l2i => len = 1 ∧ i = .l2i
  | .i2b => len = 1 ∧ i = .i2b
  | .i2c => len = 1 ∧ i = .i2c
  | .dup => len = 1 ∧ i = .dup
  | .dup_x1 => len = 1 ∧ i = .dup_x1
  | .dup2 => len = 1 ∧ i = .dup2
  | .pop => len = 1 ∧ i = .pop
  | .aconst_null => len = 1 ∧ i = .aconst_null
  | .arraylength => len = 1 ∧ i = .arraylength
  | .iaload => len = 1 ∧ i = .iaload
  | .laload => len = 1 ∧ i = .laload
  | .baload => len = 1 ∧ i = .baload
  | .aaload => len = 1 ∧ i = .aaload
  | .iastore => len = 1 ∧ i = .iastore
  | .lastore => len = 1 ∧ i = .lastore
  | .bastore => len = 1 ∧ i = .bastore
  | .athrow => len = 1 ∧ i = .athrow
  | .return_ => len = 1 ∧ i = .return_
  | .aastore => len = 1 ∧ ∃ k, i = .multianewarray k 0 ∧ 20 ≤ k ∧ k < 29 ∧ EKOK k
  | .iconst n => len = 1 ∧ i = .iconst n ∧ in32 n
  | .bipush n => len = 2 ∧ i = .iconst n ∧ -128 ≤ n ∧ n ≤ 127
  | .sipush n => len = 3 ∧ i = .iconst n ∧ -32768 ≤ n ∧ n ≤ 32767
  | .lconst n => len = 1 ∧ i = .sipush ((n : Nat) : Int)
  | .ldc x => len = 2 ∧ ((∃ n, i = .iconst n ∧ in32 n ∧ Cond.constant M.1.cls x (Int32.ofInt n) ∈ lw_all) ∨ ∃ k tx, i = .ldc k ∧ (M.1.cls, x, tx, k) ∈ gS G)
  | .ldc_w x => len = 3 ∧ ((∃ n, i = .iconst n ∧ in32 n ∧ Cond.constant M.1.cls x (Int32.ofInt n) ∈ lw_all) ∨ ∃ k tx, i = .ldc k ∧ (M.1.cls, x, tx, k) ∈ gS G)
  | .ldc2_w x => len = 3 ∧ ∃ n, i = .sipush n ∧ in64 n ∧ Cond.constantLong M.1.cls x (Int64.ofInt n) ∈ lw_all
  | .getstatic x => len = 3 ∧ ((i = .ldc 1000 ∧ Cond.fieldLink M.1.cls x "LinkedTongueModel" "WANTS" "[I" ∈ lw_all) ∨ (i = .ldc 1001 ∧ Cond.fieldLink M.1.cls x "LinkedTongueModel" "PROTO" "[B" ∈ lw_all))
  | .iload k => len = 2 ∧ i = .iload k
  | .iload_n k => len = 1 ∧ i = .iload (k : Nat)
  | .lload k => len = 2 ∧ i = .lload k
  | .lload_n k => len = 1 ∧ i = .lload (k : Nat)
  | .aload k => len = 2 ∧ i = .aload k
  | .aload_n k => len = 1 ∧ i = .aload (k : Nat)
  | .istore k => len = 2 ∧ i = .istore k ∧ k < mLoc M
  | .istore_n k => len = 1 ∧ i = .istore (k : Nat) ∧ (k : Nat) < mLoc M
  | .astore k => len = 2 ∧ i = .astore k ∧ k < mLoc M
  | .astore_n k => len = 1 ∧ i = .astore (k : Nat) ∧ (k : Nat) < mLoc M
  | .lstore k => len = 2 ∧ i = .lstore k ∧ k + 1 < mLoc M
  | .lstore_n k => len = 1 ∧ i = .lstore (k : Nat) ∧ (k : Nat) + 1 < mLoc M
  | .iinc k n => len = 3 ∧ i = .iinc k n ∧ k < mLoc M
  | .goto o => len = 3 ∧ ∃ t : Nat, i = .goto t ∧ (pc : Int) + o = t
  | .ifCond k o => len = 3 ∧ ∃ t : Nat, i = .ifCond k t ∧ (pc : Int) + o = t
  | .if_icmp k o => len = 3 ∧ ∃ t : Nat, i = .if_icmp k t ∧ (pc : Int) + o = t
  | .if_acmp k o => len = 3 ∧ ∃ t : Nat, i = .if_acmp k t ∧ (pc : Int) + o = t
  | .ifnull o => len = 3 ∧ ∃ t : Nat, i = .ifnull t ∧ (pc : Int) + o = t
  | .ifnonnull o => len = 3 ∧ ∃ t : Nat, i = .ifnonnull t ∧ (pc : Int) + o = t
  | .tableswitch df lo hi ts => ∃ ts', i = .tableswitch ((pc : Int) + df) lo hi ts' ∧ ts'.toList = ts.toList.map (fun q => (pc : Int) + q) ∧ 0 ≤ (pc : Int) + df ∧ (∀ q ∈ ts.toList, 0 ≤ (pc : Int) + q) ∧ lo + (ts.toList.length : Int) = hi + 1
  | .lookupswitch df ps => ∃ ps', i = .lookupswitch ((pc : Int) + df) ps' ∧ ps'.toList = ps.toList.map (fun q => (q.1, (pc : Int) + q.2)) ∧ 0 ≤ (pc : Int) + df ∧ (∀ q ∈ ps.toList, 0 ≤ (pc : Int) + q.2) ∧ (ps.toList.zip (ps.toList.drop 1)).all (fun (a, next) => a.1 < next.1) = true
  | .getfield x => len = 3 ∧ ∃ f, i = .getfield f ∧ fchk f = true ∧ FOK M.1.cls x f
  | .putfield x => len = 3 ∧ ∃ f, i = .putfield f ∧ fchk f = true ∧ FOK M.1.cls x f ∧ ((fInf f).2.2.2 = false ∨ ((fInf f).2.2.2 = true ∧ M.1.name = "<init>" ∧ (fInf f).1 = M.1.cls ∧ FOKP M.1.cls x f))
  | .newarray t => len = 2 ∧ i = .newarray t
  | .anewarray x => len = 3 ∧ ∃ k, i = .anewarray k ∧ AOK M.1.cls x k
  | .new x => len = 3 ∧ ∃ k, i = .new k ∧ NOK M.1.cls x k ((nsT.lookup k).getD 0)
  | .checkcast x => len = 3 ∧ ∃ k, i = .checkcast k ∧ COK M.1.cls x (casT.getD k ([], [])).1
  | .instanceof x => len = 3 ∧ ∃ k, i = .instanceof k ∧ IOK M.1.cls x (casT.getD k ([], [])).1 (casT.getD k ([], [])).2 (gN G)
  | .invokestatic x => len = 3 ∧ ∃ r, i = .invokestatic r ∧ SOK8 G M.1.cls x r
  | .invokespecial x => len = 3 ∧ ∃ r, i = .invokestatic r ∧ POK G M.1.cls x r
  | .invokevirtual x => len = 3 ∧ ∃ r, i = .invokestatic r ∧ VOK G M.1.cls x r
  | .ireturn => len = 1 ∧ i = .ireturn ∧ (mRet M = 1 ∨ mRet M = 4 ∨ mRet M = 5 ∨ mRet M = 6)
  | .lreturn => len = 1 ∧ i = .ireturn ∧ mRet M = 2
  | .areturn => len = 1 ∧ i = .ireturn ∧ mRet M = 3
  | _ => False
/-- does it go on behind itself -/
def nofall (i : Instr) : Bool := match i with
  | .goto _ | .tableswitch .. | .lookupswitch .. | .ireturn | .return_ | .athrow => true
  | _ => false
def InsOK (G : GX) (M : MT) (bytes : ByteArray) (pc : Nat) (i : Instr) (r : List (Nat × Instr)) : Prop := ∃ j len, decode bytes pc = .ok (j, len) ∧ JM G M pc j len i ∧ (nofall i = true ∨ r = [] ∨ ∃ i2 r2, r = (pc + len, i2) :: r2)
def retOK (n : Nat) (ret : Option FieldType) : Prop := (n = 0 ∧ ret = none) ∨ (n = 1 ∧ ret = some .int) ∨ (n = 2 ∧ ret = some .long) ∨ (n = 3 ∧ ∃ rt, ret = some rt ∧ ((∃ k, rt = .object k) ∨ ∃ t, rt = .array t)) ∨ (n = 4 ∧ ret = some .boolean) ∨ (n = 5 ∧ ret = some .byte) ∨ (n = 6 ∧ ret = some .char)
def HRs (ow : String) (ncT : List (String × String)) : List (Nat × Nat × Nat × Nat) → List (Nat × Nat × Nat × List Nat × List Nat) → Prop
  | [], [] => True
  | x :: es, q :: hs => (x.1 = q.1 ∧ x.2.1 = q.2.1 ∧ x.2.2.1 = q.2.2.1 ∧ x.2.2.2 ≠ 0 ∧ IOK ow x.2.2.2 q.2.2.2.1 q.2.2.2.2 ncT) ∧ HRs ow ncT es hs
  | _, _ => False
theorem HRs.tbl {ow : String} {ncT : List (String × String)} : ∀ {es : List ExceptionTableEntry} {hs : List (Nat × Nat × Nat × List Nat × List Nat)}, HRs ow ncT (es.map (fun h => (h.startPc, h.endPc, h.handlerPc, h.catchType))) hs → HOKs ow ncT es hs := by
  intro es
  induction es with
  | nil => intro hs h; cases hs with
    | nil => trivial
    | cons => exact h.elim
  | cons x es ih => intro hs h; cases hs with
    | nil => exact h.elim
    | cons q hs => exact ⟨h.1, ih h.2⟩
def RowOK (G : GX) (q : MR) : Prop :=
  (q.1.1.name ≠ "law" → (q.2.2.2 = [] ∧ Cond.code q.1.1 q.2.1 (mLoc q.1) q.2.2.1 ∈ lw_all) ∨ Cond.codeWith q.1.1 q.2.1 (mLoc q.1) q.2.2.1 q.2.2.2 ∈ lw_all) ∧ notH q.1.1 ∧ plainName q.1.1.cls = true ∧ mLoc q.1 ≤ 20 ∧ retOK (mRet q.1) q.2.2.1 ∧ HRs q.1.1.cls (gN G) q.2.2.2 (mHan q.1) ∧ (∃ i r, mCode q.1 = (0, i) :: r) ∧ ∀ pc i r, (pc, i) :: r <:+ mCode q.1 → InsOK G q.1 q.2.1 pc i r
