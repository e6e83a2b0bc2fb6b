/-! the five ways to call -/
/-- what is known of a method with code -/
def CK8 (s : State) (y : MethodName) (bytes : ByteArray) (maxL : Nat) (ret : Option FieldType) (hsr : List (Nat × Nat × Nat × Nat)) (mk : MethodId) (methk : Method) (ck : Code) : Prop :=
  s.methodNamed? y = some mk ∧ s.vm.method? mk = some methk ∧ methk.code = some ck ∧ ck.code = bytes ∧ ck.maxLocals = maxL ∧ methk.sig.returnType = ret ∧ methk.locks = false ∧ ck.exceptionTable.toList.map (fun h => (h.startPc, h.endPc, h.handlerPc, h.catchType)) = hsr ∧ parseMethodDescriptor y.desc = some methk.sig
theorem ck_code {s : State} {A : Array Value} {y : MethodName} {bytes : ByteArray} {maxL : Nat} {ret : Option FieldType} (h : (Cond.code y bytes maxL ret).before A s = true) : ∃ mk methk ck, CK8 s y bytes maxL ret [] mk methk ck := by
  obtain ⟨mk, hn⟩ := Cond.code_named h
  obtain ⟨methk, ck, h1, h2, h3, h4, h5, h6, h7, h8⟩ := Cond.code_spec hn h
  refine ⟨mk, methk, ck, hn, h1, h2, h3, h4, h5, h6, ?_, h8⟩
  have : ck.exceptionTable = #[] := by simpa using h7
  rw [this]; rfl
theorem ck_with {s : State} {A : Array Value} {y : MethodName} {bytes : ByteArray} {maxL : Nat} {ret : Option FieldType} {hsr : List (Nat × Nat × Nat × Nat)} (h : (Cond.codeWith y bytes maxL ret hsr).before A s = true) : ∃ mk methk ck, CK8 s y bytes maxL ret hsr mk methk ck := by
  obtain ⟨mk, methk, ck, h0, h1, h2, h3, h4, h5, h6, h7, h8⟩ := Cond.codeWith_spec h
  exact ⟨mk, methk, ck, h0, h1, h2, h3, h4, h6, h7, h5, h8⟩
def notH (y : MethodName) : Prop := y.cls ≠ "java/lang/invoke/MethodHandle" ∧ y.cls ≠ "java/lang/invoke/VarHandle"
section
variable {p : Program} {l : Launch} {e : Env} {R : Room} {s : State} {m : MethodId} {args : Array Value} {below : List Frame} {meth : Method} {c : Code} {T : State} {locs : List Loc} {cells slots : Nat}
variable {own : String} {index : Nat} {y : MethodName} {bytes : ByteArray} {maxL : Nat} {ret : Option FieldType} {hsr : List (Nat × Nat × Nat × Nat)} {mk : MethodId} {methk : Method} {ck : Code}
variable {pc : Nat} {ls : Array Slot} {argsL rest : List Value} {b : Addr} {cellB : Cell}
def MLink (s : State) (args : Array Value) (own : String) (index : Nat) (y : MethodName) : Prop := (Cond.methodLink own index y).before args s = true ∨ ∃ host, (Cond.methodLinkNest own index y host).before args s = true
theorem go_S (X : Stand p l e R s m args below meth c T locs cells slots) (hexec : p.tables.exec = Jvm.exec) (hown : s.vm.findClass own = some m.cls) (hl : MLink s args own index y) (hstat : (Cond.static y).before args s = true) (hinit : (Cond.initialized y.cls).before args s = true) (hy : notH y) (hck : CK8 s y bytes maxL ret hsr mk methk ck)
    (hlen : ∀ sig, parseMethodDescriptor y.desc = some sig → argsL.length = sig.parameters.length) (hdg : decode c.code pc = .ok (.invokestatic index, 3)) : GO p l e R s m args below meth c T locs cells slots (F0 m pc ls (argsL.reverse ++ rest)) rest mk argsL.toArray := by
  obtain ⟨hnamed, hmethM, -, -, -, -, -, -, hsigM⟩ := hck
  have hstatic : methk.isStatic = true := Cond.static_spec hnamed hmethM hstat
  obtain ⟨kP, hkP, -⟩ := className_of_methodNamed hnamed
  have hinitP : kP.init = .initialized := Cond.initialized_spec (findClass_of_methodNamed hnamed) hkP hinit
  rcases hl with hl | ⟨host, hl⟩
  · obtain ⟨vm₁, X₁, hstep₁⟩ := X.invokestatic hexec hown hl hnamed hmethM hstatic hkP hinitP hy (g := F0 m pc ls (argsL.reverse ++ rest)) rfl (argsL := argsL) (rest := rest) (hlen _ hsigM) rfl hdg
    exact ⟨vm₁, X₁, hstep₁⟩
  · obtain ⟨vm₁, X₁, hstep₁⟩ := X.invokestaticNest hexec hown hl hnamed hmethM hstatic hkP hinitP hy (g := F0 m pc ls (argsL.reverse ++ rest)) rfl (argsL := argsL) (rest := rest) (hlen _ hsigM) rfl hdg
    exact ⟨vm₁, X₁, hstep₁⟩
theorem go_I (X : Stand p l e R s m args below meth c T locs cells slots) (hexec : p.tables.exec = Jvm.exec) (hown : s.vm.findClass own = some m.cls) (hl : MLink s args own index y) (hy1 : y.name = "<init>") (hinst : (Cond.instanceMethod y).before args s = true) (hy : notH y) (hck : CK8 s y bytes maxL ret hsr mk methk ck) (hcode : (Cond.code y bytes maxL none).before args s = true)
    (hlen : ∀ sig, parseMethodDescriptor y.desc = some sig → argsL.length = sig.parameters.length) (hdg : decode c.code pc = .ok (.invokespecial index, 3)) : GO p l e R s m args below meth c T locs cells slots (F0 m pc ls (argsL.reverse ++ .ref b :: rest)) rest mk (Value.ref b :: argsL).toArray := by
  have hpl : e.platform.magicAccessors = ({} : Platform).magicAccessors := by rw [X.admits.platform]
  rcases hl with hl | ⟨host, hl⟩
  · obtain ⟨mk', methM, cM, kP, vm₁, hnamed, hmethM, hcodeM, -, hlocalsM, -, hkP, -, hW₁, hstep₁⟩ := Steps.initColdArgs (e := e) X.here hexec X.warmed hpl hown hy1 hy hl hinst hcode (f := F0 m pc ls (argsL.reverse ++ .ref b :: rest)) rfl hlen rfl hdg
    cases hck.1.symm.trans hnamed
    exact ⟨vm₁, X.noted hW₁, hstep₁⟩
  · obtain ⟨mk', methM, cM, kP, vm₁, hnamed, hmethM, hcodeM, -, hlocalsM, -, hkP, -, hW₁, hstep₁⟩ := Steps.initColdArgsNest (e := e) X.here hexec X.warmed hpl hown hy1 hy hl hinst hcode (f := F0 m pc ls (argsL.reverse ++ .ref b :: rest)) rfl hlen rfl hdg
    cases hck.1.symm.trans hnamed
    exact ⟨vm₁, X.noted hW₁, hstep₁⟩
theorem go_V0 (X : Stand p l e R s m args below meth c T locs cells slots) (hexec : p.tables.exec = Jvm.exec) (hown : s.vm.findClass own = some m.cls) (hl : (Cond.methodLink own index y).before args s = true) (hinst : (Cond.instanceMethod y).before args s = true) (hy : notH y) (hck : CK8 s y bytes maxL ret hsr mk methk ck)
    (hcell : T.heap[b]? = some cellB) (hobj : cellB.vm.isStatics = false) {kP : Class} (hkP : s.vm.classes[mk.cls]? = some kP) (hkPi : kP.isInterface = false) (hsel : selectMethod {} s.vm cellB.cls mk = .method mk)
    (hlen : ∀ sig, parseMethodDescriptor y.desc = some sig → argsL.length = sig.parameters.length) (hdg : decode c.code pc = .ok (.invokevirtual index, 3)) : GO p l e R s m args below meth c T locs cells slots (F0 m pc ls (argsL.reverse ++ .ref b :: rest)) rest mk (Value.ref b :: argsL).toArray := by
  obtain ⟨mk', methM, hnamed, hmethM, hstM, habM⟩ := Cond.instanceMethod_spec hinst
  obtain ⟨hnamed', hmethM', -, -, -, -, -, -, hsigM⟩ := hck
  cases hnamed'.symm.trans hnamed
  cases hmethM'.symm.trans hmethM
  have hselP : selectMethod e.platform s.vm cellB.cls mk = .method mk := by rw [Launch.admits_selectMethod X.admits]; exact hsel
  obtain ⟨vm₁, X₁, hstep₁⟩ := X.invokevirtual hexec hown hl hnamed hmethM hstM hkP hkPi hy (a := b) (cell := cellB) hcell
    (fun z h => by rw [h] at hobj; cases hobj) hselP hmethM habM hkP hkPi (g := F0 m pc ls (argsL.reverse ++ .ref b :: rest)) rfl (argsL := argsL) (rest := rest) (hlen _ hsigM) rfl hdg
  exact ⟨vm₁, X₁, hstep₁⟩
theorem go_V (X : Stand p l e R s m args below meth c T locs cells slots) (hexec : p.tables.exec = Jvm.exec) (hown : s.vm.findClass own = some m.cls) (hl : (Cond.methodLink own index y).before args s = true) (hinst : (Cond.instanceMethod y).before args s = true) (hy : notH y) (hck : CK8 s y bytes maxL ret hsr mk methk ck)
    {C : String} (hsel : (Cond.selects C y y).before args s = true) (hcell : T.heap[b]? = some cellB) (hobj : cellB.vm.isStatics = false) (hcls : s.vm.findClass C = some cellB.cls)
    (hlen : ∀ sig, parseMethodDescriptor y.desc = some sig → argsL.length = sig.parameters.length) (hdg : decode c.code pc = .ok (.invokevirtual index, 3)) : GO p l e R s m args below meth c T locs cells slots (F0 m pc ls (argsL.reverse ++ .ref b :: rest)) rest mk (Value.ref b :: argsL).toArray := by
  obtain ⟨c2, r2, m2, q1, q2, q3, q4, kP, hkP, hkPi⟩ := Cond.selects_spec hsel
  cases hcls.symm.trans q1
  cases (State.methodFound?_of_named hck.1 hy).symm.trans q2
  cases hck.1.symm.trans q3
  exact go_V0 X hexec hown hl hinst hy hck hcell hobj hkP hkPi q4 hlen hdg
theorem go_P (X : Stand p l e R s m args below meth c T locs cells slots) (hexec : p.tables.exec = Jvm.exec) (hown : s.vm.findClass own = some m.cls) (hl : (Cond.methodLink own index y).before args s = true) (hinst : (Cond.instanceMethod y).before args s = true) (hy : notH y) (hck : CK8 s y bytes maxL ret hsr mk methk ck)
    (hpriv : (Cond.privateMethod y).before args s = true) {n : Nat} (hins : (Cond.instantiable y.cls n).before args s = true) (hcell : T.heap[b]? = some cellB) (hobj : cellB.vm.isStatics = false)
    (hlen : ∀ sig, parseMethodDescriptor y.desc = some sig → argsL.length = sig.parameters.length) (hdg : decode c.code pc = .ok (.invokevirtual index, 3)) : GO p l e R s m args below meth c T locs cells slots (F0 m pc ls (argsL.reverse ++ .ref b :: rest)) rest mk (Value.ref b :: argsL).toArray := by
  obtain ⟨hnamed, hmethM, -⟩ := id hck
  have hsel : selectMethod {} s.vm cellB.cls mk = .method mk := selectMethod_private hmethM (Cond.privateMethod_at hpriv mk methk hnamed hmethM)
  obtain ⟨kP, hkP, -⟩ := className_of_methodNamed hnamed
  have hkPi : kP.isInterface = false := by
    obtain ⟨c0, k, hc, hk, -, hniab, -, -⟩ := Cond.instantiable_spec hins
    have hcls : mk.cls = c0 := Option.some.inj ((findClass_of_methodNamed hnamed).symm.trans hc)
    subst hcls
    cases hk.symm.trans hkP
    exact (Bool.or_eq_false_iff.mp hniab).1
  exact go_V0 X hexec hown hl hinst hy hck hcell hobj hkP hkPi hsel hlen hdg
theorem go_U (X : Stand p l e R s m args below meth c T locs cells slots) (hexec : p.tables.exec = Jvm.exec) (hown : s.vm.findClass own = some m.cls) {x : MethodName} {owner : String} (hl : (Cond.methodLink own index x).before args s = true) (hsame : (Cond.sameMethod x.cls owner x.name x.desc).before args s = true)
    (hd0 : va_Decl s ⟨owner, x.name, x.desc⟩) (howner : owner ≠ "java/lang/invoke/MethodHandle" ∧ owner ≠ "java/lang/invoke/VarHandle") (hinst : (Cond.instanceMethod y).before args s = true) (hck : CK8 s y bytes maxL ret hsr mk methk ck)
    {C : String} (hsel : (Cond.selects C x y).before args s = true) (hcell : T.heap[b]? = some cellB) (hobj : cellB.vm.isStatics = false) (hcls : s.vm.findClass C = some cellB.cls)
    (hlen : ∀ sig, parseMethodDescriptor x.desc = some sig → argsL.length = sig.parameters.length) (hdg : decode c.code pc = .ok (.invokevirtual index, 3)) : GO p l e R s m args below meth c T locs cells slots (F0 m pc ls (argsL.reverse ++ .ref b :: rest)) rest mk (Value.ref b :: argsL).toArray := by
  obtain ⟨r0, r, hn, hrm, hstR, hsigR⟩ := hd0
  obtain ⟨cn, ck0, r1, hcn, hck0, hni, hf, hn1⟩ := Cond.sameMethod_found hsame
  cases hn.symm.trans hn1
  obtain ⟨mk', methM, hnamed, hmethM, -, habM⟩ := Cond.instanceMethod_spec hinst
  cases hck.1.symm.trans hnamed
  obtain ⟨c2, r2, m2, q1, q2, q3, q4, kP, hkP, hkPi⟩ := Cond.selects_spec hsel
  cases hcls.symm.trans q1
  cases hf.symm.trans q2
  cases hnamed.symm.trans q3
  have hselP : selectMethod e.platform s.vm cellB.cls r0 = .method mk := by rw [Launch.admits_selectMethod X.admits]; exact q4
  obtain ⟨vm₁, X₁, hstep₁⟩ := X.invokevirtualUp hexec hown hl hsame howner hn hrm hstR (a := b) (cell := cellB) hcell
    (fun z h => by rw [h] at hobj; cases hobj) hselP hmethM habM hkP hkPi (g := F0 m pc ls (argsL.reverse ++ .ref b :: rest)) rfl (argsL := argsL) (rest := rest) (hlen _ hsigR) rfl hdg
  exact ⟨vm₁, X₁, hstep₁⟩
end
