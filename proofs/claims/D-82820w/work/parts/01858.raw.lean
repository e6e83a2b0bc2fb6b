/-! raw walks: methods of the JDK, over the machine's heap itself -/
abbrev KHT : Type := Option Value → Heap → Nat → Prop
def XQ (s : State) (below : List Frame) (B0 : Nat) (KH : KHT) (t : State) : Prop :=
  ∃ (v : Option Value) (L : List Loc) (k n : Nat), KH v t.heap n ∧ (∀ q ∈ L, B0 ≤ q.base) ∧ t.heap.size = s.heap.size + k ∧ t.status = .running ∧ Ended t below (.returned v) ∧ s.WarmedH t.vm ∧ s.sameButNew ({ t with vm := s.vm } : State) L k n
section
variable {p : Program} {l : Launch} {e : Env} {R : Room} {s : State} {m : MethodId} {args : Array Value} {below : List Frame} {meth : Method} {c : Code} {H : Heap} {locs : List Loc} {cells slots : Nat}
variable {cc : ByteArray} {pc : Nat} {ls : Array Slot} {B0 : Nat} {KH : KHT} {st : List Value}
theorem x_vret (hexec : p.tables.exec = Jvm.exec) (hb : c.code = cc) (hlocks : meth.locks = false) (hr : meth.sig.returnType = none) (hdg : decode cc pc = .ok (.return_, 1)) (hL : ∀ q ∈ locs, B0 ≤ q.base) (hz : H.size = s.heap.size + cells) (q : KH none H slots) : W p l e R s m args below meth c H locs cells slots (XQ s below B0 KH) (F0 m pc ls st) := by
  intro T hT X
  obtain ⟨fs, hret, hrun, hended, hW, hframe⟩ := X.leave (v := none) (fun _ => rfl)
  have hmeth' : T.vm.method? m = some meth := X.method'
  refine ⟨T.setFrames fs, ?_, none, locs, cells, slots, (by show KH none T.heap slots; rw [hT]; exact q), hL, (by show T.heap.size = _; rw [hT]; exact hz), hrun, hended, hW, hframe⟩
  jvm_step X.here [X.here.top, hexec, hb, hdg, hmeth', hr]
  (try refine ⟨rfl, ?_⟩); (try refine ⟨rfl, ?_⟩)
  first | (intro acts; rw [hret _ acts rfl rfl rfl]) | rw [hret _ _ rfl rfl rfl]
  exact Steps.refl _
theorem x_iret (hexec : p.tables.exec = Jvm.exec) (hb : c.code = cc) (hlocks : meth.locks = false) {v : Int32} {ty : FieldType} (hr : meth.sig.returnType = some ty) (hn : narrow ty (.int v) = .int v) (hdg : decode cc pc = .ok (.ireturn, 1)) (hL : ∀ q ∈ locs, B0 ≤ q.base) (hz : H.size = s.heap.size + cells) (q : KH (some (.int v)) H slots) : W p l e R s m args below meth c H locs cells slots (XQ s below B0 KH) (F0 m pc ls (.int v :: st)) := by
  intro T hT X
  obtain ⟨fs, hret, hrun, hended, hW, hframe⟩ := X.leave (v := some (.int v)) (fun h => by rw [hr] at h; cases h)
  have hmeth' : T.vm.method? m = some meth := X.method'
  refine ⟨T.setFrames fs, ?_, some (.int v), locs, cells, slots, (by show KH (some (.int v)) T.heap slots; rw [hT]; exact q), hL, (by show T.heap.size = _; rw [hT]; exact hz), hrun, hended, hW, hframe⟩
  jvm_step X.here [X.here.top, hexec, hb, hdg, hmeth', hr, hn]
  (try refine ⟨rfl, ?_⟩); (try refine ⟨rfl, ?_⟩)
  first | (intro acts; rw [hret _ acts rfl rfl rfl]) | rw [hret _ _ rfl rfl rfl]
  exact Steps.refl _
theorem x_lret (hexec : p.tables.exec = Jvm.exec) (hb : c.code = cc) (hlocks : meth.locks = false) {v : Int64} (hr : meth.sig.returnType = some .long) (hdg : decode cc pc = .ok (.lreturn, 1)) (hL : ∀ q ∈ locs, B0 ≤ q.base) (hz : H.size = s.heap.size + cells) (q : KH (some (.long v)) H slots) : W p l e R s m args below meth c H locs cells slots (XQ s below B0 KH) (F0 m pc ls (.long v :: st)) := by
  intro T hT X
  obtain ⟨fs, hret, hrun, hended, hW, hframe⟩ := X.leave (v := some (.long v)) (fun h => by rw [hr] at h; cases h)
  have hmeth' : T.vm.method? m = some meth := X.method'
  refine ⟨T.setFrames fs, ?_, some (.long v), locs, cells, slots, (by show KH (some (.long v)) T.heap slots; rw [hT]; exact q), hL, (by show T.heap.size = _; rw [hT]; exact hz), hrun, hended, hW, hframe⟩
  jvm_step X.here [X.here.top, hexec, hb, hdg, hmeth', hr, narrow]
  (try refine ⟨rfl, ?_⟩); (try refine ⟨rfl, ?_⟩)
  first | (intro acts; rw [hret _ acts rfl rfl rfl]) | rw [hret _ _ rfl rfl rfl]
  exact Steps.refl _
theorem x_aret (hexec : p.tables.exec = Jvm.exec) (hb : c.code = cc) (hlocks : meth.locks = false) {v : Value} {rt : FieldType} (hr : meth.sig.returnType = some rt) (hrt : (∃ n, rt = .object n) ∨ ∃ t, rt = .array t) (hv : v = .null ∨ ∃ a, v = .ref a) (hdg : decode cc pc = .ok (.areturn, 1)) (hL : ∀ q ∈ locs, B0 ≤ q.base) (hz : H.size = s.heap.size + cells) (q : KH (some v) H slots) : W p l e R s m args below meth c H locs cells slots (XQ s below B0 KH) (F0 m pc ls (v :: st)) := by
  intro T hT X
  obtain ⟨fs, hret, hrun, hended, hW, hframe⟩ := X.leave (v := some v) (fun h => by rw [hr] at h; cases h)
  have hmeth' : T.vm.method? m = some meth := X.method'
  refine ⟨T.setFrames fs, ?_, some v, locs, cells, slots, (by show KH (some v) T.heap slots; rw [hT]; exact q), hL, (by show T.heap.size = _; rw [hT]; exact hz), hrun, hended, hW, hframe⟩
  rcases hrt with ⟨n, rfl⟩ | ⟨t, rfl⟩ <;> rcases hv with rfl | ⟨a, rfl⟩ <;>
    (jvm_step X.here [X.here.top, hexec, hb, hdg, hmeth', hr]
     (try refine ⟨rfl, ?_⟩); (try refine ⟨rfl, ?_⟩)
     first | (intro acts; rw [hret _ acts rfl rfl rfl]) | rw [hret _ _ rfl rfl rfl]
     exact Steps.refl _)
theorem enterX {P : State → Prop} (hnL : ls.size = c.maxLocals) (hL : ∀ q ∈ locs, B0 ≤ q.base) {stk rest : List Value} {y : MethodName} {mk : MethodId} {methk : Method} {ck : Code} {a : Array Value} (hn : s.methodNamed? y = some mk) (hplain : plainFor y = true) (hmk : s.vm.method? mk = some methk) (hck : methk.code = some ck) (hlk : methk.locks = false)
    (hGO : ∀ T : State, T.heap = H → Stand p l e R s m args below meth c T locs cells slots → GO p l e R s m args below meth c T locs cells slots (F0 m pc ls stk) rest mk a) {ig : Instr} {len : Nat} (hdg : decode c.code pc = .ok (ig, len))
    {R' : Room} (hfr : R'.frames + 1 ≤ R.frames) (hlo : (rest.map fun v => v.category).sum + (ck.maxLocals + 11) + R'.locals ≤ R.locals) (hce : cells + R'.cells ≤ R.cells) (hsl : slots + R'.slots ≤ R.slots)
    (callee : ∀ T1 : State, T1.heap = H → s.WarmedH T1.vm → W p l e R' (T1.calling (F0 m pc ls rest) mk a) mk a (.java (F0 m pc ls rest) :: below) methk ck H [] 0 0 (XQ (T1.calling (F0 m pc ls rest) mk a) (.java (F0 m pc ls rest) :: below) B0 KH) (entryFrame mk a ck.maxLocals))
    (kn : ∀ (H' : Heap) (locs' : List Loc) (k n : Nat), KH none H' n → (∀ q ∈ locs', B0 ≤ q.base) → H'.size = H.size + k → W p l e R s m args below meth c H' locs' (cells + k) (slots + n) P (F0 m (pc + len) ls rest))
    (kv : ∀ (v : Value) (H' : Heap) (locs' : List Loc) (k n : Nat), KH (some v) H' n → (∀ q ∈ locs', B0 ≤ q.base) → H'.size = H.size + k → W p l e R s m args below meth c H' locs' (cells + k) (slots + n) P (F0 m (pc + len) ls (v :: rest))) :
    W p l e R s m args below meth c H locs cells slots P (F0 m pc ls stk) := by
  intro T hT X
  obtain ⟨vm', X1, hgo⟩ := hGO T hT X
  have hmk1 : (T.setVm vm').vm.method? mk = some methk := by rw [X1.warmed.alike.method?]; exact hmk
  have hnm : (T.setVm vm').methodNamed? y = some mk := by
    have h9 := State.methodNamed?_setVm (s := s) X1.warmed.alike y
    exact h9.trans hn
  have hpl : (T.setVm vm').plainMethod mk := State.plainMethod.of_named hplain hnm hmk1
  obtain ⟨Y, hdo⟩ := X1.into (g := F0 m pc ls rest) rfl hnL hdg a (R' := R') hmk1 hck hlk hpl hfr (by show 2 * 0 + (rest.map fun v => v.category).sum + (ck.maxLocals + 11) + R'.locals ≤ R.locals; omega) hce hsl
  obtain ⟨t, s1, v, L, k, n, hK', hL', hsz, hrun, hend, hW, hsame⟩ := callee (T.setVm vm') hT X1.warmed (((T.setVm vm').setTop (F0 m pc ls rest)).pushFrame (.java (entryFrame mk a ck.maxLocals))) hT Y
  have hsz' : t.heap.size = H.size + k := by rw [hsz]; show T.heap.size + k = _; rw [hT]
  have hlocs : ∀ q ∈ locs ++ L, B0 ≤ q.base := fun q hq => (List.mem_append.mp hq).elim (hL q) (hL' q)
  have go : ∀ t2, Steps p.tables e below t t2 → Steps p.tables e below (T.setTop (F0 m pc ls stk)) t2 := fun t2 h2 => hgo t2 fun acts => by rw [hdo acts]; exact (under s1).trans h2
  obtain ⟨T2, X2, -, -, ht⟩ := X1.outOf (g := F0 m pc ls rest) rfl hdg hend hW hsame
  cases v with
  | none =>
    obtain ⟨t2, b1, b2⟩ := kn t.heap (locs ++ L) k n hK' hlocs hsz' T2 (by rw [ht]; rfl) X2
    exact ⟨t2, go t2 (by rw [ht]; exact b1), b2⟩
  | some v =>
    obtain ⟨t2, b1, b2⟩ := kv v t.heap (locs ++ L) k n hK' hlocs hsz' T2 (by rw [ht]; rfl) X2
    exact ⟨t2, go t2 (by rw [ht]; exact b1), b2⟩
end
abbrev PHT : Type := Array Value → Heap → KHT → Nat → Nat → Prop
/-- a method of the JDK does, over the heap itself, what PH says -/
def JX (G : GX) (y : MethodName) (bytes : ByteArray) (maxL : Nat) (ret : Option FieldType) (fr lo : Nat) (PH : PHT) : Prop :=
  ∀ (p : Program) (l : Launch) (e : Env) (R : Room) (s : State) (m : MethodId) (args : Array Value) (below : List Frame) (meth : Method) (c : Code) (KH : KHT), p.tables.exec = Jvm.exec → EV8 G s → s.vm.findClass y.cls = some m.cls → c.code = bytes → c.maxLocals = maxL → meth.sig.returnType = ret → meth.locks = false → fr ≤ R.frames → lo ≤ R.locals → PH args s.heap KH R.cells R.slots →
    W p l e R s m args below meth c s.heap [] 0 0 (XQ s below (gB G) KH) (entryFrame m args maxL)
section
variable {p : Program} {l : Launch} {e : Env} {R : Room} {s : State} {m : MethodId} {args : Array Value} {below : List Frame} {meth : Method} {c : Code} {H : Heap} {locs : List Loc} {cells slots : Nat}
variable {cc : ByteArray} {pc : Nat} {ls : Array Slot} {KH : KHT} {P : State → Prop} {G : GX} {y : MethodName} {bytes : ByteArray} {maxL : Nat} {ret : Option FieldType} {fr lo : Nat} {PH : PHT} {own : String} {idx n : Nat}
theorem x_go (hP : ∀ s U : State, s.WarmedH U.vm → gP G s → gP G U) (J : JX G y bytes maxL ret fr lo PH) (hexec : p.tables.exec = Jvm.exec) (hEV : EV8 G s) (w3 : Cond.code y bytes maxL ret ∈ lw_all) (hpl : plainFor y = true) (hnL : ls.size = c.maxLocals) {ig : Instr} (hdg : decode c.code pc = .ok (ig, 3)) {stk rest : List Value} {a : Array Value}
    (hGO : ∀ mk methk ck, CK8 s y bytes maxL ret [] mk methk ck → ∀ T : State, T.heap = H → Stand p l e R s m args below meth c T locs cells slots → GO p l e R s m args below meth c T locs cells slots (F0 m pc ls stk) rest mk a)
    (hL : ∀ q ∈ locs, gB G ≤ q.base) (hfr : fr + 1 ≤ R.frames) (hlo : (rest.map fun v => v.category).sum + (maxL + 11) + lo ≤ R.locals) (hce : cells ≤ R.cells) (hsl : slots ≤ R.slots) (hPH : PH a H KH (R.cells - cells) (R.slots - slots))
    (kn : ∀ (H' : Heap) (locs' : List Loc) (k n : Nat), KH none H' n → (∀ q ∈ locs', gB G ≤ q.base) → H'.size = H.size + k → W p l e R s m args below meth c H' locs' (cells + k) (slots + n) P (F0 m (pc + 3) ls rest))
    (kv : ∀ (v : Value) (H' : Heap) (locs' : List Loc) (k n : Nat), KH (some v) H' n → (∀ q ∈ locs', gB G ≤ q.base) → H'.size = H.size + k → W p l e R s m args below meth c H' locs' (cells + k) (slots + n) P (F0 m (pc + 3) ls (v :: rest))) :
    W p l e R s m args below meth c H locs cells slots P (F0 m pc ls stk) := by
  obtain ⟨hE, -⟩ := id hEV
  obtain ⟨mk, methk, ck, hCK⟩ := ck_code (hE.all w3 (A := #[]))
  obtain ⟨k1, k2, k3, k4, k5, k6, k7, k8, k9⟩ := id hCK
  refine enterX hnL hL k1 hpl k2 k3 k7 (hGO mk methk ck hCK) hdg (R' := { frames := fr, locals := lo, cells := R.cells - cells, slots := R.slots - slots }) hfr (by rw [k5]; exact hlo) (by show cells + (R.cells - cells) ≤ R.cells; omega) (by show slots + (R.slots - slots) ≤ R.slots; omega) (fun T1 h1 hW1 => ?_) kn kv
  have hh := J p l e { frames := fr, locals := lo, cells := R.cells - cells, slots := R.slots - slots } (T1.calling (F0 m pc ls rest) mk a) mk a (.java (F0 m pc ls rest) :: below) methk ck KH hexec (hEV.warm hP hW1) (by show T1.vm.findClass y.cls = some mk.cls; rw [hW1.alike.findClass]; exact findClass_of_methodNamed k1) k4 k5 k6 k7 (Nat.le_refl _) (Nat.le_refl _) (by show PH a T1.heap KH _ _; rw [h1]; exact hPH)
  have e1 : (T1.calling (F0 m pc ls rest) mk a).heap = H := h1
  rw [e1] at hh
  rw [k5]
  exact hh
theorem x_S (hP : ∀ s U : State, s.WarmedH U.vm → gP G s → gP G U) (J : JX G y bytes maxL ret fr lo PH) (hexec : p.tables.exec = Jvm.exec) (hEV : EV8 G s) (hown : s.vm.findClass own = some m.cls) (w0 : Cond.methodLink own idx y ∈ lw_all) (w1 : Cond.static y ∈ lw_all) (w2 : Cond.initialized y.cls ∈ lw_all) (w3 : Cond.code y bytes maxL ret ∈ lw_all) (hy : notH y) (hpl : plainFor y = true) (hnp : npar y n)
    (hb : c.code = cc) (hnL : ls.size = c.maxLocals) (hdg : decode cc pc = .ok (.invokestatic idx, 3)) (argsL rest : List Value) (hlen : argsL.length = n)
    (hL : ∀ q ∈ locs, gB G ≤ q.base) (hfr : fr + 1 ≤ R.frames) (hlo : (rest.map fun v => v.category).sum + (maxL + 11) + lo ≤ R.locals) (hce : cells ≤ R.cells) (hsl : slots ≤ R.slots) (hPH : PH argsL.toArray H KH (R.cells - cells) (R.slots - slots))
    (kn : ∀ (H' : Heap) (locs' : List Loc) (k n : Nat), KH none H' n → (∀ q ∈ locs', gB G ≤ q.base) → H'.size = H.size + k → W p l e R s m args below meth c H' locs' (cells + k) (slots + n) P (F0 m (pc + 3) ls rest))
    (kv : ∀ (v : Value) (H' : Heap) (locs' : List Loc) (k n : Nat), KH (some v) H' n → (∀ q ∈ locs', gB G ≤ q.base) → H'.size = H.size + k → W p l e R s m args below meth c H' locs' (cells + k) (slots + n) P (F0 m (pc + 3) ls (v :: rest))) :
    W p l e R s m args below meth c H locs cells slots P (F0 m pc ls (argsL.reverse ++ rest)) := by
  subst hb
  exact x_go hP J hexec hEV w3 hpl hnL hdg (fun mk methk ck hCK T hT X => go_S X hexec hown (Or.inl (hEV.1.all w0)) (hEV.1.all w1) (hEV.1.all w2) hy hCK (fun sig hs => by rw [hlen]; exact hnp sig hs) hdg) hL hfr hlo hce hsl hPH kn kv
theorem x_I (hP : ∀ s U : State, s.WarmedH U.vm → gP G s → gP G U) (J : JX G y bytes maxL none fr lo PH) (hexec : p.tables.exec = Jvm.exec) (hEV : EV8 G s) (hown : s.vm.findClass own = some m.cls) (w0 : Cond.methodLink own idx y ∈ lw_all) (hy1 : y.name = "<init>") (w1 : Cond.instanceMethod y ∈ lw_all) (w3 : Cond.code y bytes maxL none ∈ lw_all) (hy : notH y) (hpl : plainFor y = true) (hnp : npar y n)
    (hb : c.code = cc) (hnL : ls.size = c.maxLocals) (hdg : decode cc pc = .ok (.invokespecial idx, 3)) (argsL rest : List Value) (b : Nat) (hlen : argsL.length = n)
    (hL : ∀ q ∈ locs, gB G ≤ q.base) (hfr : fr + 1 ≤ R.frames) (hlo : (rest.map fun v => v.category).sum + (maxL + 11) + lo ≤ R.locals) (hce : cells ≤ R.cells) (hsl : slots ≤ R.slots) (hPH : PH (Value.ref b :: argsL).toArray H KH (R.cells - cells) (R.slots - slots))
    (kn : ∀ (H' : Heap) (locs' : List Loc) (k n : Nat), KH none H' n → (∀ q ∈ locs', gB G ≤ q.base) → H'.size = H.size + k → W p l e R s m args below meth c H' locs' (cells + k) (slots + n) P (F0 m (pc + 3) ls rest))
    (kv : ∀ (v : Value) (H' : Heap) (locs' : List Loc) (k n : Nat), KH (some v) H' n → (∀ q ∈ locs', gB G ≤ q.base) → H'.size = H.size + k → W p l e R s m args below meth c H' locs' (cells + k) (slots + n) P (F0 m (pc + 3) ls (v :: rest))) :
    W p l e R s m args below meth c H locs cells slots P (F0 m pc ls (argsL.reverse ++ .ref b :: rest)) := by
  subst hb
  exact x_go hP J hexec hEV w3 hpl hnL hdg (fun mk methk ck hCK T hT X => go_I X hexec hown (Or.inl (hEV.1.all w0)) hy1 (hEV.1.all w1) hy hCK (hEV.1.all w3) (fun sig hs => by rw [hlen]; exact hnp sig hs) hdg) hL hfr hlo hce hsl hPH kn kv
theorem x_Vs (hP : ∀ s U : State, s.WarmedH U.vm → gP G s → gP G U) (J : JX G y bytes maxL ret fr lo PH) (hexec : p.tables.exec = Jvm.exec) (hEV : EV8 G s) (hown : s.vm.findClass own = some m.cls) (w0 : Cond.methodLink own idx y ∈ lw_all) (w1 : Cond.instanceMethod y ∈ lw_all) {C : String} (w2 : Cond.selects C y y ∈ lw_all) (w3 : Cond.code y bytes maxL ret ∈ lw_all) (hy : notH y) (hpl : plainFor y = true) (hnp : npar y n)
    (hb : c.code = cc) (hnL : ls.size = c.maxLocals) (hdg : decode cc pc = .ok (.invokevirtual idx, 3)) (argsL rest : List Value) {b : Nat} {cellB : Cell} (hcell : H[b]? = some cellB) (hobj : cellB.vm.isStatics = false) (hcls : s.vm.findClass C = some cellB.cls) (hlen : argsL.length = n)
    (hL : ∀ q ∈ locs, gB G ≤ q.base) (hfr : fr + 1 ≤ R.frames) (hlo : (rest.map fun v => v.category).sum + (maxL + 11) + lo ≤ R.locals) (hce : cells ≤ R.cells) (hsl : slots ≤ R.slots) (hPH : PH (Value.ref b :: argsL).toArray H KH (R.cells - cells) (R.slots - slots))
    (kn : ∀ (H' : Heap) (locs' : List Loc) (k n : Nat), KH none H' n → (∀ q ∈ locs', gB G ≤ q.base) → H'.size = H.size + k → W p l e R s m args below meth c H' locs' (cells + k) (slots + n) P (F0 m (pc + 3) ls rest))
    (kv : ∀ (v : Value) (H' : Heap) (locs' : List Loc) (k n : Nat), KH (some v) H' n → (∀ q ∈ locs', gB G ≤ q.base) → H'.size = H.size + k → W p l e R s m args below meth c H' locs' (cells + k) (slots + n) P (F0 m (pc + 3) ls (v :: rest))) :
    W p l e R s m args below meth c H locs cells slots P (F0 m pc ls (argsL.reverse ++ .ref b :: rest)) := by
  subst hb
  exact x_go hP J hexec hEV w3 hpl hnL hdg (fun mk methk ck hCK T hT X => go_V X hexec hown (hEV.1.all w0) (hEV.1.all w1) hy hCK (hEV.1.all w2) (by rw [hT]; exact hcell) hobj hcls (fun sig hs => by rw [hlen]; exact hnp sig hs) hdg) hL hfr hlo hce hsl hPH kn kv
theorem x_V (hP : ∀ s U : State, s.WarmedH U.vm → gP G s → gP G U) (J : JX G y bytes maxL ret fr lo PH) (hexec : p.tables.exec = Jvm.exec) (hEV : EV8 G s) (hown : s.vm.findClass own = some m.cls) (w0 : Cond.methodLink own idx y ∈ lw_all) (w1 : Cond.instanceMethod y ∈ lw_all) {C : String} (w2 : Cond.selects C y y ∈ lw_all) (w3 : Cond.code y bytes maxL ret ∈ lw_all) (hy : notH y) (hpl : plainFor y = true) (hnp : npar y n)
    (hb : c.code = cc) (hnL : ls.size = c.maxLocals) (hdg : decode cc pc = .ok (.invokevirtual idx, 3)) (argsL rest : List Value) {b : Nat} {cellB : Cell} (hcell : H[b]? = some cellB) (hobj : cellB.vm = .none) (hcls : s.vm.findClass C = some cellB.cls) (hlen : argsL.length = n)
    (hL : ∀ q ∈ locs, gB G ≤ q.base) (hfr : fr + 1 ≤ R.frames) (hlo : (rest.map fun v => v.category).sum + (maxL + 11) + lo ≤ R.locals) (hce : cells ≤ R.cells) (hsl : slots ≤ R.slots) (hPH : PH (Value.ref b :: argsL).toArray H KH (R.cells - cells) (R.slots - slots))
    (kn : ∀ (H' : Heap) (locs' : List Loc) (k n : Nat), KH none H' n → (∀ q ∈ locs', gB G ≤ q.base) → H'.size = H.size + k → W p l e R s m args below meth c H' locs' (cells + k) (slots + n) P (F0 m (pc + 3) ls rest))
    (kv : ∀ (v : Value) (H' : Heap) (locs' : List Loc) (k n : Nat), KH (some v) H' n → (∀ q ∈ locs', gB G ≤ q.base) → H'.size = H.size + k → W p l e R s m args below meth c H' locs' (cells + k) (slots + n) P (F0 m (pc + 3) ls (v :: rest))) :
    W p l e R s m args below meth c H locs cells slots P (F0 m pc ls (argsL.reverse ++ .ref b :: rest)) :=
  x_Vs hP J hexec hEV hown w0 w1 w2 w3 hy hpl hnp hb hnL hdg argsL rest hcell (by rw [hobj]; rfl) hcls hlen hL hfr hlo hce hsl hPH kn kv
theorem x_P (hP : ∀ s U : State, s.WarmedH U.vm → gP G s → gP G U) (J : JX G y bytes maxL ret fr lo PH) (hexec : p.tables.exec = Jvm.exec) (hEV : EV8 G s) (hown : s.vm.findClass own = some m.cls) (w0 : Cond.methodLink own idx y ∈ lw_all) (w1 : Cond.instanceMethod y ∈ lw_all) (w2 : Cond.privateMethod y ∈ lw_tbl) {ni : Nat} (w4 : Cond.instantiable y.cls ni ∈ lw_all) (w3 : Cond.code y bytes maxL ret ∈ lw_all) (hy : notH y) (hpl : plainFor y = true) (hnp : npar y n)
    (hb : c.code = cc) (hnL : ls.size = c.maxLocals) (hdg : decode cc pc = .ok (.invokevirtual idx, 3)) (argsL rest : List Value) {b : Nat} {cellB : Cell} (hcell : H[b]? = some cellB) (hobj : cellB.vm = .none) (hlen : argsL.length = n)
    (hL : ∀ q ∈ locs, gB G ≤ q.base) (hfr : fr + 1 ≤ R.frames) (hlo : (rest.map fun v => v.category).sum + (maxL + 11) + lo ≤ R.locals) (hce : cells ≤ R.cells) (hsl : slots ≤ R.slots) (hPH : PH (Value.ref b :: argsL).toArray H KH (R.cells - cells) (R.slots - slots))
    (kn : ∀ (H' : Heap) (locs' : List Loc) (k n : Nat), KH none H' n → (∀ q ∈ locs', gB G ≤ q.base) → H'.size = H.size + k → W p l e R s m args below meth c H' locs' (cells + k) (slots + n) P (F0 m (pc + 3) ls rest))
    (kv : ∀ (v : Value) (H' : Heap) (locs' : List Loc) (k n : Nat), KH (some v) H' n → (∀ q ∈ locs', gB G ≤ q.base) → H'.size = H.size + k → W p l e R s m args below meth c H' locs' (cells + k) (slots + n) P (F0 m (pc + 3) ls (v :: rest))) :
    W p l e R s m args below meth c H locs cells slots P (F0 m pc ls (argsL.reverse ++ .ref b :: rest)) := by
  subst hb
  exact x_go hP J hexec hEV w3 hpl hnL hdg (fun mk methk ck hCK T hT X => go_P X hexec hown (hEV.1.all w0) (hEV.1.all w1) hy hCK (hEV.1 _ w2 rfl args) (hEV.1.all w4) (by rw [hT]; exact hcell) (by rw [hobj]; rfl) (fun sig hs => by rw [hlen]; exact hnp sig hs) hdg) hL hfr hlo hce hsl hPH kn kv
end
/-! a primitive call out of such a method -/
def KHK (G : GX) (h : ah) (K : QT) : KHT := fun v H' n => ∃ (o : Option AV) (h' : ah), K (Sum.inl o) h' ∧ v = o.map cv ∧ (∀ w, o = some w → can w) ∧ Rep (gD G) (gA G) (gB G) (gH G) (gE G) h' H' ∧ hs h' = hs h + n
theorem psnd_X {G : GX} {ow : String} {j : Instr} {n pr : Nat}
    (call : ∀ (p : Program) (l : Launch) (e : Env) (R : Room) (s : State) (m : MethodId) (args : Array Value) (below : List Frame) (meth : Method) (c : Code) (P : State → Prop) (pc : Nat) (st as : List AV) (h : ah) (K : QT) (H : Heap) (locs : List Loc) (cells slots : Nat) (ls : Array Slot), p.tables.exec = Jvm.exec → l.stackTraces = false → EV8 G s → s.vm.findClass ow = some m.cls → ls.size = c.maxLocals → decode c.code pc = .ok (j, 3) →
      10 ≤ R.frames → 600 ≤ R.locals → ((st.map cv).map fun v => v.category).sum ≤ 28 → as.length = n → (∀ v ∈ as, can v) → cells ≤ R.cells → slots ≤ R.slots → Rep (gD G) (gA G) (gB G) (gH G) (gE G) h H → (∀ q ∈ locs, gB G ≤ q.base) →
      (∀ o h', K o h' → hz h' ≤ H.size + 1 + (R.cells - cells) ∧ hs h' ≤ hs h + (R.slots - slots)) → primS pr as h K →
      (∀ (H' : Heap) (locs' : List Loc) (k n : Nat), KHK G h K none H' n → (∀ q ∈ locs', gB G ≤ q.base) → H'.size = H.size + k → W p l e R s m args below meth c H' locs' (cells + k) (slots + n) P (F0 m (pc + 3) ls (st.map cv))) →
      (∀ (v : Value) (H' : Heap) (locs' : List Loc) (k n : Nat), KHK G h K (some v) H' n → (∀ q ∈ locs', gB G ≤ q.base) → H'.size = H.size + k → W p l e R s m args below meth c H' locs' (cells + k) (slots + n) P (F0 m (pc + 3) ls (v :: st.map cv))) →
      W p l e R s m args below meth c H locs cells slots P (F0 m pc ls ((as.map cv).reverse ++ st.map cv))) : PSND G ow j n pr := by
  intro p l e R s m args below meth c P nL σ pc lv st as h K hexec htr hEV hown hnL hdg hfr hlo hst hlen hcap hpr kn kv
  obtain ⟨o1, h1, g1, ⟨g2, g3⟩, -⟩ := prim_ok RP_res _ _ _ _ hpr
  have hc1 := hcap _ _ g1
  intro H locs cells slots ls a1 a2 a3 a4 a5 a6
  have hz1 := a1.1.1
  have hsum := sum_cat st
  rw [List.map_append, List.map_reverse]
  refine call p l e R s m args below meth c P pc st as h K H locs cells slots ls hexec htr hEV hown (a2.1.trans hnL) hdg hfr hlo (by omega) hlen (fun v hv => a3 v (List.mem_append_left _ (List.mem_reverse.mpr hv))) (by omega) (by omega) a1 a4 (fun o h' hk => by have := hcap o h' hk; omega) hpr ?_ ?_
  · rintro H' locs' k n' ⟨o, h', b1, b2, b3, b4, b5⟩ hl' hsz
    cases o with
    | some v => cases b2
    | none => exact kn h' b1 H' locs' _ _ ls b4 a2 (fun v hv => a3 v (List.mem_append_right _ hv)) hl' (by have := b4.1.1; omega) (by omega)
  · rintro v H' locs' k n' ⟨o, h', b1, b2, b3, b4, b5⟩ hl' hsz
    cases o with
    | none => cases b2
    | some w =>
      cases b2
      have := kv w h' b1 H' locs' (cells + k) (slots + n') ls b4 a2 (can_0 (b3 w rfl) (fun v hv => a3 v (List.mem_append_right _ hv))) hl' (by have := b4.1.1; omega) (by omega)
      exact this
section
variable {G : GX} {y : MethodName} {bytes : ByteArray} {maxL : Nat} {ret : Option FieldType} {fr lo : Nat} {PH : PHT} {ow : String} {idx n pr : Nat}
/-- what a method's PH must say for a primitive -/
def PHok (G : GX) (n pr : Nat) (PH : PHT) : Prop := ∀ (as : List AV) (h : ah) (K : QT) (H : Heap) (mc ms : Nat) (s : State), EV8 G s → as.length = n → (∀ v ∈ as, can v) → Rep (gD G) (gA G) (gB G) (gH G) (gE G) h H → (∀ o h', K o h' → hz h' ≤ H.size + 1 + mc ∧ hs h' ≤ hs h + ms) → primS pr as h K → PH (as.map cv).toArray H (KHK G h K) mc ms
theorem psnd_XS (hP : ∀ s U : State, s.WarmedH U.vm → gP G s → gP G U) (J : JX G y bytes maxL ret fr lo PH) (w0 : Cond.methodLink ow idx y ∈ lw_all) (w1 : Cond.static y ∈ lw_all) (w2 : Cond.initialized y.cls ∈ lw_all) (w3 : Cond.code y bytes maxL ret ∈ lw_all) (hy : notH y) (hpl : plainFor y = true) (hnp : npar y n) (hfr : fr ≤ 9) (hlo : maxL + lo ≤ 560) (hPH : PHok G n pr PH) : PSND G ow (.invokestatic idx) n pr := by
  refine psnd_X fun p l e R s m args below meth c P pc st as h K H locs cells slots ls hexec htr hEV hown hnL hdg f1 f2 f3 hlen hcan hce hsl hr hL hcap hpr kn kv => ?_
  exact x_S hP J hexec hEV hown w0 w1 w2 w3 hy hpl hnp rfl hnL hdg (as.map cv) (st.map cv) (by rw [List.length_map]; exact hlen) hL (by omega) (by omega) hce hsl (hPH as h K H _ _ s hEV hlen hcan hr hcap hpr) kn kv
theorem vR_cv {G : GX} {h : ah} {H : Heap} {a : Nat} (hr : Rep (gD G) (gA G) (gB G) (gH G) (gE G) h H) (hk : hK h a ≠ 0) : cv (vR a) = .ref (a - 1) ∧ 0 < a := by
  have := (hr.2.1 a hk).1
  obtain ⟨b, rfl⟩ : ∃ b, a = b + 1 := ⟨a - 1, by omega⟩
  exact ⟨rfl, this⟩
theorem psnd_XI (hP : ∀ s U : State, s.WarmedH U.vm → gP G s → gP G U) (J : JX G y bytes maxL none fr lo PH) (w0 : Cond.methodLink ow idx y ∈ lw_all) (hy1 : y.name = "<init>") (w1 : Cond.instanceMethod y ∈ lw_all) (w3 : Cond.code y bytes maxL none ∈ lw_all) (hy : notH y) (hpl : plainFor y = true) (hnp : npar y n) (hfr : fr ≤ 9) (hlo : maxL + lo ≤ 560) (hrec : ∀ as h K, as.length = n + 1 → primS pr as h K → ∃ a r, as = vR a :: r ∧ hK h a ≠ 0) (hPH : PHok G (n + 1) pr PH) : PSND G ow (.invokespecial idx) (n + 1) pr := by
  refine psnd_X fun p l e R s m args below meth c P pc st as h K H locs cells slots ls hexec htr hEV hown hnL hdg f1 f2 f3 hlen hcan hce hsl hr hL hcap hpr kn kv => ?_
  obtain ⟨a, r, rfl, hk⟩ := hrec as h K hlen hpr
  obtain ⟨ea, -⟩ := vR_cv hr hk
  have hph := hPH _ h K H _ _ s hEV hlen hcan hr hcap hpr
  rw [List.map_cons, ea] at hph ⊢
  rw [List.reverse_cons, List.append_assoc]
  exact x_I hP J hexec hEV hown w0 hy1 w1 w3 hy hpl hnp rfl hnL hdg (r.map cv) (st.map cv) (a - 1) (by rw [List.length_map]; simpa using hlen) hL (by omega) (by omega) hce hsl hph kn kv
theorem psnd_XV (hP : ∀ s U : State, s.WarmedH U.vm → gP G s → gP G U) (J : JX G y bytes maxL ret fr lo PH) (w0 : Cond.methodLink ow idx y ∈ lw_all) (w1 : Cond.instanceMethod y ∈ lw_all) {C : String} (w2 : Cond.selects C y y ∈ lw_all) (w3 : Cond.code y bytes maxL ret ∈ lw_all) (hy : notH y) (hpl : plainFor y = true) (hnp : npar y n) (hfr : fr ≤ 9) (hlo : maxL + lo ≤ 560) (hrec : ∀ as h K, as.length = n + 1 → primS pr as h K → ∃ a r, as = vR a :: r ∧ 190 ≤ hK h a ∧ kName (hK h a) = C) (hPH : PHok G (n + 1) pr PH) : PSND G ow (.invokevirtual idx) (n + 1) pr := by
  refine psnd_X fun p l e R s m args below meth c P pc st as h K H locs cells slots ls hexec htr hEV hown hnL hdg f1 f2 f3 hlen hcan hce hsl hr hL hcap hpr kn kv => ?_
  obtain ⟨a, r, rfl, hk, hC⟩ := hrec as h K hlen hpr
  obtain ⟨x, cell, rfl, e1, e2, e3, e4⟩ := anyCell hEV.2.1 hEV.2.2.1 hr rfl hk
  have hph := hPH _ h K H _ _ s hEV hlen hcan hr hcap hpr
  have ea : cv (vR (x + 1)) = .ref x := rfl
  rw [List.map_cons, ea] at hph ⊢
  rw [List.reverse_cons, List.append_assoc]
  exact x_Vs hP J hexec hEV hown w0 w1 w2 w3 hy hpl hnp rfl hnL hdg (r.map cv) (st.map cv) e1 e3 (by rw [← hC, e2]; exact e4.1) (by rw [List.length_map]; simpa using hlen) hL (by omega) (by omega) hce hsl hph kn kv
end
