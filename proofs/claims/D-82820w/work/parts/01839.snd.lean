/-! a throw by athrow; a call that is walked, and back -/
theorem under {tb : Tables} {e : Env} {f : Frame} {below : List Frame} {s t : State} (h : Steps tb e (f :: below) s t) : Steps tb e below s t := by
  obtain ⟨n, h1, h2⟩ := h
  refine ⟨n, h1, fun k hk => ?_⟩
  obtain ⟨ab, e1, e2, -⟩ := h2 k hk
  refine ⟨ab ++ [f], by rw [e1, List.append_assoc]; rfl, by simp, fun a z => ?_⟩
  have := congrArg List.length z
  simp only [List.length_append, List.length_cons, List.length_nil] at this
  have : ab = [] := List.length_eq_zero_iff.mp (by omega)
  exact e2 this
def GO (p : Program) (l : Launch) (e : Env) (R : Room) (s : State) (m : MethodId) (args : Array Value) (below : List Frame) (meth : Method) (c : Code) (T : State) (locs : List Loc) (cells slots : Nat) (g : JFrame) (rest : List Value) (mk : MethodId) (a : Array Value) : Prop :=
  ∃ vm', Stand p l e R s m args below meth c (T.setVm vm') locs cells slots ∧ ∀ target, (∀ acts, Steps p.tables e below (doInvoke e ((T.setVm vm').setTop { g with stack := rest }) acts mk a).1 target) → Steps p.tables e below (T.setTop g) target
section
variable {p : Program} {l : Launch} {e : Env} {R : Room} {s : State} {m : MethodId} {args : Array Value} {below : List Frame} {meth : Method} {c : Code} {T : State} {locs : List Loc} {cells slots : Nat}
variable {cc : ByteArray} {D : va_G} {aC : Nat → ClassId} {B0 : Nat} {H0 : Heap} {eE nL σ : Nat} {h : ah} {lv : LV} {st : List AV} {Q K : QT}
theorem mw_athrow (hexec : p.tables.exec = Jvm.exec) (hb : c.code = cc) (hlocks : meth.locks = false) {ow : String} (hE : EW s) (hKn : EK D aC s) (hN : EN D s) {ncT : List (String × String)} (hC : EC ncT s) (hown : s.vm.findClass ow = some m.cls) {x pc : Nat} (hk0 : hK h x ≠ 0)
    {hs' : List (Nat × Nat × Nat × List Nat × List Nat)} (hh : HOKs ow ncT c.exceptionTable.toList hs') (hdg : decode cc pc = .ok (.athrow, 1))
    (hd : hndl hs' pc (hK h x) (fun t => MW p l e R s m args below meth c (FQ8 s below D aC B0 H0 eE σ Q) D aC B0 H0 eE nL σ t lv [vR x] h) (Q (Sum.inr x) h)) : MW p l e R s m args below meth c (FQ8 s below D aC B0 H0 eE σ Q) D aC B0 H0 eE nL σ pc lv (vR x :: st) h := by
  intro H locs cells slots ls a1 a2 a3 a4 a5 a6 T hT X
  have hx := (a1.2.1 x hk0).1
  obtain ⟨a, rfl⟩ : ∃ a, x = a + 1 := ⟨x - 1, by omega⟩
  obtain ⟨t, b1, b2⟩ := tw X hlocks hE hKn hN hC hown (pc := pc) (st := st.map cv) (by rw [hT]; exact a1) a2 a4 a5 a6 hk0 hh hd
  refine ⟨t, ?_, b2⟩
  simp only [List.map_cons, cv]
  jvm_step X.here [hexec, hb, hdg, athrow.wp_sem]
  exact b1
theorem enter (X : Stand p l e R s m args below meth c T locs cells slots) (hlocks : meth.locks = false) {ow : String} (hE : EW s) (hKn : EK D aC s) (hN : EN D s) {ncT : List (String × String)} (hC : EC ncT s) (hown : s.vm.findClass ow = some m.cls)
    {pc : Nat} {ls : Array Slot} {stk : List Value} (hlr : LR ls nL lv) (hb : ∀ q ∈ locs, B0 ≤ q.base) (hst : ∀ v ∈ st, can v) (r : Rep D aC B0 H0 eE h T.heap) (a5 : hz h = s.heap.size + 1 + cells) (a6 : hs h = σ + slots) (hsize : nL = c.maxLocals)
    {hs' : List (Nat × Nat × Nat × List Nat × List Nat)} (hh : HOKs ow ncT c.exceptionTable.toList hs')
    {y : MethodName} {mk : MethodId} {methk : Method} {ck : Code} {a : Array Value} (hn : s.methodNamed? y = some mk) (hplain : plainName y.cls = true) (hmk : s.vm.method? mk = some methk) (hck : methk.code = some ck) (hlk : methk.locks = false)
    (hGO : GO p l e R s m args below meth c T locs cells slots (F0 m pc ls stk) (st.map cv) mk a) {ig : Instr} {len : Nat} (hdg : decode c.code pc = .ok (ig, len))
    {R' : Room} (hfr : R'.frames + 1 ≤ R.frames) (hlo : ((st.map cv).map fun v => v.category).sum + (ck.maxLocals + 11) + R'.locals ≤ R.locals) (hce : cells + R'.cells ≤ R.cells) (hsl : slots + R'.slots ≤ R.slots)
    (callee : ∀ T1 : State, T1.heap = T.heap → s.WarmedH T1.vm → W p l e R' (T1.calling (F0 m pc ls (st.map cv)) mk a) mk a (.java (F0 m pc ls (st.map cv)) :: below) methk ck T.heap [] 0 0 (FQ8 (T1.calling (F0 m pc ls (st.map cv)) mk a) (.java (F0 m pc ls (st.map cv)) :: below) D aC B0 H0 eE (hs h) K) (entryFrame mk a ck.maxLocals))
    (kn : ∀ h', K (Sum.inl none) h' → MW p l e R s m args below meth c (FQ8 s below D aC B0 H0 eE σ Q) D aC B0 H0 eE nL σ (pc + len) lv st h')
    (kv : ∀ v h', K (Sum.inl (some v)) h' → MW p l e R s m args below meth c (FQ8 s below D aC B0 H0 eE σ Q) D aC B0 H0 eE nL σ (pc + len) lv (v :: st) h')
    (kt : ∀ x h', K (Sum.inr x) h' → hndl hs' pc (hK h' x) (fun t => MW p l e R s m args below meth c (FQ8 s below D aC B0 H0 eE σ Q) D aC B0 H0 eE nL σ t lv [vR x] h') (Q (Sum.inr x) h')) :
    ∃ t, Steps p.tables e below (T.setTop (F0 m pc ls stk)) t ∧ FQ8 s below D aC B0 H0 eE σ Q t := by
  obtain ⟨vm', X1, hgo⟩ := hGO
  have hmk1 : (T.setVm vm').vm.method? mk = some methk := by rw [X1.warmed.alike.method?]; exact hmk
  obtain ⟨kP, hkP, hkn⟩ := className_of_methodNamed hn
  have hpl : (T.setVm vm').plainMethod mk := X1.warmed.plainAt (fun k hk => by cases hkP.symm.trans hk; rw [hkn]; exact hplain)
  obtain ⟨Y, hdo⟩ := X1.into (g := F0 m pc ls (st.map cv)) rfl (hlr.1.trans hsize) hdg a (R' := R') hmk1 hck hlk hpl hfr (by show 2 * 0 + ((st.map cv).map fun v => v.category).sum + (ck.maxLocals + 11) + R'.locals ≤ R.locals; omega) hce hsl
  obtain ⟨t, s1, o, h', L, k, n, hK', hoc, hr', hL, hz', hs2, -, hend, hW, hsame⟩ := callee (T.setVm vm') rfl X1.warmed (((T.setVm vm').setTop (F0 m pc ls (st.map cv))).pushFrame (.java (entryFrame mk a ck.maxLocals))) rfl Y
  have hsz : T.heap.size + 1 = hz h := r.1.1
  have hz2 : hz h' = T.heap.size + 1 + k := hz'
  have hlocs : ∀ q ∈ locs ++ L, B0 ≤ q.base := fun q hq => (List.mem_append.mp hq).elim (hb q) (hL q)
  have go : ∀ t2, Steps p.tables e below t t2 → Steps p.tables e below (T.setTop (F0 m pc ls stk)) t2 := fun t2 h2 => hgo t2 fun acts => by rw [hdo acts]; exact (under s1).trans h2
  rcases o with (_ | v) | x
  · obtain ⟨T2, X2, -, -, ht⟩ := X1.outOf (g := F0 m pc ls (st.map cv)) rfl hdg hend hW hsame
    obtain ⟨t2, b1, b2⟩ := kn h' hK' t.heap (locs ++ L) (cells + k) (slots + n) ls hr' hlr hst hlocs (by omega) (by omega) T2 (by rw [ht]; rfl) X2
    exact ⟨t2, go t2 (by rw [ht]; exact b1), b2⟩
  · obtain ⟨T2, X2, -, -, ht⟩ := X1.outOf (g := F0 m pc ls (st.map cv)) rfl hdg hend hW hsame
    obtain ⟨t2, b1, b2⟩ := kv v h' hK' t.heap (locs ++ L) (cells + k) (slots + n) ls hr' hlr (can_0 hoc hst) hlocs (by omega) (by omega) T2 (by rw [ht]; rfl) X2
    exact ⟨t2, go t2 (by rw [ht]; exact b1), b2⟩
  · obtain ⟨T2, X2, -, -, ht⟩ := X1.outOfThrown (g := F0 m pc ls (st.map cv)) rfl hend hW hsame
    have hx := (hr'.2.1 x hoc).1
    obtain ⟨b, rfl⟩ : ∃ b, x = b + 1 := ⟨x - 1, by omega⟩
    have hth : t.heap = T2.heap := by rw [ht]; exact Stand.throwing_heap _ _ _
    obtain ⟨t2, b1, b2⟩ := tw X2 hlocks hE hKn hN hC hown (pc := pc) (st := st.map cv) (ls := ls) (by rw [← hth]; exact hr') hlr hlocs (by omega) (by omega) hoc hh (kt _ h' hK')
    exact ⟨t2, go t2 (by rw [ht]; exact b1), b2⟩
end
