/-! a throw in a frame: the search, with classes that may not yet be resolved -/
theorem go_cold {E : CtlPost} {e : Env} {d : Bool} {acts : List Action} {s : State} {f : JFrame} {a : Addr} {Q : Handler → Pre} {x : ExceptionTableEntry} {t : List ExceptionTableEntry} {c : ClassId} {cell : Cell} {vm' : Vm} (hx : covers x f.pc = true) (h0 : x.catchType ≠ 0)
    (hg : (Jvm.resolveClass f.method.cls x.catchType).Gives e.toSetting s.vm (.ok c) vm') (hsz : vm'.classes.size ≤ s.vm.classes.size) (hcell : s.heap[a]? = some cell) (hobj : ∀ k, cell.vm ≠ .statics k)
    (hk : ∃ k, vm'.classes[cell.cls]? = some k) (hc : ∃ k, vm'.classes[c]? = some k) :
    Sem.wp (findHandler.go f a (x :: t)) Q E e d acts s ↔
      if vm'.assignable cell.cls c = true then Q (.found x.handlerPc) d acts (s.setVm vm') else Sem.wp (findHandler.go f a t) Q E e d acts (s.setVm vm') := by
  simp only [covers] at hx
  have hop := hg.op (op := VmOp.resolveClass f.method.cls x.catchType) rfl
  cases hfit : vm'.assignable cell.cls c <;>
    simp [findHandler.go, hx, h0, hop.1, VmOp.lands_eq hop.2 hsz, hcell, hobj, hk, hc, hfit, VmOp.dirties, VmOp.acts]
/-- the search ends so, and leaves these tables -/
def FindsV (e : Env) (s : State) (f : JFrame) (a : Addr) (h : Handler) (vm' : Vm) : Prop :=
  ∀ (Q : Handler → Pre) (E : CtlPost) (d : Bool) (acts : List Action), Sem.wp (findHandler f a) Q E e d acts s ↔ Q h d acts (s.setVm vm')
theorem step_catchV {e : Env} {s : State} {a : Addr} {f : JFrame} {r : List Frame} {pc : Nat} {vm' : Vm} (hfind : FindsV e s f a (.found pc) vm') :
    (stepThrowing e s a (.java f :: r)).1 = (s.setVm vm').setFrames (.java { f with pc := pc, stack := [.ref a] } :: r) := by
  simp only [stepThrowing, searchFrame, vmDo]
  generalize hr : Sem.go _ e false [] s = res
  obtain ⟨as, rfl, ha⟩ := Sem.eq_ok_of hr (a := Handler.found pc) (s' := s.setVm vm') (acts' := []) (by simp [hfind _ _ _ _])
  rfl
theorem step_leaveV {e : Env} {s : State} {a : Addr} {f : JFrame} {r : List Frame} {meth : Method} {vm' : Vm}
    (hm : vm'.method? f.method = some meth) (hl : meth.locks = false) (hlocked : f.locked = none) (hentered : f.entered = []) (hfind : FindsV e s f a .none vm') :
    (stepThrowing e s a (.java f :: r)).1 = (s.setVm vm').setFrames (.throwing a :: r) := by
  simp only [stepThrowing, searchFrame, vmDo]
  generalize hr : Sem.go _ e false [] s = res
  obtain ⟨as, rfl, ha⟩ := Sem.eq_ok_of hr (a := Handler.none) (s' := s.setVm vm') (acts' := [])
    (by cases hp : e.platform.frameOwnsMonitors <;> simp [hfind _ _ _ _, hm, hl, hlocked, hentered, hp, leaveIfLocked])
  rfl

/-- an entry of the table, and the abstract handler for it -/
def HOK (ow : String) (ncT : List (String × String)) (x : ExceptionTableEntry) (q : Nat × Nat × Nat × List Nat × List Nat) : Prop := x.startPc = q.1 ∧ x.endPc = q.2.1 ∧ x.handlerPc = q.2.2.1 ∧ x.catchType ≠ 0 ∧ IOK ow x.catchType q.2.2.2.1 q.2.2.2.2 ncT
def HOKs (ow : String) (ncT : List (String × String)) : List ExceptionTableEntry → List (Nat × Nat × Nat × List Nat × List Nat) → Prop
  | [], [] => True
  | x :: es, q :: hs => HOK ow ncT x q ∧ HOKs ow ncT es hs
  | _, _ => False
section
variable {p : Program} {l : Launch} {e : Env} {R : Room} {s : State} {m : MethodId} {args : Array Value} {below : List Frame} {meth : Method} {c : Code} {T : State} {locs : List Loc} {cells slots : Nat}
variable {D : va_G} {aC : Nat → ClassId} {B0 : Nat} {H0 : Heap} {eE nL σ : Nat} {h : ah}
theorem search (X : Stand p l e R s m args below meth c T locs cells slots) {ow : String} (hE : EW s) (hKn : EK D aC s) (hN : EN D s) {ncT : List (String × String)} (hC : EC ncT s) (hown : s.vm.findClass ow = some m.cls) {a : Nat} {S : State} (r : Rep D aC B0 H0 eE h S.heap) {g : JFrame} (hg : g.method = m)
    {es : List ExceptionTableEntry} {hs : List (Nat × Nat × Nat × List Nat × List Nat)} (hh : HOKs ow ncT es hs) {F : Nat → Prop} {N : Prop} : ∀ vm0, s.WarmedH vm0 → hndl hs g.pc (hK h (a + 1)) F N →
    ∃ vm', s.WarmedH vm' ∧ ((∃ t, F t ∧ ∀ (Q : Handler → Pre) (E : CtlPost) (d : Bool) (acts : List Action), Sem.wp (findHandler.go g a es) Q E e d acts (S.setVm vm0) ↔ Q (.found t) d acts (S.setVm vm')) ∨
      (N ∧ ∀ (Q : Handler → Pre) (E : CtlPost) (d : Bool) (acts : List Action), Sem.wp (findHandler.go g a es) Q E e d acts (S.setVm vm0) ↔ Q .none d acts (S.setVm vm'))) := by
  induction es generalizing hs with
  | nil =>
    cases hs with
    | cons q hs => exact hh.elim
    | nil => intro vm0 hW hN'; exact ⟨vm0, hW, Or.inr ⟨hN', fun Q E d acts => W.findHandler_go_nil⟩⟩
  | cons x es ih0 =>
    cases hs with
    | nil => exact hh.elim
    | cons q hs =>
    obtain ⟨hx, hh'⟩ := hh
    have ih := ih0 hh'
    intro vm0 hW hh
    obtain ⟨q1, q2, q3, q4, q5⟩ := q
    obtain ⟨e1, e2, e3, e4, nm, w1, w2, w3⟩ := hx
    simp only at e1 e2 e3 w2 w3
    unfold hndl at hh
    have hcov : covers x g.pc = (Nat.ble q1 g.pc && Nat.blt g.pc q2) := by
      simp only [covers, e1, e2]
      rw [Bool.eq_iff_iff]
      simp [Nat.ble_eq, Nat.blt_eq]
    by_cases hc : (Nat.ble q1 g.pc && Nat.blt g.pc q2) = true
    · rw [if_pos hc] at hh
      have hc' : covers x g.pc = true := by rw [hcov]; exact hc
      have hpl : e.platform.magicAccessors = ({} : Platform).magicAccessors := by rw [X.admits.platform]
      obtain ⟨cT, hcT, hcl⟩ := Cond.classLink_spec hown (hE.all w1 (A := args)) e.platform hpl
      obtain ⟨dk, _, _, kt, hd, _, _, _, _, hkt, _, hopen⟩ := hcl.here
      have hcl₀ := hW.classLinks hcl
      have hW' : s.WarmedH (vm0.noted m.cls x.catchType (.cls cT)) := hW.noted hd hopen (State.rightAt_cls hcl)
      have hgv := resolveClass_links e.toSetting hcl₀
      have hk0 : ∃ cell : Cell, S.heap[a]? = some cell ∧ cell.vm.isStatics = false ∧ ClassAt s (kName (hK h (a + 1))) cell.cls ∧ 190 ≤ hK h (a + 1) := by
        have h190 : 190 ≤ hK h (a + 1) := by
          by_cases hy : hK h (a + 1) ∈ q4
          · exact (w2 _ hy).1
          · exact (w3 _ (hh.2 hy).1).1
        obtain ⟨y, cellV, ey, y1, y2, y3, y4⟩ := anyCell hKn hN r (a := a + 1) rfl h190
        cases ey
        exact ⟨cellV, y1, y3, by rw [y2]; exact y4, h190⟩
      obtain ⟨cell, c1, c2, c3, c4⟩ := hk0
      obtain ⟨kC, hkC, -⟩ := c3.2
      obtain ⟨ks', hks', -⟩ := hW'.alike.2.2 _ _ hkC
      obtain ⟨kt', hkt', -⟩ := hW'.alike.2.2 _ _ hkt
      have hgo : ∀ (Q : Handler → Pre) (E : CtlPost) (d : Bool) (acts : List Action), Sem.wp (findHandler.go g a (x :: es)) Q E e d acts (S.setVm vm0) ↔ if (vm0.noted m.cls x.catchType (.cls cT)).assignable cell.cls cT = true then Q (.found x.handlerPc) d acts (S.setVm (vm0.noted m.cls x.catchType (.cls cT))) else Sem.wp (findHandler.go g a es) Q E e d acts (S.setVm (vm0.noted m.cls x.catchType (.cls cT))) := by
        intro Q E d acts
        subst hg
        exact go_cold (s := S.setVm vm0) hc' e4 hgv (by no_record) c1 (fun k z => by rw [z] at c2; cases c2) ⟨_, hks'⟩ ⟨_, hkt'⟩
      by_cases hy : hK h (a + 1) ∈ q4
      · refine ⟨_, hW', Or.inl ⟨q3, hh.1 hy, fun Q E d acts => ?_⟩⟩
        have hasg : (vm0.noted m.cls x.catchType (.cls cT)).assignable cell.cls cT = true := by
          rw [hW'.alike.assignable]
          rcases (w2 _ hy).2 with hn | hn
          · rw [hn] at c3
            cases hcT.symm.trans c3.1
            exact va_assign c3
          · obtain ⟨c0, t0, f1, f2, f3⟩ := Cond.castable_spec (hE _ hn rfl args)
            cases c3.1.symm.trans f1
            cases hcT.symm.trans f2
            exact f3
        rw [hgo, if_pos hasg, e3]
      · obtain ⟨hns, hrest⟩ := hh.2 hy
        obtain ⟨c0, t0, f1, f2, f3⟩ := hC _ (w3 _ hns).2
        cases c3.1.symm.trans f1
        cases hcT.symm.trans f2
        have hasg : (vm0.noted m.cls x.catchType (.cls cT)).assignable cell.cls cT = false := by rw [hW'.alike.assignable]; exact f3
        obtain ⟨vm', hv, hres⟩ := ih _ hW' hrest
        refine ⟨vm', hv, ?_⟩
        rcases hres with ⟨t, ht, hf⟩ | ⟨hn, hf⟩
        · exact Or.inl ⟨t, ht, fun Q E d acts => by rw [hgo, if_neg (by rw [hasg]; decide)]; exact hf Q E d acts⟩
        · exact Or.inr ⟨hn, fun Q E d acts => by rw [hgo, if_neg (by rw [hasg]; decide)]; exact hf Q E d acts⟩
    · rw [if_neg hc] at hh
      have hc' : covers x g.pc = false := by rw [hcov]; exact Bool.not_eq_true _ ▸ hc
      obtain ⟨vm', hv, hres⟩ := ih vm0 hW hh
      refine ⟨vm', hv, ?_⟩
      rcases hres with ⟨t, ht, hf⟩ | ⟨hn, hf⟩
      · exact Or.inl ⟨t, ht, fun Q E d acts => by rw [W.findHandler_go_skip hc']; exact hf Q E d acts⟩
      · exact Or.inr ⟨hn, fun Q E d acts => by rw [W.findHandler_go_skip hc']; exact hf Q E d acts⟩
end
