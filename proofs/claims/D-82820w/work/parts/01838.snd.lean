/-! a throw in a frame: caught there, or the invocation ends so -/
section
variable {p : Program} {l : Launch} {e : Env} {R : Room} {s : State} {m : MethodId} {args : Array Value} {below : List Frame} {meth : Method} {c : Code} {T : State} {locs : List Loc} {cells slots : Nat}
variable {D : va_G} {aC : Nat → ClassId} {B0 : Nat} {H0 : Heap} {eE nL σ : Nat} {h : ah} {lv : LV} {Q : QT}
theorem caughtV {tb : Tables} {s target : State} {g : JFrame} {a : Addr} (h : At s g.method c below) {pc : Nat} {vm' : Vm} (hfind : FindsV e ((s.setTop g).pushFrame (.throwing a)) g a (.found pc) vm')
    (hrest : Steps tb e below ((s.setVm vm').setTop { g with pc := pc, stack := [.ref a] }) target) :
    Steps tb e below ((s.setTop g).pushFrame (.throwing a)) target := by
  obtain ⟨hgo, hw⟩ := h.throwing a
  refine Steps.head hgo hw ?_
  rw [stepThread_throwing (frames_entered h.top _), step_catchV (s := (s.setTop g).pushFrame (.throwing a)) hfind]
  obtain ⟨g₀, hg⟩ := Option.isSome_iff_exists.mp h.top
  obtain ⟨r, hr⟩ := State.topJava?_eq_some.mp hg
  have hr' : (s.setVm vm').frames = .java g₀ :: r := hr
  rw [State.setTop_of_frames _ hr'] at hrest
  have : (((s.setTop g).pushFrame (.throwing a)).setVm vm').setFrames (.java { g with pc := pc, stack := [.ref a] } :: s.frames.tail) = (s.setVm vm').setFrames (.java { g with pc := pc, stack := [.ref a] } :: r) := by
    have h1 : (((s.setTop g).pushFrame (.throwing a)).setVm vm').setFrames (.java { g with pc := pc, stack := [.ref a] } :: s.frames.tail) = (((s.setTop g).pushFrame (.throwing a)).setFrames (.java { g with pc := pc, stack := [.ref a] } :: s.frames.tail)).setVm vm' := rfl
    rw [h1, State.pushFrame, State.setFrames_setFrames, State.setTop_of_frames _ hr, State.setFrames_setFrames, hr]
    rfl
  rw [this]
  exact hrest
theorem thrownOutV {tb : Tables} {s target : State} {g : JFrame} {a : Addr} (h : At s g.method c below) {vm' : Vm} (hm : vm'.method? g.method = some meth) (hl : meth.locks = false)
    (hlocked : g.locked = none) (hentered : g.entered = []) (hfind : FindsV e ((s.setTop g).pushFrame (.throwing a)) g a .none vm')
    (hrest : Steps tb e below ((s.setVm vm').setFrames (.throwing a :: s.frames.tail)) target) :
    Steps tb e below ((s.setTop g).pushFrame (.throwing a)) target := by
  obtain ⟨hgo, hw⟩ := h.throwing a
  refine Steps.head hgo hw ?_
  rw [stepThread_throwing (frames_entered h.top _), step_leaveV (s := (s.setTop g).pushFrame (.throwing a)) hm hl hlocked hentered hfind]
  obtain ⟨g₀, hg⟩ := Option.isSome_iff_exists.mp h.top
  obtain ⟨r, hr⟩ := State.topJava?_eq_some.mp hg
  have : (((s.setTop g).pushFrame (.throwing a)).setVm vm').setFrames (.throwing a :: s.frames.tail) = (s.setVm vm').setFrames (.throwing a :: s.frames.tail) := by
    have h1 : (((s.setTop g).pushFrame (.throwing a)).setVm vm').setFrames (.throwing a :: s.frames.tail) = (((s.setTop g).pushFrame (.throwing a)).setFrames (.throwing a :: s.frames.tail)).setVm vm' := rfl
    rw [h1, State.pushFrame, State.setFrames_setFrames, State.setTop_of_frames _ hr, State.setFrames_setFrames]
    rfl
  rw [this]
  exact hrest
theorem tw (X : Stand p l e R s m args below meth c T locs cells slots) (hlocks : meth.locks = false) {ow : String} (hE : EW s) (hKn : EK D aC s) (hN : EN D s) {ncT : List (String × String)} (hC : EC ncT s) (hown : s.vm.findClass ow = some m.cls)
    {a pc : Nat} {ls : Array Slot} {st : List Value} (r : Rep D aC B0 H0 eE h T.heap) (hl : LR ls nL lv) (hb : ∀ q ∈ locs, B0 ≤ q.base) (a5 : hz h = s.heap.size + 1 + cells) (a6 : hs h = σ + slots) (hk0 : hK h (a + 1) ≠ 0)
    {hs' : List (Nat × Nat × Nat × List Nat × List Nat)} (hh : HOKs ow ncT c.exceptionTable.toList hs')
    (hd : hndl hs' pc (hK h (a + 1)) (fun t => MW p l e R s m args below meth c (FQ8 s below D aC B0 H0 eE σ Q) D aC B0 H0 eE nL σ t lv [vR (a + 1)] h) (Q (Sum.inr (a + 1)) h)) :
    ∃ t, Steps p.tables e below ((T.setTop (F0 m pc ls st)).pushFrame (.throwing a)) t ∧ FQ8 s below D aC B0 H0 eE σ Q t := by
  have hrS : Rep D aC B0 H0 eE h ((T.setTop (F0 m pc ls st)).pushFrame (.throwing a)).heap := by rw [Stand.throwing_heap]; exact r
  have hvm : ((T.setTop (F0 m pc ls st)).pushFrame (.throwing a)).vm = T.vm := Stand.throwing_vm _ _ _
  have hself : ((T.setTop (F0 m pc ls st)).pushFrame (.throwing a)).setVm T.vm = (T.setTop (F0 m pc ls st)).pushFrame (.throwing a) := by rw [← hvm]; rfl
  have hmeth : ((T.setTop (F0 m pc ls st)).pushFrame (.throwing a)).vm.method? m = some meth := by rw [hvm]; exact X.method'
  obtain ⟨vm', hv, hres⟩ := search X hE hKn hN hC hown hrS (g := F0 m pc ls st) rfl hh T.vm X.warmed hd
  have X' := X.noted hv
  have hAt : At T (F0 m pc ls st).method c below := X.here
  rcases hres with ⟨t, ht, hf⟩ | ⟨hn, hf⟩
  · obtain ⟨t1, b1, b2⟩ := ht T.heap locs cells slots ls r hl (fun v hv => by cases List.mem_singleton.mp hv; trivial) hb a5 a6 (T.setVm vm') rfl X'
    refine ⟨t1, caughtV hAt (vm' := vm') (pc := t) (fun Q E d acts => ?_) b1, b2⟩
    rw [W.findHandler_eq (f := F0 m pc ls st) hmeth X.code, ← hf Q E d acts, hself]
  · refine ⟨(T.setVm vm').setFrames (.throwing a :: below), thrownOutV hAt (vm' := vm') (by show vm'.method? m = some meth; rw [hv.alike.method?]; exact X.method) hlocks rfl rfl (fun Q E d acts => ?_) ?_, ?_⟩
    · rw [W.findHandler_eq (f := F0 m pc ls st) hmeth X.code, ← hf Q E d acts, hself]
    · rw [X.tail]; exact Steps.refl _
    · obtain ⟨g₀, hfr⟩ := X'.frames_eq
      exact ⟨Sum.inr (a + 1), h, locs, cells, slots, hn, hk0, r, hb, a5, a6, X'.here.running, State.frames_setFrames _ (State.cur_lt_of_frames hfr), (X'.ends _).1, (X'.ends _).2⟩
end
