/-! the end of an invocation: returns -/
def oc (o : Out) : Outcome := match o with
  | Sum.inl none => .returned none
  | Sum.inl (some v) => .returned (some (cv v))
  | Sum.inr x => .threw (x - 1)
def ocan (h : ah) (o : Out) : Prop := match o with
  | Sum.inl none => True
  | Sum.inl (some v) => can v
  | Sum.inr x => hK h x ≠ 0
/-- an invocation that was made in s above 'below' has ended in t as an abstract outcome says -/
def FQ8 (s : State) (below : List Frame) (D : va_G) (aC : Nat → ClassId) (B0 : Nat) (H0 : Heap) (eE σ : Nat) (Q : QT) (t : State) : Prop :=
  ∃ (o : Out) (h' : ah) (L : List Loc) (k n : Nat), Q o h' ∧ ocan h' o ∧ Rep D aC B0 H0 eE h' t.heap ∧ (∀ q ∈ L, B0 ≤ q.base) ∧ hz h' = s.heap.size + 1 + k ∧ hs h' = σ + n ∧ t.status = .running ∧ Ended t below (oc o) ∧ s.WarmedH t.vm ∧ s.sameButNew ({ t with vm := s.vm } : State) L k n
section
variable {p : Program} {l : Launch} {e : Env} {R : Room} {s : State} {m : MethodId} {args : Array Value} {below : List Frame} {meth : Method} {c : Code}
variable {cc : ByteArray} {pc : Nat} {D : va_G} {aC : Nat → ClassId} {B0 : Nat} {H0 : Heap} {eE nL σ : Nat} {h : ah} {lv : LV} {st : List AV} {Q : QT}
theorem FQ8.mono {Q' : QT} (hq : ∀ o h, Q o h → Q' o h) {t : State} (h : FQ8 s below D aC B0 H0 eE σ Q t) : FQ8 s below D aC B0 H0 eE σ Q' t := by
  obtain ⟨o, h', L, k, n, h1, h2⟩ := h
  exact ⟨o, h', L, k, n, hq _ _ h1, h2⟩
theorem MW.mono {P P' : State → Prop} (hq : ∀ t, P t → P' t) {lv' : LV} (hs' : lsub lv lv') (k : MW p l e R s m args below meth c P D aC B0 H0 eE nL σ pc lv st h) : MW p l e R s m args below meth c P' D aC B0 H0 eE nL σ pc lv' st h := by
  intro H locs cells slots ls a1 a2 a3 a4 a5 a6 T hT X
  obtain ⟨t, b1, b2⟩ := k H locs cells slots ls a1 (a2.sub hs') a3 a4 a5 a6 T hT X
  exact ⟨t, b1, hq t b2⟩
theorem mw_vret (hexec : p.tables.exec = Jvm.exec) (hb : c.code = cc) (hlocks : meth.locks = false) (hr : meth.sig.returnType = none) (hdg : decode cc pc = .ok (.return_, 1)) (q : Q (Sum.inl none) h) : MW p l e R s m args below meth c (FQ8 s below D aC B0 H0 eE σ Q) D aC B0 H0 eE nL σ pc lv st h := by
  intro H locs cells slots ls a1 a2 a3 a4 a5 a6 T hT X
  obtain ⟨fs, hret, hrun, hended, hW, hframe⟩ := X.leave (v := none) (fun _ => rfl)
  have hmeth' : T.vm.method? m = some meth := X.method'
  refine ⟨T.setFrames fs, ?_, Sum.inl none, h, locs, cells, slots, q, trivial, (by show Rep D aC B0 H0 eE h T.heap; rw [hT]; exact a1), a4, a5, a6, hrun, hended, hW, hframe⟩
  jvm_step X.here [X.here.top, hexec, hb, hdg, hmeth', hr]
  (try refine ⟨rfl, ?_⟩); (try refine ⟨rfl, ?_⟩)
  first | (intro acts; rw [hret _ acts rfl rfl rfl]) | rw [hret _ _ rfl rfl rfl]
  exact Steps.refl _
theorem mw_iret (hexec : p.tables.exec = Jvm.exec) (hb : c.code = cc) (hlocks : meth.locks = false) {x : Int} {ty : FieldType} (hr : meth.sig.returnType = some ty) (hn : narrow ty (cv (vI x)) = cv (vI x)) (hdg : decode cc pc = .ok (.ireturn, 1)) (q : Q (Sum.inl (some (vI x))) h) : MW p l e R s m args below meth c (FQ8 s below D aC B0 H0 eE σ Q) D aC B0 H0 eE nL σ pc lv (vI x :: st) h := by
  intro H locs cells slots ls a1 a2 a3 a4 a5 a6 T hT X
  have hn : narrow ty (.int (Int32.ofInt x)) = .int (Int32.ofInt x) := hn
  obtain ⟨fs, hret, hrun, hended, hW, hframe⟩ := X.leave (v := some (.int (Int32.ofInt x))) (fun h => by rw [hr] at h; cases h)
  have hmeth' : T.vm.method? m = some meth := X.method'
  refine ⟨T.setFrames fs, ?_, Sum.inl (some (vI x)), h, locs, cells, slots, q, can_h a3, (by show Rep D aC B0 H0 eE h T.heap; rw [hT]; exact a1), a4, a5, a6, hrun, hended, hW, hframe⟩
  simp only [List.map_cons, cv]
  jvm_step X.here [X.here.top, hexec, hb, hdg, hmeth', hr, hn]
  (try refine ⟨rfl, ?_⟩); (try refine ⟨rfl, ?_⟩)
  first | (intro acts; rw [hret _ acts rfl rfl rfl]) | rw [hret _ _ rfl rfl rfl]
  exact Steps.refl _
theorem mw_lret (hexec : p.tables.exec = Jvm.exec) (hb : c.code = cc) (hlocks : meth.locks = false) {x : Int} (hr : meth.sig.returnType = some .long) (hdg : decode cc pc = .ok (.lreturn, 1)) (q : Q (Sum.inl (some (vL x))) h) : MW p l e R s m args below meth c (FQ8 s below D aC B0 H0 eE σ Q) D aC B0 H0 eE nL σ pc lv (vL x :: st) h := by
  intro H locs cells slots ls a1 a2 a3 a4 a5 a6 T hT X
  obtain ⟨fs, hret, hrun, hended, hW, hframe⟩ := X.leave (v := some (.long (Int64.ofInt x))) (fun h => by rw [hr] at h; cases h)
  have hmeth' : T.vm.method? m = some meth := X.method'
  refine ⟨T.setFrames fs, ?_, Sum.inl (some (vL x)), h, locs, cells, slots, q, can_h a3, (by show Rep D aC B0 H0 eE h T.heap; rw [hT]; exact a1), a4, a5, a6, hrun, hended, hW, hframe⟩
  simp only [List.map_cons, cv]
  jvm_step X.here [X.here.top, hexec, hb, hdg, hmeth', hr, narrow]
  (try refine ⟨rfl, ?_⟩); (try refine ⟨rfl, ?_⟩)
  first | (intro acts; rw [hret _ acts rfl rfl rfl]) | rw [hret _ _ rfl rfl rfl]
  exact Steps.refl _
theorem mw_aret (hexec : p.tables.exec = Jvm.exec) (hb : c.code = cc) (hlocks : meth.locks = false) {x : Nat} {rt : FieldType} (hr : meth.sig.returnType = some rt) (hrt : (∃ n, rt = .object n) ∨ ∃ t, rt = .array t) (hdg : decode cc pc = .ok (.areturn, 1)) (q : Q (Sum.inl (some (vR x))) h) : MW p l e R s m args below meth c (FQ8 s below D aC B0 H0 eE σ Q) D aC B0 H0 eE nL σ pc lv (vR x :: st) h := by
  intro H locs cells slots ls a1 a2 a3 a4 a5 a6 T hT X
  obtain ⟨fs, hret, hrun, hended, hW, hframe⟩ := X.leave (v := some (cv (vR x))) (fun h => by rw [hr] at h; cases h)
  have hmeth' : T.vm.method? m = some meth := X.method'
  refine ⟨T.setFrames fs, ?_, Sum.inl (some (vR x)), h, locs, cells, slots, q, trivial, (by show Rep D aC B0 H0 eE h T.heap; rw [hT]; exact a1), a4, a5, a6, hrun, hended, hW, hframe⟩
  rcases hrt with ⟨n, rfl⟩ | ⟨t, rfl⟩ <;> rcases x with _ | x <;>
    (simp only [List.map_cons, cv] at hret ⊢
     jvm_step X.here [X.here.top, hexec, hb, hdg, hmeth', hr]
     (try refine ⟨rfl, ?_⟩); (try refine ⟨rfl, ?_⟩)
     first | (intro acts; rw [hret _ acts rfl rfl rfl]) | rw [hret _ _ rfl rfl rfl]
     exact Steps.refl _)
end
