/-! constants of the pool; static fields that nobody writes -/
/-- texts: class, index, text, number -/
abbrev ST : Type := String × Nat × String × Nat
def ER8 (ρ : Nat → Nat) (strT : List ST) (B0 : Nat) (H0 : Heap) (U : State) : Prop :=
  (∀ q ∈ strT, ∃ a, ρ q.2.2.2 = a + 1 ∧ vk_R q.1 q.2.1 q.2.2.1 a U) ∧ va_Z "LinkedTongueModel" "WANTS" "[I" (cv (vR (ρ 1000))) (fun a => ¬ a < B0) U H0 ∧ va_Z "LinkedTongueModel" "PROTO" "[B" (cv (vR (ρ 1001))) (fun a => ¬ a < B0) U H0
theorem ER8.warm {ρ : Nat → Nat} {strT : List ST} {B0 : Nat} {H0 : Heap} {s U : State} (hW : s.WarmedH U.vm) (h : ER8 ρ strT B0 H0 s) : ER8 ρ strT B0 H0 U := by
  refine ⟨fun q hq => ?_, h.2.1.moved hW.alike, h.2.2.moved hW.alike⟩
  obtain ⟨a, h1, h2⟩ := h.1 q hq
  exact ⟨a, h1, h2.warm hW⟩
section
variable {p : Program} {l : Launch} {e : Env} {R : Room} {s : State} {m : MethodId} {args : Array Value} {below : List Frame} {meth : Method} {c : Code} {Q : State → Prop}
variable {cc : ByteArray} {pc : Nat} {D : va_G} {aC : Nat → ClassId} {B0 : Nat} {H0 : Heap} {eE nL σ : Nat} {h : ah} {lv : LV} {st : List AV} {ow : String} {index : Nat}
theorem mw_ldcI (hexec : p.tables.exec = Jvm.exec) (hb : c.code = cc) {n : Int} (hn : in32 n) (hown : s.vm.findClass ow = some m.cls) (hc : (Cond.constant ow index (Int32.ofInt n)).before args s = true) (hdg : decode cc pc = .ok (.ldc index, 2)) (k : MW p l e R s m args below meth c Q D aC B0 H0 eE nL σ (pc + 2) lv (vI n :: st) h) : MW p l e R s m args below meth c Q D aC B0 H0 eE nL σ pc lv st h :=
  mw_op k (can_0 hn) (fun _ k => lv_ldc hexec hb hown hc hdg k)
theorem mw_ldcwI (hexec : p.tables.exec = Jvm.exec) (hb : c.code = cc) {n : Int} (hn : in32 n) (hown : s.vm.findClass ow = some m.cls) (hc : (Cond.constant ow index (Int32.ofInt n)).before args s = true) (hdg : decode cc pc = .ok (.ldc_w index, 3)) (k : MW p l e R s m args below meth c Q D aC B0 H0 eE nL σ (pc + 3) lv (vI n :: st) h) : MW p l e R s m args below meth c Q D aC B0 H0 eE nL σ pc lv st h :=
  mw_op k (can_0 hn) (fun _ k => lv_ldcw hexec hb hown hc hdg k)
theorem mw_ldc2 (hexec : p.tables.exec = Jvm.exec) (hb : c.code = cc) {n : Int} (hn : in64 n) (hown : s.vm.findClass ow = some m.cls) (hc : (Cond.constantLong ow index (Int64.ofInt n)).before args s = true) (hdg : decode cc pc = .ok (.ldc2_w index, 3)) (k : MW p l e R s m args below meth c Q D aC B0 H0 eE nL σ (pc + 3) lv (vL n :: st) h) : MW p l e R s m args below meth c Q D aC B0 H0 eE nL σ pc lv st h :=
  mw_op k (can_0 hn) (fun _ k => lv_ldc2 hexec hb hown hc hdg k)
theorem ldcwString {T : State} {locs : List Loc} {cells slots : Nat} (X : Stand p l e R s m args below meth c T locs cells slots) (hexec : p.tables.exec = Jvm.exec) {own text : String} {a : Addr} (hown : s.vm.findClass own = some m.cls)
    (hconst : (Cond.stringRef own index text).before #[] s = true) (hev : (Term.string own index).eval #[] s none [] s = some (.ref a)) {g : JFrame} (hg : g.method = m) (hdg : decode c.code g.pc = .ok (.ldc_w index, 3)) :
    ∀ target, Steps p.tables e below (T.setTop { g with pc := g.pc + 3, stack := .ref a :: g.stack }) target → Steps p.tables e below (T.setTop g) target := by
  obtain ⟨k, cf, i, a', hk, hcf, hcp, -, hr, hev'⟩ := Cond.stringRef_spec hown hconst
  cases hev.symm.trans hev'
  obtain ⟨k', hk', he⟩ := X.warmed.alike.2.2 _ _ hk
  have hr' : k'.resolved[index]? = some (some (.string a)) := by
    rcases X.warmed.entry hk hk' index with h | ⟨h, -⟩
    · rw [h]; exact hr
    · rw [hr] at h; cases h
  intro target hrest
  subst hg
  jvm_step X.here [hexec, hdg, ldc_w.wp_string (e := e) (s := T) (f := g) X.here.top hk' (by rw [he]; exact hcf) hcp hr']
  exact hrest
theorem mw_ldcS (hexec : p.tables.exec = Jvm.exec) (hb : c.code = cc) {ρ : Nat → Nat} {strT : List ST} (hR : ER8 ρ strT B0 H0 s) {tx : String} {k0 : Nat} (hq : (ow, index, tx, k0) ∈ strT) (hown : s.vm.findClass ow = some m.cls) (hdg : decode cc pc = .ok (.ldc index, 2)) (k : MW p l e R s m args below meth c Q D aC B0 H0 eE nL σ (pc + 2) lv (vR (ρ k0) :: st) h) : MW p l e R s m args below meth c Q D aC B0 H0 eE nL σ pc lv st h := by
  obtain ⟨a, h1, h2⟩ := hR.1 _ hq
  simp only at h1 h2
  rw [h1] at k
  exact mw_op k (can_0 trivial) (fun _ k => va_ldcS hexec hb hown h2 hdg k)
theorem mw_ldcwS (hexec : p.tables.exec = Jvm.exec) (hb : c.code = cc) {ρ : Nat → Nat} {strT : List ST} (hR : ER8 ρ strT B0 H0 s) {tx : String} {k0 : Nat} (hq : (ow, index, tx, k0) ∈ strT) (hown : s.vm.findClass ow = some m.cls) (hdg : decode cc pc = .ok (.ldc_w index, 3)) (k : MW p l e R s m args below meth c Q D aC B0 H0 eE nL σ (pc + 3) lv (vR (ρ k0) :: st) h) : MW p l e R s m args below meth c Q D aC B0 H0 eE nL σ pc lv st h := by
  obtain ⟨a, h1, h2⟩ := hR.1 _ hq
  simp only at h1 h2
  rw [h1] at k
  refine mw_op k (can_0 trivial) (fun _ k => ?_)
  intro T hT X
  obtain ⟨t, a1, b1⟩ := k T hT X
  exact ⟨t, ldcwString X hexec hown (text := tx) (a := a) h2.1 h2.2 (g := F0 m pc _ _) rfl (by rw [hb]; exact hdg) t a1, b1⟩
theorem mw_gets (hexec : p.tables.exec = Jvm.exec) (hb : c.code = cc) {C n d : String} {x : Nat} (hZ : va_Z C n d (cv (vR x)) (fun a => ¬ a < B0) s H0) (hown : s.vm.findClass ow = some m.cls) (hlink : (Cond.fieldLink ow index C n d).before args s = true) (hdg : decode cc pc = .ok (.getstatic index, 3)) (k : MW p l e R s m args below meth c Q D aC B0 H0 eE nL σ (pc + 3) lv (vR x :: st) h) : MW p l e R s m args below meth c Q D aC B0 H0 eE nL σ pc lv st h := by
  intro H locs cells slots ls a1 a2 a3 a4 a5 a6
  obtain ⟨cf, kf, fi, f, a, cell, h1, h2, h3, h4, h5, h6, h7, h8⟩ := hZ
  have ha : a < B0 := Classical.byContradiction h8
  exact W.gets hexec hb hown hlink h1 h2 h3 h4 (by rw [a1.2.2.2.1 a ha]; exact h5) (fun e => by rw [e] at h6; cases h6) h7 rfl hdg (k H locs cells slots ls a1 a2 (can_0 trivial a3) a4 a5 a6)
end
