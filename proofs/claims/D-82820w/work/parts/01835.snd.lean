/-! the heap's instructions, at places -/
section
variable {p : Program} {l : Launch} {e : Env} {R : Room} {s : State} {m : MethodId} {args : Array Value} {below : List Frame} {meth : Method} {c : Code} {Q : State → Prop}
variable {cc : ByteArray} {pc : Nat} {D : va_G} {aC : Nat → ClassId} {B0 : Nat} {H0 : Heap} {eE nL σ : Nat} {h : ah} {lv : LV} {st : List AV}
theorem mw_get (hexec : p.tables.exec = Jvm.exec) (hb : c.code = cc) {ow : String} (hE : EW s) (hKn : EK D aC s) (hown : s.vm.findClass ow = some m.cls) {a f idx : Nat} (hch : fchk f = true) (hF : FOK ow idx f) (hk : hK h a ∈ (fldf f).2) (hdg : decode cc pc = .ok (.getfield idx, 3)) (k : MW p l e R s m args below meth c Q D aC B0 H0 eE nL σ (pc + 3) lv (getv (f % 8) h f a :: st) h) : MW p l e R s m args below meth c Q D aC B0 H0 eE nL σ pc lv (vR a :: st) h :=
  fun H locs cells slots ls a1 a2 a3 a4 a5 a6 => sn_get hexec hb hE hKn hown a1 hch hF hk hdg fun z => k H locs cells slots ls a1 a2 (can_1 z a3) a4 a5 a6
theorem mw_put (hexec : p.tables.exec = Jvm.exec) (hb : c.code = cc) {ow : String} (hE : EW s) (hKn : EK D aC s) (hown : s.vm.findClass ow = some m.cls) {a f idx : Nat} {v : AV} (hch : fchk f = true) (hF : FOK ow idx f) (hfin : (fInf f).2.2.2 = false ∨ ((fInf f).2.2.2 = true ∧ meth.name = "<init>" ∧ (fInf f).1 = ow ∧ FOKP ow idx f)) (hk : hK h a ∈ (fldf f).2) {F : ah → Prop} (hp : putv (f % 8) v h f a F) (hdg : decode cc pc = .ok (.putfield idx, 3)) (k : ∀ h1, F h1 → MW p l e R s m args below meth c Q D aC B0 H0 eE nL σ (pc + 3) lv st h1) : MW p l e R s m args below meth c Q D aC B0 H0 eE nL σ pc lv (v :: vR a :: st) h :=
  fun H locs cells slots ls a1 a2 a3 a4 a5 a6 => sn_put hexec hb hE hKn hown a1 hch hF hfin hk hp (can_h a3) hdg fun h1 H1 locs1 q1 q2 q3 q4 q5 => k h1 q1 H1 locs1 cells slots ls q4 a2 (can_t (can_t a3)) (fun q hq => (q5 q hq).elim (a4 q) (fun z => z)) (by rw [q2]; exact a5) (by rw [q3]; exact a6)
theorem mw_iald (hexec : p.tables.exec = Jvm.exec) (hb : c.code = cc) (hKn : EK D aC s) {a : Nat} {i : Int} (hk : hK h a ∈ [1, 11]) (h0 : 0 ≤ i) (h1 : i < (hl h a : Int)) (hdg : decode cc pc = .ok (.iaload, 1)) (k : MW p l e R s m args below meth c Q D aC B0 H0 eE nL σ (pc + 1) lv (vI (hA h a i.toNat) :: st) h) : MW p l e R s m args below meth c Q D aC B0 H0 eE nL σ pc lv (vI i :: vR a :: st) h :=
  fun H locs cells slots ls a1 a2 a3 a4 a5 a6 => sn_iald hexec hb hKn a1 hk h0 h1 (can_h a3) hdg fun z => k H locs cells slots ls a1 a2 (can_2 z a3) a4 a5 a6
theorem mw_lald (hexec : p.tables.exec = Jvm.exec) (hb : c.code = cc) (hKn : EK D aC s) {a : Nat} {i : Int} (hk : hK h a ∈ [2]) (h0 : 0 ≤ i) (h1 : i < (hl h a : Int)) (hdg : decode cc pc = .ok (.laload, 1)) (k : MW p l e R s m args below meth c Q D aC B0 H0 eE nL σ (pc + 1) lv (vL (hA h a i.toNat) :: st) h) : MW p l e R s m args below meth c Q D aC B0 H0 eE nL σ pc lv (vI i :: vR a :: st) h :=
  fun H locs cells slots ls a1 a2 a3 a4 a5 a6 => sn_lald hexec hb hKn a1 hk h0 h1 (can_h a3) hdg fun z => k H locs cells slots ls a1 a2 (can_2 z a3) a4 a5 a6
theorem mw_bald (hexec : p.tables.exec = Jvm.exec) (hb : c.code = cc) (hKn : EK D aC s) {a : Nat} {i : Int} (hk : hK h a ∈ [3, 4, 13]) (h0 : 0 ≤ i) (h1 : i < (hl h a : Int)) (hdg : decode cc pc = .ok (.baload, 1)) (k : MW p l e R s m args below meth c Q D aC B0 H0 eE nL σ (pc + 1) lv (vI (hA h a i.toNat) :: st) h) : MW p l e R s m args below meth c Q D aC B0 H0 eE nL σ pc lv (vI i :: vR a :: st) h :=
  fun H locs cells slots ls a1 a2 a3 a4 a5 a6 => sn_bald hexec hb hKn a1 hk h0 h1 (can_h a3) hdg fun z => k H locs cells slots ls a1 a2 (can_2 z a3) a4 a5 a6
theorem mw_aald (hexec : p.tables.exec = Jvm.exec) (hb : c.code = cc) (hKn : EK D aC s) {a : Nat} {i : Int} (hk1 : 20 ≤ hK h a) (hk2 : hK h a < 100) (h0 : 0 ≤ i) (h1 : i < (hl h a : Int)) (hdg : decode cc pc = .ok (.aaload, 1)) (k : MW p l e R s m args below meth c Q D aC B0 H0 eE nL σ (pc + 1) lv (vR (hB h a i.toNat) :: st) h) : MW p l e R s m args below meth c Q D aC B0 H0 eE nL σ pc lv (vI i :: vR a :: st) h :=
  fun H locs cells slots ls a1 a2 a3 a4 a5 a6 => sn_aald hexec hb hKn a1 hk1 hk2 h0 h1 (can_h a3) hdg (k H locs cells slots ls a1 a2 (can_2 trivial a3) a4 a5 a6)
theorem mw_alen (hexec : p.tables.exec = Jvm.exec) (hb : c.code = cc) (hKn : EK D aC s) {a : Nat} (hk1 : 1 ≤ hK h a) (hk2 : hK h a < 100) (hdg : decode cc pc = .ok (.arraylength, 1)) (k : MW p l e R s m args below meth c Q D aC B0 H0 eE nL σ (pc + 1) lv (vI (hl h a) :: st) h) : MW p l e R s m args below meth c Q D aC B0 H0 eE nL σ pc lv (vR a :: st) h :=
  fun H locs cells slots ls a1 a2 a3 a4 a5 a6 => sn_alen hexec hb hKn a1 hk1 hk2 hdg fun z => k H locs cells slots ls a1 a2 (can_1 z a3) a4 a5 a6
theorem mw_iast (hexec : p.tables.exec = Jvm.exec) (hb : c.code = cc) (hKn : EK D aC s) {a : Nat} {i v : Int} (hk : hK h a = 1) (h0 : 0 ≤ i) (h1 : i < (hl h a : Int)) (hdg : decode cc pc = .ok (.iastore, 1)) (k : MW p l e R s m args below meth c Q D aC B0 H0 eE nL σ (pc + 1) lv st (sA h a i.toNat v)) : MW p l e R s m args below meth c Q D aC B0 H0 eE nL σ pc lv (vI v :: vI i :: vR a :: st) h :=
  fun H locs cells slots ls a1 a2 a3 a4 a5 a6 => sn_iast hexec hb hKn a1 hk h0 h1 (can_h2 a3) (can_h a3) hdg fun H1 locs1 q4 q5 => k H1 locs1 cells slots ls q4 a2 (can_t (can_t (can_t a3))) (fun q hq => (q5 q hq).elim (a4 q) (fun z => z)) a5 a6
theorem mw_last (hexec : p.tables.exec = Jvm.exec) (hb : c.code = cc) (hKn : EK D aC s) {a : Nat} {i v : Int} (hk : hK h a = 2) (h0 : 0 ≤ i) (h1 : i < (hl h a : Int)) (hdg : decode cc pc = .ok (.lastore, 1)) (k : MW p l e R s m args below meth c Q D aC B0 H0 eE nL σ (pc + 1) lv st (sA h a i.toNat v)) : MW p l e R s m args below meth c Q D aC B0 H0 eE nL σ pc lv (vL v :: vI i :: vR a :: st) h :=
  fun H locs cells slots ls a1 a2 a3 a4 a5 a6 => sn_last hexec hb hKn a1 hk h0 h1 (can_h2 a3) (can_h a3) hdg fun H1 locs1 q4 q5 => k H1 locs1 cells slots ls q4 a2 (can_t (can_t (can_t a3))) (fun q hq => (q5 q hq).elim (a4 q) (fun z => z)) a5 a6
theorem mw_bast (hexec : p.tables.exec = Jvm.exec) (hb : c.code = cc) (hKn : EK D aC s) {a : Nat} {i v : Int} (hk : (hK h a = 3 ∧ -128 ≤ v ∧ v ≤ 127) ∨ (hK h a = 4 ∧ (v = 0 ∨ v = 1))) (h0 : 0 ≤ i) (h1 : i < (hl h a : Int)) (hdg : decode cc pc = .ok (.bastore, 1)) (k : MW p l e R s m args below meth c Q D aC B0 H0 eE nL σ (pc + 1) lv st (sA h a i.toNat v)) : MW p l e R s m args below meth c Q D aC B0 H0 eE nL σ pc lv (vI v :: vI i :: vR a :: st) h :=
  fun H locs cells slots ls a1 a2 a3 a4 a5 a6 => sn_bast hexec hb hKn a1 hk h0 h1 (can_h2 a3) hdg fun H1 locs1 q4 q5 => k H1 locs1 cells slots ls q4 a2 (can_t (can_t (can_t a3))) (fun q hq => (q5 q hq).elim (a4 q) (fun z => z)) a5 a6
theorem mw_aast (hexec : p.tables.exec = Jvm.exec) (hb : c.code = cc) (hE : EW s) (hKn : EK D aC s) (hN : EN D s) {a v k' : Nat} {i : Int} (hok : EKOK k') (hk1 : 20 ≤ k') (hk2 : k' < 29) (hk : hK h a = k') (hv : v = 0 ∨ hK h v ∈ (ekT.lookup k').getD []) (h0 : 0 ≤ i) (h1 : i < (hl h a : Int)) (hdg : decode cc pc = .ok (.aastore, 1)) (k : MW p l e R s m args below meth c Q D aC B0 H0 eE nL σ (pc + 1) lv st (sB h a i.toNat v)) : MW p l e R s m args below meth c Q D aC B0 H0 eE nL σ pc lv (vR v :: vI i :: vR a :: st) h :=
  fun H locs cells slots ls a1 a2 a3 a4 a5 a6 => sn_aast hexec hb hE hKn hN a1 hok hk1 hk2 hk hv h0 h1 (can_h2 a3) hdg fun H1 locs1 q4 q5 => k H1 locs1 cells slots ls q4 a2 (can_t (can_t (can_t a3))) (fun q hq => (q5 q hq).elim (a4 q) (fun z => z)) a5 a6
theorem mw_new (hexec : p.tables.exec = Jvm.exec) (hb : c.code = cc) {ow : String} (hE : EW s) (hKn : EK D aC s) (hown : s.vm.findClass ow = some m.cls) {kd n idx : Nat} (hok : NOK ow idx kd n) (hdg : decode cc pc = .ok (.new idx, 3)) (hc : hz h < s.heap.size + 1 + R.cells) (hs' : hs h + n ≤ σ + R.slots) (k : MW p l e R s m args below meth c Q D aC B0 H0 eE nL σ (pc + 3) lv (vR (hz h) :: st) (hn h kd n 0)) : MW p l e R s m args below meth c Q D aC B0 H0 eE nL σ pc lv st h :=
  fun H locs cells slots ls a1 a2 a3 a4 a5 a6 => sn_new hexec hb hE hKn hown a1 hok hdg (by omega) (by omega) fun H1 q1 => k H1 locs (cells + 1) (slots + n) ls q1 a2 (can_0 trivial a3) a4 (by show hz h + 1 = _; omega) (by show hs h + n = _; omega)
theorem mw_newa (hexec : p.tables.exec = Jvm.exec) (hb : c.code = cc) (hE : EW s) (hKn : EK D aC s) {at_ : ArrayType} {kd : Nat} {ty : FieldType} (hty : newarray.typeOf at_ = ty) (hk : (kd, ty) ∈ arrT) (hk4 : kd = 1 ∨ kd = 2 ∨ kd = 3 ∨ kd = 4) (hdef : defaultValue ty = aval kd 0) (hw : Cond.arrayClass ty ∈ lw_all) (hby : componentBytes ty ≤ 8) {n : Int} (h0 : 0 ≤ n) (h1 : n ≤ 67108864) (hdg : decode cc pc = .ok (.newarray at_, 2)) (hc : hz h < s.heap.size + 1 + R.cells) (hs' : hs h + n.toNat ≤ σ + R.slots) (k : MW p l e R s m args below meth c Q D aC B0 H0 eE nL σ (pc + 2) lv (vR (hz h) :: st) (hn h kd n.toNat n.toNat)) : MW p l e R s m args below meth c Q D aC B0 H0 eE nL σ pc lv (vI n :: st) h :=
  fun H locs cells slots ls a1 a2 a3 a4 a5 a6 => sn_newa hexec hb hE hKn a1 hty hk hk4 hdef hw hby h0 h1 hdg (by omega) (by omega) fun H1 q1 => k H1 locs (cells + 1) (slots + n.toNat) ls q1 a2 (can_1 trivial a3) a4 (by show hz h + 1 = _; omega) (by show hs h + n.toNat = _; omega)
theorem mw_anew (hexec : p.tables.exec = Jvm.exec) (hb : c.code = cc) {ow : String} (hE : EW s) (hKn : EK D aC s) (hown : s.vm.findClass ow = some m.cls) {kd idx : Nat} (hok : AOK ow idx kd) {n : Int} (h0 : 0 ≤ n) (h1 : n ≤ 67108864) (hdg : decode cc pc = .ok (.anewarray idx, 3)) (hc : hz h < s.heap.size + 1 + R.cells) (hs' : hs h + n.toNat ≤ σ + R.slots) (k : MW p l e R s m args below meth c Q D aC B0 H0 eE nL σ (pc + 3) lv (vR (hz h) :: st) (hn h kd n.toNat n.toNat)) : MW p l e R s m args below meth c Q D aC B0 H0 eE nL σ pc lv (vI n :: st) h :=
  fun H locs cells slots ls a1 a2 a3 a4 a5 a6 => sn_anew hexec hb hE hKn hown a1 hok h0 h1 hdg (by omega) (by omega) fun H1 q1 => k H1 locs (cells + 1) (slots + n.toNat) ls q1 a2 (can_1 trivial a3) a4 (by show hz h + 1 = _; omega) (by show hs h + n.toNat = _; omega)
/-- a class' name behind an index, the kinds that pass, the kinds that do not -/
def COK (ow : String) (idx : Nat) (ys : List Nat) : Prop := ∃ nm, Cond.classLink ow idx nm ∈ lw_all ∧ ∀ k ∈ ys, 190 ≤ k ∧ (kName k = nm ∨ Cond.castable (kName k) nm ∈ lw_tbl)
def IOK (ow : String) (idx : Nat) (ys ns : List Nat) (ncT : List (String × String)) : Prop := ∃ nm, Cond.classLink ow idx nm ∈ lw_all ∧ (∀ k ∈ ys, 190 ≤ k ∧ (kName k = nm ∨ Cond.castable (kName k) nm ∈ lw_tbl)) ∧ ∀ k ∈ ns, 190 ≤ k ∧ (kName k, nm) ∈ ncT
def EC (ncT : List (String × String)) (U : State) : Prop := ∀ q ∈ ncT, va_Nc q.1 q.2 U
theorem EC.moved {ncT : List (String × String)} {u U : State} (hvm : u.vm.Alike U.vm) (h : EC ncT u) : EC ncT U := fun q hq => (h q hq).moved hvm
theorem self_cast {C : String} {cC : ClassId} (h : ClassAt s C cC) : va_Nw (.castable C C) s := by
  show (Cond.castable C C).before #[] s = true
  have ha := va_assign h
  simp only [Cond.before, Cond.holds, Cond.value, h.1]
  simpa using ha
theorem cast_of (hE : EW s) (hKn : EK D aC s) (hN : EN D s) {H : Heap} (r : Rep D aC B0 H0 eE h H) {a : Nat} {nm : String} {ys : List Nat} (hys : ∀ k ∈ ys, 190 ≤ k ∧ (kName k = nm ∨ Cond.castable (kName k) nm ∈ lw_tbl)) (hk : hK h (a + 1) ∈ ys) :
    va_Nw (.castable (kName (hK h (a + 1))) nm) s ∧ ∃ cell : Cell, H[a]? = some cell ∧ cell.vm.isStatics = false ∧ s.vm.findClass (kName (hK h (a + 1))) = some cell.cls := by
  obtain ⟨g190, hcast⟩ := hys _ hk
  obtain ⟨y, cellV, ey, y1, y2, y3, y4⟩ := anyCell hKn hN r (a := a + 1) rfl g190
  cases ey
  refine ⟨?_, cellV, y1, y3, by rw [y2]; exact y4.1⟩
  rcases hcast with hcast | hcast
  · rw [← hcast]; exact self_cast y4
  · exact hE _ hcast rfl #[]
theorem mw_cast (hexec : p.tables.exec = Jvm.exec) (hb : c.code = cc) {ow : String} (hE : EW s) (hKn : EK D aC s) (hN : EN D s) (hown : s.vm.findClass ow = some m.cls) {a idx : Nat} {ys : List Nat} (hok : COK ow idx ys) (hk : a = 0 ∨ hK h a ∈ ys) (hdg : decode cc pc = .ok (.checkcast idx, 3)) (k : MW p l e R s m args below meth c Q D aC B0 H0 eE nL σ (pc + 3) lv (vR a :: st) h) : MW p l e R s m args below meth c Q D aC B0 H0 eE nL σ pc lv (vR a :: st) h :=
  fun H locs cells slots ls a1 a2 a3 a4 a5 a6 => by
    obtain ⟨nm, w1, w2⟩ := hok
    have kk := k H locs cells slots ls a1 a2 a3 a4 a5 a6
    rcases a with _ | a
    · exact lv_castN hexec hb hdg kk
    · have hk : hK h (a + 1) ∈ ys := hk.resolve_left (by omega)
      obtain ⟨q1, q2⟩ := cast_of hE hKn hN a1 w2 hk
      exact va_castY hexec hb hown (hE.all w1) q1 q2 hdg kk
theorem mw_inst (hexec : p.tables.exec = Jvm.exec) (hb : c.code = cc) {ow : String} (hE : EW s) (hKn : EK D aC s) (hN : EN D s) {ncT : List (String × String)} (hC : EC ncT s) (hown : s.vm.findClass ow = some m.cls) {a idx : Nat} {ys ns : List Nat} (hok : IOK ow idx ys ns ncT) (hdg : decode cc pc = .ok (.instanceof idx, 3)) (k0 : a = 0 → MW p l e R s m args below meth c Q D aC B0 H0 eE nL σ (pc + 3) lv (vI 0 :: st) h) (k1 : ¬ a = 0 → hK h a ∈ ys → MW p l e R s m args below meth c Q D aC B0 H0 eE nL σ (pc + 3) lv (vI 1 :: st) h) (k2 : ¬ a = 0 → hK h a ∉ ys → hK h a ∈ ns ∧ MW p l e R s m args below meth c Q D aC B0 H0 eE nL σ (pc + 3) lv (vI 0 :: st) h) : MW p l e R s m args below meth c Q D aC B0 H0 eE nL σ pc lv (vR a :: st) h :=
  fun H locs cells slots ls a1 a2 a3 a4 a5 a6 => by
    obtain ⟨nm, w1, w2, w3⟩ := hok
    rcases a with _ | a
    · exact lv_instN hexec hb hdg (k0 rfl H locs cells slots ls a1 a2 (can_1 z32 a3) a4 a5 a6)
    · by_cases hy : hK h (a + 1) ∈ ys
      · obtain ⟨q1, q2⟩ := cast_of hE hKn hN a1 w2 hy
        exact va_instY hexec hb hown (hE.all w1) q1 q2 hdg (k1 (by omega) hy H locs cells slots ls a1 a2 (can_1 ⟨by decide, by decide⟩ a3) a4 a5 a6)
      · obtain ⟨hn, kk⟩ := k2 (by omega) hy
        obtain ⟨g190, hnc⟩ := w3 _ hn
        obtain ⟨y, cellV, ey, y1, y2, y3, y4⟩ := anyCell hKn hN a1 (a := a + 1) rfl g190
        cases ey
        exact va_instNo hexec hb hown (hE.all w1) (hC _ hnc) ⟨cellV, y1, y3, by rw [y2]; exact y4.1⟩ hdg (kk H locs cells slots ls a1 a2 (can_1 z32 a3) a4 a5 a6)
end
