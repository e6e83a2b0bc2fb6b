/-! LOCALS, STACK, ARITHMETIC, BRANCHES -/
def LR (ls : Array Slot) (nL : Nat) (lv : LV) : Prop := ls.size = nL ∧ lv_wf ls ∧ ∀ k v, lv.lookup k = some v → ls[k]? = some (.val (cv v)) ∧ can v
def lvL (lv : LV) : List (Nat × Value) := lv.filterMap (fun q => (lv.lookup q.1).map (fun v => (q.1, cv v)))
theorem lookup_mem {lv : LV} {k : Nat} {v : AV} (h : lv.lookup k = some v) : ∃ w, (k, w) ∈ lv := by
  induction lv with
  | nil => cases h
  | cons a r ih =>
    rw [List.lookup_cons] at h
    by_cases e : k == a.1
    · have : k = a.1 := by simpa using e
      exact ⟨a.2, by rw [this]; exact List.mem_cons_self⟩
    · rw [Bool.not_eq_true] at e
      rw [e] at h
      obtain ⟨w, hw⟩ := ih h
      exact ⟨w, List.mem_cons_of_mem _ hw⟩
theorem mem_lvL {lv : LV} {k : Nat} {v : AV} (h : lv.lookup k = some v) : (k, cv v) ∈ lvL lv := by
  obtain ⟨w, hw⟩ := lookup_mem h
  exact List.mem_filterMap.mpr ⟨(k, w), hw, by simp [h]⟩
theorem LR.has {ls : Array Slot} {nL : Nat} {lv : LV} (h : LR ls nL lv) : lv_has ls nL (lvL lv) := by
  refine ⟨h.1, h.2.1, fun q hq => ?_⟩
  obtain ⟨a, -, ha⟩ := List.mem_filterMap.mp hq
  cases hl : lv.lookup a.1 with
  | none => rw [hl] at ha; cases ha
  | some v =>
    rw [hl] at ha
    cases ha
    exact (h.2.2 _ _ hl).1
theorem cat_cv (v : AV) : (cv v).category = if isL v = true then 2 else 1 := by
  rcases v with x | x | x
  · rfl
  · rfl
  · cases x <;> rfl
theorem LR.sub {ls : Array Slot} {nL : Nat} {lv lv' : LV} (h : LR ls nL lv') (hs : lsub lv lv') : LR ls nL lv := ⟨h.1, h.2.1, fun k v hk => h.2.2 k v (hs k v hk)⟩
theorem LR.st1 {ls ls' : Array Slot} {nL k : Nat} {lv : LV} {v : AV} (h : LR ls nL lv) (hc : can v) (h' : lv_has ls' nL ((k, cv v) :: (lvL lv).filter (fun q => !(q.1 == k) && !(q.1 + 1 == k && q.2.category == 2)))) : LR ls' nL (sl1 lv k v) := by
  refine ⟨h'.1, h'.2.1, fun j w hj => ?_⟩
  rw [lk_sl1] at hj
  by_cases e : j = k
  · rw [if_pos e] at hj
    cases hj
    subst e
    exact ⟨h'.2.2 _ List.mem_cons_self, hc⟩
  · rw [if_neg e] at hj
    by_cases e2 : j + 1 = k ∧ lg lv j = true
    · rw [if_pos e2] at hj; cases hj
    · rw [if_neg e2] at hj
      refine ⟨h'.2.2 (j, cv w) (List.mem_cons_of_mem _ (List.mem_filter.mpr ⟨mem_lvL hj, ?_⟩)), (h.2.2 _ _ hj).2⟩
      have hg : lg lv j = isL w := by unfold lg; rw [hj]
      rw [hg] at e2
      have hne : (j == k) = false := by simpa using e
      simp only [hne, cat_cv, Bool.not_false, Bool.true_and, Bool.not_eq_true', Bool.and_eq_false_iff]
      by_cases e3 : j + 1 = k
      · right
        have : isL w = false := by
          rw [← Bool.not_eq_true]; exact fun z => e2 ⟨e3, z⟩
        rw [this]; rfl
      · left; simpa using e3
theorem LR.st2 {ls ls' : Array Slot} {nL k : Nat} {lv : LV} {v : AV} (h : LR ls nL lv) (hc : can v) (h' : lv_has ls' nL ((k, cv v) :: (lvL lv).filter (fun q => !(q.1 == k) && (!(q.1 == k + 1) && !(q.1 + 1 == k && q.2.category == 2))))) : LR ls' nL (sl2 lv k v) := by
  refine ⟨h'.1, h'.2.1, fun j w hj => ?_⟩
  rw [lk_sl2] at hj
  by_cases e : j = k
  · rw [if_pos e] at hj
    cases hj
    subst e
    exact ⟨h'.2.2 _ List.mem_cons_self, hc⟩
  · rw [if_neg e] at hj
    by_cases e2 : j = k + 1 ∨ (j + 1 = k ∧ lg lv j = true)
    · rw [if_pos e2] at hj; cases hj
    · rw [if_neg e2] at hj
      refine ⟨h'.2.2 (j, cv w) (List.mem_cons_of_mem _ (List.mem_filter.mpr ⟨mem_lvL hj, ?_⟩)), (h.2.2 _ _ hj).2⟩
      have hg : lg lv j = isL w := by unfold lg; rw [hj]
      rw [hg] at e2
      have hne : (j == k) = false := by simpa using e
      have hne2 : (j == k + 1) = false := by simpa using fun z => e2 (Or.inl z)
      simp only [hne, hne2, cat_cv, Bool.not_false, Bool.true_and, Bool.not_eq_true', Bool.and_eq_false_iff]
      by_cases e3 : j + 1 = k
      · right
        have : isL w = false := by
          rw [← Bool.not_eq_true]; exact fun z => e2 (Or.inr ⟨e3, z⟩)
        rw [this]; rfl
      · left; simpa using e3
/-- what the machine does at a place, all that stands for the abstract locals, stack and heap -/
def MW (p : Program) (l : Launch) (e : Env) (R : Room) (s : State) (m : MethodId) (args : Array Value) (below : List Frame) (meth : Method) (c : Code) (Q : State → Prop) (D : va_G) (aC : Nat → ClassId) (B0 : Nat) (H0 : Heap) (eE nL σ : Nat) (pc : Nat) (lv : LV) (st : List AV) (h : ah) : Prop :=
  ∀ (H : Heap) (locs : List Loc) (cells slots : Nat) (ls : Array Slot), Rep D aC B0 H0 eE h H → LR ls nL lv → (∀ v ∈ st, can v) → (∀ q ∈ locs, B0 ≤ q.base) → hz h = s.heap.size + 1 + cells → hs h = σ + slots →
    W p l e R s m args below meth c H locs cells slots Q (F0 m pc ls (st.map cv))
theorem in32_cmp (x y : Int) : in32 (if x < y then -1 else if x = y then 0 else 1) := by
  unfold in32
  split
  · omega
  · split <;> omega
theorem in32_w8 (x : Int) : in32 (w8 x) := by
  unfold in32 w8
  simp only [Int.bmod]
  omega
theorem i2c_of {x : Int} (hx : in32 x) : ((Int32.ofInt x).toUInt32 % 65536).toInt32 = Int32.ofInt (x % 65536) := by
  have h1 : ((Int32.ofInt x).toUInt32 % 65536).toNat = (x % 65536).toNat := by
    rw [UInt32.toNat_mod]
    show (BitVec.ofInt 32 x).toNat % 65536 = _
    rw [BitVec.toNat_ofInt]
    omega
  apply Int32.toInt_inj.mp
  rw [i32_of (show in32 (x % 65536) by unfold in32; omega)]
  have h2 : (((Int32.ofInt x).toUInt32 % 65536).toInt32).toInt = ((Int32.ofInt x).toUInt32 % 65536).toBitVec.toInt := rfl
  have h3 : ((Int32.ofInt x).toUInt32 % 65536).toBitVec.toNat = (x % 65536).toNat := h1
  rw [h2, BitVec.toInt_eq_toNat_cond, h3]
  split <;> omega
section
variable {p : Program} {l : Launch} {e : Env} {R : Room} {s : State} {m : MethodId} {args : Array Value} {below : List Frame} {meth : Method} {c : Code} {Q : State → Prop}
variable {cc : ByteArray} {pc : Nat} {D : va_G} {aC : Nat → ClassId} {B0 : Nat} {H0 : Heap} {eE nL σ : Nat} {h : ah} {lv : LV} {st : List AV}
theorem mw_op {pc' : Nat} {st' : List AV} (k : MW p l e R s m args below meth c Q D aC B0 H0 eE nL σ pc' lv st' h) (hst : (∀ v ∈ st, can v) → ∀ v ∈ st', can v) (row : ∀ {H : Heap} {locs : List Loc} {cells slots : Nat} {ls : Array Slot}, (∀ v ∈ st, can v) → W p l e R s m args below meth c H locs cells slots Q (F0 m pc' ls (st'.map cv)) → W p l e R s m args below meth c H locs cells slots Q (F0 m pc ls (st.map cv))) : MW p l e R s m args below meth c Q D aC B0 H0 eE nL σ pc lv st h :=
  fun H locs cells slots ls a1 a2 a3 a4 a5 a6 => row a3 (k H locs cells slots ls a1 a2 (hst a3) a4 a5 a6)
theorem can_2 {a b v : AV} {s : List AV} (hv : can v) (h : ∀ w ∈ a :: b :: s, can w) : ∀ w ∈ v :: s, can w := by
  intro w hw
  rcases List.mem_cons.mp hw with rfl | hw
  · exact hv
  · exact h w (List.mem_cons_of_mem _ (List.mem_cons_of_mem _ hw))
theorem can_1 {a v : AV} {s : List AV} (hv : can v) (h : ∀ w ∈ a :: s, can w) : ∀ w ∈ v :: s, can w := by
  intro w hw
  rcases List.mem_cons.mp hw with rfl | hw
  · exact hv
  · exact h w (List.mem_cons_of_mem _ hw)
theorem can_0 {v : AV} {s : List AV} (hv : can v) (h : ∀ w ∈ s, can w) : ∀ w ∈ v :: s, can w := by
  intro w hw
  rcases List.mem_cons.mp hw with rfl | hw
  · exact hv
  · exact h w hw
theorem can_t {a : AV} {s : List AV} (h : ∀ w ∈ a :: s, can w) : ∀ w ∈ s, can w := fun w hw => h w (List.mem_cons_of_mem _ hw)
theorem can_h {a : AV} {s : List AV} (h : ∀ w ∈ a :: s, can w) : can a := h a List.mem_cons_self
theorem can_h2 {a b : AV} {s : List AV} (h : ∀ w ∈ a :: b :: s, can w) : can b := h b (List.mem_cons_of_mem _ List.mem_cons_self)
theorem mw_iadd (hexec : p.tables.exec = Jvm.exec) (hb : c.code = cc) {x y : Int} (hdg : decode cc pc = .ok (.iadd, 1)) (k : MW p l e R s m args below meth c Q D aC B0 H0 eE nL σ (pc + 1) lv (vI (w32 (x + y)) :: st) h) : MW p l e R s m args below meth c Q D aC B0 H0 eE nL σ pc lv (vI y :: vI x :: st) h :=
  mw_op k (can_2 (in32_w _)) (fun _ k => lv_iadd hexec hb hdg (by simp only [List.map_cons, cv, of_w32, Int32.ofInt_add] at k; exact k))
theorem mw_isub (hexec : p.tables.exec = Jvm.exec) (hb : c.code = cc) {x y : Int} (hdg : decode cc pc = .ok (.isub, 1)) (k : MW p l e R s m args below meth c Q D aC B0 H0 eE nL σ (pc + 1) lv (vI (w32 (x - y)) :: st) h) : MW p l e R s m args below meth c Q D aC B0 H0 eE nL σ pc lv (vI y :: vI x :: st) h :=
  mw_op k (can_2 (in32_w _)) (fun _ k => lv_isub hexec hb hdg (by simp only [List.map_cons, cv, of_w32, Int32.ofInt_sub] at k; exact k))
theorem mw_imul (hexec : p.tables.exec = Jvm.exec) (hb : c.code = cc) {x y : Int} (hdg : decode cc pc = .ok (.imul, 1)) (k : MW p l e R s m args below meth c Q D aC B0 H0 eE nL σ (pc + 1) lv (vI (w32 (x * y)) :: st) h) : MW p l e R s m args below meth c Q D aC B0 H0 eE nL σ pc lv (vI y :: vI x :: st) h :=
  mw_op k (can_2 (in32_w _)) (fun _ k => lv_imul hexec hb hdg (by simp only [List.map_cons, cv, of_w32, Int32.ofInt_mul] at k; exact k))
theorem mw_ineg (hexec : p.tables.exec = Jvm.exec) (hb : c.code = cc) {x : Int} (hdg : decode cc pc = .ok (.ineg, 1)) (k : MW p l e R s m args below meth c Q D aC B0 H0 eE nL σ (pc + 1) lv (vI (w32 (-x)) :: st) h) : MW p l e R s m args below meth c Q D aC B0 H0 eE nL σ pc lv (vI x :: st) h :=
  mw_op k (can_1 (in32_w _)) (fun _ k => lv_ineg hexec hb hdg (by simp only [List.map_cons, cv, of_w32, Int32.ofInt_neg] at k; exact k))
theorem mw_idiv (hexec : p.tables.exec = Jvm.exec) (hb : c.code = cc) {x y : Int} (hy : y ≠ 0) (hdg : decode cc pc = .ok (.idiv, 1)) (k : MW p l e R s m args below meth c Q D aC B0 H0 eE nL σ (pc + 1) lv (vI (o32 (· / ·) x y) :: st) h) : MW p l e R s m args below meth c Q D aC B0 H0 eE nL σ pc lv (vI y :: vI x :: st) h :=
  mw_op k (can_2 (in32_t _)) (fun a k => lv_idiv hexec hb hdg (fun z => hy ((eq32 (can_h a) ⟨by decide, by decide⟩).mp z)) (by simp only [List.map_cons, cv, o32, Int32.ofInt_toInt] at k; exact k))
theorem mw_iand (hexec : p.tables.exec = Jvm.exec) (hb : c.code = cc) {x y : Int} (hdg : decode cc pc = .ok (.iand, 1)) (k : MW p l e R s m args below meth c Q D aC B0 H0 eE nL σ (pc + 1) lv (vI (o32 (· &&& ·) x y) :: st) h) : MW p l e R s m args below meth c Q D aC B0 H0 eE nL σ pc lv (vI y :: vI x :: st) h :=
  mw_op k (can_2 (in32_t _)) (fun _ k => lv_iand hexec hb hdg (by simp only [List.map_cons, cv, o32, Int32.ofInt_toInt] at k; exact k))
theorem mw_ior (hexec : p.tables.exec = Jvm.exec) (hb : c.code = cc) {x y : Int} (hdg : decode cc pc = .ok (.ior, 1)) (k : MW p l e R s m args below meth c Q D aC B0 H0 eE nL σ (pc + 1) lv (vI (o32 (· ||| ·) x y) :: st) h) : MW p l e R s m args below meth c Q D aC B0 H0 eE nL σ pc lv (vI y :: vI x :: st) h :=
  mw_op k (can_2 (in32_t _)) (fun _ k => lv_ior hexec hb hdg (by simp only [List.map_cons, cv, o32, Int32.ofInt_toInt] at k; exact k))
theorem mw_ixor (hexec : p.tables.exec = Jvm.exec) (hb : c.code = cc) {x y : Int} (hdg : decode cc pc = .ok (.ixor, 1)) (k : MW p l e R s m args below meth c Q D aC B0 H0 eE nL σ (pc + 1) lv (vI (o32 (· ^^^ ·) x y) :: st) h) : MW p l e R s m args below meth c Q D aC B0 H0 eE nL σ pc lv (vI y :: vI x :: st) h :=
  mw_op k (can_2 (in32_t _)) (fun _ k => lv_ixor hexec hb hdg (by simp only [List.map_cons, cv, o32, Int32.ofInt_toInt] at k; exact k))
theorem mw_ishl (hexec : p.tables.exec = Jvm.exec) (hb : c.code = cc) {x y : Int} (hdg : decode cc pc = .ok (.ishl, 1)) (k : MW p l e R s m args below meth c Q D aC B0 H0 eE nL σ (pc + 1) lv (vI (o32 (fun a b => a <<< (b &&& 31)) x y) :: st) h) : MW p l e R s m args below meth c Q D aC B0 H0 eE nL σ pc lv (vI y :: vI x :: st) h :=
  mw_op k (can_2 (in32_t _)) (fun _ k => lv_ishl hexec hb hdg (by simp only [List.map_cons, cv, o32, Int32.ofInt_toInt] at k; exact k))
theorem mw_ishr (hexec : p.tables.exec = Jvm.exec) (hb : c.code = cc) {x y : Int} (hdg : decode cc pc = .ok (.ishr, 1)) (k : MW p l e R s m args below meth c Q D aC B0 H0 eE nL σ (pc + 1) lv (vI (o32 (fun a b => a >>> (b &&& 31)) x y) :: st) h) : MW p l e R s m args below meth c Q D aC B0 H0 eE nL σ pc lv (vI y :: vI x :: st) h :=
  mw_op k (can_2 (in32_t _)) (fun _ k => lv_ishr hexec hb hdg (by simp only [List.map_cons, cv, o32, Int32.ofInt_toInt] at k; exact k))
theorem mw_iushr (hexec : p.tables.exec = Jvm.exec) (hb : c.code = cc) {x y : Int} (hdg : decode cc pc = .ok (.iushr, 1)) (k : MW p l e R s m args below meth c Q D aC B0 H0 eE nL σ (pc + 1) lv (vI (o32 (fun a b => (a.toUInt32 >>> (b.toUInt32 &&& Int32.toUInt32 31)).toInt32) x y) :: st) h) : MW p l e R s m args below meth c Q D aC B0 H0 eE nL σ pc lv (vI y :: vI x :: st) h :=
  mw_op k (can_2 (in32_t _)) (fun _ k => lv_iushr hexec hb hdg rfl (by simp only [List.map_cons, cv, o32, Int32.ofInt_toInt] at k; exact k))
theorem mw_ladd (hexec : p.tables.exec = Jvm.exec) (hb : c.code = cc) {x y : Int} (hdg : decode cc pc = .ok (.ladd, 1)) (k : MW p l e R s m args below meth c Q D aC B0 H0 eE nL σ (pc + 1) lv (vL (w64 (x + y)) :: st) h) : MW p l e R s m args below meth c Q D aC B0 H0 eE nL σ pc lv (vL y :: vL x :: st) h :=
  mw_op k (can_2 (in64_w _)) (fun _ k => lv_ladd hexec hb hdg (by simp only [List.map_cons, cv, of_w64, Int64.ofInt_add] at k; exact k))
theorem mw_lsub (hexec : p.tables.exec = Jvm.exec) (hb : c.code = cc) {x y : Int} (hdg : decode cc pc = .ok (.lsub, 1)) (k : MW p l e R s m args below meth c Q D aC B0 H0 eE nL σ (pc + 1) lv (vL (w64 (x - y)) :: st) h) : MW p l e R s m args below meth c Q D aC B0 H0 eE nL σ pc lv (vL y :: vL x :: st) h :=
  mw_op k (can_2 (in64_w _)) (fun _ k => lv_lsub hexec hb hdg (by simp only [List.map_cons, cv, of_w64, Int64.ofInt_sub] at k; exact k))
theorem mw_lmul (hexec : p.tables.exec = Jvm.exec) (hb : c.code = cc) {x y : Int} (hdg : decode cc pc = .ok (.lmul, 1)) (k : MW p l e R s m args below meth c Q D aC B0 H0 eE nL σ (pc + 1) lv (vL (w64 (x * y)) :: st) h) : MW p l e R s m args below meth c Q D aC B0 H0 eE nL σ pc lv (vL y :: vL x :: st) h :=
  mw_op k (can_2 (in64_w _)) (fun _ k => lv_lmul hexec hb hdg (by simp only [List.map_cons, cv, of_w64, Int64.ofInt_mul] at k; exact k))
theorem mw_lneg (hexec : p.tables.exec = Jvm.exec) (hb : c.code = cc) {x : Int} (hdg : decode cc pc = .ok (.lneg, 1)) (k : MW p l e R s m args below meth c Q D aC B0 H0 eE nL σ (pc + 1) lv (vL (w64 (-x)) :: st) h) : MW p l e R s m args below meth c Q D aC B0 H0 eE nL σ pc lv (vL x :: st) h :=
  mw_op k (can_1 (in64_w _)) (fun _ k => lv_lneg hexec hb hdg (by simp only [List.map_cons, cv, of_w64, Int64.ofInt_neg] at k; exact k))
theorem mw_ldiv (hexec : p.tables.exec = Jvm.exec) (hb : c.code = cc) {x y : Int} (hy : y ≠ 0) (hdg : decode cc pc = .ok (.ldiv, 1)) (k : MW p l e R s m args below meth c Q D aC B0 H0 eE nL σ (pc + 1) lv (vL (o64 (· / ·) x y) :: st) h) : MW p l e R s m args below meth c Q D aC B0 H0 eE nL σ pc lv (vL y :: vL x :: st) h :=
  mw_op k (can_2 (in64_t _)) (fun a k => lv_ldiv hexec hb hdg (fun z => hy ((eq64 (can_h a) ⟨by decide, by decide⟩).mp z)) (by simp only [List.map_cons, cv, o64, Int64.ofInt_toInt] at k; exact k))
theorem mw_lrem (hexec : p.tables.exec = Jvm.exec) (hb : c.code = cc) {x y : Int} (hy : y ≠ 0) (hdg : decode cc pc = .ok (.lrem, 1)) (k : MW p l e R s m args below meth c Q D aC B0 H0 eE nL σ (pc + 1) lv (vL (o64 (fun a b => a - a / b * b) x y) :: st) h) : MW p l e R s m args below meth c Q D aC B0 H0 eE nL σ pc lv (vL y :: vL x :: st) h :=
  mw_op k (can_2 (in64_t _)) (fun a k => lv_lrem hexec hb hdg (fun z => hy ((eq64 (can_h a) ⟨by decide, by decide⟩).mp z)) (by simp only [List.map_cons, cv, o64, Int64.ofInt_toInt] at k; exact k))
theorem mw_land (hexec : p.tables.exec = Jvm.exec) (hb : c.code = cc) {x y : Int} (hdg : decode cc pc = .ok (.land, 1)) (k : MW p l e R s m args below meth c Q D aC B0 H0 eE nL σ (pc + 1) lv (vL (o64 (· &&& ·) x y) :: st) h) : MW p l e R s m args below meth c Q D aC B0 H0 eE nL σ pc lv (vL y :: vL x :: st) h :=
  mw_op k (can_2 (in64_t _)) (fun _ k => lv_land hexec hb hdg (by simp only [List.map_cons, cv, o64, Int64.ofInt_toInt] at k; exact k))
theorem mw_lor (hexec : p.tables.exec = Jvm.exec) (hb : c.code = cc) {x y : Int} (hdg : decode cc pc = .ok (.lor, 1)) (k : MW p l e R s m args below meth c Q D aC B0 H0 eE nL σ (pc + 1) lv (vL (o64 (· ||| ·) x y) :: st) h) : MW p l e R s m args below meth c Q D aC B0 H0 eE nL σ pc lv (vL y :: vL x :: st) h :=
  mw_op k (can_2 (in64_t _)) (fun _ k => lv_lor hexec hb hdg (by simp only [List.map_cons, cv, o64, Int64.ofInt_toInt] at k; exact k))
theorem mw_lshl (hexec : p.tables.exec = Jvm.exec) (hb : c.code = cc) {x y : Int} (hdg : decode cc pc = .ok (.lshl, 1)) (k : MW p l e R s m args below meth c Q D aC B0 H0 eE nL σ (pc + 1) lv (vL (Int64.ofInt x <<< ((Int32.ofInt y).toInt64 &&& 63)).toInt :: st) h) : MW p l e R s m args below meth c Q D aC B0 H0 eE nL σ pc lv (vI y :: vL x :: st) h :=
  mw_op k (can_2 (in64_t _)) (fun _ k => lv_lshl hexec hb hdg rfl (by simp only [List.map_cons, cv, Int64.ofInt_toInt] at k; exact k))
theorem mw_lshr (hexec : p.tables.exec = Jvm.exec) (hb : c.code = cc) {x y : Int} (hdg : decode cc pc = .ok (.lshr, 1)) (k : MW p l e R s m args below meth c Q D aC B0 H0 eE nL σ (pc + 1) lv (vL (Int64.ofInt x >>> ((Int32.ofInt y).toInt64 &&& 63)).toInt :: st) h) : MW p l e R s m args below meth c Q D aC B0 H0 eE nL σ pc lv (vI y :: vL x :: st) h :=
  mw_op k (can_2 (in64_t _)) (fun _ k => lv_lshr hexec hb hdg rfl (by simp only [List.map_cons, cv, Int64.ofInt_toInt] at k; exact k))
theorem mw_lushr (hexec : p.tables.exec = Jvm.exec) (hb : c.code = cc) {x y : Int} (hdg : decode cc pc = .ok (.lushr, 1)) (k : MW p l e R s m args below meth c Q D aC B0 H0 eE nL σ (pc + 1) lv (vL ((Int64.ofInt x).toUInt64 >>> ((Int32.ofInt y).toInt64.toUInt64 &&& Int64.toUInt64 63)).toInt64.toInt :: st) h) : MW p l e R s m args below meth c Q D aC B0 H0 eE nL σ pc lv (vI y :: vL x :: st) h :=
  mw_op k (can_2 (in64_t _)) (fun _ k => lv_lushr hexec hb hdg rfl (by simp only [List.map_cons, cv, Int64.ofInt_toInt] at k; exact k))
theorem mw_lcmp (hexec : p.tables.exec = Jvm.exec) (hb : c.code = cc) {x y : Int} (hdg : decode cc pc = .ok (.lcmp, 1)) (k : MW p l e R s m args below meth c Q D aC B0 H0 eE nL σ (pc + 1) lv (vI (if x < y then -1 else if x = y then 0 else 1) :: st) h) : MW p l e R s m args below meth c Q D aC B0 H0 eE nL σ pc lv (vL y :: vL x :: st) h :=
  mw_op k (can_2 (in32_cmp x y)) (fun a k => W.lcmp hexec hb hdg (by
    have hx : in64 x := can_h2 a
    have hy : in64 y := can_h a
    have : Int32.ofInt (if x < y then -1 else if x = y then 0 else 1) = lg_cmp (Int64.ofInt x) (Int64.ofInt y) := by
      unfold lg_cmp
      simp only [lt64 hx hy, lt64 hy hx, eq64 hx hy]
      rcases Int.lt_trichotomy x y with h1 | h1 | h1
      · have e1 : ¬ y < x := by omega
        have e2 : ¬ x = y := by omega
        simp [h1, e1, e2] <;> decide
      · subst h1
        simp
      · have e1 : ¬ x < y := by omega
        have e2 : ¬ x = y := by omega
        simp [h1, e1, e2] <;> decide
    simp only [List.map_cons, cv] at k
    rw [this] at k; exact k))
theorem mw_i2l (hexec : p.tables.exec = Jvm.exec) (hb : c.code = cc) {x : Int} (hdg : decode cc pc = .ok (.i2l, 1)) (k : MW p l e R s m args below meth c Q D aC B0 H0 eE nL σ (pc + 1) lv (vL x :: st) h) : MW p l e R s m args below meth c Q D aC B0 H0 eE nL σ pc lv (vI x :: st) h :=
  mw_op k (fun a => can_1 (show in64 x from ⟨by have := (can_h a : in32 x).1; omega, by have := (can_h a : in32 x).2; omega⟩) a) (fun a k => lv_i2l hexec hb hdg (by
    have hx : in32 x := can_h a
    apply Int64.toInt_inj.mp
    rw [Int32.toInt_toInt64, i32_of hx, i64_of ⟨by have := hx.1; omega, by have := hx.2; omega⟩]) k)
theorem mw_l2i (hexec : p.tables.exec = Jvm.exec) (hb : c.code = cc) {x : Int} (hdg : decode cc pc = .ok (.l2i, 1)) (k : MW p l e R s m args below meth c Q D aC B0 H0 eE nL σ (pc + 1) lv (vI (w32 x) :: st) h) : MW p l e R s m args below meth c Q D aC B0 H0 eE nL σ pc lv (vL x :: st) h :=
  mw_op k (can_1 (in32_w _)) (fun a k => lv_l2i hexec hb hdg (by
    have hx : in64 x := can_h a
    rw [of_w32]
    apply Int32.toInt_inj.mp
    rw [Int64.toInt_toInt32, i64_of hx, Int32.toInt_ofInt]) k)
theorem mw_i2b (hexec : p.tables.exec = Jvm.exec) (hb : c.code = cc) {x : Int} (hdg : decode cc pc = .ok (.i2b, 1)) (k : MW p l e R s m args below meth c Q D aC B0 H0 eE nL σ (pc + 1) lv (vI (w8 x) :: st) h) : MW p l e R s m args below meth c Q D aC B0 H0 eE nL σ pc lv (vI x :: st) h :=
  mw_op k (can_1 (in32_w8 x)) (fun a k => lv_i2b hexec hb hdg (by
    have hx : in32 x := can_h a
    have h8 : in32 (w8 x) := in32_w8 x
    apply Int32.toInt_inj.mp
    rw [Int8.toInt_toInt32, Int32.toInt_toInt8, i32_of hx, i32_of h8]; rfl) k)
theorem mw_i2c (hexec : p.tables.exec = Jvm.exec) (hb : c.code = cc) {x : Int} (hdg : decode cc pc = .ok (.i2c, 1)) (k : MW p l e R s m args below meth c Q D aC B0 H0 eE nL σ (pc + 1) lv (vI (x % 65536) :: st) h) : MW p l e R s m args below meth c Q D aC B0 H0 eE nL σ pc lv (vI x :: st) h :=
  mw_op k (can_1 (show in32 (x % 65536) by unfold in32; omega)) (fun a k => lv_i2c hexec hb hdg (i2c_of (can_h a)) k)
end
