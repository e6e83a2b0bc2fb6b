/-! constants, loads, stores, the stack, branches -/
def orf (x : Nat) : Option Nat := match x with
  | 0 => none
  | a + 1 => some a
theorem cv_rf (x : Nat) : cv (vR x) = va_rf (orf x) := by cases x <;> rfl
theorem orf_inj (x y : Nat) : orf x = orf y ↔ x = y := by
  cases x <;> cases y <;> simp [orf]
theorem swl_get {x : Int} {ps : List (Int × Int)} {pc : Nat} {F : Nat → Prop} {df : Int} (h0 : 0 ≤ (pc : Int) + df) (hp : ∀ q ∈ ps, 0 ≤ (pc : Int) + q.2) (hh : swl x (ps.map (fun q => (q.1, (pc : Int) + q.2))) F (F ((pc : Int) + df).toNat)) :
    ∃ (off : Int) (tgt : Nat), F tgt ∧ Op.lookupswitch.offset ps df x = off ∧ (pc : Int) + off = (tgt : Int) := by
  induction ps with
  | nil => exact ⟨df, ((pc : Int) + df).toNat, hh, rfl, by omega⟩
  | cons a r ih =>
    obtain ⟨a1, a2⟩ := a
    obtain ⟨h1, h2⟩ := hh
    rw [Op.lookupswitch.offset_cons]
    by_cases e : a1 = x
    · rw [if_pos e]
      have := hp (a1, a2) List.mem_cons_self
      exact ⟨a2, ((pc : Int) + a2).toNat, h1 e.symm, rfl, by simp only at this; omega⟩
    · rw [if_neg e]
      exact ih (fun q hq => hp q (List.mem_cons_of_mem _ hq)) (h2 (fun z => e z.symm))
theorem swt_get {x : Int} {F : Nat → Prop} {D : Prop} : ∀ {ts : List Int} {j : Int}, swt x j ts F D → (∃ t, (j ≤ x ∧ x < j + ts.length) ∧ ts[(x - j).toNat]? = some t ∧ F t.toNat) ∨ ((x < j ∨ j + ts.length ≤ x) ∧ D) := by
  intro ts
  induction ts with
  | nil =>
    intro j hh
    right
    refine ⟨?_, hh⟩
    simp only [List.length_nil]; omega
  | cons t r ih =>
    intro j hh
    obtain ⟨h1, h2⟩ := hh
    by_cases e : x = j
    · left
      refine ⟨t, ⟨by omega, by simp only [List.length_cons]; omega⟩, ?_, h1 e⟩
      rw [e]; simp
    · rcases ih (h2 e) with ⟨t', hr, hg, hF⟩ | ⟨hr, hD⟩
      · left
        refine ⟨t', ⟨by omega, by simp only [List.length_cons]; omega⟩, ?_, hF⟩
        have : (x - j).toNat = (x - (j + 1)).toNat + 1 := by omega
        rw [this, List.getElem?_cons_succ]; exact hg
      · right
        refine ⟨?_, hD⟩
        simp only [List.length_cons]; omega
section
variable {p : Program} {l : Launch} {e : Env} {R : Room} {s : State} {m : MethodId} {args : Array Value} {below : List Frame} {meth : Method} {c : Code} {Q : State → Prop}
variable {cc : ByteArray} {pc : Nat} {D : va_G} {aC : Nat → ClassId} {B0 : Nat} {H0 : Heap} {eE nL σ : Nat} {h : ah} {lv : LV} {st : List AV}
theorem mw_iconst (hexec : p.tables.exec = Jvm.exec) (hb : c.code = cc) {n : Int} (hn : in32 n) (hdg : decode cc pc = .ok (.iconst n, 1)) (k : MW p l e R s m args below meth c Q D aC B0 H0 eE nL σ (pc + 1) lv (vI n :: st) h) : MW p l e R s m args below meth c Q D aC B0 H0 eE nL σ pc lv st h :=
  mw_op k (can_0 hn) (fun _ k => lv_iconst hexec hb hdg rfl k)
theorem mw_bipush (hexec : p.tables.exec = Jvm.exec) (hb : c.code = cc) {n : Int} (hn : -128 ≤ n ∧ n ≤ 127) (hdg : decode cc pc = .ok (.bipush n, 2)) (k : MW p l e R s m args below meth c Q D aC B0 H0 eE nL σ (pc + 2) lv (vI n :: st) h) : MW p l e R s m args below meth c Q D aC B0 H0 eE nL σ pc lv st h :=
  mw_op k (can_0 (show in32 n from ⟨by omega, by omega⟩)) (fun _ k => lv_bipush hexec hb hdg (by
    apply Int32.toInt_inj.mp
    rw [Int8.toInt_toInt32, Int8.toInt_ofInt, i32_of (show in32 n from ⟨by omega, by omega⟩)]
    simp only [Int.bmod, Int8.size]; omega) k)
theorem mw_sipush (hexec : p.tables.exec = Jvm.exec) (hb : c.code = cc) {n : Int} (hn : -32768 ≤ n ∧ n ≤ 32767) (hdg : decode cc pc = .ok (.sipush n, 3)) (k : MW p l e R s m args below meth c Q D aC B0 H0 eE nL σ (pc + 3) lv (vI n :: st) h) : MW p l e R s m args below meth c Q D aC B0 H0 eE nL σ pc lv st h :=
  mw_op k (can_0 (show in32 n from ⟨by omega, by omega⟩)) (fun _ k => lv_sipush hexec hb hdg (by
    apply Int32.toInt_inj.mp
    rw [Int16.toInt_toInt32, Int16.toInt_ofInt, i32_of (show in32 n from ⟨by omega, by omega⟩)]
    simp only [Int.bmod, Int16.size]; omega) k)
theorem mw_lconst (hexec : p.tables.exec = Jvm.exec) (hb : c.code = cc) {n : Fin 2} (hdg : decode cc pc = .ok (.lconst n, 1)) (k : MW p l e R s m args below meth c Q D aC B0 H0 eE nL σ (pc + 1) lv (vL ((n : Nat) : Int) :: st) h) : MW p l e R s m args below meth c Q D aC B0 H0 eE nL σ pc lv st h :=
  mw_op k (can_0 (show in64 _ by unfold in64; omega)) (fun _ k => lv_lconst hexec hb hdg (v := Int64.ofInt ((n : Nat) : Int)) (by rw [Int64.ofInt_eq_ofNat]) k)
theorem mw_null (hexec : p.tables.exec = Jvm.exec) (hb : c.code = cc) (hdg : decode cc pc = .ok (.aconst_null, 1)) (k : MW p l e R s m args below meth c Q D aC B0 H0 eE nL σ (pc + 1) lv (vR 0 :: st) h) : MW p l e R s m args below meth c Q D aC B0 H0 eE nL σ pc lv st h :=
  mw_op k (can_0 trivial) (fun _ k => lv_null hexec hb hdg k)
theorem mw_dup (hexec : p.tables.exec = Jvm.exec) (hb : c.code = cc) {v : AV} (hv : isL v = false) (hdg : decode cc pc = .ok (.dup, 1)) (k : MW p l e R s m args below meth c Q D aC B0 H0 eE nL σ (pc + 1) lv (v :: v :: st) h) : MW p l e R s m args below meth c Q D aC B0 H0 eE nL σ pc lv (v :: st) h :=
  mw_op k (fun a => can_0 (can_h a) a) (fun _ k => lv_dup hexec hb hdg (by rw [cat_cv, hv]; rfl) k)
theorem mw_pop (hexec : p.tables.exec = Jvm.exec) (hb : c.code = cc) {v : AV} (hv : isL v = false) (hdg : decode cc pc = .ok (.pop, 1)) (k : MW p l e R s m args below meth c Q D aC B0 H0 eE nL σ (pc + 1) lv st h) : MW p l e R s m args below meth c Q D aC B0 H0 eE nL σ pc lv (v :: st) h :=
  mw_op k can_t (fun _ k => lv_pop hexec hb hdg (by rw [cat_cv, hv]; rfl) k)
theorem mw_dup_x1 (hexec : p.tables.exec = Jvm.exec) (hb : c.code = cc) {v w : AV} (hv : isL v = false) (hw : isL w = false) (hdg : decode cc pc = .ok (.dup_x1, 1)) (k : MW p l e R s m args below meth c Q D aC B0 H0 eE nL σ (pc + 1) lv (v :: w :: v :: st) h) : MW p l e R s m args below meth c Q D aC B0 H0 eE nL σ pc lv (v :: w :: st) h :=
  mw_op k (fun a => can_0 (can_h a) (can_0 (can_h2 a) (can_0 (can_h a) (can_t (can_t a))))) (fun _ k => lv_dup_x1 hexec hb hdg (by rw [cat_cv, hv]; rfl) (by rw [cat_cv, hw]; rfl) k)
theorem mw_dup2 (hexec : p.tables.exec = Jvm.exec) (hb : c.code = cc) {v w : AV} (hv : isL v = false) (hw : isL w = false) (hdg : decode cc pc = .ok (.dup2, 1)) (k : MW p l e R s m args below meth c Q D aC B0 H0 eE nL σ (pc + 1) lv (v :: w :: v :: w :: st) h) : MW p l e R s m args below meth c Q D aC B0 H0 eE nL σ pc lv (v :: w :: st) h :=
  mw_op k (fun a => can_0 (can_h a) (can_0 (can_h2 a) a)) (fun _ k => lv_dup2_11 hexec hb hdg (by rw [cat_cv, hv]; rfl) (by rw [cat_cv, hw]; rfl) k)
theorem mw_goto (hexec : p.tables.exec = Jvm.exec) (hb : c.code = cc) {off : Int} {t : Nat} (ht : (pc : Int) + off = (t : Int)) (hdg : decode cc pc = .ok (.goto off, 3)) (k : MW p l e R s m args below meth c Q D aC B0 H0 eE nL σ t lv st h) : MW p l e R s m args below meth c Q D aC B0 H0 eE nL σ pc lv st h :=
  mw_op k (fun a => a) (fun _ k => lv_goto hexec hb hdg ht k)
theorem mw0_br {P : Prop} {t1 t2 : Nat} {st' : List AV} (k1 : P → MW p l e R s m args below meth c Q D aC B0 H0 eE nL σ t1 lv st' h) (k2 : ¬ P → MW p l e R s m args below meth c Q D aC B0 H0 eE nL σ t2 lv st' h) (hst : (∀ v ∈ st, can v) → ∀ v ∈ st', can v)
    (row : ∀ {H : Heap} {locs : List Loc} {cells slots : Nat} {ls : Array Slot}, (∀ v ∈ st, can v) → (P → W p l e R s m args below meth c H locs cells slots Q (F0 m t1 ls (st'.map cv))) → (¬ P → W p l e R s m args below meth c H locs cells slots Q (F0 m t2 ls (st'.map cv))) → W p l e R s m args below meth c H locs cells slots Q (F0 m pc ls (st.map cv))) : MW p l e R s m args below meth c Q D aC B0 H0 eE nL σ pc lv st h :=
  fun H locs cells slots ls a1 a2 a3 a4 a5 a6 => row a3 (fun q => k1 q H locs cells slots ls a1 a2 (hst a3) a4 a5 a6) (fun q => k2 q H locs cells slots ls a1 a2 (hst a3) a4 a5 a6)
theorem z32 : in32 0 := ⟨by decide, by decide⟩
theorem mw_ifc (hexec : p.tables.exec = Jvm.exec) (hb : c.code = cc) {c0 : ClassFile.Cond} {x off : Int} {t : Nat} (ht : (pc : Int) + off = (t : Int)) (hdg : decode cc pc = .ok (.ifCond c0 off, 3)) (k1 : brc c0 x 0 → MW p l e R s m args below meth c Q D aC B0 H0 eE nL σ t lv st h) (k2 : ¬ brc c0 x 0 → MW p l e R s m args below meth c Q D aC B0 H0 eE nL σ (pc + 3) lv st h) : MW p l e R s m args below meth c Q D aC B0 H0 eE nL σ pc lv (vI x :: st) h := by
  refine mw0_br k1 k2 can_t fun a w1 w2 => ?_
  have hx : in32 x := can_h a
  cases c0 with
  | eq => exact lv_if_eq hexec hb hdg ht (fun z => w1 ((eq32 hx z32).mp z)) (fun z => w2 fun y => z ((eq32 hx z32).mpr y))
  | ne => exact lv_if_ne hexec hb hdg ht (fun z => w1 fun y => z ((eq32 hx z32).mpr y)) (fun z => w2 fun y => y ((eq32 hx z32).mp z))
  | lt => exact lv_if_lt hexec hb hdg ht (fun z => w1 ((lt32 hx z32).mp z)) (fun z => w2 fun y => z ((lt32 hx z32).mpr y))
  | ge => exact lv_if_ge hexec hb hdg ht (fun z => w1 ((le32 z32 hx).mp z)) (fun z => w2 fun y => z ((le32 z32 hx).mpr y))
  | gt => exact lv_if_gt hexec hb hdg ht (fun z => w1 ((lt32 z32 hx).mp z)) (fun z => w2 fun y => z ((lt32 z32 hx).mpr y))
  | le => exact lv_if_le hexec hb hdg ht (fun z => w1 ((le32 hx z32).mp z)) (fun z => w2 fun y => z ((le32 hx z32).mpr y))
theorem mw_icmp (hexec : p.tables.exec = Jvm.exec) (hb : c.code = cc) {c0 : ClassFile.Cond} {x y off : Int} {t : Nat} (ht : (pc : Int) + off = (t : Int)) (hdg : decode cc pc = .ok (.if_icmp c0 off, 3)) (k1 : brc c0 x y → MW p l e R s m args below meth c Q D aC B0 H0 eE nL σ t lv st h) (k2 : ¬ brc c0 x y → MW p l e R s m args below meth c Q D aC B0 H0 eE nL σ (pc + 3) lv st h) : MW p l e R s m args below meth c Q D aC B0 H0 eE nL σ pc lv (vI y :: vI x :: st) h := by
  refine mw0_br k1 k2 (fun a => can_t (can_t a)) fun a w1 w2 => ?_
  have hx : in32 x := can_h2 a
  have hy : in32 y := can_h a
  cases c0 with
  | eq => exact lv_icmp_eq hexec hb hdg ht (fun z => w1 ((eq32 hx hy).mp z)) (fun z => w2 fun q => z ((eq32 hx hy).mpr q))
  | ne => exact lv_icmp_ne hexec hb hdg ht (fun z => w1 fun q => z ((eq32 hx hy).mpr q)) (fun z => w2 fun q => q ((eq32 hx hy).mp z))
  | lt => exact lv_icmp_lt hexec hb hdg ht (fun z => w1 ((lt32 hx hy).mp z)) (fun z => w2 fun q => z ((lt32 hx hy).mpr q))
  | ge => exact lv_icmp_ge hexec hb hdg ht (fun z => w1 ((le32 hy hx).mp z)) (fun z => w2 fun q => z ((le32 hy hx).mpr q))
  | gt => exact lv_icmp_gt hexec hb hdg ht (fun z => w1 ((lt32 hy hx).mp z)) (fun z => w2 fun q => z ((lt32 hy hx).mpr q))
  | le => exact lv_icmp_le hexec hb hdg ht (fun z => w1 ((le32 hx hy).mp z)) (fun z => w2 fun q => z ((le32 hx hy).mpr q))
theorem mw_acmp (hexec : p.tables.exec = Jvm.exec) (hb : c.code = cc) {c0 : ACond} {x y : Nat} {off : Int} {t : Nat} (ht : (pc : Int) + off = (t : Int)) (hdg : decode cc pc = .ok (.if_acmp c0 off, 3)) (k1 : bra c0 x y → MW p l e R s m args below meth c Q D aC B0 H0 eE nL σ t lv st h) (k2 : ¬ bra c0 x y → MW p l e R s m args below meth c Q D aC B0 H0 eE nL σ (pc + 3) lv st h) : MW p l e R s m args below meth c Q D aC B0 H0 eE nL σ pc lv (vR y :: vR x :: st) h := by
  refine mw0_br k1 k2 (fun a => can_t (can_t a)) fun a w1 w2 => ?_
  simp only [List.map_cons, cv_rf]
  cases c0 with
  | eq => exact lv_acmp_eq hexec hb hdg ht (fun z => w1 ((orf_inj x y).mp z)) (fun z => w2 fun q => z ((orf_inj x y).mpr q))
  | ne => exact lv_acmp_ne hexec hb hdg ht (fun z => w1 fun q => z ((orf_inj x y).mpr q)) (fun z => w2 fun q => q ((orf_inj x y).mp z))
theorem mw_ifnull (hexec : p.tables.exec = Jvm.exec) (hb : c.code = cc) {x : Nat} {off : Int} {t : Nat} (ht : (pc : Int) + off = (t : Int)) (hdg : decode cc pc = .ok (.ifnull off, 3)) (k1 : x = 0 → MW p l e R s m args below meth c Q D aC B0 H0 eE nL σ t lv st h) (k2 : ¬ x = 0 → MW p l e R s m args below meth c Q D aC B0 H0 eE nL σ (pc + 3) lv st h) : MW p l e R s m args below meth c Q D aC B0 H0 eE nL σ pc lv (vR x :: st) h := by
  refine mw0_br k1 k2 can_t fun a w1 w2 => ?_
  cases x with
  | zero => exact lv_ifnullN hexec hb hdg ht (w1 rfl)
  | succ x => exact lv_ifnull hexec hb hdg (w2 (by omega))
theorem mw_ifnonnull (hexec : p.tables.exec = Jvm.exec) (hb : c.code = cc) {x : Nat} {off : Int} {t : Nat} (ht : (pc : Int) + off = (t : Int)) (hdg : decode cc pc = .ok (.ifnonnull off, 3)) (k1 : ¬ x = 0 → MW p l e R s m args below meth c Q D aC B0 H0 eE nL σ t lv st h) (k2 : x = 0 → MW p l e R s m args below meth c Q D aC B0 H0 eE nL σ (pc + 3) lv st h) : MW p l e R s m args below meth c Q D aC B0 H0 eE nL σ pc lv (vR x :: st) h := by
  refine mw0_br (P := ¬ x = 0) k1 (fun z => k2 (Classical.byContradiction z)) can_t fun a w1 w2 => ?_
  cases x with
  | zero => exact lv_ifnonnullN hexec hb hdg (w2 (fun z => z rfl))
  | succ x => exact lv_ifnonnull hexec hb hdg ht (w1 (by omega))
theorem mw_lookup (hexec : p.tables.exec = Jvm.exec) (hb : c.code = cc) {x df : Int} {ps : Array (Int × Int)} {len : Nat} (hdg : decode cc pc = .ok (.lookupswitch df ps, len)) (hp : (ps.toList.zip (ps.toList.drop 1)).all (fun (a, next) => a.1 < next.1) = true) (h0 : 0 ≤ (pc : Int) + df) (hq : ∀ q ∈ ps.toList, 0 ≤ (pc : Int) + q.2)
    (k : swl x (ps.toList.map (fun q => (q.1, (pc : Int) + q.2))) (fun t => MW p l e R s m args below meth c Q D aC B0 H0 eE nL σ t lv st h) (MW p l e R s m args below meth c Q D aC B0 H0 eE nL σ ((pc : Int) + df).toNat lv st h)) : MW p l e R s m args below meth c Q D aC B0 H0 eE nL σ pc lv (vI x :: st) h := by
  obtain ⟨off, tgt, k1, k2, k3⟩ := swl_get h0 hq k
  exact mw_op k1 can_t (fun a k => lv_lookup hexec hb hdg hp (by rw [i32_of (can_h a)]; exact k2) k3 k)
theorem mw_table (hexec : p.tables.exec = Jvm.exec) (hb : c.code = cc) {x df lo hi : Int} {ts : Array Int} {len : Nat} (hdg : decode cc pc = .ok (.tableswitch df lo hi ts, len)) (h0 : 0 ≤ (pc : Int) + df) (hq : ∀ q ∈ ts.toList, 0 ≤ (pc : Int) + q) (hsz : lo + (ts.toList.length : Int) = hi + 1)
    (k : swt x lo (ts.toList.map (fun q => (pc : Int) + q)) (fun t => MW p l e R s m args below meth c Q D aC B0 H0 eE nL σ t lv st h) (MW p l e R s m args below meth c Q D aC B0 H0 eE nL σ ((pc : Int) + df).toNat lv st h)) : MW p l e R s m args below meth c Q D aC B0 H0 eE nL σ pc lv (vI x :: st) h := by
  rcases swt_get k with ⟨t, hr, hg, hF⟩ | ⟨hr, hD⟩
  · rw [List.getElem?_map] at hg
    obtain ⟨o, ho, rfl⟩ := Option.map_eq_some_iff.mp hg
    have h1 := hq o (List.mem_of_getElem? ho)
    rw [List.length_map] at hr
    exact mw_op hF can_t (fun a k => lv_tableIn hexec hb hdg (by rw [i32_of (can_h a)]; omega) (by rw [i32_of (can_h a)]; omega) (off := o) (by rw [i32_of (can_h a), ← Array.getElem?_toList]; exact ho) (by omega) k)
  · rw [List.length_map] at hr
    exact mw_op hD can_t (fun a k => lv_tableOut hexec hb hdg (by rw [i32_of (can_h a)]; omega) (by omega) k)
theorem mw0_ld {pc' i : Nat} {v : AV} (hk : lv.lookup i = some v) (k : MW p l e R s m args below meth c Q D aC B0 H0 eE nL σ pc' lv (v :: st) h) (row : ∀ {H : Heap} {locs : List Loc} {cells slots : Nat} {ls : Array Slot}, ls[i]? = some (.val (cv v)) → W p l e R s m args below meth c H locs cells slots Q (F0 m pc' ls (cv v :: st.map cv)) → W p l e R s m args below meth c H locs cells slots Q (F0 m pc ls (st.map cv))) : MW p l e R s m args below meth c Q D aC B0 H0 eE nL σ pc lv st h :=
  fun H locs cells slots ls a1 a2 a3 a4 a5 a6 => row (a2.2.2 _ _ hk).1 (k H locs cells slots ls a1 a2 (can_0 (a2.2.2 _ _ hk).2 a3) a4 a5 a6)
theorem mw_iload (hexec : p.tables.exec = Jvm.exec) (hb : c.code = cc) {i : Nat} {x : Int} (hk : lv.lookup i = some (vI x)) (hdg : decode cc pc = .ok (.iload i, 2)) (k : MW p l e R s m args below meth c Q D aC B0 H0 eE nL σ (pc + 2) lv (vI x :: st) h) : MW p l e R s m args below meth c Q D aC B0 H0 eE nL σ pc lv st h :=
  mw0_ld hk k (fun a k => lv_iload hexec hb hdg a k)
theorem mw_iload_n (hexec : p.tables.exec = Jvm.exec) (hb : c.code = cc) {i : Fin 4} {x : Int} (hk : lv.lookup (i : Nat) = some (vI x)) (hdg : decode cc pc = .ok (.iload_n i, 1)) (k : MW p l e R s m args below meth c Q D aC B0 H0 eE nL σ (pc + 1) lv (vI x :: st) h) : MW p l e R s m args below meth c Q D aC B0 H0 eE nL σ pc lv st h :=
  mw0_ld hk k (fun a k => lv_iload_n hexec hb hdg rfl a k)
theorem mw_lload (hexec : p.tables.exec = Jvm.exec) (hb : c.code = cc) {i : Nat} {x : Int} (hk : lv.lookup i = some (vL x)) (hdg : decode cc pc = .ok (.lload i, 2)) (k : MW p l e R s m args below meth c Q D aC B0 H0 eE nL σ (pc + 2) lv (vL x :: st) h) : MW p l e R s m args below meth c Q D aC B0 H0 eE nL σ pc lv st h :=
  mw0_ld hk k (fun a k => lv_lload hexec hb hdg a k)
theorem mw_lload_n (hexec : p.tables.exec = Jvm.exec) (hb : c.code = cc) {i : Fin 4} {x : Int} (hk : lv.lookup (i : Nat) = some (vL x)) (hdg : decode cc pc = .ok (.lload_n i, 1)) (k : MW p l e R s m args below meth c Q D aC B0 H0 eE nL σ (pc + 1) lv (vL x :: st) h) : MW p l e R s m args below meth c Q D aC B0 H0 eE nL σ pc lv st h :=
  mw0_ld hk k (fun a k => lv_lload_n hexec hb hdg rfl a k)
theorem mw_aload (hexec : p.tables.exec = Jvm.exec) (hb : c.code = cc) {i x : Nat} (hk : lv.lookup i = some (vR x)) (hdg : decode cc pc = .ok (.aload i, 2)) (k : MW p l e R s m args below meth c Q D aC B0 H0 eE nL σ (pc + 2) lv (vR x :: st) h) : MW p l e R s m args below meth c Q D aC B0 H0 eE nL σ pc lv st h := by
  cases x with
  | zero => exact mw0_ld hk k (fun a k => lv_aloadN hexec hb hdg a k)
  | succ x => exact mw0_ld hk k (fun a k => lv_aload hexec hb hdg a k)
theorem mw_aload_n (hexec : p.tables.exec = Jvm.exec) (hb : c.code = cc) {i : Fin 4} {x : Nat} (hk : lv.lookup (i : Nat) = some (vR x)) (hdg : decode cc pc = .ok (.aload_n i, 1)) (k : MW p l e R s m args below meth c Q D aC B0 H0 eE nL σ (pc + 1) lv (vR x :: st) h) : MW p l e R s m args below meth c Q D aC B0 H0 eE nL σ pc lv st h := by
  cases x with
  | zero => exact mw0_ld hk k (fun a k => lv_aload_nN hexec hb hdg rfl a k)
  | succ x => exact mw0_ld hk k (fun a k => lv_aload_n hexec hb hdg rfl a k)
theorem mw_istore (hexec : p.tables.exec = Jvm.exec) (hb : c.code = cc) {i : Nat} {x : Int} (hn : i < nL) (hdg : decode cc pc = .ok (.istore i, 2)) (k : MW p l e R s m args below meth c Q D aC B0 H0 eE nL σ (pc + 2) (sl1 lv i (vI x)) st h) : MW p l e R s m args below meth c Q D aC B0 H0 eE nL σ pc lv (vI x :: st) h :=
  fun H locs cells slots ls a1 a2 a3 a4 a5 a6 => lv_istore hexec hb hdg a2.has hn rfl fun ls' h' => k H locs cells slots ls' a1 (a2.st1 (can_h a3) h') (can_t a3) a4 a5 a6
theorem mw_istore_n (hexec : p.tables.exec = Jvm.exec) (hb : c.code = cc) {i : Fin 4} {x : Int} (hn : (i : Nat) < nL) (hdg : decode cc pc = .ok (.istore_n i, 1)) (k : MW p l e R s m args below meth c Q D aC B0 H0 eE nL σ (pc + 1) (sl1 lv i (vI x)) st h) : MW p l e R s m args below meth c Q D aC B0 H0 eE nL σ pc lv (vI x :: st) h :=
  fun H locs cells slots ls a1 a2 a3 a4 a5 a6 => lv_istore_n hexec hb hdg rfl a2.has hn rfl fun ls' h' => k H locs cells slots ls' a1 (a2.st1 (can_h a3) h') (can_t a3) a4 a5 a6
theorem mw_lstore (hexec : p.tables.exec = Jvm.exec) (hb : c.code = cc) {i : Nat} {x : Int} (hn : i + 1 < nL) (hdg : decode cc pc = .ok (.lstore i, 2)) (k : MW p l e R s m args below meth c Q D aC B0 H0 eE nL σ (pc + 2) (sl2 lv i (vL x)) st h) : MW p l e R s m args below meth c Q D aC B0 H0 eE nL σ pc lv (vL x :: st) h :=
  fun H locs cells slots ls a1 a2 a3 a4 a5 a6 => lv_lstore hexec hb hdg a2.has hn rfl fun ls' h' => k H locs cells slots ls' a1 (a2.st2 (can_h a3) h') (can_t a3) a4 a5 a6
theorem mw_lstore_n (hexec : p.tables.exec = Jvm.exec) (hb : c.code = cc) {i : Fin 4} {x : Int} (hn : (i : Nat) + 1 < nL) (hdg : decode cc pc = .ok (.lstore_n i, 1)) (k : MW p l e R s m args below meth c Q D aC B0 H0 eE nL σ (pc + 1) (sl2 lv i (vL x)) st h) : MW p l e R s m args below meth c Q D aC B0 H0 eE nL σ pc lv (vL x :: st) h :=
  fun H locs cells slots ls a1 a2 a3 a4 a5 a6 => lv_lstore_n hexec hb hdg rfl a2.has hn rfl fun ls' h' => k H locs cells slots ls' a1 (a2.st2 (can_h a3) h') (can_t a3) a4 a5 a6
theorem mw_astore (hexec : p.tables.exec = Jvm.exec) (hb : c.code = cc) {i x : Nat} (hn : i < nL) (hdg : decode cc pc = .ok (.astore i, 2)) (k : MW p l e R s m args below meth c Q D aC B0 H0 eE nL σ (pc + 2) (sl1 lv i (vR x)) st h) : MW p l e R s m args below meth c Q D aC B0 H0 eE nL σ pc lv (vR x :: st) h := by
  cases x with
  | zero => exact fun H locs cells slots ls a1 a2 a3 a4 a5 a6 => lv_astoreN hexec hb hdg a2.has hn rfl fun ls' h' => k H locs cells slots ls' a1 (a2.st1 (can_h a3) h') (can_t a3) a4 a5 a6
  | succ x => exact fun H locs cells slots ls a1 a2 a3 a4 a5 a6 => lv_astore hexec hb hdg a2.has hn rfl fun ls' h' => k H locs cells slots ls' a1 (a2.st1 (can_h a3) h') (can_t a3) a4 a5 a6
theorem mw_astore_n (hexec : p.tables.exec = Jvm.exec) (hb : c.code = cc) {i : Fin 4} {x : Nat} (hn : (i : Nat) < nL) (hdg : decode cc pc = .ok (.astore_n i, 1)) (k : MW p l e R s m args below meth c Q D aC B0 H0 eE nL σ (pc + 1) (sl1 lv i (vR x)) st h) : MW p l e R s m args below meth c Q D aC B0 H0 eE nL σ pc lv (vR x :: st) h := by
  cases x with
  | zero => exact fun H locs cells slots ls a1 a2 a3 a4 a5 a6 => lv_astore_nN hexec hb hdg rfl a2.has hn rfl fun ls' h' => k H locs cells slots ls' a1 (a2.st1 (can_h a3) h') (can_t a3) a4 a5 a6
  | succ x => exact fun H locs cells slots ls a1 a2 a3 a4 a5 a6 => lv_astore_n hexec hb hdg rfl a2.has hn rfl fun ls' h' => k H locs cells slots ls' a1 (a2.st1 (can_h a3) h') (can_t a3) a4 a5 a6
theorem mw_iinc (hexec : p.tables.exec = Jvm.exec) (hb : c.code = cc) {i : Nat} {x n : Int} (hk : lv.lookup i = some (vI x)) (hn : i < nL) (hdg : decode cc pc = .ok (.iinc i n, 3)) (k : MW p l e R s m args below meth c Q D aC B0 H0 eE nL σ (pc + 3) (sl1 lv i (vI (w32 (x + n)))) st h) : MW p l e R s m args below meth c Q D aC B0 H0 eE nL σ pc lv st h := by
  intro H locs cells slots ls a1 a2 a3 a4 a5 a6
  obtain ⟨j, hj⟩ := List.getElem?_of_mem (mem_lvL hk)
  refine lv_iinc hexec hb hdg a2.has hj (v := Int32.ofInt (w32 (x + n))) (by rw [of_w32, Int32.ofInt_add]) hn rfl fun ls' h' => k H locs cells slots ls' a1 (a2.st1 (in32_w _) h') a3 a4 a5 a6
end
