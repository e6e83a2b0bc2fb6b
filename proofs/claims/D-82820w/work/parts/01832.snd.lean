section
variable {p : Program} {l : Launch} {e : Env} {R : Room} {s : State} {m : MethodId} {args : Array Value} {below : List Frame} {meth : Method} {c : Code} {H : Heap} {locs : List Loc} {cells slots : Nat} {Q : State → Prop}
variable {cc : ByteArray} {pc : Nat} {ls : Array Slot} {rest : List Value} {D : va_G} {aC : Nat → ClassId} {B0 : Nat} {H0 : Heap} {eE : Nat} {h : ah}
theorem refKind (r : Rep D aC B0 H0 eE h H) {a : Nat} (h1 : 20 ≤ hK h a) (h2 : hK h a < 100) : hK h a < 29 := by
  obtain ⟨x, cell, rfl, e1, e2⟩ := r.cell (a := a) (by omega)
  by_cases h7 : hK h (x + 1) < 29
  · exact h7
  · unfold cellOf at e2
    rw [if_neg (by omega), if_neg (by omega), if_neg (by omega), if_neg (by omega)] at e2
    obtain ⟨q, hq, hqk, -⟩ := e2
    have := clsT_kinds q hq
    omega
theorem sn_aald (hexec : p.tables.exec = Jvm.exec) (hb : c.code = cc) (hKn : EK D aC s) (r : Rep D aC B0 H0 eE h H) {a : Nat} {i : Int} (hk1 : 20 ≤ hK h a) (hk2 : hK h a < 100) (h0 : 0 ≤ i) (h1 : i < (hl h a : Int)) (hc : in32 i) (hdg : decode cc pc = .ok (.aaload, 1))
    (kk : W p l e R s m args below meth c H locs cells slots Q (F0 m (pc + 1) ls (cv (vR (hB h a i.toNat)) :: rest))) : W p l e R s m args below meth c H locs cells slots Q (F0 m pc ls (cv (vI i) :: cv (vR a) :: rest)) := by
  have hk3 := refKind r hk1 hk2
  obtain ⟨x, rfl, e1, e9⟩ := refCell r (a := a) (k := hK h a) rfl hk1 hk3
  obtain ⟨C, hC⟩ := arrT_ref hk1 hk3
  exact W.aald (ty := .object C) hexec hb e1 ((hKn.2.1 _ hC).1 _ _) rfl (fun z => by cases z) (arr_in h0 h1 hc _ _) (arr_rd h0 h1 hc _ _) rfl rfl hdg kk
/-- the classes of all kinds of objects -/
def kName (k : Nat) : String := if k = 191 then "java/lang/String" else match clsT.find? (fun q => q.1 == k) with
  | some q => q.2.1
  | none => ""
def EN (D : va_G) (U : State) : Prop := ClassAt U "java/lang/String" (D.1 191)
theorem kName_cls {q : CR} (hq : q ∈ clsT) : kName q.1 = q.2.1 := by
  have hk := clsT_kinds q hq
  unfold kName
  rw [if_neg (by omega)]
  cases hf : clsT.find? (fun x => x.1 == q.1) with
  | none => exact absurd (List.find?_eq_none.mp hf q hq) (by simp)
  | some q' =>
    have h1 := List.find?_some hf
    have h2 := List.mem_of_find?_eq_some hf
    cases clsT_inj q' h2 q hq (by simpa using h1)
    rfl
/-- an object of a kind: its cell and its class -/
theorem anyCell (hKn : EK D aC s) (hN : EN D s) (r : Rep D aC B0 H0 eE h H) {a k : Nat} (hk : hK h a = k) (h190 : 190 ≤ k) : ∃ x cell, a = x + 1 ∧ H[x]? = some cell ∧ cell.cls = D.1 k ∧ cell.vm.isStatics = false ∧ ClassAt s (kName k) (D.1 k) := by
  obtain ⟨x, cell, rfl, e1, e2⟩ := r.cell (a := a) (by omega)
  unfold cellOf at e2
  rw [hk, if_neg (by omega), if_neg (by omega), if_neg (by omega)] at e2
  by_cases h7 : k = 190 ∨ k = 191
  · rw [if_pos h7] at e2
    refine ⟨x, cell, rfl, e1, e2.1, e2.2.1.1, ?_⟩
    rcases h7 with rfl | rfl
    · have hm : clsR190 ∈ clsT := by simp [clsT]
      have := (hKn.1 _ hm).2
      rw [← kName_cls hm] at this
      exact this
    · exact hN
  · rw [if_neg h7] at e2
    obtain ⟨q, hq, rfl, c1, c2, -⟩ := e2
    refine ⟨x, cell, rfl, e1, c1, by rw [c2]; rfl, ?_⟩
    rw [kName_cls hq]
    exact (hKn.1 q hq).2
def EKOK (k : Nat) : Prop := ∃ C, (k, FieldType.object C) ∈ arrT ∧ ∀ kv ∈ (ekT.lookup k).getD [], 190 ≤ kv ∧ (kName kv = C ∨ Cond.castable (kName kv) C ∈ lw_tbl)
theorem sn_aast (hexec : p.tables.exec = Jvm.exec) (hb : c.code = cc) (hE : EW s) (hKn : EK D aC s) (hN : EN D s) (r : Rep D aC B0 H0 eE h H) {a v k : Nat} {i : Int} (hok : EKOK k) (hk1 : 20 ≤ k) (hk2 : k < 29) (hk : hK h a = k) (hv : v = 0 ∨ hK h v ∈ (ekT.lookup k).getD []) (h0 : 0 ≤ i) (h1 : i < (hl h a : Int)) (hc : in32 i) (hdg : decode cc pc = .ok (.aastore, 1))
    (kk : SK p l e R s m args below meth c locs cells slots Q D aC B0 H0 eE (sB h a i.toNat v) (F0 m (pc + 1) ls rest)) : W p l e R s m args below meth c H locs cells slots Q (F0 m pc ls (cv (vR v) :: cv (vI i) :: cv (vR a) :: rest)) := by
  obtain ⟨C, hC, hek⟩ := hok
  obtain ⟨x, rfl, e1, e9⟩ := refCell r hk hk1 hk2
  have hw : rwK (hK h (x + 1)) = true := by
    rw [hk]; unfold rwK
    simp only [Bool.not_eq_true', Bool.or_eq_false_iff, beq_eq_false_iff_ne]
    omega
  obtain ⟨kA, comp, k1, k2, k3, -⟩ := (hKn.2.1 _ hC).2
  have fin : ∀ (H' : Heap) (locs' : List Loc), locs' = locs ++ [⟨x, i.toNat⟩] → H'[x]? = some ((arrV (aC k) (hl h (x + 1)) (fun i => cv (vR (hB h (x + 1) i)))).setSlot i.toNat (cv (vR v))) → H'.size = H.size → (∀ q, q ≠ x → H'[q]? = H[q]?) → W p l e R s m args below meth c H' locs' cells slots Q (F0 m (pc + 1) ls rest) := by
    intro H' locs' el f1 f2 f3
    refine kk H' locs' (r.upd hw (by omega) (by omega) f1 f2 f3 rfl (fun _ => rfl) (fun b hb => sB_same h _ _ _ hb) ?_) (by rw [el]; exact locs_up (r.2.2.2.2.1 _ hw))
    unfold cellOf
    rw [hk, if_neg (by omega), if_neg (by omega), if_pos ⟨hk1, hk2⟩, arrV_store]
    refine ⟨?_, e9⟩
    congr 1
    funext q
    by_cases hq : q = i.toNat
    · subst hq; simp [updV, hB, sB, u2]
    · simp [updV, hB, sB, u2, hq]
  rcases v with _ | w
  · refine va_WaastN (C := C) hexec hb e1 ((hKn.2.1 _ hC).1 _ _) (fun z => by cases z) (arr_in h0 h1 hc _ _) rfl rfl hdg fun H' f1 f2 f3 => ?_
    rw [cl32 h0 hc] at f1 ⊢
    exact fin H' _ rfl f1 f2 f3
  · have hv : hK h (w + 1) ∈ (ekT.lookup k).getD [] := hv.resolve_left (by omega)
    obtain ⟨g190, hcast⟩ := hek _ hv
    obtain ⟨y, cellV, ey, y1, y2, y3, y4⟩ := anyCell hKn hN r (a := w + 1) rfl g190
    cases ey
    obtain ⟨kC, hkC, -⟩ := y4.2
    obtain ⟨kcomp, hkcomp, -⟩ := Vm.findClass_spec k3
    have hasg : s.vm.assignable cellV.cls comp = true := by
      rw [y2]
      rcases hcast with hcast | hcast
      · rw [hcast] at y4
        have : comp = D.1 (hK h (w + 1)) := Option.some.inj (k3.symm.trans y4.1)
        rw [this]; exact va_assign y4
      · obtain ⟨c0, t0, f1, f2, f3⟩ := Cond.castable_spec (hE _ hcast rfl args)
        cases y4.1.symm.trans f1
        cases k3.symm.trans f2
        exact f3
    refine W.aast hexec hb e1 (fun q z => by cases z) (fun z => by cases z) k1 k2 rfl hkcomp ⟨nn32 h0 hc, by rw [arrV_size, cl32 h0 hc]; omega⟩ y1 (fun q z => by rw [z] at y3; cases y3) (by rw [y2]; exact hkC) hasg rfl rfl hdg fun H' f1 f2 f3 => ?_
    rw [cl32 h0 hc] at f1 ⊢
    exact fin H' _ rfl f1 f2 f3
/-- new objects: what a class' table must say -/
def NOK (ow : String) (idx k n : Nat) : Prop := ∃ q ∈ clsT, q.1 = k ∧ Cond.classLink ow idx q.2.1 ∈ lw_all ∧ Cond.instantiable q.2.1 n ∈ lw_all ∧ Cond.initialized q.2.1 ∈ lw_all
theorem fval_new {k n f : Nat} {ty : FieldType} (ht : tyc ty = f % 8) (h9 : f % 8 ≤ 4) : fval (hn h k n 0) f (hz h) = defaultValue ty ∧ fcan (hn h k n 0) f (hz h) := by
  have eI : hI (hn h k n 0) f (hz h) = 0 := if_pos rfl
  have eR : hR (hn h k n 0) f (hz h) = 0 := if_pos rfl
  unfold fval fcan
  rw [eI, eR]
  cases ty with
  | int => have : f % 8 = 0 := ht.symm; simp [this]; exact ⟨rfl, by decide, by decide⟩
  | byte => have : f % 8 = 1 := ht.symm; simp [this]; rfl
  | boolean => have : f % 8 = 2 := ht.symm; simp [this]; rfl
  | long => have : f % 8 = 3 := ht.symm; simp [this]; exact ⟨rfl, by decide, by decide⟩
  | object => have : f % 8 = 4 := ht.symm; simp [this]; rfl
  | array => have : f % 8 = 4 := ht.symm; simp [this]; rfl
  | _ => exfalso; have : f % 8 = 9 := ht.symm; omega
theorem sn_new (hexec : p.tables.exec = Jvm.exec) (hb : c.code = cc) {ow : String} (hE : EW s) (hKn : EK D aC s) (hown : s.vm.findClass ow = some m.cls) (r : Rep D aC B0 H0 eE h H) {k n idx : Nat} (hok : NOK ow idx k n) (hdg : decode cc pc = .ok (.new idx, 3)) (hcells : cells + 1 ≤ R.cells) (hslots : slots + n ≤ R.slots)
    (kk : ∀ H1 : Heap, Rep D aC B0 H0 eE (hn h k n 0) H1 → W p l e R s m args below meth c H1 locs (cells + 1) (slots + n) Q (F0 m (pc + 3) ls (cv (vR (hz h)) :: rest))) : W p l e R s m args below meth c H locs cells slots Q (F0 m pc ls rest) := by
  obtain ⟨q, hq, rfl, w1, w2, w3⟩ := hok
  obtain ⟨hS, hfc, kC0, hkC0, hkind⟩ := hKn.1 q hq
  have hkk := clsT_kinds q hq
  have hsz : H.size + 1 = hz h := r.1.1
  refine W.newcK hexec hb hown (hE.all w1) (hE.all w2) (hE.all w3) rfl hdg hcells hslots hfc rfl fun H' kC hkC f1 f2 f3 => ?_
  cases hkC0.symm.trans hkC
  have hrep : Rep D aC B0 H0 eE (hn h q.1 n 0) H' := by
    refine r.new (by omega) (by omega) f1 f2 f3 ?_
    unfold cellOf
    rw [if_neg (by omega), if_neg (by omega), if_neg (by omega)]
    have hbl : ∀ j, j < q.2.2.2.1 → (kC0.instanceTypes.map defaultValue)[D.2 q.1 j]? = some (defaultValue (q.2.2.2.2.1 j)) := by
      intro j hj
      obtain ⟨k1, k2, k3⟩ := clsT_ok q hq
      obtain ⟨cf, kf, fi, fd, hi, hsl⟩ := hS j hj
      obtain ⟨-, -, hty⟩ := u_facts (args := args) hfc hkC0 (u_lays (ws := lw_all) (fun w hw => hE.all hw) k1 hj) hi
      have := k2_blank (cC := D.1 q.1) hty
      rw [← hsl, ← (State.fieldFound?_type hi (k3 j hj)).2]
      exact this
    by_cases h190 : q.1 = 190
    · rw [if_pos (Or.inl h190)]
      have hq5 : q = clsR190 := clsT_inj q hq clsR190 (by simp [clsT]) h190
      refine ⟨rfl, ⟨rfl, fun z => by cases z⟩, fun _ => ⟨rfl, fun j hj => ?_, fun _ => ⟨?_, if_pos rfl, if_pos rfl⟩⟩⟩
      · have := hbl j (by rw [hq5]; exact hj)
        rw [h190] at this
        exact ⟨_, this⟩
      · have := hbl 2 (by rw [hq5]; decide)
        rw [h190] at this
        have e9 : defaultValue (q.2.2.2.2.1 2) = .int 0 := by rw [hq5]; rfl
        rw [e9] at this
        exact this
    · rw [if_neg (by omega)]
      refine ⟨q, hq, rfl, rfl, rfl, fun ht => ?_, fun j hj hf => ?_⟩
      · obtain ⟨th1, th2, -⟩ := clsT_th q hq ht
        refine ⟨fun j hj => ⟨_, hbl j (by omega)⟩, ?_, rfl, rfl⟩
        have := hbl 4 (by omega)
        rw [th2] at this
        exact this
      obtain ⟨t1, t2⟩ := cls_field hq hj hf
      obtain ⟨k1, k2, k3⟩ := clsT_ok q hq
      obtain ⟨cf, kf, fi, fd, hi, hsl⟩ := hS j hj
      obtain ⟨-, -, hty⟩ := u_facts (args := args) hfc hkC0 (u_lays (ws := lw_all) (fun w hw => hE.all hw) k1 hj) hi
      have h8 : (q.2.2.2.2.2.getD j 0) % 8 ≤ 4 ∨ (q.2.2.2.2.2.getD j 0) % 8 = 9 := by rw [← t1]; cases q.2.2.2.2.1 j <;> simp [tyc]
      obtain ⟨g1, g2⟩ := fval_new (h := h) (k := q.1) (n := n) t1 (by omega)
      refine ⟨?_, g2⟩
      rw [← hsl, k2_blank hty, (State.fieldFound?_type hi (k3 j hj)).2, g1]
  have hv : cv (vR (hz h)) = .ref H.size := by rw [← hsz]; rfl
  have := kk H' hrep
  rw [hv] at this
  exact this
theorem hcap {n : Int} (h0 : 0 ≤ n) (h1 : n ≤ 67108864) : in32 n := ⟨by omega, by omega⟩
theorem sn_newa (hexec : p.tables.exec = Jvm.exec) (hb : c.code = cc) (hE : EW s) (hKn : EK D aC s) (r : Rep D aC B0 H0 eE h H) {at_ : ArrayType} {k : Nat} {ty : FieldType} (hty : newarray.typeOf at_ = ty) (hk : (k, ty) ∈ arrT) (hk4 : k = 1 ∨ k = 2 ∨ k = 3 ∨ k = 4) (hdef : defaultValue ty = aval k 0) (hw : Cond.arrayClass ty ∈ lw_all) (hby : componentBytes ty ≤ 8) {n : Int} (h0 : 0 ≤ n) (h1 : n ≤ 67108864) (hdg : decode cc pc = .ok (.newarray at_, 2)) (hcells : cells + 1 ≤ R.cells) (hslots : slots + n.toNat ≤ R.slots)
    (kk : ∀ H1 : Heap, Rep D aC B0 H0 eE (hn h k n.toNat n.toNat) H1 → W p l e R s m args below meth c H1 locs (cells + 1) (slots + n.toNat) Q (F0 m (pc + 2) ls (cv (vR (hz h)) :: rest))) : W p l e R s m args below meth c H locs cells slots Q (F0 m pc ls (cv (vI n) :: rest)) := by
  subst hty
  have hsz : H.size + 1 = hz h := r.1.1
  have hN := cl32 h0 (hcap h0 h1)
  have hmul : n.toNat * componentBytes (newarray.typeOf at_) ≤ 536870912 := by
    have : n.toNat ≤ 67108864 := by omega
    calc n.toNat * componentBytes (newarray.typeOf at_) ≤ 67108864 * 8 := Nat.mul_le_mul this hby
      _ = 536870912 := rfl
  refine W.newa hexec hb (hE.all hw) rfl hdg (n := Int32.ofInt n) rfl (nn32 h0 (hcap h0 h1)) (by rw [hN]; exact hmul) hcells (by rw [hN]; exact hslots) fun cA kA comp g1 g2 g3 => ?_
  rw [hN]
  have hcA : cA = aC k := by
    have := (hKn.2.1 _ hk).2
    have h9 : s.vm.findClass ("[" ++ (newarray.typeOf at_).toString) = some (aC k) := by
      cases at_ <;> exact this
    exact Option.some.inj (g1.symm.trans h9)
  subst hcA
  have hrep : Rep D aC B0 H0 eE (hn h k n.toNat n.toNat) (H.push { cls := aC k, slots := Array.replicate n.toNat (defaultValue (newarray.typeOf at_)), vm := .none }) := by
    refine r.new (by omega) (by omega) Array.getElem?_push_size (by simp) (fun x hx => by rw [Array.getElem?_push, if_neg (Nat.ne_of_lt hx)]) ?_
    unfold cellOf
    have hm : k % 10 = k := by omega
    rw [if_neg (by omega), if_pos (by omega), hm]
    have e1 : hl (hn h k n.toNat n.toNat) (hz h) = n.toNat := if_pos rfl
    have e2 : ∀ i, hA (hn h k n.toNat n.toNat) (hz h) i = 0 := fun i => if_pos rfl
    rw [e1]
    refine ⟨Or.inl ⟨by omega, ?_⟩, fun i _ => ?_, by omega⟩
    · rw [hdef]
      simp only [e2]
      unfold arrV
      congr 1
      apply Array.ext
      · simp
      · intro i h1 h2; simp
    · rw [e2]
      rcases hk4 with rfl | rfl | rfl | rfl <;> simp [acan, in32, in64]
  have hv : cv (vR (hz h)) = .ref H.size := by rw [← hsz]; rfl
  have := kk _ hrep
  rw [hv] at this
  exact this
def AOK (ow : String) (idx k : Nat) : Prop := ∃ C, (k, FieldType.object C) ∈ arrT ∧ 20 ≤ k ∧ k < 29 ∧ Cond.classLink ow idx C ∈ lw_all ∧ Cond.arrayOver (.object C) ∈ lw_tbl
theorem sn_anew (hexec : p.tables.exec = Jvm.exec) (hb : c.code = cc) {ow : String} (hE : EW s) (hKn : EK D aC s) (hown : s.vm.findClass ow = some m.cls) (r : Rep D aC B0 H0 eE h H) {k idx : Nat} (hok : AOK ow idx k) {n : Int} (h0 : 0 ≤ n) (h1 : n ≤ 67108864) (hdg : decode cc pc = .ok (.anewarray idx, 3)) (hcells : cells + 1 ≤ R.cells) (hslots : slots + n.toNat ≤ R.slots)
    (kk : ∀ H1 : Heap, Rep D aC B0 H0 eE (hn h k n.toNat n.toNat) H1 → W p l e R s m args below meth c H1 locs (cells + 1) (slots + n.toNat) Q (F0 m (pc + 3) ls (cv (vR (hz h)) :: rest))) : W p l e R s m args below meth c H locs cells slots Q (F0 m pc ls (cv (vI n) :: rest)) := by
  obtain ⟨C, hC, hk1, hk2, w1, w2⟩ := hok
  have hsz : H.size + 1 = hz h := r.1.1
  have hN := cl32 h0 (hcap h0 h1)
  refine W.anew hexec hb hown (hE.all w1) (hE _ w2 rfl args) rfl hdg (n := Int32.ofInt n) rfl (nn32 h0 (hcap h0 h1)) (by rw [hN]; omega) hcells (by rw [hN]; exact hslots) fun cA kA comp g1 g2 g3 g4 => ?_
  rw [hN]
  obtain ⟨kA', comp', a1, a2, a3, a4⟩ := (hKn.2.1 _ hC).2
  have hcA : cA = aC k := Option.some.inj (g1.symm.trans a4)
  subst hcA
  have hrep : Rep D aC B0 H0 eE (hn h k n.toNat n.toNat) (H.push { cls := aC k, slots := Array.replicate n.toNat .null, vm := .none }) := by
    refine r.new (by omega) (by omega) Array.getElem?_push_size (by simp) (fun x hx => by rw [Array.getElem?_push, if_neg (Nat.ne_of_lt hx)]) ?_
    unfold cellOf
    rw [if_neg (by omega), if_neg (by omega), if_pos ⟨hk1, hk2⟩]
    have e1 : hl (hn h k n.toNat n.toNat) (hz h) = n.toNat := if_pos rfl
    have e2 : ∀ i, hB (hn h k n.toNat n.toNat) (hz h) i = 0 := fun i => if_pos rfl
    rw [e1]
    refine ⟨?_, by omega⟩
    simp only [e2]
    unfold arrV
    congr 1
    apply Array.ext
    · simp
    · intro i h1 h2; simp [cv]
  have hv : cv (vR (hz h)) = .ref H.size := by rw [← hsz]; rfl
  have := kk _ hrep
  rw [hv] at this
  exact this
end
