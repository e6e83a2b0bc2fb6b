section
variable {p : Program} {l : Launch} {e : Env} {R : Room} {s : State} {m : MethodId} {args : Array Value} {below : List Frame} {meth : Method} {c : Code} {H : Heap} {locs : List Loc} {cells slots : Nat} {Q : State → Prop}
variable {cc : ByteArray} {pc : Nat} {ls : Array Slot} {rest : List Value} {D : va_G} {aC : Nat → ClassId} {B0 : Nat} {H0 : Heap} {eE : Nat} {h : ah}
theorem aaCell (r : Rep D aC B0 H0 eE h H) {a k : Nat} (hk : hK h a = k) (hkk : k = 1 ∨ k = 2 ∨ k = 3 ∨ k = 4) : ∃ x, a = x + 1 ∧ H[x]? = some (arrV (aC (k % 10)) (hl h a) (fun i => aval (k % 10) (hA h a i))) ∧ (∀ i, i < hl h a → acan (k % 10) (hA h a i)) ∧ hl h a ≤ 67108864 := by
  obtain ⟨x, cell, rfl, h1, h2⟩ := r.cell (a := a) (by rw [hk]; omega)
  unfold cellOf at h2
  rw [hk, if_neg (by omega), if_pos (by omega)] at h2
  obtain ⟨⟨-, rfl⟩ | ⟨z, -⟩, h3⟩ := h2
  · exact ⟨x, rfl, h1, h3⟩
  · omega
/-- an array that is only read -/
theorem roCell (r : Rep D aC B0 H0 eE h H) {a k : Nat} (hk : hK h a = k) (hkk : k = 11 ∨ k = 13) : ∃ x cell, a = x + 1 ∧ H[x]? = some cell ∧ roA aC ((k - 11) / 2) (hl h a) (fun i => aval (k % 10) (hA h a i)) cell ∧ (∀ i, i < hl h a → acan (k % 10) (hA h a i)) ∧ hl h a ≤ 67108864 := by
  obtain ⟨x, cell, rfl, h1, h2⟩ := r.cell (a := a) (by rw [hk]; omega)
  unfold cellOf at h2
  rw [hk, if_neg (by omega), if_pos (by omega)] at h2
  obtain ⟨⟨z, -⟩ | ⟨-, h4⟩, h3⟩ := h2
  · omega
  · exact ⟨x, cell, rfl, h1, h4, h3⟩
theorem refCell (r : Rep D aC B0 H0 eE h H) {a k : Nat} (hk : hK h a = k) (hk1 : 20 ≤ k) (hk2 : k < 29) : ∃ x, a = x + 1 ∧ H[x]? = some (arrV (aC k) (hl h a) (fun i => cv (vR (hB h a i)))) ∧ hl h a ≤ 67108864 := by
  obtain ⟨x, cell, rfl, h1, h2⟩ := r.cell (a := a) (by rw [hk]; omega)
  unfold cellOf at h2
  rw [hk, if_neg (by omega), if_neg (by omega), if_pos ⟨hk1, hk2⟩] at h2
  obtain ⟨rfl, h3⟩ := h2
  exact ⟨x, rfl, h1, h3⟩
theorem arr_in {n : Nat} {i : Int} (h0 : 0 ≤ i) (h1 : i < n) (hc : in32 i) (cA : ClassId) (f : Nat → Value) : ¬ (Int32.ofInt i < 0 ∨ (arrV cA n f).slots.size ≤ (Int32.ofInt i).toNatClampNeg) := by
  rw [arrV_size, cl32 h0 hc]
  intro z
  rcases z with z | z
  · exact nn32 h0 hc z
  · omega
theorem arr_rd {n : Nat} {i : Int} (h0 : 0 ≤ i) (h1 : i < n) (hc : in32 i) (cA : ClassId) (f : Nat → Value) : (arrV cA n f).slots[(Int32.ofInt i).toNatClampNeg]? = some (f i.toNat) := by
  rw [cl32 h0 hc]; exact arrV_read _ _ (by omega)
theorem sn_iald (hexec : p.tables.exec = Jvm.exec) (hb : c.code = cc) (hKn : EK D aC s) (r : Rep D aC B0 H0 eE h H) {a : Nat} {i : Int} (hk : hK h a ∈ [1, 11]) (h0 : 0 ≤ i) (h1 : i < (hl h a : Int)) (hc : in32 i) (hdg : decode cc pc = .ok (.iaload, 1))
    (kk : in32 (hA h a i.toNat) → W p l e R s m args below meth c H locs cells slots Q (F0 m (pc + 1) ls (cv (vI (hA h a i.toNat)) :: rest))) : W p l e R s m args below meth c H locs cells slots Q (F0 m pc ls (cv (vI i) :: cv (vR a) :: rest)) := by
  have hk' : hK h a = 1 ∨ hK h a = 11 := by simpa using hk
  rcases hk' with hk' | hk'
  rotate_left
  · obtain ⟨x, cell, rfl, e1, e3, e2, e9⟩ := roCell r hk' (by omega)
    refine W.iald hexec hb e1 (e3.arr hKn (by decide)) e3.2.2.1 (e3.inB h0 h1 hc) (e3.rd h0 h1 hc) rfl rfl hdg ?_
    exact kk (by have := e2 i.toNat (by omega); simpa [acan] using this)
  obtain ⟨x, rfl, e1, e2, e9⟩ := aaCell r hk' (by omega)
  refine W.iald hexec hb e1 ((hKn.2.1 (1, .int) (by decide)).1 _ _) (fun z => by cases z) (arr_in h0 h1 hc _ _) (arr_rd h0 h1 hc _ _) rfl rfl hdg ?_
  exact kk (by have := e2 i.toNat (by omega); simpa [acan] using this)
theorem sn_lald (hexec : p.tables.exec = Jvm.exec) (hb : c.code = cc) (hKn : EK D aC s) (r : Rep D aC B0 H0 eE h H) {a : Nat} {i : Int} (hk : hK h a ∈ [2]) (h0 : 0 ≤ i) (h1 : i < (hl h a : Int)) (hc : in32 i) (hdg : decode cc pc = .ok (.laload, 1))
    (kk : in64 (hA h a i.toNat) → W p l e R s m args below meth c H locs cells slots Q (F0 m (pc + 1) ls (cv (vL (hA h a i.toNat)) :: rest))) : W p l e R s m args below meth c H locs cells slots Q (F0 m pc ls (cv (vI i) :: cv (vR a) :: rest)) := by
  have hk' : hK h a = 2 := by simpa using hk
  obtain ⟨x, rfl, e1, e2, e9⟩ := aaCell r hk' (by omega)
  refine W.lald hexec hb e1 ((hKn.2.1 (2, .long) (by decide)).1 _ _) (fun z => by cases z) (arr_in h0 h1 hc _ _) (arr_rd h0 h1 hc _ _) rfl rfl hdg ?_
  exact kk (by have := e2 i.toNat (by omega); simpa [acan] using this)
theorem sn_bald (hexec : p.tables.exec = Jvm.exec) (hb : c.code = cc) (hKn : EK D aC s) (r : Rep D aC B0 H0 eE h H) {a : Nat} {i : Int} (hk : hK h a ∈ [3, 4, 13]) (h0 : 0 ≤ i) (h1 : i < (hl h a : Int)) (hc : in32 i) (hdg : decode cc pc = .ok (.baload, 1))
    (kk : in32 (hA h a i.toNat) → W p l e R s m args below meth c H locs cells slots Q (F0 m (pc + 1) ls (cv (vI (hA h a i.toNat)) :: rest))) : W p l e R s m args below meth c H locs cells slots Q (F0 m pc ls (cv (vI i) :: cv (vR a) :: rest)) := by
  have hk' : hK h a = 3 ∨ hK h a = 4 ∨ hK h a = 13 := by simpa using hk
  by_cases h4 : hK h a = 4
  · obtain ⟨x, rfl, e1, e2, e9⟩ := aaCell r h4 (by omega)
    refine W.zald hexec hb e1 ((hKn.2.1 (4, .boolean) (by decide)).1 _ _) (fun z => by cases z) (arr_in h0 h1 hc _ _) (arr_rd h0 h1 hc _ _) rfl rfl hdg ?_
    refine kk ?_
    have := e2 i.toNat (by omega)
    simp only [acan] at this
    rcases this with z | z <;> rw [z] <;> exact ⟨by decide, by decide⟩
  rcases hk' with hk' | hk' | hk'
  · obtain ⟨x, rfl, e1, e2, e9⟩ := aaCell r hk' (by omega)
    refine W.bald hexec hb e1 ((hKn.2.1 (3, .byte) (by decide)).1 _ _) (fun z => by cases z) (arr_in h0 h1 hc _ _) (arr_rd h0 h1 hc _ _) rfl rfl hdg ?_
    refine kk ?_
    have := e2 i.toNat (by omega)
    simp only [acan] at this
    exact ⟨by have := this.1; omega, by have := this.2; omega⟩
  · exact absurd hk' h4
  · obtain ⟨x, cell, rfl, e1, e3, e2, e9⟩ := roCell r hk' (by omega)
    refine W.bald hexec hb e1 (e3.arr hKn (by decide)) e3.2.2.1 (e3.inB h0 h1 hc) (e3.rd h0 h1 hc) rfl rfl hdg ?_
    refine kk ?_
    have := e2 i.toNat (by omega)
    simp only [acan] at this
    exact ⟨by have := this.1; omega, by have := this.2; omega⟩
theorem arrT_ref {k : Nat} (h1 : 20 ≤ k) (h2 : k < 29) : ∃ C, (k, FieldType.object C) ∈ arrT := by
  have : k = 20 ∨ k = 21 ∨ k = 22 ∨ k = 23 ∨ k = 24 ∨ k = 25 ∨ k = 26 ∨ k = 27 ∨ k = 28 := by omega
  rcases this with rfl | rfl | rfl | rfl | rfl | rfl | rfl | rfl | rfl
  · exact ⟨"java/lang/Object", by simp [arrT]⟩
  · exact ⟨"LinkedTongueModel$Part", by simp [arrT]⟩
  · exact ⟨"LinkedTongue$Choice", by simp [arrT]⟩
  · exact ⟨"LinkedTongue$Code", by simp [arrT]⟩
  · exact ⟨"LinkedTongue$Member", by simp [arrT]⟩
  · exact ⟨"LinkedTongue$Obj", by simp [arrT]⟩
  · exact ⟨"LinkedTongue$Task", by simp [arrT]⟩
  · exact ⟨"LinkedTongue$Variables", by simp [arrT]⟩
  · exact ⟨"java/lang/String", by simp [arrT]⟩
theorem sn_store (r : Rep D aC B0 H0 eE h H) {a k : Nat} {i : Int} {v : Int} (hk : hK h a = k) (hkk : k = 1 ∨ k = 2 ∨ k = 3 ∨ k = 4) (h0 : 0 ≤ i) (h1 : i < (hl h a : Int)) (hv : acan k v) {x : Nat} (ha : a = x + 1) {H' : Heap} (e1 : H'[x]? = some ((arrV (aC (k % 10)) (hl h a) (fun i => aval (k % 10) (hA h a i))).setSlot i.toNat (aval k v))) (e2 : H'.size = H.size) (e3 : ∀ q, q ≠ x → H'[q]? = H[q]?) (hcs : ∀ i, i < hl h a → acan (k % 10) (hA h a i)) (hln : hl h a ≤ 67108864) : Rep D aC B0 H0 eE (sA h a i.toNat v) H' := by
  subst ha
  have hm : k % 10 = k := by omega
  have hw : rwK (hK h (x + 1)) = true := by rw [hk]; rcases hkk with rfl | rfl | rfl | rfl <;> rfl
  refine r.upd hw (by omega) (by omega) e1 e2 e3 rfl (fun _ => rfl) (fun b hb => sA_same h _ _ _ hb) ?_
  unfold cellOf
  rw [hk, if_neg (by omega), if_pos (by omega), hm]
  rw [hm] at hcs
  refine ⟨Or.inl ⟨by omega, ?_⟩, ?_, hln⟩
  · rw [arrV_store]
    congr 1
    funext q
    by_cases hq : q = i.toNat
    · subst hq
      simp [updV, hA, sA, u2]
    · simp [updV, hA, sA, u2, hq]
  · intro q hq
    by_cases hqi : q = i.toNat
    · have : hA (sA h (x + 1) i.toNat v) (x + 1) q = v := if_pos ⟨rfl, hqi⟩
      rw [this]; exact hv
    · have : hA (sA h (x + 1) i.toNat v) (x + 1) q = hA h (x + 1) q := if_neg (fun z => hqi z.2)
      rw [this]; exact hcs q hq
theorem locs_up {B : Nat} {x j : Nat} (hx : B < x + 1) : ∀ q ∈ locs ++ [(⟨x, j⟩ : Loc)], q ∈ locs ∨ B ≤ q.base := by
  intro q hq
  rcases List.mem_append.mp hq with hq | hq
  · exact Or.inl hq
  · right; cases List.mem_singleton.mp hq; show B ≤ x; omega
abbrev SK (p : Program) (l : Launch) (e : Env) (R : Room) (s : State) (m : MethodId) (args : Array Value) (below : List Frame) (meth : Method) (c : Code) (locs : List Loc) (cells slots : Nat) (Q : State → Prop) (D : va_G) (aC : Nat → ClassId) (B0 : Nat) (H0 : Heap) (eE : Nat) (h1 : ah) (g : JFrame) : Prop :=
  ∀ (H1 : Heap) (locs1 : List Loc), Rep D aC B0 H0 eE h1 H1 → (∀ q ∈ locs1, q ∈ locs ∨ B0 ≤ q.base) → W p l e R s m args below meth c H1 locs1 cells slots Q g
theorem sn_iast (hexec : p.tables.exec = Jvm.exec) (hb : c.code = cc) (hKn : EK D aC s) (r : Rep D aC B0 H0 eE h H) {a : Nat} {i v : Int} (hk : hK h a = 1) (h0 : 0 ≤ i) (h1 : i < (hl h a : Int)) (hc : in32 i) (hv : in32 v) (hdg : decode cc pc = .ok (.iastore, 1))
    (kk : SK p l e R s m args below meth c locs cells slots Q D aC B0 H0 eE (sA h a i.toNat v) (F0 m (pc + 1) ls rest)) : W p l e R s m args below meth c H locs cells slots Q (F0 m pc ls (cv (vI v) :: cv (vI i) :: cv (vR a) :: rest)) := by
  obtain ⟨x, rfl, e1, e2, e9⟩ := aaCell r hk (by omega)
  refine W.iast hexec hb e1 ((hKn.2.1 (1, .int) (by decide)).1 _ _) (fun z => by cases z) (arr_in h0 h1 hc _ _) rfl rfl hdg fun H' f1 f2 f3 => ?_
  rw [cl32 h0 hc] at f1
  exact kk H' _ (sn_store r hk (by omega) h0 h1 (by simpa [acan] using hv) rfl (by simpa [aval] using f1) f2 f3 e2 e9) (locs_up (r.2.2.2.2.1 _ (by rw [hk]; rfl)))
theorem sn_last (hexec : p.tables.exec = Jvm.exec) (hb : c.code = cc) (hKn : EK D aC s) (r : Rep D aC B0 H0 eE h H) {a : Nat} {i v : Int} (hk : hK h a = 2) (h0 : 0 ≤ i) (h1 : i < (hl h a : Int)) (hc : in32 i) (hv : in64 v) (hdg : decode cc pc = .ok (.lastore, 1))
    (kk : SK p l e R s m args below meth c locs cells slots Q D aC B0 H0 eE (sA h a i.toNat v) (F0 m (pc + 1) ls rest)) : W p l e R s m args below meth c H locs cells slots Q (F0 m pc ls (cv (vL v) :: cv (vI i) :: cv (vR a) :: rest)) := by
  obtain ⟨x, rfl, e1, e2, e9⟩ := aaCell r hk (by omega)
  refine W.last hexec hb e1 ((hKn.2.1 (2, .long) (by decide)).1 _ _) (fun z => by cases z) (arr_in h0 h1 hc _ _) rfl rfl hdg fun H' f1 f2 f3 => ?_
  rw [cl32 h0 hc] at f1
  exact kk H' _ (sn_store r hk (by omega) h0 h1 (by simpa [acan] using hv) rfl (by simpa [aval] using f1) f2 f3 e2 e9) (locs_up (r.2.2.2.2.1 _ (by rw [hk]; rfl)))
theorem sn_bast (hexec : p.tables.exec = Jvm.exec) (hb : c.code = cc) (hKn : EK D aC s) (r : Rep D aC B0 H0 eE h H) {a : Nat} {i v : Int} (hk : (hK h a = 3 ∧ -128 ≤ v ∧ v ≤ 127) ∨ (hK h a = 4 ∧ (v = 0 ∨ v = 1))) (h0 : 0 ≤ i) (h1 : i < (hl h a : Int)) (hc : in32 i) (hdg : decode cc pc = .ok (.bastore, 1))
    (kk : SK p l e R s m args below meth c locs cells slots Q D aC B0 H0 eE (sA h a i.toNat v) (F0 m (pc + 1) ls rest)) : W p l e R s m args below meth c H locs cells slots Q (F0 m pc ls (cv (vI v) :: cv (vI i) :: cv (vR a) :: rest)) := by
  rcases hk with ⟨hk, hv⟩ | ⟨hk, hv⟩
  · obtain ⟨x, rfl, e1, e2, e9⟩ := aaCell r hk (by omega)
    refine W.bast hexec hb e1 ((hKn.2.1 (3, .byte) (by decide)).1 _ _) (fun z => by cases z) (arr_in h0 h1 hc _ _) rfl rfl hdg fun H' f1 f2 f3 => ?_
    rw [cl32 h0 hc] at f1
    have hn : narrow .byte (cv (vI v)) = cv (vI v) := (nf_val (v := vI v) (ty := .byte) (ft := 1) rfl (h := h) (f := 0) (a := 0) (F := fun _ => True) ⟨hv, trivial⟩ (show in32 v from ⟨by omega, by omega⟩)).1
    have hn : narrow .byte (.int (Int32.ofInt v)) = .int (Int32.ofInt v) := hn
    rw [hn] at f1
    exact kk H' _ (sn_store r hk (by omega) h0 h1 (by simpa [acan] using hv) rfl (by simpa [aval] using f1) f2 f3 e2 e9) (locs_up (r.2.2.2.2.1 _ (by rw [hk]; rfl)))
  · obtain ⟨x, rfl, e1, e2, e9⟩ := aaCell r hk (by omega)
    refine W.zast hexec hb e1 ((hKn.2.1 (4, .boolean) (by decide)).1 _ _) (fun z => by cases z) (arr_in h0 h1 hc _ _) rfl rfl hdg fun H' f1 f2 f3 => ?_
    rw [cl32 h0 hc] at f1
    have hn : narrow .boolean (.int (Int32.ofInt v)) = .int (Int32.ofInt v) := by rcases hv with rfl | rfl <;> decide
    rw [hn] at f1
    exact kk H' _ (sn_store r hk (by omega) h0 h1 (by simpa [acan] using hv) rfl (by simpa [aval] using f1) f2 f3 e2 e9) (locs_up (r.2.2.2.2.1 _ (by rw [hk]; rfl)))
theorem sn_alen (hexec : p.tables.exec = Jvm.exec) (hb : c.code = cc) (hKn : EK D aC s) (r : Rep D aC B0 H0 eE h H) {a : Nat} (hk1 : 1 ≤ hK h a) (hk2 : hK h a < 100) (hdg : decode cc pc = .ok (.arraylength, 1))
    (kk : in32 (hl h a) → W p l e R s m args below meth c H locs cells slots Q (F0 m (pc + 1) ls (cv (vI (hl h a)) :: rest))) : W p l e R s m args below meth c H locs cells slots Q (F0 m pc ls (cv (vR a) :: rest)) := by
  obtain ⟨x, cell, rfl, h1, h2⟩ := r.cell (a := a) (by omega)
  have key : ∀ (k : Nat) (ty : FieldType) (f : Nat → Value), (k, ty) ∈ arrT → cell = arrV (aC k) (hl h (x + 1)) f → hl h (x + 1) ≤ 67108864 → W p l e R s m args below meth c H locs cells slots Q (F0 m pc ls (cv (vR (x + 1)) :: rest)) := by
    intro k ty f hm hce hln
    subst hce
    refine W.alen hexec hb h1 ((hKn.2.1 (k, ty) hm).1 _ _) ?_ rfl rfl hdg (kk ⟨by omega, by omega⟩)
    rw [arrV_size]; rfl
  unfold cellOf at h2
  have h5 : ¬ (hK h (x + 1) = 0 ∨ hK h (x + 1) = 105) := by omega
  · rw [if_neg h5] at h2
    by_cases h6 : hK h (x + 1) = 1 ∨ hK h (x + 1) = 2 ∨ hK h (x + 1) = 3 ∨ hK h (x + 1) = 4 ∨ hK h (x + 1) = 11 ∨ hK h (x + 1) = 13
    · rw [if_pos h6] at h2
      have ro : ∀ o F, o < 2 → roA aC o (hl h (x + 1)) F cell → hl h (x + 1) ≤ 67108864 → W p l e R s m args below meth c H locs cells slots Q (F0 m pc ls (cv (vR (x + 1)) :: rest)) := fun o F ho hro hln =>
        W.alen hexec hb h1 (hro.arr hKn ho) (by rw [hro.2.2.2.2.1]; rfl) rfl rfl hdg (kk ⟨by omega, by omega⟩)
      obtain ⟨⟨z9, h2e⟩ | ⟨z9, h2e⟩, -, hln⟩ := h2
      · rcases h6 with h6 | h6 | h6 | h6 | h6 | h6 <;> rw [h6] at h2e z9
        · exact key 1 .int _ (by simp [arrT]) h2e hln
        · exact key 2 .long _ (by simp [arrT]) h2e hln
        · exact key 3 .byte _ (by simp [arrT]) h2e hln
        · exact key 4 .boolean _ (by simp [arrT]) h2e hln
        · omega
        · omega
      · exact ro _ _ (by omega) h2e hln
    · rw [if_neg h6] at h2
      by_cases h7 : 20 ≤ hK h (x + 1) ∧ hK h (x + 1) < 29
      · rw [if_pos h7] at h2
        obtain ⟨C, hC⟩ := arrT_ref h7.1 h7.2
        exact key _ _ _ hC h2.1 h2.2
      · rw [if_neg h7, if_neg (by omega)] at h2
        obtain ⟨q, hq, hqk, -⟩ := h2
        have := clsT_kinds q hq
        omega
end
