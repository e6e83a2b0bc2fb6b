/-! THE ABSTRACT HEAP AND THE MACHINE'S -/
def in32 (x : Int) : Prop := -2147483648 ≤ x ∧ x < 2147483648
def in64 (x : Int) : Prop := -9223372036854775808 ≤ x ∧ x < 9223372036854775808
def cv (v : AV) : Value := match v with
  | Sum.inl x => .int (Int32.ofInt x)
  | Sum.inr (Sum.inl x) => .long (Int64.ofInt x)
  | Sum.inr (Sum.inr 0) => .null
  | Sum.inr (Sum.inr (a + 1)) => .ref a
def can (v : AV) : Prop := match v with
  | Sum.inl x => in32 x
  | Sum.inr (Sum.inl x) => in64 x
  | Sum.inr (Sum.inr _) => True
theorem i32_of {x : Int} (h : in32 x) : (Int32.ofInt x).toInt = x := by
  unfold in32 at h
  rw [Int32.toInt_ofInt]
  simp only [Int.bmod, Int32.size]
  omega
theorem i64_of {x : Int} (h : in64 x) : (Int64.ofInt x).toInt = x := by
  unfold in64 at h
  rw [Int64.toInt_ofInt]
  simp only [Int.bmod, Int64.size]
  omega
theorem in32_t (x : Int32) : in32 x.toInt := ⟨by have := x.le_toInt; simpa using this, by have := x.toInt_lt; simpa using this⟩
theorem in64_t (x : Int64) : in64 x.toInt := ⟨by have := x.le_toInt; simpa using this, by have := x.toInt_lt; simpa using this⟩
theorem w32_eq (x : Int) : w32 x = (Int32.ofInt x).toInt := by rw [Int32.toInt_ofInt]; rfl
theorem w64_eq (x : Int) : w64 x = (Int64.ofInt x).toInt := by rw [Int64.toInt_ofInt]; rfl
theorem in32_w (x : Int) : in32 (w32 x) := by rw [w32_eq]; exact in32_t _
theorem in64_w (x : Int) : in64 (w64 x) := by rw [w64_eq]; exact in64_t _
theorem of_w32 (x : Int) : Int32.ofInt (w32 x) = Int32.ofInt x := by rw [w32_eq, Int32.ofInt_toInt]
theorem of_w64 (x : Int) : Int64.ofInt (w64 x) = Int64.ofInt x := by rw [w64_eq, Int64.ofInt_toInt]
theorem w32_id {x : Int} (h1 : -2147483648 ≤ x) (h2 : x < 2147483648) : w32 x = x := by rw [w32_eq]; exact i32_of ⟨h1, h2⟩
theorem w64_id {x : Int} (h1 : -9223372036854775808 ≤ x) (h2 : x < 9223372036854775808) : w64 x = x := by rw [w64_eq]; exact i64_of ⟨h1, h2⟩
theorem lt32 {x y : Int} (hx : in32 x) (hy : in32 y) : Int32.ofInt x < Int32.ofInt y ↔ x < y := by rw [Int32.lt_iff_toInt_lt, i32_of hx, i32_of hy]
theorem le32 {x y : Int} (hx : in32 x) (hy : in32 y) : Int32.ofInt x ≤ Int32.ofInt y ↔ x ≤ y := by rw [Int32.le_iff_toInt_le, i32_of hx, i32_of hy]
theorem eq32 {x y : Int} (hx : in32 x) (hy : in32 y) : Int32.ofInt x = Int32.ofInt y ↔ x = y := ⟨fun h => by have := congrArg Int32.toInt h; rwa [i32_of hx, i32_of hy] at this, fun h => by rw [h]⟩
theorem lt64 {x y : Int} (hx : in64 x) (hy : in64 y) : Int64.ofInt x < Int64.ofInt y ↔ x < y := by rw [Int64.lt_iff_toInt_lt, i64_of hx, i64_of hy]
theorem le64 {x y : Int} (hx : in64 x) (hy : in64 y) : Int64.ofInt x ≤ Int64.ofInt y ↔ x ≤ y := by rw [Int64.le_iff_toInt_le, i64_of hx, i64_of hy]
theorem eq64 {x y : Int} (hx : in64 x) (hy : in64 y) : Int64.ofInt x = Int64.ofInt y ↔ x = y := ⟨fun h => by have := congrArg Int64.toInt h; rwa [i64_of hx, i64_of hy] at this, fun h => by rw [h]⟩
theorem cl32 {x : Int} (h0 : 0 ≤ x) (h : in32 x) : (Int32.ofInt x).toNatClampNeg = x.toNat := by
  unfold Int32.toNatClampNeg
  rw [i32_of h]
theorem nn32 {x : Int} (h0 : 0 ≤ x) (h : in32 x) : ¬ Int32.ofInt x < 0 := by
  rw [Int32.lt_iff_toInt_lt, i32_of h, Int32.toInt_zero]; omega
/-- the value of a field, of a cell of an array -/
def fval (h : ah) (f a : Nat) : Value := if f % 8 = 4 then cv (vR (hR h f a)) else if f % 8 = 3 then .long (Int64.ofInt (hI h f a)) else .int (Int32.ofInt (hI h f a))
def fcan (h : ah) (f a : Nat) : Prop := if f % 8 = 4 then True else if f % 8 = 3 then in64 (hI h f a) else if f % 8 = 2 then (hI h f a = 0 ∨ hI h f a = 1) else if f % 8 = 1 then (-128 ≤ hI h f a ∧ hI h f a ≤ 127) else in32 (hI h f a)
def aval (t : Nat) (x : Int) : Value := if t = 2 then .long (Int64.ofInt x) else .int (Int32.ofInt x)
def acan (t : Nat) (x : Int) : Prop := if t = 2 then in64 x else if t = 3 then (-128 ≤ x ∧ x ≤ 127) else if t = 4 then (x = 0 ∨ x = 1) else in32 x
theorem in32_cv {v : AV} (h : can v) : True := trivial
/-- arrays' classes by their kinds -/
def arrT : List (Nat × FieldType) := [(1, .int), (2, .long), (3, .byte), (4, .boolean), (20, .object "java/lang/Object"), (21, .object "LinkedTongueModel$Part"), (22, .object "LinkedTongue$Choice"), (23, .object "LinkedTongue$Code"), (24, .object "LinkedTongue$Member"), (25, .object "LinkedTongue$Obj"), (26, .object "LinkedTongue$Task"), (27, .object "LinkedTongue$Variables"), (28, .object "java/lang/String")]
/-- cells that are there before the start: classes of arrays of ints and of bytes that are only read -/
def roT (o : Nat) : FieldType := if o = 0 then .int else .byte
def EK (D : va_G) (aC : Nat → ClassId) (U : State) : Prop := (∀ q ∈ clsT, u_Kn U q.2.1 q.2.2.1 q.2.2.2.1 (D.1 q.1) (D.2 q.1)) ∧ (∀ r ∈ arrT, ArrOfT U (aC r.1) r.2 ∧ va_RA U (aC r.1) r.2) ∧ ∀ o c, o < 2 → ArrOfT U (aC (1000 + 2 * c + o)) (roT o)
theorem EK.moved {D : va_G} {aC : Nat → ClassId} {u U : State} (hvm : u.vm.Alike U.vm) (h : EK D aC u) : EK D aC U := ⟨fun q hq => u_Kn_moved hvm (h.1 q hq), fun r hr => ⟨arrOfT_moved hvm (h.2.1 r hr).1, (h.2.1 r hr).2.moved hvm⟩, fun o c ho => arrOfT_moved hvm (h.2.2 o c ho)⟩
/-- a cell of an object that is known -/
def okV (v : VmData) : Prop := v.isStatics = false ∧ v ≠ .unknown
theorem okV_n : okV .none := ⟨rfl, fun z => by cases z⟩
theorem okV.st {v : VmData} (h : okV v) (q : ClassId) : v ≠ .statics q := fun z => by rw [z] at h; cases h.1
/-- its length, as the machine tells it -/
def szC (c : Cell) (cap : Nat) : Prop := c.slots.size.toInt32 = Int32.ofNat cap ∧ (0 < cap → c.slots.size = cap)
theorem szC_of {c : Cell} {cap : Nat} (h : c.slots.size = cap) : szC c cap := by subst h; exact ⟨rfl, fun _ => rfl⟩
/-- an array that is only read -/
def roA (aC : Nat → ClassId) (o n : Nat) (F : Nat → Value) (cell : Cell) : Prop := (∃ c, cell.cls = aC (1000 + 2 * c + o)) ∧ (∀ k, cell.vm ≠ .statics k) ∧ cell.vm ≠ .unknown ∧ n ≤ cell.slots.size ∧ cell.slots.size.toInt32 = Int32.ofNat n ∧ ∀ i, i < n → cell.slots[i]? = some (F i)
theorem roA.arr {D : va_G} {aC : Nat → ClassId} {U : State} {o n : Nat} {F : Nat → Value} {cell : Cell} (hK : EK D aC U) (ho : o < 2) (h : roA aC o n F cell) : U.isArrayOf cell (roT o) := by
  obtain ⟨⟨c, hc⟩, h2, -⟩ := h
  obtain ⟨-, k, hk, comp, hkind⟩ := hK.2.2 o c ho 0 (fun _ => .null)
  exact ⟨h2, k, by rw [hc]; exact hk, comp, hkind⟩
theorem roA.inB {aC : Nat → ClassId} {o n : Nat} {F : Nat → Value} {cell : Cell} (h : roA aC o n F cell) {i : Int} (h0 : 0 ≤ i) (h1 : i < n) (hc : in32 i) : ¬ (Int32.ofInt i < 0 ∨ cell.slots.size ≤ (Int32.ofInt i).toNatClampNeg) := by
  obtain ⟨-, -, -, h4, -⟩ := h
  rw [cl32 h0 hc]
  intro z
  rcases z with z | z
  · exact nn32 h0 hc z
  · omega
theorem roA.rd {aC : Nat → ClassId} {o n : Nat} {F : Nat → Value} {cell : Cell} (h : roA aC o n F cell) {i : Int} (h0 : 0 ≤ i) (h1 : i < n) (hc : in32 i) : cell.slots[(Int32.ofInt i).toNatClampNeg]? = some (F i.toNat) := by
  obtain ⟨-, -, -, -, -, h6⟩ := h
  rw [cl32 h0 hc]; exact h6 _ (by omega)
def thC (D : va_G) (k : Nat) (cell : Cell) : Prop := (∀ j, j < 6 → ∃ v, cell.slots[D.2 k j]? = some v) ∧ cell.slots[D.2 k 4]? = some .null ∧ cell.monitor.owner = none ∧ cell.monitor.count = 0
/-- a list that is made, or not yet -/
def lsC (D : va_G) (h : ah) (a : Nat) (cell : Cell) : Prop := (∀ j, j < 3 → ∃ v, cell.slots[D.2 190 j]? = some v) ∧ (hI h 4 a = 0 → cell.slots[D.2 190 2]? = some (.int 0) ∧ hl h a = 0 ∧ hI h 2 a = 0)
def cellOf (D : va_G) (aC : Nat → ClassId) (h : ah) (a k : Nat) (cell : Cell) : Prop :=
  if k = 0 ∨ k = 105 then True
  else if k = 1 ∨ k = 2 ∨ k = 3 ∨ k = 4 ∨ k = 11 ∨ k = 13 then ((k < 10 ∧ cell = arrV (aC (k % 10)) (hl h a) (fun i => aval (k % 10) (hA h a i))) ∨ (10 < k ∧ roA aC ((k - 11) / 2) (hl h a) (fun i => aval (k % 10) (hA h a i)) cell)) ∧ (∀ i, i < hl h a → acan (k % 10) (hA h a i)) ∧ hl h a ≤ 67108864
  else if 20 ≤ k ∧ k < 29 then cell = arrV (aC k) (hl h a) (fun i => cv (vR (hB h a i))) ∧ hl h a ≤ 67108864
  else if k = 190 ∨ k = 191 then cell.cls = D.1 k ∧ (cell.vm.isStatics = false ∧ cell.vm ≠ .unknown) ∧ (k = 190 → cell.vm = .none ∧ lsC D h a cell)
  else ∃ q ∈ clsT, q.1 = k ∧ cell.cls = D.1 k ∧ cell.vm = .none ∧ (thK k = true → thC D k cell) ∧ ∀ j, j < q.2.2.2.1 → q.2.2.2.2.2.getD j 0 ≠ 0 → cell.slots[D.2 k j]? = some (fval h (q.2.2.2.2.2.getD j 0) a) ∧ fcan h (q.2.2.2.2.2.getD j 0) a
/-- all that is at an address is as it was -/
def sameAt (h h' : ah) (a : Nat) : Prop := (∀ f, hI h' f a = hI h f a) ∧ (∀ f, hR h' f a = hR h f a) ∧ hl h' a = hl h a ∧ (∀ i, hA h' a i = hA h a i) ∧ ∀ i, hB h' a i = hB h a i
theorem cellOf.same {D : va_G} {aC : Nat → ClassId} {h h' : ah} {a k : Nat} {cell : Cell} (e : sameAt h h' a) (hc : cellOf D aC h a k cell) : cellOf D aC h' a k cell := by
  obtain ⟨e1, e2, e3, e4, e5⟩ := e
  unfold cellOf at hc ⊢
  split
  · trivial
  · rename_i n0
    rw [if_neg n0] at hc
    split
    · rename_i n1
      rw [if_pos n1] at hc
      simp only [e3, e4]; exact hc
    · rename_i n1
      rw [if_neg n1] at hc
      split
      · rename_i n2
        rw [if_pos n2] at hc
        simp only [e3, e5]; exact hc
      · rename_i n2
        rw [if_neg n2] at hc
        split
        · rename_i n3
          rw [if_pos n3] at hc
          refine ⟨hc.1, hc.2.1, fun z => ⟨(hc.2.2 z).1, ?_⟩⟩
          have := (hc.2.2 z).2
          unfold lsC at this ⊢
          rw [e1, e1, e3]; exact this
        · rename_i n3
          rw [if_neg n3] at hc
          obtain ⟨q, hq, hk, h1, h2, hth, h3⟩ := hc
          refine ⟨q, hq, hk, h1, h2, hth, fun j hj hf => ?_⟩
          have := h3 j hj hf
          simp only [fval, fcan, e1, e2] at this ⊢
          exact this
def rwK (k : Nat) : Bool := !(k == 0 || k == 11 || k == 13 || k == 191)
/-- a list that is made: its cells and its hidden array's -/
def LRep (D : va_G) (aC : Nat → ClassId) (eE : Nat) (h : ah) (H : Heap) (a : Nat) : Prop :=
  ∃ (ee : Nat) (cell cE : Cell) (mc : Int32) (cap : Nat), H[a - 1]? = some cell ∧ cell.slots[D.2 190 1]? = some (.ref ee) ∧ cell.slots[D.2 190 2]? = some (.int (Int32.ofInt (hl h a))) ∧ cell.slots[D.2 190 0]? = some (.int mc) ∧ H[ee]? = some cE ∧ cE.cls = aC 20 ∧ (okV cE.vm ∧ szC cE cap) ∧ (cap : Int) = hI h 2 a ∧ hl h a ≤ cap ∧ cap ≤ 3000000 ∧ (∀ i, i < hl h a → cE.slots[i]? = some (cv (vR (hB h a i))) ∧ (hB h a i = 0 ∨ 190 ≤ hK h (hB h a i))) ∧ (if hI h 2 a = 0 then ee = eE else ee + 1 = hR h 1 a ∧ hK h (ee + 1) = 105 ∧ hR h 3 (ee + 1) = a)
def SRep (D : va_G) (aC : Nat → ClassId) (h : ah) (H : Heap) (a : Nat) : Prop :=
  ∃ (cell : Cell) (vv : Nat), H[a - 1]? = some cell ∧ cell.slots[D.2 191 0]? = some (.ref vv) ∧ cell.slots[D.2 191 1]? = some (.int 0) ∧ (∃ cV, H[vv]? = some cV ∧ roA aC 1 (hl h a) (fun i => .int (Int32.ofInt (hA h a i))) cV) ∧ hl h a ≤ 1000 ∧ ∀ i, i < hl h a → 0 ≤ hA h a i ∧ hA h a i ≤ 127
def Rep (D : va_G) (aC : Nat → ClassId) (B0 : Nat) (H0 : Heap) (eE : Nat) (h : ah) (H : Heap) : Prop :=
  (H.size + 1 = hz h ∧ B0 ≤ H.size ∧ eE < B0) ∧ (∀ a, hK h a ≠ 0 → 0 < a ∧ a < hz h) ∧ (∀ a cell, H[a]? = some cell → cellOf D aC h (a + 1) (hK h (a + 1)) cell) ∧ (∀ q, q < B0 → H[q]? = H0[q]?) ∧ (∀ a, rwK (hK h a) = true → B0 < a) ∧ (∀ a, hK h a = 190 → hI h 4 a = 1 → LRep D aC eE h H a) ∧ ∀ a, hK h a = 191 → SRep D aC h H a ∧ ∀ cell vv, H[a - 1]? = some cell → cell.slots[D.2 191 0]? = some (.ref vv) → vv < B0
section
variable {D : va_G} {aC : Nat → ClassId} {B0 : Nat} {H0 : Heap} {eE : Nat} {h h' : ah} {H H' : Heap}
/-- the cell of an address that has a kind -/
theorem Rep.cell (r : Rep D aC B0 H0 eE h H) {a : Nat} (hk : hK h a ≠ 0) : ∃ q cell, a = q + 1 ∧ H[q]? = some cell ∧ cellOf D aC h a (hK h a) cell := by
  obtain ⟨⟨hz1, -, -⟩, r2, r3, -⟩ := r
  obtain ⟨h1, h2⟩ := r2 a hk
  obtain ⟨q, rfl⟩ : ∃ q, a = q + 1 := ⟨a - 1, by omega⟩
  have hq : q < H.size := by omega
  exact ⟨q, H[q], rfl, Array.getElem?_eq_getElem hq, r3 q _ (Array.getElem?_eq_getElem hq)⟩
/-- one cell is written: neither a list, nor what it hides -/
theorem Rep.upd (r : Rep D aC B0 H0 eE h H) {q : Nat} {cell' : Cell} (hw : rwK (hK h (q + 1)) = true) (hn5 : hK h (q + 1) ≠ 105) (hn190 : hK h (q + 1) ≠ 190) (e1 : H'[q]? = some cell') (e2 : H'.size = H.size) (e3 : ∀ x, x ≠ q → H'[x]? = H[x]?)
    (hzs : hz h' = hz h) (hKs : ∀ a, hK h' a = hK h a) (hsm : ∀ a, a ≠ q + 1 → sameAt h h' a) (hc : cellOf D aC h' (q + 1) (hK h (q + 1)) cell') : Rep D aC B0 H0 eE h' H' := by
  obtain ⟨⟨z1, z2, z3⟩, r2, r3, r4, r5, r6, r7⟩ := r
  have hB := r5 _ hw
  refine ⟨⟨by rw [e2, hzs]; exact z1, by rw [e2]; exact z2, z3⟩, fun a ha => by rw [hzs]; exact r2 a (by rw [← hKs]; exact ha), ?_, ?_, fun a ha => r5 a (by rw [← hKs]; exact ha), ?_, ?_⟩
  · intro a cell hcell
    rw [hKs]
    by_cases ha : a = q
    · subst ha; rw [e1] at hcell; cases hcell; exact hc
    · rw [e3 a ha] at hcell
      exact (r3 a cell hcell).same (hsm _ (by omega))
  · intro x hx
    rw [e3 x (by omega)]; exact r4 x hx
  · intro a ha hf
    rw [hKs] at ha
    have hna : a ≠ q + 1 := fun z => hn190 (by rw [← z]; exact ha)
    obtain ⟨s1, s2, s3, s4, s5⟩ := hsm a hna
    rw [s1] at hf
    obtain ⟨ee, cl, cE, mc, cap9, l1, l2, l3, l4, l5, l6, l7, l8, l9, l10, l11, l12⟩ := r6 a ha hf
    have hap := (r2 a (by rw [ha]; decide)).1
    have hee : ee ≠ q := by
      intro z
      subst z
      by_cases h0 : hI h 2 a = 0
      · rw [if_pos h0] at l12; omega
      · rw [if_neg h0] at l12; exact hn5 l12.2.1
    have hap' : a - 1 ≠ q := by omega
    refine ⟨ee, cl, cE, mc, cap9, by rw [e3 _ hap']; exact l1, l2, by rw [s3]; exact l3, l4, by rw [e3 _ hee]; exact l5, l6, l7, by rw [s1]; exact l8, by rw [s3]; exact l9, l10, fun i hi => by rw [s5, hKs]; exact l11 i (by rw [← s3]; exact hi), ?_⟩
    rw [s1, s2]
    have : hR h' 3 (ee + 1) = hR h 3 (ee + 1) := (hsm (ee + 1) (by omega)).2.1 3
    rw [this, hKs]; exact l12
  · intro a ha
    rw [hKs] at ha
    have hna : a ≠ q + 1 := fun z => by rw [← z, ha] at hw; cases hw
    obtain ⟨s1, s2, s3, s4, s5⟩ := hsm a hna
    obtain ⟨⟨cl, vv, t1, t2, t3, t4, t5, t6⟩, t7⟩ := r7 a ha
    have hap := (r2 a (by rw [ha]; decide)).1
    have hvv : (vv : Nat) < (B0 : Nat) := t7 cl vv t1 t2
    have hap' : a - 1 ≠ q := by omega
    refine ⟨⟨cl, vv, by rw [e3 _ hap']; exact t1, t2, t3, ?_, by rw [s3]; exact t5, fun i hi => by rw [s4]; exact t6 i (by rw [← s3]; exact hi)⟩, fun c2 v2 h1 h2 => t7 c2 v2 (by rw [← e3 _ hap']; exact h1) h2⟩
    rw [e3 vv (by omega), s3]
    simp only [s4]; exact t4
end
theorem hn_same (h : ah) (k n m : Nat) {a : Nat} (ha : a ≠ hz h) : sameAt h (hn h k n m) a := ⟨fun _ => if_neg ha, fun _ => if_neg ha, if_neg ha, fun _ => if_neg ha, fun _ => if_neg ha⟩
theorem hK_hn (h : ah) (k n m a : Nat) : hK (hn h k n m) a = if a = hz h then k else hK h a := rfl
theorem sI_same (h : ah) (f b : Nat) (v : Int) {a : Nat} (ha : a ≠ b) : sameAt h (sI h f b v) a := ⟨fun _ => if_neg (fun z => ha z.2), fun _ => rfl, rfl, fun _ => rfl, fun _ => rfl⟩
theorem sR_same (h : ah) (f b v : Nat) {a : Nat} (ha : a ≠ b) : sameAt h (sR h f b v) a := ⟨fun _ => rfl, fun _ => if_neg (fun z => ha z.2), rfl, fun _ => rfl, fun _ => rfl⟩
theorem sA_same (h : ah) (b i : Nat) (v : Int) {a : Nat} (ha : a ≠ b) : sameAt h (sA h b i v) a := ⟨fun _ => rfl, fun _ => rfl, rfl, fun _ => if_neg (fun z => ha z.1), fun _ => rfl⟩
theorem sB_same (h : ah) (b i v : Nat) {a : Nat} (ha : a ≠ b) : sameAt h (sB h b i v) a := ⟨fun _ => rfl, fun _ => rfl, rfl, fun _ => rfl, fun _ => if_neg (fun z => ha z.1)⟩
section
variable {D : va_G} {aC : Nat → ClassId} {B0 : Nat} {H0 : Heap} {eE : Nat} {h h' : ah} {H H' : Heap}
theorem Rep.new (r : Rep D aC B0 H0 eE h H) {k n m : Nat} {cell : Cell} (hk0 : k ≠ 0) (hk1 : k ≠ 191) (e1 : H'[H.size]? = some cell) (e2 : H'.size = H.size + 1) (e3 : ∀ x, x < H.size → H'[x]? = H[x]?) (hc : cellOf D aC (hn h k n m) (hz h) k cell) : Rep D aC B0 H0 eE (hn h k n m) H' := by
  obtain ⟨⟨z1, z2, z3⟩, r2, r3, r4, r5, r6, r7⟩ := r
  have hzn : hz (hn h k n m) = hz h + 1 := rfl
  have hne : ∀ a, hK h a ≠ 0 → a ≠ hz h := fun a ha => by have := (r2 a ha).2; omega
  refine ⟨⟨by rw [e2, hzn]; omega, by omega, z3⟩, ?_, ?_, fun q hq => by rw [e3 q (by omega)]; exact r4 q hq, ?_, ?_, ?_⟩
  · intro a ha
    rw [hK_hn] at ha
    by_cases hz0 : a = hz h
    · rw [hzn]; omega
    · rw [if_neg hz0] at ha
      have := r2 a ha
      rw [hzn]; omega
  · intro a cl hcl
    rw [hK_hn]
    by_cases ha : a = H.size
    · subst ha
      rw [e1] at hcl; cases hcl
      rw [if_pos (by omega)]
      have : H.size + 1 = hz h := z1
      rw [this]; exact hc
    · have hlt : a < H.size := by have := (Array.getElem?_eq_some_iff.mp hcl).1; omega
      rw [e3 a hlt] at hcl
      rw [if_neg (by omega)]
      exact (r3 a cl hcl).same (hn_same h k n m (by omega))
  · intro a ha
    rw [hK_hn] at ha
    by_cases hz0 : a = hz h
    · omega
    · rw [if_neg hz0] at ha; exact r5 a ha
  · intro a ha hf
    rw [hK_hn] at ha
    by_cases hz0 : a = hz h
    · exfalso
      rw [hz0] at hf
      have : hI (hn h k n m) 4 (hz h) = 0 := if_pos rfl
      rw [this] at hf; cases hf
    · rw [if_neg hz0] at ha
      obtain ⟨s1, s2, s3, s4, s5⟩ := hn_same h k n m hz0
      rw [s1] at hf
      obtain ⟨ee, cl, cE, mc, cap9, l1, l2, l3, l4, l5, l6, l7, l8, l9, l10, l11, l12⟩ := r6 a ha hf
      have hap := r2 a (by rw [ha]; decide)
      have hee : ee < H.size := (Array.getElem?_eq_some_iff.mp l5).1
      refine ⟨ee, cl, cE, mc, cap9, by rw [e3 _ (by omega)]; exact l1, l2, by rw [s3]; exact l3, l4, by rw [e3 _ hee]; exact l5, l6, l7, by rw [s1]; exact l8, by rw [s3]; exact l9, l10, fun i hi => by
        rw [s5]
        obtain ⟨m1, m2⟩ := l11 i (by rw [← s3]; exact hi)
        refine ⟨m1, m2.imp_right fun m3 => ?_⟩
        have := r2 (hB h a i) (by omega)
        rw [hK_hn, if_neg (by omega)]; exact m3, ?_⟩
      rw [s1, s2]
      have h3 : hR (hn h k n m) 3 (ee + 1) = hR h 3 (ee + 1) := (hn_same h k n m (by omega)).2.1 3
      have h4 : hK (hn h k n m) (ee + 1) = hK h (ee + 1) := if_neg (by omega)
      rw [h3, h4]; exact l12
  · intro a ha
    rw [hK_hn] at ha
    by_cases hz0 : a = hz h
    · exfalso; rw [if_pos hz0] at ha; exact hk1 ha
    · rw [if_neg hz0] at ha
      obtain ⟨s1, s2, s3, s4, s5⟩ := hn_same h k n m hz0
      obtain ⟨⟨cl, vv, t1, t2, t3, t4, t5, t6⟩, t7⟩ := r7 a ha
      have hap := r2 a (by rw [ha]; decide)
      have hvv : (vv : Nat) < (B0 : Nat) := t7 cl vv t1 t2
      refine ⟨⟨cl, vv, by rw [e3 _ (by omega)]; exact t1, t2, t3, ?_, by rw [s3]; exact t5, fun i hi => by rw [s4]; exact t6 i (by rw [← s3]; exact hi)⟩, fun c2 v2 h1 h2 => t7 c2 v2 (by rw [← e3 _ (by omega)]; exact h1) h2⟩
      rw [e3 vv (by omega), s3]
      simp only [s4]; exact t4
end
