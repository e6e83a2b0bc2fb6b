/-! THE ABSTRACT MACHINE: values, heap, instructions (Instr with resolved operands), one step, a run with fuel -/
abbrev AV : Type := Int ⊕ (Int ⊕ Nat)
abbrev vI (x : Int) : AV := Sum.inl x
abbrev vL (x : Int) : AV := Sum.inr (Sum.inl x)
abbrev vR (x : Nat) : AV := Sum.inr (Sum.inr x)
abbrev LV : Type := List (Nat × AV)
abbrev ah : Type := (Nat × Nat) × (Nat → Nat) × (Nat → Nat → Int) × (Nat → Nat → Nat) × (Nat → Nat) × (Nat → Nat → Int) × (Nat → Nat → Nat)
def hz (h : ah) : Nat := h.1.1
def hs (h : ah) : Nat := h.1.2
def hK (h : ah) (a : Nat) : Nat := h.2.1 a
def hI (h : ah) (f a : Nat) : Int := h.2.2.1 f a
def hR (h : ah) (f a : Nat) : Nat := h.2.2.2.1 f a
def hl (h : ah) (a : Nat) : Nat := h.2.2.2.2.1 a
def hA (h : ah) (a i : Nat) : Int := h.2.2.2.2.2.1 a i
def hB (h : ah) (a i : Nat) : Nat := h.2.2.2.2.2.2 a i
def u2 {α : Type} (g : Nat → Nat → α) (i j : Nat) (v : α) : Nat → Nat → α := fun a b => if a = i ∧ b = j then v else g a b
def sI (h : ah) (f a : Nat) (v : Int) : ah := (h.1, h.2.1, u2 h.2.2.1 f a v, h.2.2.2)
def sR (h : ah) (f a : Nat) (v : Nat) : ah := (h.1, h.2.1, h.2.2.1, u2 h.2.2.2.1 f a v, h.2.2.2.2)
def sA (h : ah) (a i : Nat) (v : Int) : ah := (h.1, h.2.1, h.2.2.1, h.2.2.2.1, h.2.2.2.2.1, u2 h.2.2.2.2.2.1 a i v, h.2.2.2.2.2.2)
def sB (h : ah) (a i : Nat) (v : Nat) : ah := (h.1, h.2.1, h.2.2.1, h.2.2.2.1, h.2.2.2.2.1, h.2.2.2.2.2.1, u2 h.2.2.2.2.2.2 a i v)
/-- a new cell at hz h: kind k, n slots, length m if it is an array: all blank -/
def hn (h : ah) (k n m : Nat) : ah := ((hz h + 1, hs h + n), (fun a => if a = hz h then k else hK h a), (fun f a => if a = hz h then 0 else hI h f a), (fun f a => if a = hz h then 0 else hR h f a), (fun a => if a = hz h then m else hl h a), (fun a i => if a = hz h then 0 else hA h a i), (fun a i => if a = hz h then 0 else hB h a i))
abbrev Out : Type := Option AV ⊕ Nat
abbrev QT : Type := Out → ah → Prop
/-- a method: name, code, class, locals, what it returns (0 void, 1 int, 2 long, 3 reference, 4 boolean, 5 byte, 6 char), handlers (from, to, target, kinds caught, kinds passed) -/
abbrev MT : Type := MethodName × List (Nat × Instr) × Nat × Nat × Nat × List (Nat × Nat × Nat × List Nat × List Nat)
def mCode (M : MT) : List (Nat × Instr) := M.2.1
def mOwn (M : MT) : Nat := M.2.2.1
def mLoc (M : MT) : Nat := M.2.2.2.1
def mRet (M : MT) : Nat := M.2.2.2.2.1
def mHan (M : MT) : List (Nat × Nat × Nat × List Nat × List Nat) := M.2.2.2.2.2
/-- a reference to a method: how many values it takes, its mode (0 static, 1 special, 2 virtual), its targets by the receiver's kind (static, special: the first) -/
abbrev MRE : Type := Nat × Nat × List (Nat × MT)
/-- a program: fields (type code: 0 int, 1 byte, 2 boolean, 3 long, 4 reference; kinds that have it), references to methods, casts (kinds that pass, kinds that do not), slots of a kind, kinds that an array's cells may hold, primitive methods -/
abbrev PG : Type := (Nat → Nat × List Nat) × (Nat → MRE) × (Nat → List Nat × List Nat) × (Nat → Nat) × (Nat → List Nat) × (Nat → List AV → ah → QT → Prop)
def w32 (x : Int) : Int := x.bmod 4294967296
def w64 (x : Int) : Int := x.bmod 18446744073709551616
def w8 (x : Int) : Int := x.bmod 256
def o32 (f : Int32 → Int32 → Int32) (x y : Int) : Int := (f (Int32.ofInt x) (Int32.ofInt y)).toInt
def o64 (f : Int64 → Int64 → Int64) (x y : Int) : Int := (f (Int64.ofInt x) (Int64.ofInt y)).toInt
def pI (st : List AV) (F : Int → List AV → Prop) : Prop := match st with
  | Sum.inl x :: s => F x s
  | _ => False
def pL (st : List AV) (F : Int → List AV → Prop) : Prop := match st with
  | Sum.inr (Sum.inl x) :: s => F x s
  | _ => False
def pR (st : List AV) (F : Nat → List AV → Prop) : Prop := match st with
  | Sum.inr (Sum.inr x) :: s => F x s
  | _ => False
def pV (st : List AV) (F : AV → List AV → Prop) : Prop := match st with
  | v :: s => F v s
  | _ => False
def isL (v : AV) : Bool := match v with
  | Sum.inr (Sum.inl _) => true
  | _ => false
def gl (lv : LV) (k : Nat) (F : AV → Prop) : Prop := match lv.lookup k with
  | some v => F v
  | none => False
def lg (lv : LV) (j : Nat) : Bool := match lv.lookup j with
  | some v => isL v
  | none => false
def sl1 (lv : LV) (k : Nat) (v : AV) : LV := (k, v) :: lv.filter (fun q => !(q.1 == k) && !(q.1 + 1 == k && lg lv q.1))
def sl2 (lv : LV) (k : Nat) (v : AV) : LV := (k, v) :: lv.filter (fun q => !(q.1 == k) && (!(q.1 == k + 1) && !(q.1 + 1 == k && lg lv q.1)))
def argl : Nat → List AV → LV
  | _, [] => []
  | i, Sum.inr (Sum.inl x) :: r => (i, vL x) :: argl (i + 2) r
  | i, v :: r => (i, v) :: argl (i + 1) r
def asz : List AV → Nat
  | [] => 0
  | Sum.inr (Sum.inl _) :: r => asz r + 2
  | _ :: r => asz r + 1
/-- the code from a place on -/
def sfx (c : List (Nat × Instr)) (pc : Nat) : List (Nat × Instr) := c.dropWhile (fun q => !(q.1 == pc))
def hndl (hs : List (Nat × Nat × Nat × List Nat × List Nat)) (pc k : Nat) (F : Nat → Prop) (N : Prop) : Prop := match hs with
  | [] => N
  | (a, b, t, ys, ns) :: r => if (Nat.ble a pc && Nat.blt pc b) = true then (k ∈ ys → F t) ∧ (k ∉ ys → k ∈ ns ∧ hndl r pc k F N) else hndl r pc k F N
def brc (c : ClassFile.Cond) (x y : Int) : Prop := match c with
  | .eq => x = y
  | .ne => ¬ x = y
  | .lt => x < y
  | .ge => y ≤ x
  | .gt => y < x
  | .le => x ≤ y
def bra (c : ACond) (x y : Nat) : Prop := match c with
  | .eq => x = y
  | .ne => ¬ x = y
def swt (x j : Int) (ts : List Int) (F : Nat → Prop) (D : Prop) : Prop := match ts with
  | [] => D
  | t :: r => (x = j → F t.toNat) ∧ (¬ x = j → swt x (j + 1) r F D)
def swl (x : Int) (ts : List (Int × Int)) (F : Nat → Prop) (D : Prop) : Prop := match ts with
  | [] => D
  | t :: r => (x = t.1 → F t.2.toNat) ∧ (¬ x = t.1 → swl x r F D)
/-- what may be put into a field, and the heap then -/
def putv (ft : Nat) (v : AV) (h : ah) (f a : Nat) (F : ah → Prop) : Prop := match ft, v with
  | 0, Sum.inl x => F (sI h f a x)
  | 1, Sum.inl x => (-128 ≤ x ∧ x ≤ 127) ∧ F (sI h f a x)
  | 2, Sum.inl x => (x = 0 ∨ x = 1) ∧ F (sI h f a x)
  | 3, Sum.inr (Sum.inl x) => F (sI h f a x)
  | 4, Sum.inr (Sum.inr x) => F (sR h f a x)
  | _, _ => False
def getv (ft : Nat) (h : ah) (f a : Nat) : AV := match ft with
  | 4 => vR (hR h f a)
  | 3 => vL (hI h f a)
  | _ => vI (hI h f a)
def retv (rt : Nat) (v : AV) : Prop := match rt, v with
  | 1, Sum.inl _ => True
  | 2, Sum.inr (Sum.inl _) => True
  | 3, Sum.inr (Sum.inr _) => True
  | 4, Sum.inl x => x = 0 ∨ x = 1
  | 5, Sum.inl x => -128 ≤ x ∧ x ≤ 127
  | 6, Sum.inl x => 0 ≤ x ∧ x ≤ 65535
  | _, _ => False
abbrev XT : Type := Nat → MT → List (Nat × Instr) → LV → List AV → ah → QT → Prop
/-- something is thrown in a frame at pc -/
def xthr (d : Nat) (M : MT) (pc : Nat) (lv : LV) (h : ah) (Q : QT) (X : XT) (x : Nat) : Prop :=
  hK h x ≠ 0 ∧ hndl (mHan M) pc (hK h x) (fun t => X d M (sfx (mCode M) t) lv [vR x] h Q) (Q (Sum.inr x) h)
/-- behind a call -/
def xcont (d : Nat) (M : MT) (pc : Nat) (r : List (Nat × Instr)) (lv : LV) (st : List AV) (Q : QT) (X : XT) : QT := fun o h => match o with
  | Sum.inl none => X d M r lv st h Q
  | Sum.inl (some v) => X d M r lv (v :: st) h Q
  | Sum.inr x => xthr d M pc lv h Q X x
/-- a call of a target: a primitive one (no code), or by its code -/
def xtgt (P : PG) (d : Nat) (T : MT) (as : List AV) (h : ah) (K : QT) (C : XT) : Prop := match mCode T with
  | [] => 10 ≤ d ∧ P.2.2.2.2.2 (mOwn T) as h K
  | c :: cs => match d with
    | 0 => False
    | d + 1 => if Nat.ble (asz as) (mLoc T) = true then C d T (c :: cs) (argl 0 as) [] h K else False
def xvir (k : Nat) (ts : List (Nat × MT)) (F : MT → Prop) : Prop := match ts with
  | [] => False
  | q :: r => (k = q.1 → F q.2) ∧ (¬ k = q.1 → xvir k r F)
def xsel (md : Nat) (as : List AV) (ts : List (Nat × MT)) (h : ah) (F : MT → List AV → Prop) : Prop := match md, as with
  | 0, as => (match ts with
    | q :: _ => F q.2 as
    | [] => False)
  | 1, Sum.inr (Sum.inr a) :: as => (match ts with
    | q :: _ => hK h a ≠ 0 ∧ F q.2 (vR a :: as)
    | [] => False)
  | _, Sum.inr (Sum.inr a) :: as => xvir (hK h a) ts (fun T => F T (vR a :: as))
  | _, _ => False
def xinv (P : PG) (r : Nat) (st : List AV) (h : ah) (F : MT → List AV → List AV → Prop) : Prop :=
  if (Nat.ble (P.2.1 r).1 st.length && Nat.ble (st.length - (P.2.1 r).1) 14) = true then xsel (P.2.1 r).2.1 (st.take (P.2.1 r).1).reverse (P.2.1 r).2.2 h (fun T as => F T as (st.drop (P.2.1 r).1)) else False
def XI (P : PG) (ρ : Nat → Nat) (d : Nat) (M : MT) (pc : Nat) (i : Instr) (r : List (Nat × Instr)) (lv : LV) (st : List AV) (h : ah) (Q : QT) (X C : XT) : Prop := match i with
  | .iconst k => X d M r lv (vI k :: st) h Q
  | .sipush k => X d M r lv (vL k :: st) h Q
  | .aconst_null => X d M r lv (vR 0 :: st) h Q
  | .ldc k => X d M r lv (vR (ρ k) :: st) h Q
  | .iload k => gl lv k fun v => pI [v] fun x _ => X d M r lv (vI x :: st) h Q
  | .lload k => gl lv k fun v => pL [v] fun x _ => X d M r lv (vL x :: st) h Q
  | .aload k => gl lv k fun v => pR [v] fun x _ => X d M r lv (vR x :: st) h Q
  | .istore k => pI st fun x s => X d M r (sl1 lv k (vI x)) s h Q
  | .astore k => pR st fun x s => X d M r (sl1 lv k (vR x)) s h Q
  | .lstore k => pL st fun x s => X d M r (sl2 lv k (vL x)) s h Q
  | .iinc k c => gl lv k fun v => pI [v] fun x _ => X d M r (sl1 lv k (vI (w32 (x + c)))) st h Q
  | .iadd => pI st fun y s => pI s fun x s => X d M r lv (vI (w32 (x + y)) :: s) h Q
  | .isub => pI st fun y s => pI s fun x s => X d M r lv (vI (w32 (x - y)) :: s) h Q
  | .imul => pI st fun y s => pI s fun x s => X d M r lv (vI (w32 (x * y)) :: s) h Q
  | .ineg => pI st fun x s => X d M r lv (vI (w32 (-x)) :: s) h Q
  | .idiv => pI st fun y s => pI s fun x s => y ≠ 0 ∧ X d M r lv (vI (o32 (· / ·) x y) :: s) h Q
  | .iand => pI st fun y s => pI s fun x s => X d M r lv (vI (o32 (· &&& ·) x y) :: s) h Q
  | .ior => pI st fun y s => pI s fun x s => X d M r lv (vI (o32 (· ||| ·) x y) :: s) h Q
  | .ixor => pI st fun y s => pI s fun x s => X d M r lv (vI (o32 (· ^^^ ·) x y) :: s) h Q
  | .ishl => pI st fun y s => pI s fun x s => X d M r lv (vI (o32 (fun a b => a <<< (b &&& 31)) x y) :: s) h Q
  | .ishr => pI st fun y s => pI s fun x s => X d M r lv (vI (o32 (fun a b => a >>> (b &&& 31)) x y) :: s) h Q
  | .iushr => pI st fun y s => pI s fun x s => X d M r lv (vI (o32 (fun a b => (a.toUInt32 >>> (b.toUInt32 &&& Int32.toUInt32 31)).toInt32) x y) :: s) h Q
  | .ladd => pL st fun y s => pL s fun x s => X d M r lv (vL (w64 (x + y)) :: s) h Q
  | .lsub => pL st fun y s => pL s fun x s => X d M r lv (vL (w64 (x - y)) :: s) h Q
  | .lmul => pL st fun y s => pL s fun x s => X d M r lv (vL (w64 (x * y)) :: s) h Q
  | .lneg => pL st fun x s => X d M r lv (vL (w64 (-x)) :: s) h Q
  | .ldiv => pL st fun y s => pL s fun x s => y ≠ 0 ∧ X d M r lv (vL (o64 (· / ·) x y) :: s) h Q
  | .lrem => pL st fun y s => pL s fun x s => y ≠ 0 ∧ X d M r lv (vL (o64 (fun a b => a - a / b * b) x y) :: s) h Q
  | .land => pL st fun y s => pL s fun x s => X d M r lv (vL (o64 (· &&& ·) x y) :: s) h Q
  | .lor => pL st fun y s => pL s fun x s => X d M r lv (vL (o64 (· ||| ·) x y) :: s) h Q
  | .lshl => pI st fun y s => pL s fun x s => X d M r lv (vL (Int64.ofInt x <<< ((Int32.ofInt y).toInt64 &&& 63)).toInt :: s) h Q
  | .lshr => pI st fun y s => pL s fun x s => X d M r lv (vL (Int64.ofInt x >>> ((Int32.ofInt y).toInt64 &&& 63)).toInt :: s) h Q
  | .lushr => pI st fun y s => pL s fun x s => X d M r lv (vL ((Int64.ofInt x).toUInt64 >>> ((Int32.ofInt y).toInt64.toUInt64 &&& Int64.toUInt64 63)).toInt64.toInt :: s) h Q
  | .lcmp => pL st fun y s => pL s fun x s => X d M r lv (vI (if x < y then -1 else if x = y then 0 else 1) :: s) h Q
  | .i2l => pI st fun x s => X d M r lv (vL x :: s) h Q
  | .l2i => pL st fun x s => X d M r lv (vI (w32 x) :: s) h Q
  | .i2b => pI st fun x s => X d M r lv (vI (w8 x) :: s) h Q
  | .i2c => pI st fun x s => X d M r lv (vI (x % 65536) :: s) h Q
  | .dup => pV st fun v s => isL v = false ∧ X d M r lv (v :: v :: s) h Q
  | .dup_x1 => pV st fun v s => pV s fun w s => (isL v = false ∧ isL w = false) ∧ X d M r lv (v :: w :: v :: s) h Q
  | .dup2 => pV st fun v s => pV s fun w s => (isL v = false ∧ isL w = false) ∧ X d M r lv (v :: w :: v :: w :: s) h Q
  | .pop => pV st fun v s => isL v = false ∧ X d M r lv s h Q
  | .goto t => X d M (sfx (mCode M) t.toNat) lv st h Q
  | .ifCond c t => pI st fun x s => (brc c x 0 → X d M (sfx (mCode M) t.toNat) lv s h Q) ∧ (¬ brc c x 0 → X d M r lv s h Q)
  | .if_icmp c t => pI st fun y s => pI s fun x s => (brc c x y → X d M (sfx (mCode M) t.toNat) lv s h Q) ∧ (¬ brc c x y → X d M r lv s h Q)
  | .if_acmp c t => pR st fun y s => pR s fun x s => (bra c x y → X d M (sfx (mCode M) t.toNat) lv s h Q) ∧ (¬ bra c x y → X d M r lv s h Q)
  | .ifnull t => pR st fun x s => (x = 0 → X d M (sfx (mCode M) t.toNat) lv s h Q) ∧ (¬ x = 0 → X d M r lv s h Q)
  | .ifnonnull t => pR st fun x s => (¬ x = 0 → X d M (sfx (mCode M) t.toNat) lv s h Q) ∧ (x = 0 → X d M r lv s h Q)
  | .tableswitch df lo _ ts => pI st fun x s => swt x lo ts.toList (fun t => X d M (sfx (mCode M) t) lv s h Q) (X d M (sfx (mCode M) df.toNat) lv s h Q)
  | .lookupswitch df ps => pI st fun x s => swl x ps.toList (fun t => X d M (sfx (mCode M) t) lv s h Q) (X d M (sfx (mCode M) df.toNat) lv s h Q)
  | .getfield f => pR st fun a s => hK h a ∈ (P.1 f).2 ∧ X d M r lv (getv (P.1 f).1 h f a :: s) h Q
  | .putfield f => pV st fun v s => pR s fun a s => hK h a ∈ (P.1 f).2 ∧ putv (P.1 f).1 v h f a fun h1 => X d M r lv s h1 Q
  | .arraylength => pR st fun a s => (1 ≤ hK h a ∧ hK h a < 100) ∧ X d M r lv (vI (hl h a) :: s) h Q
  | .iaload => pI st fun i s => pR s fun a s => (hK h a ∈ [1, 11] ∧ 0 ≤ i ∧ i < (hl h a : Int)) ∧ X d M r lv (vI (hA h a i.toNat) :: s) h Q
  | .laload => pI st fun i s => pR s fun a s => (hK h a ∈ [2] ∧ 0 ≤ i ∧ i < (hl h a : Int)) ∧ X d M r lv (vL (hA h a i.toNat) :: s) h Q
  | .baload => pI st fun i s => pR s fun a s => (hK h a ∈ [3, 4, 13] ∧ 0 ≤ i ∧ i < (hl h a : Int)) ∧ X d M r lv (vI (hA h a i.toNat) :: s) h Q
  | .aaload => pI st fun i s => pR s fun a s => (20 ≤ hK h a ∧ hK h a < 100 ∧ 0 ≤ i ∧ i < (hl h a : Int)) ∧ X d M r lv (vR (hB h a i.toNat) :: s) h Q
  | .iastore => pI st fun v s => pI s fun i s => pR s fun a s => (hK h a = 1 ∧ 0 ≤ i ∧ i < (hl h a : Int)) ∧ X d M r lv s (sA h a i.toNat v) Q
  | .lastore => pL st fun v s => pI s fun i s => pR s fun a s => (hK h a = 2 ∧ 0 ≤ i ∧ i < (hl h a : Int)) ∧ X d M r lv s (sA h a i.toNat v) Q
  | .bastore => pI st fun v s => pI s fun i s => pR s fun a s => (((hK h a = 3 ∧ -128 ≤ v ∧ v ≤ 127) ∨ (hK h a = 4 ∧ (v = 0 ∨ v = 1))) ∧ 0 ≤ i ∧ i < (hl h a : Int)) ∧ X d M r lv s (sA h a i.toNat v) Q
  | .multianewarray k _ => pR st fun v s => pI s fun i s => pR s fun a s => ((hK h a = k ∧ (v = 0 ∨ hK h v ∈ P.2.2.2.2.1 k)) ∧ 0 ≤ i ∧ i < (hl h a : Int)) ∧ X d M r lv s (sB h a i.toNat v) Q
  | .newarray t => pI st fun n s => (0 ≤ n ∧ n ≤ 67108864) ∧ (match t with
    | .int => X d M r lv (vR (hz h) :: s) (hn h 1 n.toNat n.toNat) Q
    | .long => X d M r lv (vR (hz h) :: s) (hn h 2 n.toNat n.toNat) Q
    | .byte => X d M r lv (vR (hz h) :: s) (hn h 3 n.toNat n.toNat) Q
    | .boolean => X d M r lv (vR (hz h) :: s) (hn h 4 n.toNat n.toNat) Q
    | _ => False)
  | .anewarray k => pI st fun n s => (0 ≤ n ∧ n ≤ 67108864) ∧ X d M r lv (vR (hz h) :: s) (hn h k n.toNat n.toNat) Q
  | .new k => X d M r lv (vR (hz h) :: st) (hn h k (P.2.2.2.1 k) 0) Q
  | .checkcast c => pR st fun a s => (a = 0 ∨ hK h a ∈ (P.2.2.1 c).1) ∧ X d M r lv (vR a :: s) h Q
  | .instanceof c => pR st fun a s => (a = 0 → X d M r lv (vI 0 :: s) h Q) ∧ (¬ a = 0 → (hK h a ∈ (P.2.2.1 c).1 → X d M r lv (vI 1 :: s) h Q) ∧ (hK h a ∉ (P.2.2.1 c).1 → hK h a ∈ (P.2.2.1 c).2 ∧ X d M r lv (vI 0 :: s) h Q))
  | .invokestatic m => xinv P m st h fun T as s => xtgt P d T as h (xcont d M pc r lv s Q X) C
  | .ireturn => pV st fun v _ => retv (mRet M) v ∧ Q (Sum.inl (some v)) h
  | .return_ => mRet M = 0 ∧ Q (Sum.inl none) h
  | .athrow => pR st fun x _ => xthr d M pc lv h Q X x
  | _ => False
def sN (h : ah) (a n : Nat) : ah := (h.1, h.2.1, h.2.2.1, h.2.2.2.1, (fun b => if b = a then n else h.2.2.2.2.1 b), h.2.2.2.2.2)
/-- a copy of an array, of another length -/
def hcp (h : ah) (k a n : Nat) : ah := ((hz h + 1, hs h + n), (fun b => if b = hz h then k else hK h b), (fun f b => if b = hz h then 0 else hI h f b), (fun f b => if b = hz h then 0 else hR h f b), (fun b => if b = hz h then n else hl h b), (fun b i => if b = hz h then (if i < hl h a ∧ i < n then hA h a i else 0) else hA h b i), (fun b i => if b = hz h then 0 else hB h b i))
/-- lists: the hidden array (1), its length (2), the list that has it (3), whether the list is made (4) -/
def lroom (h : ah) (a n : Nat) : ah := sI (sR (sR (hn h 105 n n) 1 a (hz h)) 3 (hz h) a) 2 a n
def lput (h : ah) (a x : Nat) : ah := sN (sB h a (hl h a) x) a (hl h a + 1)
def lcap (c : Int) : Nat := if c = 0 then 10 else c.toNat + max 1 (c.toNat / 2)
def ladd (h : ah) (a x : Nat) : ah := if (hl h a : Int) = hI h 2 a then lput (lroom h a (lcap (hI h 2 a))) a x else lput h a x
def lok (h : ah) (a : Nat) : Prop := hK h a = 190 ∧ hI h 4 a = 1
/-- kinds of throwables -/
def thK (k : Nat) : Bool := k == 192 || k == 193 || k == 194 || k == 195 || k == 201 || k == 206 || k == 215
def primS (p : Nat) (as : List AV) (h : ah) (Q : QT) : Prop := match p with
  | 1 => pR as fun a _ => (hK h a = 190 ∧ hI h 4 a = 0) ∧ Q (Sum.inl none) (sI h 4 a 1)
  | 2 => pR as fun a s => pI s fun n _ => (hK h a = 190 ∧ hI h 4 a = 0 ∧ 0 < n ∧ n ≤ 1000) ∧ Q (Sum.inl none) (sI (lroom h a n.toNat) 4 a 1)
  | 3 => pR as fun a s => pR s fun x _ => (lok h a ∧ hl h a < 1000000 ∧ (x = 0 ∨ 190 ≤ hK h x)) ∧ Q (Sum.inl (some (vI 1))) (ladd h a x)
  | 4 => pR as fun a s => pI s fun i _ => (lok h a ∧ 0 ≤ i ∧ i < (hl h a : Int)) ∧ Q (Sum.inl (some (vR (hB h a i.toNat)))) h
  | 5 => pR as fun a _ => lok h a ∧ Q (Sum.inl (some (vI (hl h a)))) h
  | 6 => pR as fun a _ => lok h a ∧ Q (Sum.inl none) (sN h a 0)
  | 7 => pR as fun a s => pI s fun n _ => (hK h a = 1 ∧ 0 ≤ n ∧ n ≤ 67108864) ∧ Q (Sum.inl (some (vR (hz h)))) (hcp h 1 a n.toNat)
  | 8 => pR as fun a s => pI s fun n _ => (hK h a = 3 ∧ 0 ≤ n ∧ n ≤ 67108864) ∧ Q (Sum.inl (some (vR (hz h)))) (hcp h 3 a n.toNat)
  | 9 => pR as fun a s => pI s fun n _ => (hK h a = 2 ∧ 0 ≤ n ∧ n ≤ 67108864) ∧ Q (Sum.inl (some (vR (hz h)))) (hcp h 2 a n.toNat)
  | 10 => pR as fun a s => pI s fun n _ => (hK h a = 4 ∧ 0 ≤ n ∧ n ≤ 67108864) ∧ Q (Sum.inl (some (vR (hz h)))) (hcp h 4 a n.toNat)
  | 11 => pR as fun a _ => hK h a = 191 ∧ Q (Sum.inl (some (vI (hl h a)))) h
  | 12 => pR as fun a s => pI s fun i _ => (hK h a = 191 ∧ 0 ≤ i ∧ i < (hl h a : Int)) ∧ Q (Sum.inl (some (vI (hA h a i.toNat)))) h
  | 13 => pI as fun x s => pI s fun y _ => Q (Sum.inl (some (vI (if x < y then y else x)))) h
  | 14 => pI as fun x s => pI s fun y _ => Q (Sum.inl (some (vI (if y < x then y else x)))) h
  | 15 => pL as fun x _ => Q (Sum.inl (some (vL (w64 (if x < 0 then -x else x))))) h
  | 16 => pL as fun x s => pL s fun y _ => Q (Sum.inl (some (vI (if x < y then -1 else if x = y then 0 else 1)))) h
  | 17 => pR as fun a _ => thK (hK h a) = true ∧ Q (Sum.inl none) h
  | 18 => pR as fun a s => (thK (hK h a) = true ∧ s = [vR 0, vR 0, vI 0, vI 0]) ∧ Q (Sum.inl none) h
  | 19 => pR as fun a _ => hK h a ≠ 0 ∧ Q (Sum.inl none) h
  | _ => False
