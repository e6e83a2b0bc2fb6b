/-! a class' pool as tables; a check of the code against the file -/
/-- fields read; fields written; final fields written; ints; longs; texts; statics; new; arrays; casts; instance tests; calls: static, special, virtual -/
abbrev LT2 : Type := List (Nat × Nat)
abbrev CT8 : Type := LT2 × LT2 × LT2 × List (Nat × Int) × List (Nat × Int) × LT2 × LT2 × LT2 × LT2 × LT2 × LT2 × LT2 × LT2 × LT2
def CTOK (G : GX) (ow : String) (t : CT8) : Prop :=
  (∀ q ∈ t.1, fchk q.2 = true ∧ FOK ow q.1 q.2) ∧ (∀ q ∈ t.2.1, fchk q.2 = true ∧ FOK ow q.1 q.2 ∧ (fInf q.2).2.2.2 = false) ∧ (∀ q ∈ t.2.2.1, fchk q.2 = true ∧ FOK ow q.1 q.2 ∧ (fInf q.2).2.2.2 = true ∧ (fInf q.2).1 = ow ∧ FOKP ow q.1 q.2) ∧
  (∀ q ∈ t.2.2.2.1, in32 q.2 ∧ Cond.constant ow q.1 (Int32.ofInt q.2) ∈ lw_all) ∧ (∀ q ∈ t.2.2.2.2.1, in64 q.2 ∧ Cond.constantLong ow q.1 (Int64.ofInt q.2) ∈ lw_all) ∧ (∀ q ∈ t.2.2.2.2.2.1, ∃ tx, (ow, q.1, tx, q.2) ∈ gS G) ∧
  (∀ q ∈ t.2.2.2.2.2.2.1, (q.2 = 1000 ∧ Cond.fieldLink ow q.1 "LinkedTongueModel" "WANTS" "[I" ∈ lw_all) ∨ (q.2 = 1001 ∧ Cond.fieldLink ow q.1 "LinkedTongueModel" "PROTO" "[B" ∈ lw_all)) ∧
  (∀ q ∈ t.2.2.2.2.2.2.2.1, NOK ow q.1 q.2 ((nsT.lookup q.2).getD 0)) ∧ (∀ q ∈ t.2.2.2.2.2.2.2.2.1, AOK ow q.1 q.2) ∧ (∀ q ∈ t.2.2.2.2.2.2.2.2.2.1, COK ow q.1 (casT.getD q.2 ([], [])).1) ∧ (∀ q ∈ t.2.2.2.2.2.2.2.2.2.2.1, IOK ow q.1 (casT.getD q.2 ([], [])).1 (casT.getD q.2 ([], [])).2 (gN G)) ∧
  (∀ q ∈ t.2.2.2.2.2.2.2.2.2.2.2.1, SOK8 G ow q.1 q.2) ∧ (∀ q ∈ t.2.2.2.2.2.2.2.2.2.2.2.2.1, POK G ow q.1 q.2) ∧ (∀ q ∈ t.2.2.2.2.2.2.2.2.2.2.2.2.2, VOK G ow q.1 q.2)
theorem lk_mem {β : Type} {l : List (Nat × β)} {k : Nat} {v : β} (h : l.lookup k = some v) : (k, v) ∈ l := by
  induction l with
  | nil => cases h
  | cons a r ih =>
    rw [List.lookup_cons] at h
    by_cases e : (k == a.1) = true
    · rw [e] at h
      cases h
      have : k = a.1 := by simpa using e
      rw [this]; exact List.mem_cons_self
    · rw [Bool.not_eq_true] at e
      rw [e] at h
      exact List.mem_cons_of_mem _ (ih h)
def has (l : LT2) (x k : Nat) : Bool := match l.lookup x with
  | some v => v == k
  | none => false
def hasI (l : List (Nat × Int)) (x : Nat) (k : Int) : Bool := match l.lookup x with
  | some v => v == k
  | none => false
theorem has_mem {l : LT2} {x k : Nat} (h : has l x k = true) : (x, k) ∈ l := by
  unfold has at h
  split at h
  · rename_i v hv
    have : v = k := by simpa using h
    subst this; exact lk_mem hv
  · cases h
theorem hasI_mem {l : List (Nat × Int)} {x : Nat} {k : Int} (h : hasI l x k = true) : (x, k) ∈ l := by
  unfold hasI at h
  split at h
  · rename_i v hv
    have : v = k := by simpa using h
    subst this; exact lk_mem hv
  · cases h
def ekOK (k : Nat) : Bool := [21, 22, 23, 24, 25, 26, 27, 28].elem k
def jmb (M : MT) (t : CT8) (pc : Nat) (j : Instr) (len : Nat) (i : Instr) : Bool := match j with
  | .iadd => Nat.beq len 1 && (match i with
    | .iadd => true
    | _ => false)
  | .isub => Nat.beq len 1 && (match i with
    | .isub => true
    | _ => false)
  | .imul => Nat.beq len 1 && (match i with
    | .imul => true
    | _ => false)
  | .ineg => Nat.beq len 1 && (match i with
    | .ineg => true
    | _ => false)
  | .idiv => Nat.beq len 1 && (match i with
    | .idiv => true
    | _ => false)
  | .iand => Nat.beq len 1 && (match i with
    | .iand => true
    | _ => false)
  | .ior => Nat.beq len 1 && (match i with
    | .ior => true
    | _ => false)
  | .ixor => Nat.beq len 1 && (match i with
    | .ixor => true
    | _ => false)
  | .ishl => Nat.beq len 1 && (match i with
    | .ishl => true
    | _ => false)
  | .ishr => Nat.beq len 1 && (match i with
    | .ishr => true
    | _ => false)
  | .iushr => Nat.beq len 1 && (match i with
    | .iushr => true
    | _ => false)
  | .ladd => Nat.beq len 1 && (match i with
    | .ladd => true
    | _ => false)
  | .lsub => Nat.beq len 1 && (match i with
    | .lsub => true
    | _ => false)
  | .lmul => Nat.beq len 1 && (match i with
    | .lmul => true
    | _ => false)
  | .lneg => Nat.beq len 1 && (match i with
    | .lneg => true
    | _ => false)
  | .ldiv => Nat.beq len 1 && (match i with
    | .ldiv => true
    | _ => false)
  | .lrem => Nat.beq len 1 && (match i with
    | .lrem => true
    | _ => false)
  | .land => Nat.beq len 1 && (match i with
    | .land => true
    | _ => false)
  | .lor => Nat.beq len 1 && (match i with
    | .lor => true
    | _ => false)
  | .lshl => Nat.beq len 1 && (match i with
    | .lshl => true
    | _ => false)
  | .lshr => Nat.beq len 1 && (match i with
    | .lshr => true
    | _ => false)
  | .lushr => Nat.beq len 1 && (match i with
    | .lushr => true
    | _ => false)
  | .lcmp => Nat.beq len 1 && (match i with
    | .lcmp => true
    | _ => false)
  | .i2l => Nat.beq len 1 && (match i with
    | .i2l => true
    | _ => false)
  | .l2i => Nat.beq len 1 && (match i with
    | .l2i => true
    | _ => false)
  | .i2b => Nat.beq len 1 && (match i with
    | .i2b => true
    | _ => false)
  | .i2c => Nat.beq len 1 && (match i with
    | .i2c => true
    | _ => false)
  | .dup => Nat.beq len 1 && (match i with
    | .dup => true
    | _ => false)
  | .dup_x1 => Nat.beq len 1 && (match i with
    | .dup_x1 => true
    | _ => false)
  | .dup2 => Nat.beq len 1 && (match i with
    | .dup2 => true
    | _ => false)
  | .pop => Nat.beq len 1 && (match i with
    | .pop => true
    | _ => false)
  | .aconst_null => Nat.beq len 1 && (match i with
    | .aconst_null => true
    | _ => false)
  | .arraylength => Nat.beq len 1 && (match i with
    | .arraylength => true
    | _ => false)
  | .iaload => Nat.beq len 1 && (match i with
    | .iaload => true
    | _ => false)
  | .laload => Nat.beq len 1 && (match i with
    | .laload => true
    | _ => false)
  | .baload => Nat.beq len 1 && (match i with
    | .baload => true
    | _ => false)
  | .aaload => Nat.beq len 1 && (match i with
    | .aaload => true
    | _ => false)
  | .iastore => Nat.beq len 1 && (match i with
    | .iastore => true
    | _ => false)
  | .lastore => Nat.beq len 1 && (match i with
    | .lastore => true
    | _ => false)
  | .bastore => Nat.beq len 1 && (match i with
    | .bastore => true
    | _ => false)
  | .athrow => Nat.beq len 1 && (match i with
    | .athrow => true
    | _ => false)
  | .return_ => Nat.beq len 1 && (match i with
    | .return_ => true
    | _ => false)
  | .aastore => Nat.beq len 1 && (match i with
    | .multianewarray k z => Nat.beq z 0 && ekOK k
    | _ => false)
  | .iconst n => Nat.beq len 1 && (match i with
    | .iconst k => decide (k = n) && (decide (-2147483648 ≤ n) && decide (n < 2147483648))
    | _ => false)
  | .bipush n => Nat.beq len 2 && (match i with
    | .iconst k => decide (k = n) && (decide (-128 ≤ n) && decide (n ≤ 127))
    | _ => false)
  | .sipush n => Nat.beq len 3 && (match i with
    | .iconst k => decide (k = n) && (decide (-32768 ≤ n) && decide (n ≤ 32767))
    | _ => false)
  | .lconst n => Nat.beq len 1 && (match i with
    | .sipush k => decide (k = ((n : Nat) : Int))
    | _ => false)
  | .ldc x => Nat.beq len 2 && (match i with
    | .iconst k => hasI t.2.2.2.1 x k
    | .ldc k => has t.2.2.2.2.2.1 x k
    | _ => false)
  | .ldc_w x => Nat.beq len 3 && (match i with
    | .iconst k => hasI t.2.2.2.1 x k
    | .ldc k => has t.2.2.2.2.2.1 x k
    | _ => false)
  | .ldc2_w x => Nat.beq len 3 && (match i with
    | .sipush k => hasI t.2.2.2.2.1 x k
    | _ => false)
  | .getstatic x => Nat.beq len 3 && (match i with
    | .ldc k => has t.2.2.2.2.2.2.1 x k
    | _ => false)
  | .iload k => Nat.beq len 2 && (match i with
    | .iload n => Nat.beq n k
    | _ => false)
  | .iload_n k => Nat.beq len 1 && (match i with
    | .iload n => Nat.beq n k.val
    | _ => false)
  | .lload k => Nat.beq len 2 && (match i with
    | .lload n => Nat.beq n k
    | _ => false)
  | .lload_n k => Nat.beq len 1 && (match i with
    | .lload n => Nat.beq n k.val
    | _ => false)
  | .aload k => Nat.beq len 2 && (match i with
    | .aload n => Nat.beq n k
    | _ => false)
  | .aload_n k => Nat.beq len 1 && (match i with
    | .aload n => Nat.beq n k.val
    | _ => false)
  | .istore k => Nat.beq len 2 && (match i with
    | .istore n => Nat.beq n k && Nat.blt k (mLoc M)
    | _ => false)
  | .istore_n k => Nat.beq len 1 && (match i with
    | .istore n => Nat.beq n k.val && Nat.blt k.val (mLoc M)
    | _ => false)
  | .astore k => Nat.beq len 2 && (match i with
    | .astore n => Nat.beq n k && Nat.blt k (mLoc M)
    | _ => false)
  | .astore_n k => Nat.beq len 1 && (match i with
    | .astore n => Nat.beq n k.val && Nat.blt k.val (mLoc M)
    | _ => false)
  | .lstore k => Nat.beq len 2 && (match i with
    | .lstore n => Nat.beq n k && Nat.blt (k + 1) (mLoc M)
    | _ => false)
  | .lstore_n k => Nat.beq len 1 && (match i with
    | .lstore n => Nat.beq n k.val && Nat.blt (k.val + 1) (mLoc M)
    | _ => false)
  | .iinc k n => Nat.beq len 3 && (match i with
    | .iinc a b => Nat.beq a k && (decide (b = n) && Nat.blt k (mLoc M))
    | _ => false)
  | .goto o => Nat.beq len 3 && (match i with
    | .goto g => decide ((pc : Int) + o = g) && decide (0 ≤ g)
    | _ => false)
  | .ifCond k o => Nat.beq len 3 && (match i with
    | .ifCond a g => decide (a = k) && (decide ((pc : Int) + o = g) && decide (0 ≤ g))
    | _ => false)
  | .if_icmp k o => Nat.beq len 3 && (match i with
    | .if_icmp a g => decide (a = k) && (decide ((pc : Int) + o = g) && decide (0 ≤ g))
    | _ => false)
  | .if_acmp k o => Nat.beq len 3 && (match i with
    | .if_acmp a g => decide (a = k) && (decide ((pc : Int) + o = g) && decide (0 ≤ g))
    | _ => false)
  | .ifnull o => Nat.beq len 3 && (match i with
    | .ifnull g => decide ((pc : Int) + o = g) && decide (0 ≤ g)
    | _ => false)
  | .ifnonnull o => Nat.beq len 3 && (match i with
    | .ifnonnull g => decide ((pc : Int) + o = g) && decide (0 ≤ g)
    | _ => false)
  | .tableswitch df lo hi ts => (match i with
    | .tableswitch a b c ts' => decide (a = (pc : Int) + df) && (decide (b = lo) && (decide (c = hi) && (decide (ts'.toList = ts.toList.map (fun q => (pc : Int) + q)) && (decide (0 ≤ (pc : Int) + df) && (ts.toList.all (fun q => decide (0 ≤ (pc : Int) + q)) && decide (lo + (ts.toList.length : Int) = hi + 1))))))
    | _ => false)
  | .lookupswitch df ps => (match i with
    | .lookupswitch a ps' => decide (a = (pc : Int) + df) && (decide (ps'.toList = ps.toList.map (fun q => (q.1, (pc : Int) + q.2))) && (decide (0 ≤ (pc : Int) + df) && (ps.toList.all (fun q => decide (0 ≤ (pc : Int) + q.2)) && (ps.toList.zip (ps.toList.drop 1)).all (fun (a, next) => a.1 < next.1))))
    | _ => false)
  | .getfield x => Nat.beq len 3 && (match i with
    | .getfield f => has t.1 x f
    | _ => false)
  | .putfield x => Nat.beq len 3 && (match i with
    | .putfield f => has t.2.1 x f || (decide (M.1.name = "<init>") && has t.2.2.1 x f)
    | _ => false)
  | .newarray k => Nat.beq len 2 && (match i with
    | .newarray a => decide (a = k)
    | _ => false)
  | .new x => Nat.beq len 3 && (match i with
    | .new k => has t.2.2.2.2.2.2.2.1 x k
    | _ => false)
  | .anewarray x => Nat.beq len 3 && (match i with
    | .anewarray k => has t.2.2.2.2.2.2.2.2.1 x k
    | _ => false)
  | .checkcast x => Nat.beq len 3 && (match i with
    | .checkcast k => has t.2.2.2.2.2.2.2.2.2.1 x k
    | _ => false)
  | .instanceof x => Nat.beq len 3 && (match i with
    | .instanceof k => has t.2.2.2.2.2.2.2.2.2.2.1 x k
    | _ => false)
  | .invokestatic x => Nat.beq len 3 && (match i with
    | .invokestatic k => has t.2.2.2.2.2.2.2.2.2.2.2.1 x k
    | _ => false)
  | .invokespecial x => Nat.beq len 3 && (match i with
    | .invokestatic k => has t.2.2.2.2.2.2.2.2.2.2.2.2.1 x k
    | _ => false)
  | .invokevirtual x => Nat.beq len 3 && (match i with
    | .invokestatic k => has t.2.2.2.2.2.2.2.2.2.2.2.2.2 x k
    | _ => false)
  | .ireturn => Nat.beq len 1 && (match i with
    | .ireturn => (Nat.beq (mRet M) 1 || (Nat.beq (mRet M) 4 || (Nat.beq (mRet M) 5 || Nat.beq (mRet M) 6)))
    | _ => false)
  | .lreturn => Nat.beq len 1 && (match i with
    | .ireturn => Nat.beq (mRet M) 2
    | _ => false)
  | .areturn => Nat.beq len 1 && (match i with
    | .ireturn => Nat.beq (mRet M) 3
    | _ => false)
  | _ => false
theorem jm_of {G : GX} {M : MT} {t : CT8} (hek : ∀ k, ekOK k = true → EKOK k) (ht : CTOK G M.1.cls t) {pc : Nat} {j : Instr} {len : Nat} {i : Instr} (h : jmb M t pc j len i = true) : JM G M pc j len i := by
  obtain ⟨t1, t2, t3, t4, t5, t6, t7, t8, t9, t10, t11, t12, t13, t14⟩ := ht
  cases j with
  | iadd =>
    simp only [jmb, Bool.and_eq_true, Nat.beq_eq] at h
    obtain ⟨rfl, h⟩ := h
    split at h
    · exact ⟨rfl, rfl⟩
    · cases h
  | isub =>
    simp only [jmb, Bool.and_eq_true, Nat.beq_eq] at h
    obtain ⟨rfl, h⟩ := h
    split at h
    · exact ⟨rfl, rfl⟩
    · cases h
  | imul =>
    simp only [jmb, Bool.and_eq_true, Nat.beq_eq] at h
    obtain ⟨rfl, h⟩ := h
    split at h
    · exact ⟨rfl, rfl⟩
    · cases h
  | ineg =>
    simp only [jmb, Bool.and_eq_true, Nat.beq_eq] at h
    obtain ⟨rfl, h⟩ := h
    split at h
    · exact ⟨rfl, rfl⟩
    · cases h
  | idiv =>
    simp only [jmb, Bool.and_eq_true, Nat.beq_eq] at h
    obtain ⟨rfl, h⟩ := h
    split at h
    · exact ⟨rfl, rfl⟩
    · cases h
  | iand =>
    simp only [jmb, Bool.and_eq_true, Nat.beq_eq] at h
    obtain ⟨rfl, h⟩ := h
    split at h
    · exact ⟨rfl, rfl⟩
    · cases h
  | ior =>
    simp only [jmb, Bool.and_eq_true, Nat.beq_eq] at h
    obtain ⟨rfl, h⟩ := h
    split at h
    · exact ⟨rfl, rfl⟩
    · cases h
  | ixor =>
    simp only [jmb, Bool.and_eq_true, Nat.beq_eq] at h
    obtain ⟨rfl, h⟩ := h
    split at h
    · exact ⟨rfl, rfl⟩
    · cases h
  | ishl =>
    simp only [jmb, Bool.and_eq_true, Nat.beq_eq] at h
    obtain ⟨rfl, h⟩ := h
    split at h
    · exact ⟨rfl, rfl⟩
    · cases h
  | ishr =>
    simp only [jmb, Bool.and_eq_true, Nat.beq_eq] at h
    obtain ⟨rfl, h⟩ := h
    split at h
    · exact ⟨rfl, rfl⟩
    · cases h
  | iushr =>
    simp only [jmb, Bool.and_eq_true, Nat.beq_eq] at h
    obtain ⟨rfl, h⟩ := h
    split at h
    · exact ⟨rfl, rfl⟩
    · cases h
  | ladd =>
    simp only [jmb, Bool.and_eq_true, Nat.beq_eq] at h
    obtain ⟨rfl, h⟩ := h
    split at h
    · exact ⟨rfl, rfl⟩
    · cases h
  | lsub =>
    simp only [jmb, Bool.and_eq_true, Nat.beq_eq] at h
    obtain ⟨rfl, h⟩ := h
    split at h
    · exact ⟨rfl, rfl⟩
    · cases h
  | lmul =>
    simp only [jmb, Bool.and_eq_true, Nat.beq_eq] at h
    obtain ⟨rfl, h⟩ := h
    split at h
    · exact ⟨rfl, rfl⟩
    · cases h
  | lneg =>
    simp only [jmb, Bool.and_eq_true, Nat.beq_eq] at h
    obtain ⟨rfl, h⟩ := h
    split at h
    · exact ⟨rfl, rfl⟩
    · cases h
  | ldiv =>
    simp only [jmb, Bool.and_eq_true, Nat.beq_eq] at h
    obtain ⟨rfl, h⟩ := h
    split at h
    · exact ⟨rfl, rfl⟩
    · cases h
  | lrem =>
    simp only [jmb, Bool.and_eq_true, Nat.beq_eq] at h
    obtain ⟨rfl, h⟩ := h
    split at h
    · exact ⟨rfl, rfl⟩
    · cases h
  | land =>
    simp only [jmb, Bool.and_eq_true, Nat.beq_eq] at h
    obtain ⟨rfl, h⟩ := h
    split at h
    · exact ⟨rfl, rfl⟩
    · cases h
  | lor =>
    simp only [jmb, Bool.and_eq_true, Nat.beq_eq] at h
    obtain ⟨rfl, h⟩ := h
    split at h
    · exact ⟨rfl, rfl⟩
    · cases h
  | lshl =>
    simp only [jmb, Bool.and_eq_true, Nat.beq_eq] at h
    obtain ⟨rfl, h⟩ := h
    split at h
    · exact ⟨rfl, rfl⟩
    · cases h
  | lshr =>
    simp only [jmb, Bool.and_eq_true, Nat.beq_eq] at h
    obtain ⟨rfl, h⟩ := h
    split at h
    · exact ⟨rfl, rfl⟩
    · cases h
  | lushr =>
    simp only [jmb, Bool.and_eq_true, Nat.beq_eq] at h
    obtain ⟨rfl, h⟩ := h
    split at h
    · exact ⟨rfl, rfl⟩
    · cases h
  | lcmp =>
    simp only [jmb, Bool.and_eq_true, Nat.beq_eq] at h
    obtain ⟨rfl, h⟩ := h
    split at h
    · exact ⟨rfl, rfl⟩
    · cases h
  | i2l =>
    simp only [jmb, Bool.and_eq_true, Nat.beq_eq] at h
    obtain ⟨rfl, h⟩ := h
    split at h
    · exact ⟨rfl, rfl⟩
    · cases h
  | l2i =>
    simp only [jmb, Bool.and_eq_true, Nat.beq_eq] at h
    obtain ⟨rfl, h⟩ := h
    split at h
    · exact ⟨rfl, rfl⟩
    · cases h
  | i2b =>
    simp only [jmb, Bool.and_eq_true, Nat.beq_eq] at h
    obtain ⟨rfl, h⟩ := h
    split at h
    · exact ⟨rfl, rfl⟩
    · cases h
  | i2c =>
    simp only [jmb, Bool.and_eq_true, Nat.beq_eq] at h
    obtain ⟨rfl, h⟩ := h
    split at h
    · exact ⟨rfl, rfl⟩
    · cases h
  | dup =>
    simp only [jmb, Bool.and_eq_true, Nat.beq_eq] at h
    obtain ⟨rfl, h⟩ := h
    split at h
    · exact ⟨rfl, rfl⟩
    · cases h
  | dup_x1 =>
    simp only [jmb, Bool.and_eq_true, Nat.beq_eq] at h
    obtain ⟨rfl, h⟩ := h
    split at h
    · exact ⟨rfl, rfl⟩
    · cases h
  | dup2 =>
    simp only [jmb, Bool.and_eq_true, Nat.beq_eq] at h
    obtain ⟨rfl, h⟩ := h
    split at h
    · exact ⟨rfl, rfl⟩
    · cases h
  | pop =>
    simp only [jmb, Bool.and_eq_true, Nat.beq_eq] at h
    obtain ⟨rfl, h⟩ := h
    split at h
    · exact ⟨rfl, rfl⟩
    · cases h
  | aconst_null =>
    simp only [jmb, Bool.and_eq_true, Nat.beq_eq] at h
    obtain ⟨rfl, h⟩ := h
    split at h
    · exact ⟨rfl, rfl⟩
    · cases h
  | arraylength =>
    simp only [jmb, Bool.and_eq_true, Nat.beq_eq] at h
    obtain ⟨rfl, h⟩ := h
    split at h
    · exact ⟨rfl, rfl⟩
    · cases h
  | iaload =>
    simp only [jmb, Bool.and_eq_true, Nat.beq_eq] at h
    obtain ⟨rfl, h⟩ := h
    split at h
    · exact ⟨rfl, rfl⟩
    · cases h
  | laload =>
    simp only [jmb, Bool.and_eq_true, Nat.beq_eq] at h
    obtain ⟨rfl, h⟩ := h
    split at h
    · exact ⟨rfl, rfl⟩
    · cases h
  | baload =>
    simp only [jmb, Bool.and_eq_true, Nat.beq_eq] at h
    obtain ⟨rfl, h⟩ := h
    split at h
    · exact ⟨rfl, rfl⟩
    · cases h
  | aaload =>
    simp only [jmb, Bool.and_eq_true, Nat.beq_eq] at h
    obtain ⟨rfl, h⟩ := h
    split at h
    · exact ⟨rfl, rfl⟩
    · cases h
  | iastore =>
    simp only [jmb, Bool.and_eq_true, Nat.beq_eq] at h
    obtain ⟨rfl, h⟩ := h
    split at h
    · exact ⟨rfl, rfl⟩
    · cases h
  | lastore =>
    simp only [jmb, Bool.and_eq_true, Nat.beq_eq] at h
    obtain ⟨rfl, h⟩ := h
    split at h
    · exact ⟨rfl, rfl⟩
    · cases h
  | bastore =>
    simp only [jmb, Bool.and_eq_true, Nat.beq_eq] at h
    obtain ⟨rfl, h⟩ := h
    split at h
    · exact ⟨rfl, rfl⟩
    · cases h
  | athrow =>
    simp only [jmb, Bool.and_eq_true, Nat.beq_eq] at h
    obtain ⟨rfl, h⟩ := h
    split at h
    · exact ⟨rfl, rfl⟩
    · cases h
  | return_ =>
    simp only [jmb, Bool.and_eq_true, Nat.beq_eq] at h
    obtain ⟨rfl, h⟩ := h
    split at h
    · exact ⟨rfl, rfl⟩
    · cases h
  | aastore =>
    simp only [jmb, Bool.and_eq_true, Nat.beq_eq] at h
    obtain ⟨rfl, h⟩ := h
    split at h
    · simp only [Bool.and_eq_true, Nat.beq_eq] at h
      obtain ⟨rfl, h⟩ := h
      refine ⟨rfl, _, rfl, ?_, ?_, hek _ h⟩ <;> (simp only [ekOK, List.elem_eq_mem, List.mem_cons, List.not_mem_nil, or_false, decide_eq_true_eq] at h; omega)
    · cases h
  | iconst n =>
    simp only [jmb, Bool.and_eq_true, Nat.beq_eq] at h
    obtain ⟨rfl, h⟩ := h
    split at h
    · simp only [Bool.and_eq_true, decide_eq_true_eq] at h
      obtain ⟨rfl, h1, h2⟩ := h
      exact ⟨rfl, rfl, h1, h2⟩
    · cases h
  | bipush n =>
    simp only [jmb, Bool.and_eq_true, Nat.beq_eq] at h
    obtain ⟨rfl, h⟩ := h
    split at h
    · simp only [Bool.and_eq_true, decide_eq_true_eq] at h
      obtain ⟨rfl, h1, h2⟩ := h
      exact ⟨rfl, rfl, h1, h2⟩
    · cases h
  | sipush n =>
    simp only [jmb, Bool.and_eq_true, Nat.beq_eq] at h
    obtain ⟨rfl, h⟩ := h
    split at h
    · simp only [Bool.and_eq_true, decide_eq_true_eq] at h
      obtain ⟨rfl, h1, h2⟩ := h
      exact ⟨rfl, rfl, h1, h2⟩
    · cases h
  | lconst n =>
    simp only [jmb, Bool.and_eq_true, Nat.beq_eq] at h
    obtain ⟨rfl, h⟩ := h
    split at h
    · simp only [decide_eq_true_eq] at h
      subst h
      exact ⟨rfl, rfl⟩
    · cases h
  | ldc x =>
    simp only [jmb, Bool.and_eq_true, Nat.beq_eq] at h
    obtain ⟨rfl, h⟩ := h
    split at h
    · have := hasI_mem h
      exact ⟨rfl, Or.inl ⟨_, rfl, (t4 _ this).1, (t4 _ this).2⟩⟩
    · obtain ⟨tx, hx⟩ := t6 _ (has_mem h)
      exact ⟨rfl, Or.inr ⟨_, tx, rfl, hx⟩⟩
    · cases h
  | ldc_w x =>
    simp only [jmb, Bool.and_eq_true, Nat.beq_eq] at h
    obtain ⟨rfl, h⟩ := h
    split at h
    · have := hasI_mem h
      exact ⟨rfl, Or.inl ⟨_, rfl, (t4 _ this).1, (t4 _ this).2⟩⟩
    · obtain ⟨tx, hx⟩ := t6 _ (has_mem h)
      exact ⟨rfl, Or.inr ⟨_, tx, rfl, hx⟩⟩
    · cases h
  | ldc2_w x =>
    simp only [jmb, Bool.and_eq_true, Nat.beq_eq] at h
    obtain ⟨rfl, h⟩ := h
    split at h
    · have := hasI_mem h
      exact ⟨rfl, _, rfl, (t5 _ this).1, (t5 _ this).2⟩
    · cases h
  | getstatic x =>
    simp only [jmb, Bool.and_eq_true, Nat.beq_eq] at h
    obtain ⟨rfl, h⟩ := h
    split at h
    · rcases t7 _ (has_mem h) with ⟨e1, h1⟩ | ⟨e1, h1⟩ <;> simp only at e1 h1 <;> subst e1
      · exact ⟨rfl, Or.inl ⟨rfl, h1⟩⟩
      · exact ⟨rfl, Or.inr ⟨rfl, h1⟩⟩
    · cases h
  | iload k =>
    simp only [jmb, Bool.and_eq_true, Nat.beq_eq] at h
    obtain ⟨rfl, h⟩ := h
    split at h
    · simp only [Nat.beq_eq] at h
      subst h
      exact ⟨rfl, rfl⟩
    · cases h
  | iload_n k =>
    simp only [jmb, Bool.and_eq_true, Nat.beq_eq] at h
    obtain ⟨rfl, h⟩ := h
    split at h
    · simp only [Nat.beq_eq] at h
      subst h
      exact ⟨rfl, rfl⟩
    · cases h
  | lload k =>
    simp only [jmb, Bool.and_eq_true, Nat.beq_eq] at h
    obtain ⟨rfl, h⟩ := h
    split at h
    · simp only [Nat.beq_eq] at h
      subst h
      exact ⟨rfl, rfl⟩
    · cases h
  | lload_n k =>
    simp only [jmb, Bool.and_eq_true, Nat.beq_eq] at h
    obtain ⟨rfl, h⟩ := h
    split at h
    · simp only [Nat.beq_eq] at h
      subst h
      exact ⟨rfl, rfl⟩
    · cases h
  | aload k =>
    simp only [jmb, Bool.and_eq_true, Nat.beq_eq] at h
    obtain ⟨rfl, h⟩ := h
    split at h
    · simp only [Nat.beq_eq] at h
      subst h
      exact ⟨rfl, rfl⟩
    · cases h
  | aload_n k =>
    simp only [jmb, Bool.and_eq_true, Nat.beq_eq] at h
    obtain ⟨rfl, h⟩ := h
    split at h
    · simp only [Nat.beq_eq] at h
      subst h
      exact ⟨rfl, rfl⟩
    · cases h
  | istore k =>
    simp only [jmb, Bool.and_eq_true, Nat.beq_eq] at h
    obtain ⟨rfl, h⟩ := h
    split at h
    · simp only [Bool.and_eq_true, Nat.beq_eq, Nat.blt_eq] at h
      obtain ⟨rfl, h⟩ := h
      exact ⟨rfl, rfl, h⟩
    · cases h
  | istore_n k =>
    simp only [jmb, Bool.and_eq_true, Nat.beq_eq] at h
    obtain ⟨rfl, h⟩ := h
    split at h
    · simp only [Bool.and_eq_true, Nat.beq_eq, Nat.blt_eq] at h
      obtain ⟨rfl, h⟩ := h
      exact ⟨rfl, rfl, h⟩
    · cases h
  | lstore k =>
    simp only [jmb, Bool.and_eq_true, Nat.beq_eq] at h
    obtain ⟨rfl, h⟩ := h
    split at h
    · simp only [Bool.and_eq_true, Nat.beq_eq, Nat.blt_eq] at h
      obtain ⟨rfl, h⟩ := h
      exact ⟨rfl, rfl, h⟩
    · cases h
  | lstore_n k =>
    simp only [jmb, Bool.and_eq_true, Nat.beq_eq] at h
    obtain ⟨rfl, h⟩ := h
    split at h
    · simp only [Bool.and_eq_true, Nat.beq_eq, Nat.blt_eq] at h
      obtain ⟨rfl, h⟩ := h
      exact ⟨rfl, rfl, h⟩
    · cases h
  | astore k =>
    simp only [jmb, Bool.and_eq_true, Nat.beq_eq] at h
    obtain ⟨rfl, h⟩ := h
    split at h
    · simp only [Bool.and_eq_true, Nat.beq_eq, Nat.blt_eq] at h
      obtain ⟨rfl, h⟩ := h
      exact ⟨rfl, rfl, h⟩
    · cases h
  | astore_n k =>
    simp only [jmb, Bool.and_eq_true, Nat.beq_eq] at h
    obtain ⟨rfl, h⟩ := h
    split at h
    · simp only [Bool.and_eq_true, Nat.beq_eq, Nat.blt_eq] at h
      obtain ⟨rfl, h⟩ := h
      exact ⟨rfl, rfl, h⟩
    · cases h
  | iinc k n =>
    simp only [jmb, Bool.and_eq_true, Nat.beq_eq] at h
    obtain ⟨rfl, h⟩ := h
    split at h
    · simp only [Bool.and_eq_true, Nat.beq_eq, Nat.blt_eq, decide_eq_true_eq] at h
      obtain ⟨rfl, rfl, h⟩ := h
      exact ⟨rfl, rfl, h⟩
    · cases h
  | goto o =>
    simp only [jmb, Bool.and_eq_true, Nat.beq_eq] at h
    obtain ⟨rfl, h⟩ := h
    split at h
    · simp only [Bool.and_eq_true, decide_eq_true_eq] at h
      obtain ⟨h1, h2⟩ := h
      obtain ⟨t, rfl⟩ := Int.eq_ofNat_of_zero_le h2
      exact ⟨rfl, t, rfl, h1⟩
    · cases h
  | ifCond k o =>
    simp only [jmb, Bool.and_eq_true, Nat.beq_eq] at h
    obtain ⟨rfl, h⟩ := h
    split at h
    · simp only [Bool.and_eq_true, decide_eq_true_eq] at h
      obtain ⟨rfl, h1, h2⟩ := h
      obtain ⟨t, rfl⟩ := Int.eq_ofNat_of_zero_le h2
      exact ⟨rfl, t, rfl, h1⟩
    · cases h
  | if_icmp k o =>
    simp only [jmb, Bool.and_eq_true, Nat.beq_eq] at h
    obtain ⟨rfl, h⟩ := h
    split at h
    · simp only [Bool.and_eq_true, decide_eq_true_eq] at h
      obtain ⟨rfl, h1, h2⟩ := h
      obtain ⟨t, rfl⟩ := Int.eq_ofNat_of_zero_le h2
      exact ⟨rfl, t, rfl, h1⟩
    · cases h
  | if_acmp k o =>
    simp only [jmb, Bool.and_eq_true, Nat.beq_eq] at h
    obtain ⟨rfl, h⟩ := h
    split at h
    · simp only [Bool.and_eq_true, decide_eq_true_eq] at h
      obtain ⟨rfl, h1, h2⟩ := h
      obtain ⟨t, rfl⟩ := Int.eq_ofNat_of_zero_le h2
      exact ⟨rfl, t, rfl, h1⟩
    · cases h
  | ifnull o =>
    simp only [jmb, Bool.and_eq_true, Nat.beq_eq] at h
    obtain ⟨rfl, h⟩ := h
    split at h
    · simp only [Bool.and_eq_true, decide_eq_true_eq] at h
      obtain ⟨h1, h2⟩ := h
      obtain ⟨t, rfl⟩ := Int.eq_ofNat_of_zero_le h2
      exact ⟨rfl, t, rfl, h1⟩
    · cases h
  | ifnonnull o =>
    simp only [jmb, Bool.and_eq_true, Nat.beq_eq] at h
    obtain ⟨rfl, h⟩ := h
    split at h
    · simp only [Bool.and_eq_true, decide_eq_true_eq] at h
      obtain ⟨h1, h2⟩ := h
      obtain ⟨t, rfl⟩ := Int.eq_ofNat_of_zero_le h2
      exact ⟨rfl, t, rfl, h1⟩
    · cases h
  | tableswitch df lo hi ts =>
    simp only [jmb] at h
    split at h
    · simp only [Bool.and_eq_true, decide_eq_true_eq, List.all_eq_true] at h
      obtain ⟨rfl, rfl, rfl, h1, h2, h3, h4⟩ := h
      exact ⟨_, rfl, h1, h2, h3, h4⟩
    · cases h
  | lookupswitch df ps =>
    simp only [jmb] at h
    split at h
    · rw [Bool.and_eq_true, Bool.and_eq_true, Bool.and_eq_true, Bool.and_eq_true] at h
      obtain ⟨h0, h1, h2, h3, h4⟩ := h
      simp only [decide_eq_true_eq, List.all_eq_true] at h0 h1 h2 h3
      subst h0
      exact ⟨_, rfl, h1, h2, h3, h4⟩
    · cases h
  | getfield x =>
    simp only [jmb, Bool.and_eq_true, Nat.beq_eq] at h
    obtain ⟨rfl, h⟩ := h
    split at h
    · have := t1 _ (has_mem h)
      exact ⟨rfl, _, rfl, this.1, this.2⟩
    · cases h
  | putfield x =>
    simp only [jmb, Bool.and_eq_true, Nat.beq_eq] at h
    obtain ⟨rfl, h⟩ := h
    split at h
    · simp only [Bool.or_eq_true, Bool.and_eq_true, decide_eq_true_eq] at h
      rcases h with h | ⟨hn, h⟩
      · have := t2 _ (has_mem h)
        exact ⟨rfl, _, rfl, this.1, this.2.1, Or.inl this.2.2⟩
      · have := t3 _ (has_mem h)
        exact ⟨rfl, _, rfl, this.1, this.2.1, Or.inr ⟨this.2.2.1, hn, this.2.2.2.1, this.2.2.2.2⟩⟩
    · cases h
  | newarray k =>
    simp only [jmb, Bool.and_eq_true, Nat.beq_eq] at h
    obtain ⟨rfl, h⟩ := h
    split at h
    · simp only [decide_eq_true_eq] at h
      subst h
      exact ⟨rfl, rfl⟩
    · cases h
  | new x =>
    simp only [jmb, Bool.and_eq_true, Nat.beq_eq] at h
    obtain ⟨rfl, h⟩ := h
    split at h
    · exact ⟨rfl, _, rfl, t8 _ (has_mem h)⟩
    · cases h
  | anewarray x =>
    simp only [jmb, Bool.and_eq_true, Nat.beq_eq] at h
    obtain ⟨rfl, h⟩ := h
    split at h
    · exact ⟨rfl, _, rfl, t9 _ (has_mem h)⟩
    · cases h
  | checkcast x =>
    simp only [jmb, Bool.and_eq_true, Nat.beq_eq] at h
    obtain ⟨rfl, h⟩ := h
    split at h
    · exact ⟨rfl, _, rfl, t10 _ (has_mem h)⟩
    · cases h
  | instanceof x =>
    simp only [jmb, Bool.and_eq_true, Nat.beq_eq] at h
    obtain ⟨rfl, h⟩ := h
    split at h
    · exact ⟨rfl, _, rfl, t11 _ (has_mem h)⟩
    · cases h
  | invokestatic x =>
    simp only [jmb, Bool.and_eq_true, Nat.beq_eq] at h
    obtain ⟨rfl, h⟩ := h
    split at h
    · exact ⟨rfl, _, rfl, t12 _ (has_mem h)⟩
    · cases h
  | invokespecial x =>
    simp only [jmb, Bool.and_eq_true, Nat.beq_eq] at h
    obtain ⟨rfl, h⟩ := h
    split at h
    · exact ⟨rfl, _, rfl, t13 _ (has_mem h)⟩
    · cases h
  | invokevirtual x =>
    simp only [jmb, Bool.and_eq_true, Nat.beq_eq] at h
    obtain ⟨rfl, h⟩ := h
    split at h
    · exact ⟨rfl, _, rfl, t14 _ (has_mem h)⟩
    · cases h
  | ireturn =>
    simp only [jmb, Bool.and_eq_true, Nat.beq_eq] at h
    obtain ⟨rfl, h⟩ := h
    split at h
    · simp only [Bool.or_eq_true, Nat.beq_eq] at h
      exact ⟨rfl, rfl, h⟩
    · cases h
  | lreturn =>
    simp only [jmb, Bool.and_eq_true, Nat.beq_eq] at h
    obtain ⟨rfl, h⟩ := h
    split at h
    · simp only [Nat.beq_eq] at h
      exact ⟨rfl, rfl, h⟩
    · cases h
  | areturn =>
    simp only [jmb, Bool.and_eq_true, Nat.beq_eq] at h
    obtain ⟨rfl, h⟩ := h
    split at h
    · simp only [Nat.beq_eq] at h
      exact ⟨rfl, rfl, h⟩
    · cases h
  | _ => cases h
def insB (M : MT) (t : CT8) (bytes : ByteArray) : List (Nat × Instr) → Bool
  | [] => true
  | (pc, i) :: r => (match decode bytes pc with
    | .ok (j, len) => jmb M t pc j len i && (nofall i || (match r with
      | [] => true
      | (pc2, _) :: _ => Nat.beq pc2 (pc + len)))
    | .error _ => false) && insB M t bytes r
theorem ins_of {G : GX} {M : MT} {t : CT8} (hek : ∀ k, ekOK k = true → EKOK k) (ht : CTOK G M.1.cls t) {bytes : ByteArray} : ∀ {c : List (Nat × Instr)}, insB M t bytes c = true → ∀ pc i r, (pc, i) :: r <:+ c → InsOK G M bytes pc i r := by
  intro c
  induction c with
  | nil => intro _ pc i r h; exact absurd (List.suffix_nil.mp h) (by simp)
  | cons a c ih =>
    obtain ⟨pc0, i0⟩ := a
    intro h pc i r hs
    simp only [insB, Bool.and_eq_true] at h
    obtain ⟨h1, h2⟩ := h
    rcases List.suffix_cons_iff.mp hs with e | hs
    · cases e
      split at h1
      · rename_i j len hd
        simp only [Bool.and_eq_true, Bool.or_eq_true] at h1
        refine ⟨j, len, hd, jm_of hek ht h1.1, ?_⟩
        rcases h1.2 with hn | hn
        · exact Or.inl hn
        · right
          split at hn
          · exact Or.inl rfl
          · rename_i pc2 i2 r2
            right
            simp only [Nat.beq_eq] at hn
            exact ⟨i2, r2, by rw [hn]⟩
      · cases h1
    · exact ih h2 pc i r hs
def insN (M : MT) (t : CT8) (bytes : ByteArray) : Nat → List (Nat × Instr) → Bool
  | 0, _ => true
  | _ + 1, [] => true
  | n + 1, (pc, i) :: r => (match decode bytes pc with
    | .ok (j, len) => jmb M t pc j len i && (nofall i || (match r with
      | [] => true
      | (pc2, _) :: _ => Nat.beq pc2 (pc + len)))
    | .error _ => false) && insN M t bytes n r
theorem insN_cut {M : MT} {t : CT8} {bytes : ByteArray} : ∀ (n : Nat) (c : List (Nat × Instr)), insN M t bytes n c = true → insB M t bytes (c.drop n) = true → insB M t bytes c = true
  | 0, c, _, h => h
  | n + 1, [], _, _ => rfl
  | n + 1, (pc, i) :: r, h1, h2 => by
    simp only [insN, Bool.and_eq_true] at h1
    simp only [insB, Bool.and_eq_true]
    exact ⟨h1.1, insN_cut n r h1.2 h2⟩
theorem insK {M : MT} {t : CT8} {bytes : ByteArray} {c : List (Nat × Instr)} (k n : Nat) (h1 : insN M t bytes n (c.drop k) = true) (h2 : insB M t bytes (c.drop (k + n)) = true) : insB M t bytes (c.drop k) = true :=
  insN_cut n _ h1 (by rw [List.drop_drop]; exact h2)
