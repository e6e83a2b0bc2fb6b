/-! THE START: what stands for what at the law's entry -/
theorem EW.of {A0 : Array Value} {s : State} (h : ∀ w ∈ lw_tbl, w.before A0 s = true) : EW s := by
  intro w hw hok A
  have h1 := h w hw
  by_cases hg : (w.onTables && w.keeps) = true
  · exact va_any (Bool.and_eq_true_iff.mp hg).1 h1
  · cases w with
    | fieldLinkNest => exact va_any rfl h1
    | methodLinkNest => exact va_any rfl h1
    | declares => exact va_any rfl h1
    | castable => exact va_any rfl h1
    | privateMethod x => exact va_any rfl h1
    | arrayClass ty => exact h1
    | arrayOver t => exact h1
    | _ => exact absurd (by simpa [ew_ok] using hok) hg
theorem pw_inj {α : Type} {f : α → Nat} : ∀ l : List α, l.Pairwise (fun a b => f a ≠ f b) → ∀ q ∈ l, ∀ q' ∈ l, f q = f q' → q = q' := by
  intro l
  induction l with
  | nil => intro _ q hq; cases hq
  | cons a r ih =>
    intro hp q hq q' hq' e
    obtain ⟨h1, h2⟩ := List.pairwise_cons.mp hp
    rcases List.mem_cons.mp hq with rfl | hqr
    · rcases List.mem_cons.mp hq' with rfl | hq'
      · rfl
      · exact absurd e (h1 _ hq')
    · rcases List.mem_cons.mp hq' with hz' | hq'
      · subst hz'; exact absurd e.symm (h1 _ hqr)
      · exact ih h2 q hqr q' hq' e
theorem ch_of {α β : Type} (f : α → Nat) (l : List α) (hp : l.Pairwise (fun a b => f a ≠ f b)) (d : β) (P : α → β → Prop) (h : ∀ q ∈ l, ∃ b, P q b) : ∃ g : Nat → β, ∀ q ∈ l, P q (g (f q)) := by
  have hk : ∀ k : Nat, ∃ b : β, ∀ q ∈ l, f q = k → P q b := by
    intro k
    by_cases hk : ∃ q ∈ l, f q = k
    · obtain ⟨q, hq, e⟩ := hk
      obtain ⟨b, hb⟩ := h q hq
      exact ⟨b, fun q' hq' e' => by rw [pw_inj l hp q' hq' q hq (e'.trans e.symm)]; exact hb⟩
    · exact ⟨d, fun q hq e => absurd ⟨q, hq, e⟩ hk⟩
  obtain ⟨g, hg⟩ := Classical.axiomOfChoice hk
  exact ⟨g, fun q hq => hg _ q hq rfl⟩
def rdC (H : Heap) (x : Nat) : Cell := match H[x]? with
  | some c => c
  | none => arrV 0 0 (fun _ => .null)
def rdL (c : Cell) : Nat := c.slots.size.toInt32.toInt.toNat
def rdV (c : Cell) (i : Nat) : Int := match c.slots[i]? with
  | some (.int x) => x.toInt
  | _ => 0
def rdS (i0 : Nat) (c : Cell) : Nat := match c.slots[i0]? with
  | some (.ref v) => v
  | _ => 0
/-- the cell that holds what is read at an address -/
def rdX (H : Heap) (i0 : Nat) (isS : Nat → Bool) (a : Nat) : Cell := if isS a = true then rdC H (rdS i0 (rdC H (a - 1))) else rdC H (a - 1)
def st0 (H : Heap) (i0 : Nat) (isS : Nat → Bool) (b w pr : Nat) : ah := ((H.size + 1, 0), (fun a => if isS a = true then 191 else if a = b + 1 ∨ a = w + 1 then 11 else if a = pr + 1 then 13 else 0), (fun _ _ => 0), (fun _ _ => 0), (fun a => rdL (rdX H i0 isS a)), (fun a i => rdV (rdX H i0 isS a) i), fun _ _ => 0)
theorem rdC_of {H : Heap} {x : Nat} {c : Cell} (h : H[x]? = some c) : rdC H x = c := by unfold rdC; rw [h]
theorem rdL_of {c : Cell} {n : Nat} (hn : n < 2 ^ 31) (h : c.slots.size.toInt32 = Int32.ofNat n) : rdL c = n := by
  unfold rdL
  rw [h, Int32.toInt_ofNat_of_lt hn]; rfl
theorem rdV_of {c : Cell} {i : Nat} {x : Int32} (h : c.slots[i]? = some (.int x)) : rdV c i = x.toInt := by unfold rdV; rw [h]
/-- an array that is there before the start, and is only read -/
def RO (s : State) (o n : Nat) (f : Nat → Int32) (c : Cell) : Prop := s.isArrayOf c (roT o) ∧ c.vm ≠ .unknown ∧ n ≤ c.slots.size ∧ c.slots.size.toInt32 = Int32.ofNat n ∧ ∀ i, i < n → c.slots[i]? = some (.int (f i))
theorem RO.ro {s : State} {aC : Nat → ClassId} {o n : Nat} {f : Nat → Int32} {c : Cell} (hn : n < 2 ^ 31) (haC : ArrOfT s c.cls (roT o) → aC (1000 + 2 * c.cls + o) = c.cls) (h : RO s o n f c) : rdL c = n ∧ (∀ i, i < n → rdV c i = (f i).toInt) ∧ roA aC o (rdL c) (fun i => .int (Int32.ofInt (rdV c i))) c := by
  obtain ⟨⟨h1, k, h2, comp, h3⟩, h4, h5, h6, h7⟩ := h
  have e := rdL_of hn h6
  refine ⟨e, fun i hi => rdV_of (h7 i hi), ⟨c.cls, (haC (ArrOfT_of h2 h3)).symm⟩, h1, h4, by rw [e]; exact h5, by rw [e]; exact h6, fun i hi => ?_⟩
  rw [e] at hi
  rw [h7 i hi]
  show some (Value.int (f i)) = some (Value.int (Int32.ofInt (rdV c i)))
  rw [rdV_of (h7 i hi), Int32.ofInt_toInt]
theorem hnA (s : State) : ∀ a : Nat, a < s.heap.size → ¬ nA s.heap.size a := fun a ha z => z ha
theorem AF.t {A : Array Value} {s : State} {t : Term} {ty : FieldType} {bs : List Int32} (h : AF A s t ty bs) (hn : bs.length < 2 ^ 31) : ∃ a, t.eval A s none [] s = some (.ref a) ∧ ∃ c, s.heap[a]? = some c ∧ s.isArrayOf c ty ∧ c.vm ≠ .unknown ∧ bs.length ≤ c.slots.size ∧ c.slots.size.toInt32 = Int32.ofNat bs.length ∧ ∀ i, i < bs.length → c.slots[i]? = some (.int (bs.getD i 0)) := by
  obtain ⟨h1, h2, h3⟩ := h
  obtain ⟨t0, ht, c, e1, e2, e3, e4, e5, e6, -⟩ := va_Tof (f := fun j => .int (bs.getD j 0)) (A := nA s.heap.size) hn h1 (va_eqt h2) (fun j hj => va_eqt (by have := AllE_at h3 j hj; rw [Nat.zero_add] at this; exact this)) (hnA s)
  exact ⟨t0, ht, c, e1, e2, e3, e4, e5, e6⟩
/-- a text that is there before the start -/
def SP (A : Array Value) (s : State) (cS : ClassId) (iS : Nat → Nat) (own : String) (ix : Nat) (bs : List Int32) (a : Nat) : Prop :=
  (Term.string own ix).eval A s none [] s = some (.ref a) ∧ ∃ cell vv cV, s.heap[a]? = some cell ∧ okV cell.vm ∧ cell.cls = cS ∧ cell.slots[iS 0]? = some (.ref vv) ∧ cell.slots[iS 1]? = some (.int 0) ∧ s.heap[vv]? = some cV ∧ RO s 1 bs.length (fun i => bs.getD i 0) cV
theorem SF.sp {A : Array Value} {s : State} {cS : ClassId} {iS : Nat → Nat} {own : String} {ix : Nat} {bs : List Int32} (h : SF A s own ix bs) (hn : bs.length < 2 ^ 31) (hS : u_Kn s "java/lang/String" TJ11 4 cS iS) : ∃ a, SP A s cS iS own ix bs a := by
  obtain ⟨h1, h2, h3⟩ := h
  obtain ⟨a, c, cA, kA, q1, q2, q3, q4, q5, q6, -⟩ := Cond.exactly_spec (args := A) (first := s) (o := none) (s := s) (idx := []) (t := .string own ix) (cls := "java/lang/String") h1
  obtain ⟨vv, hv, cV, e1, e2⟩ := h3.t hn
  obtain ⟨cf, k, i, f, cell, g1, g2, g3, g4, g5, -⟩ := vk_OFof (A := nA s.heap.size) q1 (va_eqt h2) (hnA s)
  obtain ⟨cf', k', i', f', cell', g1', g2', g3', g4', g5', -⟩ := vk_OFof (A := nA s.heap.size) q1 hv (hnA s)
  cases q3.symm.trans g3
  cases q3.symm.trans g3'
  obtain ⟨_, _, _, fd0, s1, s2⟩ := hS.1 0 (by decide)
  obtain ⟨_, _, _, fd1, s3, s4⟩ := hS.1 1 (by decide)
  cases g1'.symm.trans s1
  cases g1.symm.trans s3
  have hc : c = cS := Option.some.inj (q2.symm.trans hS.2.1)
  refine ⟨a, q1, cA, vv, cV, q3, ⟨q5, g4⟩, by rw [q6, hc], by rw [← s2]; exact g5', by rw [← s4]; exact g5, e1, e2⟩
theorem txT_pw : txT.Pairwise (fun a b => a.1 ≠ b.1) := by decide +kernel
theorem txT_ok : ∀ q ∈ txT, q.1 < 1000 ∧ q.2.2.length ≤ 1000 ∧ ∀ i, i < q.2.2.length → 0 ≤ (q.2.2.getD i 0).toInt ∧ (q.2.2.getD i 0).toInt ≤ 127 := by
  have h : txT.all (fun q => decide (q.1 < 1000) && decide (q.2.2.length ≤ 1000) && (List.range q.2.2.length).all (fun i => decide (0 ≤ (q.2.2.getD i 0).toInt) && decide ((q.2.2.getD i 0).toInt ≤ 127))) = true := by decide +kernel
  intro q hq
  have := List.all_eq_true.mp h q hq
  simp only [Bool.and_eq_true, decide_eq_true_eq, List.all_eq_true, List.mem_range] at this
  exact ⟨this.1.1, this.1.2, this.2⟩
theorem arrT_pw : arrT.Pairwise (fun a b => a.1 ≠ b.1) := by decide +kernel
theorem arrT_lt : ∀ r ∈ arrT, r.1 < 1000 := by decide +kernel
theorem proto_ok : ∀ i, i < protoT.length → -128 ≤ (protoT.getD i 0).toInt ∧ (protoT.getD i 0).toInt ≤ 127 := by decide +kernel
/-- classes of arrays by their numbers -/
theorem aC_of {A : Array Value} {s : State} (hts : ∀ w ∈ lw_tbl, w.before A s = true) : ∃ aC : Nat → ClassId, (∀ r ∈ arrT, ArrOfT s (aC r.1) r.2 ∧ va_RA s (aC r.1) r.2) ∧ ∀ o c, o < 2 → ArrOfT s (aC (1000 + 2 * c + o)) (roT o) ∧ (ArrOfT s c (roT o) → aC (1000 + 2 * c + o) = c) := by
  obtain ⟨aA, haA⟩ := ch_of (fun r : Nat × FieldType => r.1) arrT arrT_pw (0 : ClassId) (fun r c => ArrOfT s c r.2 ∧ va_RA s c r.2) (arr_all hts)
  have hk : ∀ k : Nat, ∃ c : ClassId, (k < 1000 → c = aA k) ∧ ∀ o c', o < 2 → k = 1000 + 2 * c' + o → ArrOfT s c (roT o) ∧ (ArrOfT s c' (roT o) → c = c') := by
    intro k
    by_cases h1 : k < 1000
    · exact ⟨aA k, fun _ => rfl, fun o c' ho e => by omega⟩
    · obtain ⟨o, c', ho, e⟩ : ∃ o c', o < 2 ∧ k = 1000 + 2 * c' + o := ⟨k % 2, (k - 1000) / 2, by omega, by omega⟩
      have ex : ∃ d, ArrOfT s d (roT o) := by
        have : o = 0 ∨ o = 1 := by omega
        rcases this with rfl | rfl
        · exact ⟨aA 1, (haA (1, .int) (by simp [arrT])).1⟩
        · exact ⟨aA 3, (haA (3, .byte) (by simp [arrT])).1⟩
      by_cases h2 : ArrOfT s c' (roT o)
      · refine ⟨c', fun z => absurd z h1, fun o2 c2 ho2 e2 => ?_⟩
        obtain ⟨rfl, rfl⟩ : o2 = o ∧ c2 = c' := by omega
        exact ⟨h2, fun _ => rfl⟩
      · obtain ⟨d, hd⟩ := ex
        refine ⟨d, fun z => absurd z h1, fun o2 c2 ho2 e2 => ?_⟩
        obtain ⟨rfl, rfl⟩ : o2 = o ∧ c2 = c' := by omega
        exact ⟨hd, fun z => absurd z h2⟩
  obtain ⟨aC, haC⟩ := Classical.axiomOfChoice hk
  refine ⟨aC, fun r hr => ?_, fun o c ho => (haC _).2 o c ho rfl⟩
  rw [(haC r.1).1 (arrT_lt r hr)]
  exact haA r hr
theorem fval13 {n : Nat} {f : Nat → Int32} {c : Cell} (h : ∀ i, i < n → rdV c i = (f i).toInt) (hf : ∀ i, i < n → -128 ≤ (f i).toInt ∧ (f i).toInt ≤ 127) : ∀ i, i < n → acan 3 (rdV c i) := fun i hi => by
  rw [h i hi]; exact hf i hi
section
variable {A : Array Value} {s : State} {D : va_G} {aC : Nat → ClassId} {sa : Nat → Nat} {b w pr : Nat}
theorem isS_iff {a : Nat} : txT.any (fun q => a == sa q.1 + 1) = true ↔ ∃ q ∈ txT, a = sa q.1 + 1 := by
  rw [List.any_eq_true]
  constructor
  · rintro ⟨q, hq, e⟩; exact ⟨q, hq, by simpa using e⟩
  · rintro ⟨q, hq, e⟩; exact ⟨q, hq, by simpa using e⟩
/-- the heap at the start stands for what the abstract one says -/
theorem rep0 {L : Nat} {xs : Nat → Int32} {eE : Nat} (haC : ∀ o c, o < 2 → (ArrOfT s c (roT o) → aC (1000 + 2 * c + o) = c)) (hcS : ClassAt s "java/lang/String" (D.1 191)) (hsa : ∀ q ∈ txT, SP A s (D.1 191) (D.2 191) q.2.1.1 q.2.1.2 q.2.2 (sa q.1))
    {cB cW cP : Cell} (hB : s.heap[b]? = some cB) (hB2 : RO s 0 L xs cB) (hL : L ≤ 320) (hW : s.heap[w]? = some cW) (hW2 : RO s 0 wantsT.length (fun i => wantsT.getD i 0) cW) (hP : s.heap[pr]? = some cP) (hP2 : RO s 1 protoT.length (fun i => protoT.getD i 0) cP) (hE : eE < s.heap.size) {ρ : Nat → Nat} (hρ : ∀ k, k < 1000 → ρ k = sa k + 1) (hρ0 : ρ 1000 = w + 1) (hρ1 : ρ 1001 = pr + 1) :
    Rep D aC s.heap.size s.heap eE (st0 s.heap (D.2 191 0) (fun a => txT.any (fun q => a == sa q.1 + 1)) b w pr) s.heap ∧ STRT ρ (st0 s.heap (D.2 191 0) (fun a => txT.any (fun q => a == sa q.1 + 1)) b w pr) (b + 1) L (fun i => (xs i).toInt) := by
  have hno : ∀ (a : Nat) (c : Cell) (ty : FieldType), s.heap[a]? = some c → s.isArrayOf c ty → ¬ (txT.any (fun q => a + 1 == sa q.1 + 1) = true) := by
    intro a c ty hc ha z
    obtain ⟨q, hq, e⟩ := isS_iff.mp z
    obtain ⟨-, cell, vv, cV, h1, h2, h3, -⟩ := hsa q hq
    have : sa q.1 = a := by omega
    rw [this] at h1
    cases hc.symm.trans h1
    obtain ⟨-, k, hk, comp, hkind⟩ := ha
    obtain ⟨-, kC, hkC, hord⟩ := hcS
    rw [h3] at hk
    cases hkC.symm.trans hk
    rw [hord] at hkind; cases hkind
  have hSb := hno b cB _ hB hB2.1
  have hSw := hno w cW _ hW hW2.1
  have hSp := hno pr cP _ hP hP2.1
  have hpb : pr ≠ b := by
    intro z
    subst z
    cases hB.symm.trans hP
    obtain ⟨-, k, hk, comp, hkind⟩ := hB2.1
    obtain ⟨-, k', hk', comp', hkind'⟩ := hP2.1
    cases hk.symm.trans hk'
    rw [hkind] at hkind'; cases hkind'
  have hpw : pr ≠ w := by
    intro z
    subst z
    cases hW.symm.trans hP
    obtain ⟨-, k, hk, comp, hkind⟩ := hW2.1
    obtain ⟨-, k', hk', comp', hkind'⟩ := hP2.1
    cases hk.symm.trans hk'
    rw [hkind] at hkind'; cases hkind'
  obtain ⟨lB, vB, rB⟩ := hB2.ro (aC := aC) (by omega) (haC 0 _ (by decide))
  obtain ⟨lW, vW, rW⟩ := hW2.ro (aC := aC) (by decide) (haC 0 _ (by decide))
  obtain ⟨lP, vP, rP⟩ := hP2.ro (aC := aC) (by decide) (haC 1 _ (by decide))
  generalize hSd : (fun a => txT.any (fun q => a == sa q.1 + 1)) = isS
  have hSi : ∀ a, isS a = true ↔ ∃ q ∈ txT, a = sa q.1 + 1 := fun a => by rw [← hSd]; exact isS_iff
  have hSb : ¬ isS (b + 1) = true := by rw [← hSd]; exact hSb
  have hSw : ¬ isS (w + 1) = true := by rw [← hSd]; exact hSw
  have hSp : ¬ isS (pr + 1) = true := by rw [← hSd]; exact hSp
  have eK : ∀ a, hK (st0 s.heap (D.2 191 0) isS b w pr) a = if isS a = true then 191 else if a = b + 1 ∨ a = w + 1 then 11 else if a = pr + 1 then 13 else 0 := fun _ => rfl
  have el : ∀ a, hl (st0 s.heap (D.2 191 0) isS b w pr) a = rdL (rdX s.heap (D.2 191 0) isS a) := fun _ => rfl
  have eA : ∀ a i, hA (st0 s.heap (D.2 191 0) isS b w pr) a i = rdV (rdX s.heap (D.2 191 0) isS a) i := fun _ _ => rfl
  have ez : hz (st0 s.heap (D.2 191 0) isS b w pr) = s.heap.size + 1 := rfl
  have xB : rdX s.heap (D.2 191 0) isS (b + 1) = cB := by unfold rdX; rw [if_neg hSb]; exact rdC_of hB
  have xW : rdX s.heap (D.2 191 0) isS (w + 1) = cW := by unfold rdX; rw [if_neg hSw]; exact rdC_of hW
  have xP : rdX s.heap (D.2 191 0) isS (pr + 1) = cP := by unfold rdX; rw [if_neg hSp]; exact rdC_of hP
  have kB : hK (st0 s.heap (D.2 191 0) isS b w pr) (b + 1) = 11 := by rw [eK, if_neg hSb, if_pos (Or.inl rfl)]
  have kW : hK (st0 s.heap (D.2 191 0) isS b w pr) (w + 1) = 11 := by rw [eK, if_neg hSw, if_pos (Or.inr rfl)]
  have kP : hK (st0 s.heap (D.2 191 0) isS b w pr) (pr + 1) = 13 := by rw [eK, if_neg hSp, if_neg (by omega), if_pos rfl]
  have bB := (Array.getElem?_eq_some_iff.mp hB).1
  have bW := (Array.getElem?_eq_some_iff.mp hW).1
  have bP := (Array.getElem?_eq_some_iff.mp hP).1
  have str : ∀ q ∈ txT, ∃ cell vv cV, s.heap[sa q.1]? = some cell ∧ okV cell.vm ∧ cell.cls = D.1 191 ∧ cell.slots[D.2 191 0]? = some (.ref vv) ∧ cell.slots[D.2 191 1]? = some (.int 0) ∧ s.heap[vv]? = some cV ∧ rdX s.heap (D.2 191 0) isS (sa q.1 + 1) = cV ∧ rdL cV = q.2.2.length ∧ (∀ i, i < q.2.2.length → rdV cV i = (q.2.2.getD i 0).toInt) ∧ roA aC 1 (rdL cV) (fun i => .int (Int32.ofInt (rdV cV i))) cV := by
    intro q hq
    obtain ⟨-, cell, vv, cV, h1, h2, h3, h4, h5, h6, h7⟩ := hsa q hq
    obtain ⟨a1, a2, a3⟩ := h7.ro (aC := aC) (by have := (txT_ok q hq).2.1; omega) (haC 1 _ (by decide))
    refine ⟨cell, vv, cV, h1, h2, h3, h4, h5, h6, ?_, a1, a2, a3⟩
    unfold rdX
    have e1 : rdC s.heap (sa q.1 + 1 - 1) = cell := by rw [Nat.add_sub_cancel]; exact rdC_of h1
    have e2 : rdS (D.2 191 0) cell = vv := by unfold rdS; rw [h4]
    rw [if_pos ((hSi _).mpr ⟨q, hq, rfl⟩), e1, e2]
    exact rdC_of h6
  have cases4 : ∀ a, hK (st0 s.heap (D.2 191 0) isS b w pr) a ≠ 0 → (isS a = true ∧ hK (st0 s.heap (D.2 191 0) isS b w pr) a = 191) ∨ (a = b + 1 ∧ hK (st0 s.heap (D.2 191 0) isS b w pr) a = 11) ∨ (a = w + 1 ∧ hK (st0 s.heap (D.2 191 0) isS b w pr) a = 11) ∨ (a = pr + 1 ∧ hK (st0 s.heap (D.2 191 0) isS b w pr) a = 13) := by
    intro a ha
    by_cases h1 : isS a = true
    · exact Or.inl ⟨h1, by rw [eK, if_pos h1]⟩
    · by_cases h2 : a = b + 1
      · exact Or.inr (Or.inl ⟨h2, by rw [h2]; exact kB⟩)
      · by_cases h3 : a = w + 1
        · exact Or.inr (Or.inr (Or.inl ⟨h3, by rw [h3]; exact kW⟩))
        · by_cases h4 : a = pr + 1
          · exact Or.inr (Or.inr (Or.inr ⟨h4, by rw [h4]; exact kP⟩))
          · exfalso
            rw [eK, if_neg h1, if_neg (by omega), if_neg h4] at ha
            exact ha rfl
  have bound : ∀ a, hK (st0 s.heap (D.2 191 0) isS b w pr) a ≠ 0 → 0 < a ∧ a < hz (st0 s.heap (D.2 191 0) isS b w pr) := by
    intro a ha
    rw [ez]
    rcases cases4 a ha with ⟨h1, -⟩ | ⟨h1, -⟩ | ⟨h1, -⟩ | ⟨h1, -⟩
    · obtain ⟨q, hq, e⟩ := (hSi a).mp h1
      obtain ⟨cell, vv, cV, g1, -⟩ := str q hq
      have := (Array.getElem?_eq_some_iff.mp g1).1
      omega
    · omega
    · omega
    · omega
  refine ⟨⟨⟨rfl, Nat.le_refl _, hE⟩, bound, ?_, fun _ _ => rfl, ?_, ?_, ?_⟩, ?_, ?_, ?_, ?_, hL, bound, rfl⟩
  · intro a cell hcell
    by_cases h0 : hK (st0 s.heap (D.2 191 0) isS b w pr) (a + 1) = 0
    · unfold cellOf; rw [if_pos (Or.inl h0)]; trivial
    · rcases cases4 _ h0 with ⟨h1, h2⟩ | ⟨h1, h2⟩ | ⟨h1, h2⟩ | ⟨h1, h2⟩
      · obtain ⟨q, hq, e⟩ := (hSi _).mp h1
        obtain ⟨cl, vv, cV, g1, g2, g3, -⟩ := str q hq
        have : sa q.1 = a := by omega
        rw [this] at g1
        cases hcell.symm.trans g1
        unfold cellOf
        rw [h2, if_neg (by decide), if_neg (by decide), if_neg (by decide), if_pos (Or.inr rfl)]
        exact ⟨g3, g2, fun z => absurd z (by decide)⟩
      · obtain rfl : a = b := by omega
        cases hcell.symm.trans hB
        unfold cellOf
        rw [h2, if_neg (by decide), if_pos (by decide), el, xB]
        refine ⟨Or.inr ⟨by decide, ?_⟩, fun i hi => ?_, by rw [lB]; omega⟩
        · simp only [eA, xB]; exact rB
        · rw [eA, xB, vB i (by rw [← lB]; exact hi)]
          exact in32_t _
      · obtain rfl : a = w := by omega
        cases hcell.symm.trans hW
        unfold cellOf
        rw [h2, if_neg (by decide), if_pos (by decide), el, xW]
        refine ⟨Or.inr ⟨by decide, ?_⟩, fun i hi => ?_, by rw [lW]; decide⟩
        · simp only [eA, xW]; exact rW
        · rw [eA, xW, vW i (by rw [← lW]; exact hi)]
          exact in32_t _
      · obtain rfl : a = pr := by omega
        cases hcell.symm.trans hP
        unfold cellOf
        rw [h2, if_neg (by decide), if_pos (by decide), el, xP]
        refine ⟨Or.inr ⟨by decide, ?_⟩, fun i hi => ?_, by rw [lP]; decide⟩
        · simp only [eA, xP]; exact rP
        · rw [eA, xP, vP i (by rw [← lP]; exact hi)]
          exact proto_ok i (by rw [← lP]; exact hi)
  · intro a ha
    exfalso
    by_cases h0 : hK (st0 s.heap (D.2 191 0) isS b w pr) a = 0
    · rw [h0] at ha; cases ha
    · rcases cases4 a h0 with ⟨h1, h2⟩ | ⟨h1, h2⟩ | ⟨h1, h2⟩ | ⟨h1, h2⟩ <;> (rw [h2] at ha; cases ha)
  · intro a ha
    exfalso
    rcases cases4 a (by rw [ha]; decide) with ⟨h1, h2⟩ | ⟨h1, h2⟩ | ⟨h1, h2⟩ | ⟨h1, h2⟩ <;> (rw [h2] at ha; cases ha)
  · intro a ha
    rcases cases4 a (by rw [ha]; decide) with ⟨h1, -⟩ | ⟨-, h2⟩ | ⟨-, h2⟩ | ⟨-, h2⟩
    · obtain ⟨q, hq, rfl⟩ := (hSi a).mp h1
      obtain ⟨cl, vv, cV, g1, g2, g3, g4, g5, g6, g7, g8, g9, g10⟩ := str q hq
      refine ⟨⟨cl, vv, by rw [Nat.add_sub_cancel]; exact g1, g4, g5, ⟨cV, g6, ?_⟩, by rw [el, g7, g8]; exact (txT_ok q hq).2.1, fun i hi => ?_⟩, fun c2 v2 k1 k2 => ?_⟩
      · rw [el, g7]
        simp only [eA, g7]; exact g10
      · rw [el, g7, g8] at hi
        rw [eA, g7, g9 i hi]
        exact (txT_ok q hq).2.2 i hi
      · rw [Nat.add_sub_cancel] at k1
        cases g1.symm.trans k1
        rw [g4] at k2
        cases k2
        exact (Array.getElem?_eq_some_iff.mp g6).1
    · rw [ha] at h2; cases h2
    · rw [ha] at h2; cases h2
    · rw [ha] at h2; cases h2
  · intro q hq
    obtain ⟨cl, vv, cV, g1, g2, g3, g4, g5, g6, g7, g8, g9, g10⟩ := str q hq
    rw [hρ _ (txT_ok q hq).1]
    refine ⟨by rw [eK, if_pos ((hSi _).mpr ⟨q, hq, rfl⟩)], by rw [el, g7, g8], fun i hi => by rw [eA, g7, g9 i hi]⟩
  · rw [hρ0]
    exact ⟨kW, by rw [el, xW, lW], fun i hi => by rw [eA, xW, vW i hi]⟩
  · rw [hρ1]
    exact ⟨kP, by rw [el, xP, lP], fun i hi => by rw [eA, xP, vP i hi]⟩
  · refine ⟨kB, by rw [el, xB, lB], fun i hi => ⟨by rw [eA, xB, vB i hi], ?_⟩⟩
    exact in32_t _
end
