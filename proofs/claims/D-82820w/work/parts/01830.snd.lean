/-! SOUNDNESS, instruction by instruction -/
def ownT : List String := ["LinkedTongueLaw", "LinkedTongue"]
def FOK (ow : String) (idx f : Nat) : Prop := ∃ ref dc nm ds fin, fInf f = (dc, nm, ds, fin) ∧ ((Cond.fieldLink ow idx ref nm ds ∈ lw_all) ∨ ∃ host, Cond.fieldLinkNest ow idx ref nm ds host ∈ lw_tbl) ∧ (ref = dc ∨ Cond.sameField ref dc nm ds ∈ lw_all)
def fchk (f : Nat) : Bool := !(f == 0) && (fldf f).2.all (fun k => clsT.any (fun q => q.1 == k && q.2.2.2.2.2.elem f))
theorem clsT_kinds : ∀ q ∈ clsT, (q.1 = 190 ∧ ∀ f ∈ q.2.2.2.2.2, f = 0) ∨ 192 ≤ q.1 := by
  have h : clsT.all (fun q => (q.1 == 190 && q.2.2.2.2.2.all (fun f => f == 0)) || Nat.ble 192 q.1) = true := by decide +kernel
  intro q hq
  have := List.all_eq_true.mp h q hq
  simp only [Bool.or_eq_true, Bool.and_eq_true, beq_iff_eq, List.all_eq_true, Nat.ble_eq] at this
  exact this
theorem clsT_pw : clsT.Pairwise (fun a b => a.1 ≠ b.1) := by decide +kernel
theorem clsT_inj : ∀ q ∈ clsT, ∀ q' ∈ clsT, q.1 = q'.1 → q = q' := by
  have gen : ∀ l : List CR, l.Pairwise (fun a b => a.1 ≠ b.1) → ∀ q ∈ l, ∀ q' ∈ l, q.1 = q'.1 → q = q' := by
    intro l
    induction l with
    | nil => intro _ q hq; cases hq
    | cons a r ih =>
      intro hp q hq q' hq' e
      obtain ⟨h1, h2⟩ := List.pairwise_cons.mp hp
      rcases List.mem_cons.mp hq with rfl | hqr
      · rcases List.mem_cons.mp hq' with rfl | hq'
        · rfl
        · exact absurd e (h1 _ hq')
      · rcases List.mem_cons.mp hq' with hz' | hq'
        · subst hz'; exact absurd e.symm (h1 _ hqr)
        · exact ih h2 q hqr q' hq' e
  exact gen _ clsT_pw
theorem fchk_at {f k : Nat} (h : fchk f = true) (hk : k ∈ (fldf f).2) : f ≠ 0 ∧ ∃ q ∈ clsT, q.1 = k ∧ 192 ≤ k ∧ ∃ j, j < q.2.2.2.1 ∧ q.2.2.2.2.2.getD j 0 = f := by
  unfold fchk at h
  simp only [Bool.and_eq_true, Bool.not_eq_true', beq_eq_false_iff_ne, List.all_eq_true, List.any_eq_true, beq_iff_eq] at h
  obtain ⟨h0, h1⟩ := h
  refine ⟨h0, ?_⟩
  obtain ⟨q, hq, hqk, hf⟩ := h1 k hk
  have hf : f ∈ q.2.2.2.2.2 := by simpa using hf
  have hkk : 192 ≤ k := by
    rcases clsT_kinds q hq with ⟨h1, h2⟩ | h1
    · exact absurd (h2 f hf) h0
    · omega
  refine ⟨q, hq, hqk, hkk, ?_⟩
  have hc := clsT_chk q hq
  unfold clsChk at hc
  simp only [Bool.and_eq_true, beq_iff_eq] at hc
  obtain ⟨j, hj, e⟩ := List.getElem_of_mem hf
  exact ⟨j, by rw [← hc.1]; exact hj, by rw [List.getD_eq_getElem?_getD, List.getElem?_eq_getElem hj]; exact e⟩
theorem cls_field {q : CR} (hq : q ∈ clsT) {j : Nat} (hj : j < q.2.2.2.1) (hf : q.2.2.2.2.2.getD j 0 ≠ 0) : tyc (q.2.2.2.2.1 j) = (q.2.2.2.2.2.getD j 0) % 8 ∧ q.2.2.1 j = fInf (q.2.2.2.2.2.getD j 0) := by
  have hc := clsT_chk q hq
  unfold clsChk at hc
  simp only [Bool.and_eq_true, List.all_eq_true, List.mem_range, Bool.or_eq_true, beq_iff_eq, decide_eq_true_eq] at hc
  rcases hc.2 j hj with h | h
  · exact absurd h hf
  · exact h
/-- the words that hold: of the tables, and that some classes are not others -/
def ewL : List Cond := lw_tbl
def ew_ok (w : Cond) : Bool := match w with
  | .fieldLinkNest .. => true
  | .methodLinkNest .. => true
  | .declares _ => true
  | .castable .. => true
  | .privateMethod _ => true
  | .arrayClass _ => true
  | .arrayOver (.object _) => true
  | w => w.onTables && w.keeps
def EW (U : State) : Prop := ∀ w ∈ ewL, ew_ok w = true → ∀ A, w.before A U = true
theorem EW.warm {s U : State} (hW : s.WarmedH U.vm) (h : EW s) : EW U := by
  intro w hw hok A
  have h1 := h w hw hok
  by_cases hg : (w.onTables && w.keeps) = true
  · exact word_at hW (Or.inl hg) (h1 #[])
  · cases w with
    | fieldLinkNest => exact va_Nw.use rfl (va_Nw.warmF hW (va_Nw.of rfl (h1 #[])))
    | methodLinkNest => exact va_Nw.use rfl (va_Nw.warmM hW (va_Nw.of rfl (h1 #[])))
    | declares => exact va_Nw.use rfl (va_Nw.warmD hW (va_Nw.of rfl (h1 #[])))
    | castable => exact va_Nw.use rfl (va_Nw.warmC hW (va_Nw.of rfl (h1 #[])))
    | privateMethod x => exact va_tabs rfl (rfl : (s.setVm U.vm).vm = U.vm) (by rw [Cond.privateMethod_setVm hW.alike]; exact h1 #[])
    | arrayClass ty => exact word_at hW (Or.inr ⟨ty, rfl⟩) (h1 #[])
    | arrayOver t =>
      cases t with
      | object C => exact va_AO.use (va_AO.moved hW.alike (va_AO.of (h1 #[])))
      | _ => exact absurd (by simpa [ew_ok] using hok) hg
    | _ => exact absurd (by simpa [ew_ok] using hok) hg
theorem EW.all {U : State} (h : EW U) {w : Cond} (hw : w ∈ lw_all) {A : Array Value} : w.before A U = true := by
  obtain ⟨h1, h2⟩ := List.mem_filter.mp hw
  refine h w h1 ?_ A
  rcases good_of_word h2 with g | ⟨ty, rfl⟩
  · unfold ew_ok
    split <;> first | rfl | exact g
  · rfl
theorem nf_val {ty : FieldType} {ft : Nat} {v : AV} (ht : tyc ty = ft) {h : ah} {f a : Nat} {F : ah → Prop} (hp : putv ft v h f a F) (hv : can v) : narrow ty (cv v) = cv v ∧ fits ty (cv v) = true := by
  subst ht
  cases ty with
  | int =>
    match v, hp with
    | Sum.inl x, _ => exact ⟨rfl, rfl⟩
  | long =>
    match v, hp with
    | Sum.inr (Sum.inl x), _ => exact ⟨rfl, rfl⟩
  | byte =>
    match v, hp with
    | Sum.inl x, hp =>
      obtain ⟨⟨h1, h2⟩, -⟩ := hp
      have hx : in32 x := ⟨by omega, by omega⟩
      have e : (Int32.ofInt x).toInt8.toInt32 = Int32.ofInt x := by
        apply Int32.toInt_inj.mp
        rw [Int8.toInt_toInt32, Int32.toInt_toInt8, i32_of hx]
        simp only [Int.bmod]
        omega
      refine ⟨by show Value.int _ = Value.int _; rw [e], ?_⟩
      show (decide (-128 ≤ Int32.ofInt x) && decide (Int32.ofInt x ≤ 127)) = true
      have a1 : (-128 : Int32) ≤ Int32.ofInt x := by rw [Int32.le_iff_toInt_le, i32_of hx]; exact h1
      have a2 : Int32.ofInt x ≤ 127 := by rw [Int32.le_iff_toInt_le, i32_of hx]; exact h2
      simp [a1, a2]
  | boolean =>
    match v, hp with
    | Sum.inl x, hp =>
      obtain ⟨h1, -⟩ := hp
      rcases h1 with rfl | rfl
      · exact ⟨by decide, by decide⟩
      · exact ⟨by decide, by decide⟩
  | object n =>
    match v, hp with
    | Sum.inr (Sum.inr 0), _ => exact ⟨rfl, rfl⟩
    | Sum.inr (Sum.inr (a + 1)), _ => exact ⟨rfl, rfl⟩
  | array n =>
    match v, hp with
    | Sum.inr (Sum.inr 0), _ => exact ⟨rfl, rfl⟩
    | Sum.inr (Sum.inr (a + 1)), _ => exact ⟨rfl, rfl⟩
  | _ => simp [tyc, putv] at hp
/-- what was put is what is there -/
theorem put_val {ft : Nat} {v : AV} {h : ah} {f a : Nat} {F : ah → Prop} (hf : f % 8 = ft) (hp : putv ft v h f a F) (hv : can v) : ∃ h1, F h1 ∧ hz h1 = hz h ∧ hs h1 = hs h ∧ (∀ b, hK h1 b = hK h b) ∧ (∀ b, b ≠ a → sameAt h h1 b) ∧ fval h1 f a = cv v ∧ fcan h1 f a ∧ ∀ f', f' ≠ f → fval h1 f' a = fval h f' a ∧ (fcan h f' a → fcan h1 f' a) := by
  have hneI : ∀ (x : Int) (f' : Nat), f' ≠ f → hI (sI h f a x) f' a = hI h f' a := fun x f' n => if_neg (fun z => n z.1)
  have hneR : ∀ (x f' : Nat), f' ≠ f → hR (sR h f a x) f' a = hR h f' a := fun x f' n => if_neg (fun z => n z.1)
  have hsI : ∀ x : Int, hI (sI h f a x) f a = x := fun x => if_pos ⟨rfl, rfl⟩
  have hsR : ∀ x : Nat, hR (sR h f a x) f a = x := fun x => if_pos ⟨rfl, rfl⟩
  have oI : ∀ (x : Int) (f' : Nat), f' ≠ f → fval (sI h f a x) f' a = fval h f' a ∧ (fcan h f' a → fcan (sI h f a x) f' a) := by
    intro x f' n
    have e := hneI x f' n
    have e2 : hR (sI h f a x) f' a = hR h f' a := rfl
    unfold fval fcan
    rw [e, e2]
    exact ⟨rfl, fun z => z⟩
  match ft, v, hp with
  | 0, Sum.inl x, hp => exact ⟨_, hp, rfl, rfl, fun _ => rfl, fun b hb => sI_same h f a x hb, by simp [fval, hf, hsI, cv], by simp only [fcan, hf, hsI]; exact hv, oI x⟩
  | 1, Sum.inl x, hp => exact ⟨_, hp.2, rfl, rfl, fun _ => rfl, fun b hb => sI_same h f a x hb, by simp [fval, hf, hsI, cv], by simp only [fcan, hf, hsI]; exact hp.1, oI x⟩
  | 2, Sum.inl x, hp => exact ⟨_, hp.2, rfl, rfl, fun _ => rfl, fun b hb => sI_same h f a x hb, by simp [fval, hf, hsI, cv], by simp only [fcan, hf, hsI]; exact hp.1, oI x⟩
  | 3, Sum.inr (Sum.inl x), hp => exact ⟨_, hp, rfl, rfl, fun _ => rfl, fun b hb => sI_same h f a x hb, by simp [fval, hf, hsI, cv], by simp only [fcan, hf, hsI]; exact hv, oI x⟩
  | 4, Sum.inr (Sum.inr x), hp =>
    refine ⟨_, hp, rfl, rfl, fun _ => rfl, fun b hb => sR_same h f a x hb, by simp [fval, hf, hsR], by simp [fcan, hf], fun f' n => ?_⟩
    have e := hneR x f' n
    have e2 : hI (sR h f a x) f' a = hI h f' a := rfl
    unfold fval fcan
    rw [e, e2]
    exact ⟨rfl, fun z => z⟩
theorem getv_val {h : ah} {f a : Nat} (hc : fcan h f a) : fval h f a = cv (getv (f % 8) h f a) ∧ can (getv (f % 8) h f a) := by
  unfold fval getv fcan at *
  by_cases h4 : f % 8 = 4
  · simp [h4, can]
  · by_cases h3 : f % 8 = 3
    · simp [h3] at hc ⊢; exact ⟨rfl, hc⟩
    · rw [if_neg h4, if_neg h3]
      rw [if_neg h4, if_neg h3] at hc
      have hi : in32 (hI h f a) := by
        split at hc
        · rcases hc with hc | hc <;> rw [hc] <;> exact ⟨by decide, by decide⟩
        · split at hc
          · exact ⟨by omega, by omega⟩
          · exact hc
      split
      · exact absurd (by assumption) h4
      · exact absurd (by assumption) h3
      · exact ⟨rfl, hi⟩
section
variable {p : Program} {l : Launch} {e : Env} {R : Room} {s : State} {m : MethodId} {args : Array Value} {below : List Frame} {meth : Method} {c : Code} {H : Heap} {locs : List Loc} {cells slots : Nat} {Q : State → Prop}
variable {cc : ByteArray} {pc : Nat} {ls : Array Slot} {rest : List Value} {D : va_G} {aC : Nat → ClassId} {B0 : Nat} {H0 : Heap} {eE : Nat} {h : ah}
theorem objCell (r : Rep D aC B0 H0 eE h H) {a : Nat} {q : CR} (hq : q ∈ clsT) (hk : hK h a = q.1) (hk2 : 192 ≤ q.1) : ∃ x cell, a = x + 1 ∧ H[x]? = some cell ∧ cell.cls = D.1 q.1 ∧ cell.vm = .none ∧ ∀ j, j < q.2.2.2.1 → q.2.2.2.2.2.getD j 0 ≠ 0 → cell.slots[D.2 q.1 j]? = some (fval h (q.2.2.2.2.2.getD j 0) a) ∧ fcan h (q.2.2.2.2.2.getD j 0) a := by
  obtain ⟨x, cell, rfl, h1, h2⟩ := r.cell (a := a) (by omega)
  unfold cellOf at h2
  rw [hk, if_neg (by omega), if_neg (by omega), if_neg (by omega), if_neg (by omega)] at h2
  obtain ⟨q', hq', e1, c1, c2, -, c3⟩ := h2
  cases clsT_inj q' hq' q hq e1
  exact ⟨x, cell, rfl, h1, c1, c2, c3⟩
theorem objTh (r : Rep D aC B0 H0 eE h H) {x : Nat} {cell : Cell} (hcell : H[x]? = some cell) (hk2 : 192 ≤ hK h (x + 1)) (ht : thK (hK h (x + 1)) = true) : thC D (hK h (x + 1)) cell := by
  have h2 := r.2.2.1 x cell hcell
  unfold cellOf at h2
  rw [if_neg (by omega), if_neg (by omega), if_neg (by omega), if_neg (by omega)] at h2
  obtain ⟨q', hq', e1, c1, c2, h3, -⟩ := h2
  exact h3 ht
theorem clsT_th : ∀ q ∈ clsT, thK q.1 = true → 6 ≤ q.2.2.2.1 ∧ defaultValue (q.2.2.2.2.1 4) = .null ∧ ∀ i, i < 6 → q.2.2.2.2.2.getD i 0 = 0 := by
  have h : clsT.all (fun q => !thK q.1 || (Nat.ble 6 q.2.2.2.1 && (match defaultValue (q.2.2.2.2.1 4) with | .null => true | _ => false) && (List.range 6).all (fun i => q.2.2.2.2.2.getD i 0 == 0))) = true := by decide +kernel
  intro q hq ht
  have := List.all_eq_true.mp h q hq
  simp only [ht, Bool.not_true, Bool.false_or, Bool.and_eq_true, List.all_eq_true, List.mem_range, beq_iff_eq] at this
  obtain ⟨⟨a1, a2⟩, a3⟩ := this
  refine ⟨Nat.le_of_ble_eq_true a1, ?_, a3⟩
  split at a2
  · assumption
  · cases a2
theorem sn_get (hexec : p.tables.exec = Jvm.exec) (hb : c.code = cc) {ow : String} (hE : EW s) (hKn : EK D aC s) (hown : s.vm.findClass ow = some m.cls) (r : Rep D aC B0 H0 eE h H) {a f idx : Nat} (hch : fchk f = true) (hF : FOK ow idx f) (hk : hK h a ∈ (fldf f).2) (hdg : decode cc pc = .ok (.getfield idx, 3))
    (kk : can (getv (f % 8) h f a) → W p l e R s m args below meth c H locs cells slots Q (F0 m (pc + 3) ls (cv (getv (f % 8) h f a) :: rest))) : W p l e R s m args below meth c H locs cells slots Q (F0 m pc ls (cv (vR a) :: rest)) := by
  obtain ⟨h0, q, hq, hqk, hkk, j, hj, hjf⟩ := fchk_at hch hk
  obtain ⟨x, cell, rfl, hcell, c1, c2, c3⟩ := objCell r hq hqk.symm (by omega)
  obtain ⟨s1, s2⟩ := c3 j hj (by rw [hjf]; exact h0)
  rw [hjf] at s1 s2
  obtain ⟨-, hT⟩ := cls_field hq hj (by rw [hjf]; exact h0)
  rw [hjf] at hT
  obtain ⟨g1, g2⟩ := getv_val s2
  obtain ⟨ref, dc, nm, ds, fin, ef, hlink, hsame⟩ := hF
  obtain ⟨hS, hfc, kC, hkC, hkind⟩ := hKn.1 q hq
  obtain ⟨cf, kf, fi, fd, hi, hsl⟩ := hS j hj
  have hst := (u_facts (args := args) hfc hkC (u_lays (ws := lw_all) (fun w hw => hE.all hw) (clsT_ok q hq).1 hj) hi).1
  rw [hT, ef] at hi
  have hi' : s.fieldFound? ref nm ds = some (cf, kf, fi, fd) := by
    rcases hsame with rfl | hsame
    · exact hi
    · exact u_same (hE.all hsame (A := args)) _ hi
  have hv : cell.slots[fd.slot]? = some (cv (getv (f % 8) h f (x + 1))) := by rw [hsl, s1, g1]
  rcases hlink with hlink | ⟨host, hlink⟩
  · exact W.getf hexec hb hown (hE.all hlink) hi' hst hcell (by rw [c2]; exact fun h => by cases h) hv rfl rfl hdg (kk g2)
  · exact va_Wgetf hexec hb hown (hE _ hlink rfl args) hi' hst hcell (by rw [c2]; exact fun h => by cases h) hv rfl rfl hdg (kk g2)
/-- what a put asks of its place: the field is not final, or this is its own class's constructor -/
def PUTOK (ow : String) (f : Nat) (init plain : Bool) : Prop := (fInf f).2.2.2 = false ∨ ((fInf f).2.2.2 = true ∧ init = true ∧ (fInf f).1 = ow ∧ plain = true)
def FOKP (ow : String) (idx f : Nat) : Prop := ∃ ref dc nm ds fin, fInf f = (dc, nm, ds, fin) ∧ (Cond.fieldLink ow idx ref nm ds ∈ lw_all) ∧ (ref = dc ∨ Cond.sameField ref dc nm ds ∈ lw_all)
theorem sn_put (hexec : p.tables.exec = Jvm.exec) (hb : c.code = cc) {ow : String} (hE : EW s) (hKn : EK D aC s) (hown : s.vm.findClass ow = some m.cls) (r : Rep D aC B0 H0 eE h H) {a f idx : Nat} {v : AV} (hch : fchk f = true) (hF : FOK ow idx f) (hfin : (fInf f).2.2.2 = false ∨ ((fInf f).2.2.2 = true ∧ meth.name = "<init>" ∧ (fInf f).1 = ow ∧ FOKP ow idx f)) (hk : hK h a ∈ (fldf f).2) {F : ah → Prop} (hp : putv (f % 8) v h f a F) (hcv : can v) (hdg : decode cc pc = .ok (.putfield idx, 3))
    (kk : ∀ (h1 : ah) (H1 : Heap) (locs1 : List Loc), F h1 → hz h1 = hz h → hs h1 = hs h → Rep D aC B0 H0 eE h1 H1 → (∀ q ∈ locs1, q ∈ locs ∨ B0 ≤ q.base) → W p l e R s m args below meth c H1 locs1 cells slots Q (F0 m (pc + 3) ls rest)) : W p l e R s m args below meth c H locs cells slots Q (F0 m pc ls (cv v :: cv (vR a) :: rest)) := by
  obtain ⟨h0, q, hq, hqk, hkk, j, hj, hjf⟩ := fchk_at hch hk
  obtain ⟨x, cell, rfl, hcell, c1, c2, c3⟩ := objCell r hq hqk.symm (by omega)
  have c3' := c3
  obtain ⟨s1, s2⟩ := c3 j hj (by rw [hjf]; exact h0)
  rw [hjf] at s1 s2
  obtain ⟨hty, hT⟩ := cls_field hq hj (by rw [hjf]; exact h0)
  rw [hjf] at hT hty
  obtain ⟨hn, hfit⟩ := nf_val hty hp hcv
  obtain ⟨h1, f1, f2, f3, f4, f5, f6, f7, f8⟩ := put_val rfl hp hcv
  obtain ⟨ref, dc, nm, ds, fin, ef, hlink, hsame⟩ := hF
  obtain ⟨hS, hfc, kC, hkC, hkind⟩ := hKn.1 q hq
  obtain ⟨k1, k2, k3⟩ := clsT_ok q hq
  obtain ⟨cf, kf, fi, fd, hi, hsl⟩ := hS j hj
  have hlays := u_lays (args := args) (ws := lw_all) (fun w hw => hE.all hw) k1 hj
  have hst := (u_facts (args := args) hfc hkC hlays hi).1
  have hd : parseFieldDescriptor (q.2.2.1 j).2.2.1 = some (q.2.2.2.2.1 j) := k3 j hj
  have hlay := hE.all (A := args) (k1 _ (u_in_lay hj))
  unfold u_lay at hlay
  have hi0 := hi
  rw [hT, ef] at hi
  have hi' : s.fieldFound? ref nm ds = some (cf, kf, fi, fd) := by
    rcases hsame with rfl | hsame
    · exact hi
    · exact u_same (hE.all hsame (A := args)) _ hi
  have hap : ∀ i, i < q.2.2.2.1 → i ≠ j → D.2 q.1 i ≠ D.2 q.1 j := by
    intro i hii hne
    obtain ⟨_, _, _, fa, hia, ea⟩ := hS i hii
    rw [← ea, ← hsl]
    refine u_apart (u_lays (args := args) (ws := lw_all) (fun w hw => hE.all hw) k1 hii) hlays hia hi0 ?_
    rw [(State.fieldFound?_type hia (k3 i hii)).1, (State.fieldFound?_type hi0 hd).1]
    exact k2 i hii j hj hne
  have hfne : ∀ i, i < q.2.2.2.1 → i ≠ j → q.2.2.2.2.2.getD i 0 ≠ 0 → q.2.2.2.2.2.getD i 0 ≠ f := by
    intro i hii hne hz0 e9
    have := (cls_field hq hii hz0).2
    rw [e9, ← hT] at this
    exact k2 i hii j hj hne (by rw [this])
  have hw : rwK (hK h (x + 1)) = true := by
    have : 192 ≤ hK h (x + 1) := hkk
    unfold rwK
    simp only [Bool.not_eq_true', Bool.or_eq_false_iff, beq_eq_false_iff_ne]
    omega
  have fin' : ∀ (H' : Heap) (locs' : List Loc), locs' = locs ++ [⟨x, fd.slot⟩] → H'[x]? = some (cell.setSlot fd.slot (cv v)) → H'.size = H.size → (∀ z, z ≠ x → H'[z]? = H[z]?) → W p l e R s m args below meth c H' locs' cells slots Q (F0 m (pc + 3) ls rest) := by
    intro H' locs' el e1 e2 e3
    refine kk h1 H' locs' f1 f2 f3 (r.upd hw (by omega) (by omega) e1 e2 e3 f2 f4 f5 ?_) ?_
    · have hkq : hK h (x + 1) = q.1 := hqk.symm
      unfold cellOf
      rw [if_neg (by omega), if_neg (by omega), if_neg (by omega), if_neg (by omega)]
      refine ⟨q, hq, hqk, by rw [hkq]; exact c1, c2, fun ht => ?_, fun i hii hz0 => ?_⟩
      · obtain ⟨t1, t2, t3, t4⟩ := objTh r hcell hkk ht
        rw [hkq] at t1 t2 ht ⊢
        obtain ⟨th1, -, th3⟩ := clsT_th q hq ht
        have hj4 : (4 : Nat) ≠ j := fun z => h0 (by rw [← hjf, ← z]; exact th3 4 (by decide))
        refine ⟨fun i hi => ?_, ?_, t3, t4⟩
        · obtain ⟨w, hw9⟩ := t1 i hi
          by_cases he : fd.slot = D.2 q.1 i
          · refine ⟨cv v, ?_⟩
            have hlt := k2_hasslot hw9
            rw [he]; simp [Cell.setSlot, hlt]
          · exact ⟨w, by rw [← hw9]; simp [Cell.setSlot, Array.getElem?_setIfInBounds, he]⟩
        · rw [← t2]
          have := hap 4 (by omega) hj4
          simp [Cell.setSlot, Array.getElem?_setIfInBounds, hsl, Ne.symm this]
      rw [hkq, hsl]
      by_cases hij : i = j
      · subst hij
        rw [hjf]
        refine ⟨?_, f7⟩
        rw [f6]
        have hlt := k2_hasslot s1
        simp [Cell.setSlot, hlt]
      · obtain ⟨t1, t2⟩ := c3' i hii hz0
        obtain ⟨u1, u2⟩ := f8 _ (hfne i hii hij hz0)
        refine ⟨?_, u2 t2⟩
        rw [u1, ← t1]
        simp [Cell.setSlot, Array.getElem?_setIfInBounds, Ne.symm (hap i hii hij)]
    · intro z hz9
      rw [el] at hz9
      rcases List.mem_append.mp hz9 with hz9 | hz9
      · exact Or.inl hz9
      · right
        cases List.mem_singleton.mp hz9
        have := r.2.2.2.2.1 _ hw
        show B0 ≤ x
        omega
  rcases hfin with hfin | ⟨hfin, hinit, hdecl, hFP⟩
  · rw [hT, if_neg (by rw [hfin]; decide)] at hlay
    have h6 := u_store hfc hkC hkind hlay (by rw [hT] at hi0; exact hi0) (by rw [hT] at hd; exact hd) hn hfit
    rcases hlink with hlink | ⟨host, hlink⟩
    · exact W.putK hexec hb (f := fd) ⟨hown, hE.all hlink, ⟨_, _, _, hi'⟩, hst⟩ (by rw [c1]; exact h6) hcell c2 (by rw [hsl]; exact k2_hasslot s1) rfl rfl hdg fun H' e1 e2 e3 => fin' H' _ rfl e1 e2 e3
    · exact va_WputK hexec hb (f := fd) hown (hE _ hlink rfl args) hi' hst (by rw [c1]; exact h6) hcell c2 (by rw [hsl]; exact k2_hasslot s1) rfl rfl hdg fun H' e1 e2 e3 => fin' H' _ rfl e1 e2 e3
  · rw [hT, if_pos hfin] at hlay
    obtain ⟨ref2, dc2, nm2, ds2, fin2, ef2, hlink2, hsame2⟩ := hFP
    have he : (dc, nm, ds, fin) = (dc2, nm2, ds2, fin2) := ef.symm.trans ef2
    cases he
    have hi2 : s.fieldFound? ref2 nm ds = some (cf, kf, fi, fd) := by
      rcases hsame2 with rfl | hsame2
      · exact hi
      · exact u_same (hE.all hsame2 (A := args)) _ hi
    have hcf : m.cls = cf := by
      obtain ⟨_, _, c', _, _, _, -, -, hf', -, -, -, hown2, -⟩ := Cond.laysFinal_spec hlay
      have e1 : c' = cf := by rw [hT] at hi0; have := hi0.symm.trans hf'; simp at this; exact this.1.symm
      rw [hdecl] at hown2
      rw [← e1]; exact Option.some.inj (hown.symm.trans hown2)
    have h6 := u_fits hfc hkC hkind (Or.inr hlay) (by rw [hT] at hi0; exact hi0) (by rw [hT] at hd; exact hd) hn hfit
    exact W.putFinK hexec hb hown (hE.all hlink2) hi2 hst hcf hinit (by rw [c1]; exact h6) hcell c2 (by rw [hsl]; exact k2_hasslot s1) rfl rfl hdg fun H' e1 e2 e3 => fin' H' _ rfl e1 e2 e3
end
