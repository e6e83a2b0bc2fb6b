/-! C's host: fields by name -/
set_option maxRecDepth 20000
section
variable {ρ : Nat → Nat} {d : Nat} {Q : QT} {h h' h1 h2 : ah} {ho k n m i j N M a b z s x y ca ph nw : Nat} {g : HG} {v p es lo sb st c : Int} {hw : List (List Int)} {L ts : List Int} {cs o : List Nat} {w : Nat → Bool} {F : Int → ah → Prop} {E : Nat → ah → Prop} {FR : Nat → ah → Prop}
theorem NMO.ix {l : List Int} (nd : hw.Nodup) (h1' : nw < hw.length) (h2' : hw.getD nw [] = L) (H : NMO hw l v) : v = (nw : Int) ↔ l = L := by
  obtain ⟨w, w1, w2, w3⟩ := H
  rw [w3]
  constructor
  · intro e
    have : w = nw := by omega
    rw [← w2, this, h2']
  · intro e
    have : w = nw := nd_getD nd w1 h1' (by rw [w2, h2', e])
    rw [this]
theorem c_fld1 (W2 : HMW g N M) (hi : i < N) (h1' : nw < hw.length) (h2' : hw.getD nw [] = L) (H : HCX ρ h ho g N M hw) (hd : 10 ≤ d) (q1 : ∀ m, (memG g i).find? (fbB g (-1) L) = some m → m < M → FR (hB h (ho + 3) m) h) (q0 : (memG g i).find? (fbB g (-1) L) = none → FR 0 h) : wpB PGm ρ d m_HostType_field 0 [(0, vR (hB h (ho + 2) i)), (1, vI (nw : Int))] [] h (cR FR E) := by
  have ml : (memG g i).length = (g.1 4 i).toNat := by unfold memG; simp
  have mg : ∀ k, k < (g.1 4 i).toNat → (memG g i).drop k = ((g.1 3 i).toNat + k) :: (memG g i).drop (k + 1) := fun k hk => by
    rw [List.drop_eq_getElem_cons (by omega)]
    congr 1
    unfold memG; simp
  obtain ⟨w1, w2, w3⟩ := W2 i hi
  have nd := H.mt.2.2.2.2.2
  have M4 := H.hh.2.2.2.2.2.2.2.2.2.2
  obtain ⟨⟨y1, -, -⟩, -, -, -, -, -, -, ⟨y2, y3, y4⟩, -⟩ := H.tp hi
  have lp : ∀ mm k, k + mm = (g.1 4 i).toNat → (memG g i).find? (fbB g (-1) L) = ((memG g i).drop k).find? (fbB g (-1) L) → wpB PGm ρ d m_HostType_field 2 [(0, vR (hB h (ho + 2) i)), (1, vI (nw : Int)), (2, vI (k : Int))] [] h (cR FR E) := fun mm => by
    induction mm with
    | zero =>
      intro k hk e
      rw [List.drop_eq_nil_of_le (by omega)] at e
      have ln : (hl h (hR h f_HostType_members (hB h (ho + 2) i)) : Int) ≤ (k : Int) ∧ ¬ (k : Int) < (hl h (hR h f_HostType_members (hB h (ho + 2) i)) : Int) := by omega
      exact b_HostType_field_2 hd ⟨y1, y2.1.1, y2.1, fun _ => q0 e, fun c => absurd c ln.2⟩
    | succ mm ih =>
      intro k hk e
      have kl : k < (g.1 4 i).toNat := by omega
      have mM : (g.1 3 i).toNat + k < M := by omega
      have ln : ¬ (hl h (hR h f_HostType_members (hB h (ho + 2) i)) : Int) ≤ (k : Int) ∧ 0 ≤ (k : Int) ∧ (k : Int) < (hl h (hR h f_HostType_members (hB h (ho + 2) i)) : Int) ∧ k ≤ 2000000000 := by omega
      obtain ⟨⟨m1, m2, m3⟩, -, m4, -, -, -, -, m5, -, m6, -, -, m7⟩ := H.me mM
      rw [mg k kl] at e
      have nxt : ¬ fbB g (-1) L ((g.1 3 i).toNat + k) = true → wpB PGm ρ d m_HostType_field 2 [(0, vR (hB h (ho + 2) i)), (1, vI (nw : Int)), (2, vI (w32 ((k : Int) + 1)))] [] h (cR FR E) := fun nf => by
        rw [w32_p1 ln.2.2.2]
        refine ih (k + 1) (by omega) ?_
        rw [e, List.find?_cons_of_neg nf]
      refine b_HostType_field_2 hd ⟨y1, y2.1.1, y2.1, fun c => absurd c ln.1, fun _ => ⟨y2.1.1, ⟨y2.1, ln.2.1, ln.2.2.1⟩, ?_⟩⟩
      rw [Int.toNat_natCast, y4 k (by omega)]
      refine ⟨Or.inr (by rw [m1]; decide), m1, ?_⟩
      rw [m4]
      refine ⟨fun c => nxt (fun z => c ?_), fun c0 => ⟨fun c => nxt (fun z => c ?_), fun c => ?_⟩⟩
      · unfold fbB at z
        simp only [Bool.and_eq_true, decide_eq_true_eq] at z
        exact z.1
      · unfold fbB at z
        simp only [Bool.and_eq_true, decide_eq_true_eq] at z
        rcases m6 with ⟨c2, -⟩ | ⟨-, nm⟩
        · omega
        · exact (NMO.ix nd h1' h2' nm).mpr z.2.2
      · refine q1 _ ?_ mM
        rw [e, List.find?_cons_of_pos]
        unfold fbB
        simp only [Bool.and_eq_true, decide_eq_true_eq, Bool.or_eq_true]
        rcases m6 with ⟨c2, -⟩ | ⟨-, nm⟩
        · omega
        · exact ⟨c0, Or.inl (by decide), (NMO.ix nd h1' h2' nm).mp c⟩
  exact b_HostType_field_0 (lp (g.1 4 i).toNat 0 (by omega) rfl)
/-- one class has one field of a name -/
theorem fb_st (WX : HWX g N M) (hi : i < N) (hs : st = 0 ∨ st = 1) : (memG g i).find? (fbB g st L) = match (memG g i).find? (fbB g (-1) L) with | none => none | some m => if g.1 7 m = st then some m else none := by
  have u := WX.2.2.1 i hi
  have fb : ∀ m, fbB g st L m = (fbB g (-1) L m && decide (g.1 7 m = st)) := fun m => by
    unfold fbB
    have e1 : decide ((-1 : Int) < 0) = true := by decide
    have e2 : decide (st < 0) = false := by simp; omega
    rw [e1, e2, Bool.true_or, Bool.false_or, Bool.true_and]
    cases decide (g.1 6 m = 0) <;> cases decide (g.1 7 m = st) <;> cases decide (g.2 3 m = L) <;> rfl
  have key : ∀ l : List Nat, (∀ a, a ∈ l → a ∈ memG g i) → l.find? (fbB g st L) = match l.find? (fbB g (-1) L) with | none => none | some m => if g.1 7 m = st then some m else none := fun l => by
    induction l with
    | nil => intro _; rfl
    | cons m l ih =>
      intro hl
      have ih' := ih (fun a ha => hl a (List.mem_cons_of_mem _ ha))
      by_cases z : fbB g (-1) L m = true
      · rw [List.find?_cons_of_pos z]
        by_cases zs : g.1 7 m = st
        · rw [List.find?_cons_of_pos (by rw [fb, z, decide_eq_true zs]; rfl)]
          show _ = if g.1 7 m = st then some m else none
          rw [if_pos zs]
        · rw [List.find?_cons_of_neg (by rw [fb, z, decide_eq_false zs]; decide)]
          show _ = if g.1 7 m = st then some m else none
          rw [if_neg zs, List.find?_eq_none]
          intro x hx c
          rw [fb] at c
          simp only [Bool.and_eq_true, decide_eq_true_eq] at c
          have z' := z
          have c1 := c.1
          unfold fbB at z' c1
          simp only [Bool.and_eq_true, decide_eq_true_eq] at z' c1
          have := u x m (hl x (List.mem_cons_of_mem _ hx)) (hl m (List.mem_cons_self ..)) c1.1 z'.1 (by rw [c1.2.2, z'.2.2])
          rw [this] at c; exact zs c.2
      · rw [List.find?_cons_of_neg z, List.find?_cons_of_neg (by
          rw [fb]
          intro c
          simp only [Bool.and_eq_true] at c
          exact z c.1)]
        exact ih'
  exact key _ (fun a ha => ha)
/-- C's Lookup.field, from a class on -/
theorem c_lfield (W : HGW g N) (W2 : HMW g N M) (WX : HWX g N M) (hs : st = 0 ∨ st = 1) (h1' : nw < hw.length) (h2' : hw.getD nw [] = L) (H : HCX ρ h ho g N M hw) (q1 : ∀ m, fldG g st L (b + 1) c = some m → m < M → FR (hB h (ho + 3) m) h) (q0 : fldG g st L (b + 1) c = none → FR 0 h) (hb : c < (b : Int)) (h1 : -1 ≤ c) (h2 : c < (N : Int)) : wpB PGm ρ (d + 11) m_Lookup_field 12 [(2, vI st), (3, vI (nw : Int)), (4, vR (hcA h ho c))] [] h (cR FR E) := by
  have nil : ∀ {b : Nat} {c : Int}, c < 0 → chnG g b c = [] := fun {b c} hc => by
    cases b with
    | zero => rfl
    | succ b => show (if c < 0 then [] else _) = _; rw [if_pos hc]
  induction b generalizing c with
  | zero =>
    have c0 : c < 0 := by omega
    have e : hcA h ho c = 0 := if_pos c0
    rw [e]
    exact b_Lookup_field_12 (d := d + 10) ⟨fun _ => q0 (by unfold fldG; rw [nil c0]; rfl), fun c => absurd rfl c⟩
  | succ b ih =>
    by_cases c0 : c < 0
    · have e : hcA h ho c = 0 := if_pos c0
      rw [e]
      exact b_Lookup_field_12 (d := d + 10) ⟨fun _ => q0 (by unfold fldG; rw [nil c0]; rfl), fun c => absurd rfl c⟩
    · have e : hcA h ho c = hB h (ho + 2) c.toNat := if_neg c0
      have cN : c.toNat < N := by omega
      have T := H.tp cN
      have wc := (W c.toNat cN).2.1
      have ec : fldG g st L (b + 1 + 1) c = match (memG g c.toNat).find? (fbB g st L) with | some m => some m | none => fldG g st L (b + 1) (g.1 2 c.toNat) := by
        show (chnG g (b + 1 + 1) c).findSome? _ = _
        have : chnG g (b + 1 + 1) c = c.toNat :: chnG g (b + 1) (g.1 2 c.toNat) := by
          show (if c < 0 then [] else c.toNat :: chnG g (b + 1) (g.1 2 c.toNat)) = _
          rw [if_neg c0]
        rw [this, List.findSome?_cons]
        cases (memG g c.toNat).find? (fbB g st L) <;> rfl
      rw [ec, fb_st WX cN hs] at q1 q0
      rw [e]
      have g42 : (∀ m, fldG g st L (b + 1) (g.1 2 c.toNat) = some m → m < M → FR (hB h (ho + 3) m) h) → (fldG g st L (b + 1) (g.1 2 c.toNat) = none → FR 0 h) → wpB PGm ρ (d + 11) m_Lookup_field 42 [(2, vI st), (3, vI (nw : Int)), (4, vR (hB h (ho + 2) c.toNat))] [] h (cR FR E) := fun k1 k0 => by
        refine b_Lookup_field_42 ⟨T.1.1, ?_⟩
        rw [H.abv cN]
        exact ih k1 k0 (by omega) (by omega) (by omega)
      refine b_Lookup_field_12 (d := d + 10) ⟨fun z => absurd z T.1.2.2, fun _ => ⟨T.1.1, ?_⟩⟩
      refine c_fld1 W2 cN h1' h2' H (by omega) (fun m em mM => ?_) (fun en => ?_)
      · rw [em] at q1 q0
        have me := H.me mM
        refine ⟨fun z => absurd z me.1.2.2, fun _ => ⟨me.1.1, ?_⟩⟩
        rw [me.2.2.2.2.2.2.2.1]
        refine ⟨fun ns => g42 (fun m' h3 h4 => q1 m' ?_ h4) (fun h3 => q0 ?_), fun es => q1 m ?_ mM⟩
        · show (match (if g.1 7 m = st then some m else none) with | some m => some m | none => _) = _
          rw [if_neg ns]; exact h3
        · show (match (if g.1 7 m = st then some m else none) with | some m => some m | none => _) = _
          rw [if_neg ns]; exact h3
        · show (match (if g.1 7 m = st then some m else none) with | some m => some m | none => _) = _
          rw [if_pos es]
      · rw [en] at q1 q0
        exact ⟨fun _ => g42 (fun m' h3 h4 => q1 m' h3 h4) (fun h3 => q0 h3), fun z => absurd rfl z⟩
end
