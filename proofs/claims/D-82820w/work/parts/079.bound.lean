/-! what the reader of hosts answers is small -/
set_option maxRecDepth 20000
def VP (tp : List Int) (t : TKN) : Prop := VT tp t ∧ t.1 ≤ tp.length
def BD (tp : List Int) {α : Type} (r : FLT ⊕ α) (P : α → Prop) : Prop := match r with
  | Sum.inl e => 0 ≤ e.1 ∧ e.1 ≤ 7 ∧ e.2 ≤ tp.length
  | Sum.inr x => P x
section
variable {tp : List Int} {t t' : TKN} {g : HG} {n m c : Nat} {so st ty iF : Int} {nm : List Int}
theorem BD.l {α : Type} {P : α → Prop} {w : Int} {p : Nat} (h : 0 ≤ w ∧ w ≤ 7) (hp : p ≤ tp.length) : BD tp (Sum.inl (w, p)) P := ⟨h.1, h.2, hp⟩
theorem BD.i {α : Type} {P : α → Prop} {q : Prop} {dd : Decidable q} {a b : FLT ⊕ α} (h1 : q → BD tp a P) (h2 : ¬ q → BD tp b P) : BD tp (@ite _ q dd a b) P := by
  by_cases c : q
  · rw [if_pos c]; exact h1 c
  · rw [if_neg c]; exact h2 c
theorem VP.nx (H : VP tp t) (h1 : ¬ t.2.1 = -1) : VP tp (nx tp 1 t) ∧ t.1 ≤ (nx tp 1 t).1 := by
  have b := H.1.2 h1
  have l := nx_le (tp := tp) (t := t) b.2
  exact ⟨⟨⟨(nx_ok (tp := tp) (host := 1) (t := t)).2, fun x => nx_to b.2 x⟩, l.2⟩, by omega⟩
theorem rdSups_bd : ∀ f g t, VP tp t → ¬ t.2.1 = -1 → BD tp (rdSups tp n f g t) (fun x => VP tp x.2) := by
  intro f
  induction f with
  | zero => intro g t V _; exact BD.l (by decide) (Nat.zero_le _)
  | succ f ih =>
    intro g t V k1
    obtain ⟨V1, l1⟩ := V.nx k1
    rw [rdSups]
    refine BD.i (fun _ => BD.l (by decide) V1.2) (fun e1 => ?_)
    have e1 : (nx tp 1 t).2.1 = 1 := Classical.byContradiction e1
    obtain ⟨V2, l2⟩ := V1.nx (by rw [e1]; decide)
    cases idxN g n (tkB tp (nx tp 1 t)) with
    | none => exact BD.l (by decide) V1.2
    | some s => exact BD.i (fun _ => BD.l (by decide) V1.2) (fun _ => BD.i (fun _ => BD.l (by decide) V2.2) (fun n1 => BD.i (fun _ => ih _ _ V2 n1) (fun _ => V2)))
theorem rdPars_bd : ∀ f ps t, VP tp t → BD tp (rdPars tp g n f ps t) (fun x => VP tp x.2.2 ∧ x.2.2.2.1 = 41) := by
  intro f
  induction f with
  | zero => intro ps t V; exact BD.l (by decide) (Nat.zero_le _)
  | succ f ih =>
    intro ps t V
    rw [rdPars]
    refine BD.i (fun _ => BD.l (by decide) V.2) (fun e1 => ?_)
    have e1 : t.2.1 = 1 := Classical.byContradiction e1
    obtain ⟨V1, l1⟩ := V.nx (by rw [e1]; decide)
    cases tyV g n (tkB tp t) with
    | none => exact BD.l (by decide) V.2
    | some v =>
      refine BD.i (fun _ => BD.l (by decide) V.2) (fun _ => BD.i (fun _ => BD.l (by decide) V.2) (fun _ => BD.i (fun c3 => ?_) (fun _ => BD.i (fun c4 => ?_) (fun _ => BD.i (fun c5 => ⟨V1, c5⟩) (fun _ => BD.l (by decide) V1.2)))))
      · obtain ⟨V2, l2⟩ := V1.nx (by rw [c3]; decide)
        exact BD.i (fun c => ⟨V2, c⟩) (fun _ => BD.l (by decide) V2.2)
      · exact ih _ _ (V1.nx (by rw [c4]; decide)).1
theorem rdMem2_bd (V : VP tp t) : BD tp (rdMem2 tp g n c m so st ty nm t) (fun x => VP tp x.2) := by
  have p0 : BD tp (rdPar0 tp g n t) (fun x => VP tp x.2.2 ∧ x.2.2.2.1 = 41) := by
    rw [rdPar0]
    exact BD.i (fun c => ⟨V, c⟩) (fun _ => rdPars_bd _ _ _ V)
  rw [rdMem2]
  cases er : rdPar0 tp g n t with
  | inl x => rw [er] at p0; exact p0
  | inr x =>
    obtain ⟨ps, va, t4⟩ := x
    rw [er] at p0
    obtain ⟨V4, k4⟩ := p0
    obtain ⟨V5, l5⟩ := V4.nx (by simp only at k4; rw [k4]; decide)
    refine BD.i (fun _ => BD.l (by decide) V4.2) (fun _ => BD.i (fun _ => BD.l (by decide) V5.2) (fun e => ?_))
    have e : (nx tp 1 t4).2.1 = 59 := Classical.byContradiction e
    exact (V5.nx (by rw [e]; decide)).1
theorem rdMem1_bd (V : VP tp t) : BD tp (rdMem1 tp g n c m st t) (fun x => VP tp x.2) := by
  rw [rdMem1]
  refine BD.i (fun _ => BD.l (by decide) V.2) (fun e1 => ?_)
  have e1 : t.2.1 = 1 := Classical.byContradiction e1
  obtain ⟨V1, l1⟩ := V.nx (by rw [e1]; decide)
  refine BD.i (fun _ => BD.i (fun _ => BD.l (by decide) V.2) (fun _ => BD.i (fun _ => BD.l (by decide) V.2) (fun _ => BD.i (fun _ => BD.l (by decide) V.2) (fun _ => BD.i (fun _ => BD.l (by decide) V1.2) (fun e => ?_))))) (fun _ => ?_)
  · have e : (nx tp 1 t).2.1 = 40 := Classical.byContradiction e
    exact rdMem2_bd (V1.nx (by rw [e]; decide)).1
  · cases tyV g n (tkB tp t) with
    | none => exact BD.l (by decide) V.2
    | some v =>
      refine BD.i (fun _ => BD.l (by decide) V.2) (fun _ => BD.i (fun _ => BD.l (by decide) V1.2) (fun e => ?_))
      have e : (nx tp 1 t).2.1 = 1 := Classical.byContradiction e
      obtain ⟨V2, l2⟩ := V1.nx (by rw [e]; decide)
      refine BD.i (fun _ => BD.l (by decide) V1.2) (fun _ => BD.i (fun e5 => BD.i (fun _ => BD.l (by decide) V1.2) (fun _ => BD.i (fun _ => BD.l (by decide) V1.2) (fun _ => (V2.nx (by rw [e5.1]; decide)).1))) (fun _ => BD.i (fun _ => BD.l (by decide) V2.2) (fun e => ?_)))
      have e : (nx tp 1 (nx tp 1 t)).2.1 = 40 := Classical.byContradiction e
      exact rdMem2_bd (V2.nx (by rw [e]; decide)).1
theorem rdMem_bd (V : VP tp t) : BD tp (rdMem tp g n c m t) (fun x => VP tp x.2) := by
  rw [rdMem]
  refine BD.i (fun _ => BD.l (by decide) V.2) (fun e1 => BD.i (fun _ => BD.i (fun _ => BD.l (by decide) V.2) (fun _ => ?_)) (fun _ => rdMem1_bd V))
  have e1 : t.2.1 = 1 := Classical.byContradiction e1
  exact rdMem1_bd (V.nx (by rw [e1]; decide)).1
theorem rdMems_bd : ∀ f g m t, VP tp t → BD tp (rdMems tp n c f g m t) (fun x => VP tp x.2.2 ∧ x.2.2.2.1 = 125) := by
  intro f
  induction f with
  | zero => intro g m t V; exact BD.l (by decide) (Nat.zero_le _)
  | succ f ih =>
    intro g m t V
    rw [rdMems]
    refine BD.i (fun e => ⟨V, e⟩) (fun _ => ?_)
    have := rdMem_bd (g := g) (n := n) (c := c) (m := m) V
    cases er : rdMem tp g n c m t with
    | inl x => rw [er] at this; exact this
    | inr x =>
      obtain ⟨g', t'⟩ := x
      rw [er] at this
      exact ih _ _ _ this
theorem rdCls_bd (V : VP tp t) : BD tp (rdCls tp g n m iF t) (fun x => VP tp x.2.2) := by
  rw [rdCls]
  refine BD.i (fun _ => BD.l (by decide) V.2) (fun e1 => ?_)
  have e1 : t.2.1 = 1 := Classical.byContradiction e1
  obtain ⟨V1, l1⟩ := V.nx (by rw [e1]; decide)
  refine BD.i (fun _ => BD.l (by decide) V.2) (fun _ => BD.i (fun _ => BD.l (by decide) V.2) (fun _ => ?_))
  have b1 : BD tp (if (nx tp 1 t).2.1 = 58 then rdSups tp n (tp.length + 1) (gCls g n m (tkB tp t) iF) (nx tp 1 t) else Sum.inr (gCls g n m (tkB tp t) iF, nx tp 1 t)) (fun x => VP tp x.2) := BD.i (fun e => rdSups_bd _ _ _ V1 (by rw [e]; decide)) (fun _ => V1)
  cases er : (if (nx tp 1 t).2.1 = 58 then rdSups tp n (tp.length + 1) (gCls g n m (tkB tp t) iF) (nx tp 1 t) else Sum.inr (gCls g n m (tkB tp t) iF, nx tp 1 t)) with
  | inl x => rw [er] at b1; exact b1
  | inr x =>
    obtain ⟨g1, t1⟩ := x
    rw [er] at b1
    have V9 : VP tp t1 := b1
    refine BD.i (fun _ => BD.l (by decide) V9.2) (fun e => ?_)
    have e : t1.2.1 = 123 := Classical.byContradiction e
    have b2 := rdMems_bd (n := n + 1) (c := n) (tp.length + 1) g1 m _ (V9.nx (by rw [e]; decide)).1
    cases er2 : rdMems tp (n + 1) n (tp.length + 1) g1 m (nx tp 1 t1) with
    | inl x => rw [er2] at b2; exact b2
    | inr x =>
      obtain ⟨g2, m2, t2⟩ := x
      rw [er2] at b2
      obtain ⟨V2, k2⟩ := b2
      exact (V2.nx (by simp only at k2; rw [k2]; decide)).1
theorem rdAll_bd : ∀ f g n m t, VP tp t → BD tp (rdAll tp f g n m t) (fun _ => True) := by
  intro f
  induction f with
  | zero => intro g n m t V; exact BD.l (by decide) (Nat.zero_le _)
  | succ f ih =>
    intro g n m t V
    rw [rdAll]
    refine BD.i (fun e => trivial) (fun _ => BD.i (fun _ => BD.l (by decide) V.2) (fun e => ?_))
    have e : t.2.1 = 1 ∧ (tkB tp t = wIfc ∨ tkB tp t = wCls) := Classical.byContradiction e
    have b := rdCls_bd (g := g) (n := n) (m := m) (iF := if tkB tp t = wIfc then 1 else 0) (V.nx (by rw [e.1]; decide)).1
    cases er : rdCls tp g n m (if tkB tp t = wIfc then 1 else 0) (nx tp 1 t) with
    | inl x => rw [er] at b; exact b
    | inr x =>
      obtain ⟨g', m', t'⟩ := x
      rw [er] at b
      exact ih _ _ _ _ b
theorem rdHost_bd {w : Int} {p : Nat} (e : rdHost tp = Sum.inl (w, p)) : 0 ≤ w ∧ w ≤ 7 ∧ p ≤ tp.length := by
  have l := nx_le (tp := tp) (t := t00) (Nat.zero_le _)
  have b := rdAll_bd (tp := tp) (tp.length + 1) gZ 0 0 (nx tp 1 t00) ⟨⟨(nx_ok (tp := tp) (host := 1) (t := t00)).2, fun x => nx_to (Nat.zero_le _) x⟩, l.2⟩
  rw [show rdAll tp (tp.length + 1) gZ 0 0 (nx tp 1 t00) = rdHost tp from rfl, e] at b
  exact b
end
