/-! T: all begins anew -/
set_option maxRecDepth 20000
def LMD : List Nat := scM ++ tabM.map (fun q => q.1 + 1)
def TRF (h0 h : ah) (T : Nat) (S : Nat → Nat → Int) : Prop := TR h T S ∧ FX LMD [] h0 h ∧ T < hz h0
theorem scM5 : scM.all (fun f => Nat.ble 5 f) = true := by decide
theorem tabM5 : tabM.all (fun q => Nat.ble 5 q.1 && !(LMD.elem q.1)) = true := by decide
section
variable {ρ : Nat → Nat} {d : Nat} {h h' h0 : ah} {F : Int → ah → Prop} {G : ah → Prop} {E : Nat → ah → Prop} {Q : QT} {T k f a n m : Nat} {v : Int} {S X : Nat → Nat → Int} {g : HG} {tp : List Int}
theorem TRF.wI (H : TRF h0 h T S) (e : scM.elem f = true) : TRF h0 (sI h f T v) T (u2 S f 0 v) := by
  obtain ⟨a1, ⟨z, s, a2⟩, a3⟩ := H
  have hm : f ∈ scM := by simpa using e
  exact ⟨a1.wI e, ⟨z, s, a2.wI (Nat.le_of_ble_eq_true (List.all_eq_true.mp scM5 f hm)) (Or.inl (by unfold LMD; exact List.mem_append_left _ hm))⟩, a3⟩
theorem TRF.R (H : TRF h0 h T S) (e : lkA tabM f = some (a, n)) : hR h f T = hR h0 f T := by
  obtain ⟨a1, ⟨z, s, a2⟩, a3⟩ := H
  have := List.all_eq_true.mp tabM5 _ (lkA_mem e)
  simp only [Bool.and_eq_true, Bool.not_eq_true'] at this
  exact a2.R a3 (Nat.le_of_ble_eq_true this.1) (nokW this.2 rfl)
theorem TRF.wA {i : Nat} (H : TRF h0 h T S) (e : lkA tabM f = some (a, n)) : TRF h0 (sA h (hR h f T) i v) T (u2 S f i v) := by
  have eR := H.R e
  obtain ⟨a1, ⟨z, s, a2⟩, a3⟩ := H
  refine ⟨a1.wA e, ⟨z, s, a2.wA (Or.inr (Or.inr (Or.inr ⟨f, T, a3, (a1.2.1.g e).2.2.2, eR.symm, Or.inr (Or.inl ?_)⟩)))⟩, a3⟩
  unfold LMD
  exact List.mem_append_right _ (List.mem_map.mpr ⟨_, lkA_mem e, rfl⟩)
/-- a loop that fills a row -/
theorem t_fill {M : MT} {pc : Nat} {w : Nat → Int} {P : Nat → ah → Prop} (e : lkA tabM f = some (a, n)) (step : ∀ j h1, j ≤ m → TRF h0 h1 T (filS S f j w) → (j < m → (∀ h2, h2 = sA h1 (hR h1 f T) j (w j) → P (j + 1) h2) → P j h1) ∧ (j = m → P j h1)) : ∀ mm j h1, m - j < mm → j ≤ m → TRF h0 h1 T (filS S f j w) → P j h1 := by
  intro mm
  induction mm with
  | zero => intro j h1 hm; omega
  | succ mm ih =>
    intro j h1 hm hj H
    by_cases c : j = m
    · exact (step j h1 hj H).2 c
    · refine (step j h1 hj H).1 (by omega) (fun h2 e2 => ih (j + 1) h2 (by omega) (by omega) ?_)
      rw [e2, ← filS_s (v := w j) rfl]
      exact H.wA e
def wrA : List (Nat × Nat × Int) := [(f_Md_names, 0, 0), (f_Md_sourceTexts, 0, 0), (f_Md_sourceBytes, 0, 0), (f_Md_units, 0, 0), (f_Md_functions, 0, 0), (f_Md_instructions, 0, 0), (f_Md_sites, 0, 0), (f_Md_descriptors, 0, 0), (f_Md_things, 0, 0), (f_Md_calls, 0, 0), (f_Md_changes, 0, 0), (f_Md_slots, 0, 0), (f_Md_shapes, 0, 1), (f_Md_shapeProto, 0, -1), (f_Md_shapeBefore, 0, -1), (f_Md_shapeName, 0, -1), (f_Md_shapeCount, 0, 0), (f_Md_variables, 0, 0), (f_Md_madeTexts, 0, 0), (f_Md_madeBytes, 0, 0), (f_Md_shown, 0, 0), (f_Md_traced, 0, 0), (f_Md_wrong, 0, 0), (f_Md_choices, 0, 0), (f_Md_workedOut, 0, 0)]
def wrB : List (Nat × Nat × Int) := [(f_Md_state, 0, 0), (f_Md_frames, 0, 0), (f_Md_height, 0, 0), (f_Md_tries, 0, 0), (f_Md_state, 1, 0), (f_Md_frames, 1, 0), (f_Md_height, 1, 0), (f_Md_tries, 1, 0)]
/-- T's rows when all begins anew -/
def anS (S : Nat → Nat → Int) (g : HG) (m : Nat) : Nat → Nat → Int := wrs (filS (filS (filS (filS (wrs S wrA) f_Md_asked 4 (fun _ => 0)) f_Md_isGlobal 4000 (fun _ => 0)) f_Md_staticType m (fun i => tgO (g.1 8 i))) f_Md_staticValue m (fun _ => 0)) wrB
theorem u2_fil {f' i : Nat} {w : Nat → Int} (ne : f ≠ f') : u2 (filS S f' n w) f i v = filS (u2 S f i v) f' n w := by
  funext g j
  unfold filS
  rw [u2_e, u2_e]
  by_cases c : g = f'
  · rw [if_neg (fun x => ne (by rw [← x.1, c]))]
    by_cases c2 : j < n
    · rw [if_pos ⟨c, c2⟩, if_pos ⟨c, c2⟩]
    · rw [if_neg (fun x => c2 x.2), if_neg (fun x => c2 x.2), if_neg (fun x => ne (by rw [← x.1, c]))]
  · rw [if_neg (c := g = f' ∧ j < n) (fun x => c x.1), if_neg (c := g = f' ∧ j < n) (fun x => c x.1)]
theorem tabH_LMD : tabH.all (fun q => !(LMD.elem q.1) && !(LMD.elem (q.1 + 1))) = true := by decide
theorem THO.md (H : THO h k g n m tp) (fx : FX LMD [] h h') : THO h' k g n m tp := by
  obtain ⟨z, s, ff⟩ := fx
  exact H.frm ff (nokT2 tabH_LMD) ⟨nokW (by decide) rfl, nokW (by decide) rfl⟩ (fun y c => by cases c)
theorem t_anew (H0 : TR h T S) (hk : hR h f_Md_host T = k) (Ho : THO h k g n m tp) (q : ∀ h', TRF h h' T (anS S g m) → Q (Sum.inl none) h') : wpB PGm ρ (d + 1) m_Md_anew 0 [(0, vR T)] [] h Q := by
  have lT := H0.2.1.1
  have H : TRF h h T S := ⟨H0, FX.r, lT⟩
  have eh : ∀ {h1 S1}, TRF h h1 T S1 → hR h1 f_Md_host T = k ∧ THO h1 k g n m tp := fun H1 => by
    refine ⟨?_, Ho.md H1.2.1⟩
    obtain ⟨z, s, ff⟩ := H1.2.1
    rw [ff.R lT (by decide) (nokW (by decide) rfl)]; exact hk
  -- the tasks
  have p5 : ∀ h1, TRF h h1 T (filS (filS (filS (filS (wrs S wrA) f_Md_asked 4 (fun _ => 0)) f_Md_isGlobal 4000 (fun _ => 0)) f_Md_staticType m (fun i => tgO (g.1 8 i))) f_Md_staticValue m (fun _ => 0)) → wpB PGm ρ (d + 1) m_Md_anew 221 [(0, vR T), (1, vI 0)] [] h1 Q := by
    intro h1 H1
    have tt := H1.1.2.1
    refine b_Md_anew_221 ⟨fun z => absurd z (by decide), fun _ => ⟨H1.1.1, tt.wi rfl (by decide), ?_⟩⟩
    intro h7
    refine ⟨tt.wi rfl (by decide), ?_⟩
    intro h8
    refine ⟨tt.wi rfl (by decide), ?_⟩
    intro h9
    refine ⟨tt.wi rfl (by decide), ?_⟩
    intro h10
    have H10 : TRF h h10 T _ := (((H1.wA (f := f_Md_state) (i := 0) (v := 0) rfl).wA (f := f_Md_frames) (i := 0) (v := 0) rfl).wA (f := f_Md_height) (i := 0) (v := 0) rfl).wA (f := f_Md_tries) (i := 0) (v := 0) rfl
    have tt10 := H10.1.2.1
    clear_value h10
    rw [show w32 (0 + 1) = 1 from by decide]
    refine b_Md_anew_221 ⟨fun z => absurd z (by decide), fun _ => ⟨H10.1.1, tt10.wi rfl (by decide), ?_⟩⟩
    intro k7
    refine ⟨tt10.wi rfl (by decide), ?_⟩
    intro k8
    refine ⟨tt10.wi rfl (by decide), ?_⟩
    intro k9
    refine ⟨tt10.wi rfl (by decide), ?_⟩
    intro k10
    have K10 : TRF h k10 T _ := (((H10.wA (f := f_Md_state) (i := 1) (v := 0) rfl).wA (f := f_Md_frames) (i := 1) (v := 0) rfl).wA (f := f_Md_height) (i := 1) (v := 0) rfl).wA (f := f_Md_tries) (i := 1) (v := 0) rfl
    rw [show w32 (1 + 1) = 2 from by decide]
    exact b_Md_anew_221 ⟨fun _ => q k10 K10, fun z => absurd z (by decide)⟩
  -- what static fields have at first
  have p4 : ∀ mm j h1, m - j < mm → j ≤ m → TRF h h1 T (filS (filS (filS (filS (wrs S wrA) f_Md_asked 4 (fun _ => 0)) f_Md_isGlobal 4000 (fun _ => 0)) f_Md_staticType j (fun i => tgO (g.1 8 i))) f_Md_staticValue j (fun _ => 0)) → wpB PGm ρ (d + 1) m_Md_anew 177 [(0, vR T), (1, vI (j : Int))] [] h1 Q := by
    intro mm
    induction mm with
    | zero => intro j h1 hm; omega
    | succ mm ih =>
      intro j h1 hm hj H1
      obtain ⟨e1, O1⟩ := eh H1
      obtain ⟨⟨a1, a2⟩, a3, a4, hn, hm4, a7, SS, a8, hg, mg, -⟩ := O1
      have tt := H1.1.2.1
      refine b_Md_anew_177 ⟨H1.1.1, by rw [e1]; exact a2, ?_⟩
      rw [e1, a4]
      refine ⟨fun z => ?_, fun z => ?_⟩
      · have e : j = m := by omega
        subst e
        exact p5 h1 H1
      · have hj2 : j < m := by omega
        have gj : (0 : Int) ≤ (j : Int) ∧ (j : Int) < ((400 : Nat) : Int) := by omega
        have et : hA h1 (hR h1 f_MdHost_type k) j = g.1 8 j := (a8.g rfl j).trans (mg j hj2).2.2.2.1
        rw [Int.toNat_natCast, et]
        have go : ∀ x, x = tgO (g.1 8 j) → (hK h1 (hR h1 f_Md_staticType T) = 1 ∧ 0 ≤ (j : Int) ∧ (j : Int) < (hl h1 (hR h1 f_Md_staticType T) : Int)) ∧ (let h15 := sA h1 (hR h1 f_Md_staticType T) j x
          hK h15 T = k_Md ∧ (hK h15 (hR h15 f_Md_staticValue T) = 2 ∧ 0 ≤ (j : Int) ∧ (j : Int) < (hl h15 (hR h15 f_Md_staticValue T) : Int)) ∧ let h18 := sA h15 (hR h15 f_Md_staticValue T) j 0
          wpB PGm ρ (d + 1) m_Md_anew 177 [(0, vR T), (1, vI (w32 ((j : Int) + 1)))] [] h18 Q) := by
          intro x ex
          refine ⟨tt.wi rfl gj, ?_⟩
          intro h15
          have H15 : TRF h h15 T _ := H1.wA (f := f_Md_staticType) (i := j) (v := x) rfl
          refine ⟨H1.1.1, H15.1.2.1.wl rfl gj, ?_⟩
          intro h18
          have H18 : TRF h h18 T _ := H15.wA (f := f_Md_staticValue) (i := j) (v := 0) rfl
          rw [w32_s (by omega)]
          rw [u2_fil (f := f_Md_staticType) (f' := f_Md_staticValue) (by decide), filS_s (f := f_Md_staticType) (w := fun i => tgO (g.1 8 i)) ex, filS_s (f := f_Md_staticValue) (w := fun _ => 0) rfl] at H18
          exact ih (j + 1) h18 (by omega) (by omega) H18
        refine ⟨a1.ri rfl gj, b_Md_firstType_0 ⟨fun e => go 2 (by unfold tgO; rw [if_pos (by omega)]), fun n1 => ⟨fun n2 => ⟨fun n3 => go 0 (by unfold tgO; rw [if_neg (by omega), if_neg n3]), fun e3 => go 1 (by unfold tgO; rw [if_neg (by omega), if_pos e3])⟩, fun e2 => go 2 (by unfold tgO; rw [if_pos (by omega)])⟩⟩⟩
  have p3 : ∀ h1, TRF h h1 T (filS (wrs S wrA) f_Md_asked 4 (fun _ => 0)) → wpB PGm ρ (d + 1) m_Md_anew 155 [(0, vR T), (1, vI 0)] [] h1 Q := by
    intro h1 H1
    refine t_fill (f := f_Md_isGlobal) (m := 4000) (w := fun _ => 0) (P := fun j h1 => wpB PGm ρ (d + 1) m_Md_anew 155 [(0, vR T), (1, vI (j : Int))] [] h1 Q) (M := m_Md_anew) (pc := 155) rfl (fun j h2 hj H2 => ⟨fun hj2 nxt => b_Md_anew_155 ⟨fun z => by omega, fun _ => ⟨H2.1.1, H2.1.2.1.wt rfl (Or.inl rfl) (by omega), ?_⟩⟩, fun e => b_Md_anew_155 ⟨fun _ => ?_, fun z => by omega⟩⟩) _ 0 h1 (Nat.lt_succ_self _) (Nat.zero_le _) (by rw [filS_0]; exact H1)
    · rw [Int.toNat_natCast, w32_s (by omega)]; exact nxt _ rfl
    · subst e
      exact p4 _ 0 h2 (Nat.lt_succ_self _) (Nat.zero_le _) (by rw [filS_0, filS_0]; exact H2)
  have p2 : ∀ h1, TRF h h1 T (wrs S wrA) → wpB PGm ρ (d + 1) m_Md_anew 135 [(0, vR T), (1, vI 0)] [] h1 Q := by
    intro h1 H1
    refine t_fill (f := f_Md_asked) (m := 4) (w := fun _ => 0) (P := fun j h1 => wpB PGm ρ (d + 1) m_Md_anew 135 [(0, vR T), (1, vI (j : Int))] [] h1 Q) (M := m_Md_anew) (pc := 135) rfl (fun j h2 hj H2 => ⟨fun hj2 nxt => b_Md_anew_135 ⟨fun z => by omega, fun _ => ⟨H2.1.1, H2.1.2.1.wi rfl (by omega), ?_⟩⟩, fun e => b_Md_anew_135 ⟨fun _ => ?_, fun z => by omega⟩⟩) _ 0 h1 (Nat.lt_succ_self _) (Nat.zero_le _) (by rw [filS_0]; exact H1)
    · rw [Int.toNat_natCast, w32_s (by omega)]; exact nxt _ rfl
    · subst e
      exact p3 h2 H2
  refine b_Md_anew_0 ⟨H.1.1, ?_⟩
  intro h1 h4 h5 h6 h7 h9 h10 h11 h12 h14 h15 h16 h17
  have H17 : TRF h h17 T _ := (((((((((((((H.wI (f := f_Md_names) (v := 0) rfl).wI (f := f_Md_sourceTexts) (v := 0) rfl).wI (f := f_Md_sourceBytes) (v := 0) rfl).wI (f := f_Md_units) (v := 0) rfl).wI (f := f_Md_functions) (v := 0) rfl).wI (f := f_Md_instructions) (v := 0) rfl).wI (f := f_Md_sites) (v := 0) rfl).wI (f := f_Md_descriptors) (v := 0) rfl).wI (f := f_Md_things) (v := 0) rfl).wI (f := f_Md_calls) (v := 0) rfl).wI (f := f_Md_changes) (v := 0) rfl).wI (f := f_Md_slots) (v := 0) rfl).wI (f := f_Md_shapes) (v := 1) rfl)
  have tt := H17.1.2.1
  refine ⟨tt.wi rfl (by decide), ?_⟩
  intro h19
  refine ⟨tt.wi rfl (by decide), ?_⟩
  intro h20
  refine ⟨tt.wi rfl (by decide), ?_⟩
  intro h21
  have H21 : TRF h h21 T _ := ((H17.wA (f := f_Md_shapeProto) (i := 0) (v := -1) rfl).wA (f := f_Md_shapeBefore) (i := 0) (v := -1) rfl).wA (f := f_Md_shapeName) (i := 0) (v := -1) rfl
  clear_value h21
  have tt21 := H21.1.2.1
  refine b_Md_anew_86 ⟨H21.1.1, tt21.wi rfl (by decide), ?_⟩
  intro h3 k4 k5 k6 k7 k9 k10 k11 k12
  have H3 : TRF h h3 T _ := H21.wA (f := f_Md_shapeCount) (i := 0) (v := 0) rfl
  have H12 : TRF h k12 T _ := ((((((((H3.wI (f := f_Md_variables) (v := 0) rfl).wI (f := f_Md_madeTexts) (v := 0) rfl).wI (f := f_Md_madeBytes) (v := 0) rfl).wI (f := f_Md_shown) (v := 0) rfl).wI (f := f_Md_traced) (v := 0) rfl).wI (f := f_Md_wrong) (v := 0) rfl).wI (f := f_Md_choices) (v := 0) rfl).wI (f := f_Md_workedOut) (v := 0) rfl)
  exact p2 k12 H12
end
