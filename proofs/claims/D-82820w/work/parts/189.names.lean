/-! names: found by both -/
set_option maxRecDepth 20000
def FWI (ws : List (List Int)) (l : List Int) (v : Int) : Prop := (∃ k : Nat, v = (k : Int) ∧ k < ws.length ∧ ws.getD k [] = l) ∨ (v = -1 ∧ l ∉ ws)
def NMR (h : ah) (C : Nat) (S : SS) (ws : List (List Int)) : Prop := (∃ by_ fr sz nx hd, WD h (C + 34) 4000 240000 ws by_ fr sz nx hd) ∧ ws.Nodup ∧ S f_Md_names 0 = (ws.length : Int) ∧ ws.length ≤ 4000 ∧ ∀ k, k < ws.length → (ws.getD k []).length ≤ 60 ∧ S f_Md_nameSize k = ((ws.getD k []).length : Int) ∧ ∀ i, i < (ws.getD k []).length → S f_Md_nameSigns (60 * k + i) = (ws.getD k []).getD i 0
section
variable {ρ : Nat → Nat} {d : Nat} {h h0 h' : ah} {F : Int → ah → Prop} {E : Nat → ah → Prop} {C T r at_ n z s : Nat} {ws : List (List Int)} {l : List Int} {S S' : SS} {X : X3} {Y : Y3} {v v' : Int} {L : List Nat} {P : List (Nat × Nat)}
theorem FWI.uq (nd : ws.Nodup) (A : FWI ws l v) (B : FWI ws l v') : v = v' := by
  rcases A with ⟨k, e, h1, h2⟩ | ⟨e, h1⟩ <;> rcases B with ⟨j, e', g1, g2⟩ | ⟨e', g1⟩
  · rw [e, e', nd_getD nd h1 g1 (by rw [h2, g2])]
  · exfalso
    apply g1
    rw [← h2]
    simp only [List.getD, List.getElem?_eq_getElem h1, Option.getD_some]
    exact List.getElem_mem h1
  · exfalso
    apply h1
    rw [← g2]
    simp only [List.getD, List.getElem?_eq_getElem g1, Option.getD_some]
    exact List.getElem_mem g1
  · rw [e, e']
theorem NMR.fr (H : NMR h C S ws) (fr : Fr L P z s h h') (d1 : DJ [f_Words_most, f_Words_mostBytes, f_Words_many, f_Words_used, f_Words_bytes, f_Words_from, f_Words_size, f_Words_next, f_Words_heads, f_Words_most + 1, f_Words_mostBytes + 1, f_Words_many + 1, f_Words_used + 1, f_Words_bytes + 1, f_Words_from + 1, f_Words_size + 1, f_Words_next + 1, f_Words_heads + 1] L P) (p0 : ∀ y, (0, y) ∉ P) (e : EXS [f_Md_names, f_Md_nameSize, f_Md_nameSigns] S S') : NMR h' C S' ws := by
  obtain ⟨⟨b, f, z', n, hd, W⟩, nd, a1, a2, a3⟩ := H
  refine ⟨⟨b, f, z', n, hd, W.frm fr (fun g hg c => ?_) ⟨p0 _, p0 _, p0 _, p0 _, p0 _⟩⟩, nd, by rw [e _ (by decide)]; exact a1, a2, fun k hk => ?_⟩
  · simp only [List.mem_cons, List.not_mem_nil, or_false] at hg
    rcases hg with rfl | rfl | rfl | rfl | rfl | rfl | rfl | rfl | rfl <;> exact c.elim (d1.w (by decide)) (d1.w (by decide))
  · obtain ⟨x1, x2, x3⟩ := a3 k hk
    exact ⟨x1, by rw [e _ (by decide)]; exact x2, fun i hi => by rw [e _ (by decide)]; exact x3 i hi⟩
/-- C finds a name -/
theorem r_findName (G : AC h C) (H : NMR h C S ws) (hk : hK h r ∈ [3, 4, 13]) (R : RW (cc h C X Y) r at_ l) (hb : at_ + l.length ≤ 1000000) (q : ∀ v, FWI ws l v → F v (cc h C X Y)) : wpB PGm ρ (d + 1) m_Words_find 0 [(0, vR (C + 34)), (1, vR r), (2, vI (at_ : Int)), (3, vI (l.length : Int))] [] (cc h C X Y) (cI F E) := by
  obtain ⟨⟨b, f, z', n, hd, W⟩, -⟩ := NMR.fr (S' := S) H (cc_fr (X := X) (Y := Y) G) (by unfold DJ; decide) (by simp) EXS.rf
  exact c_find W hk R hb (fun k h1 h2 => q _ (Or.inl ⟨k, rfl, h1, h2⟩)) (fun h1 => q _ (Or.inr ⟨rfl, h1⟩))
/-- T finds it too -/
theorem s_findName (O : TOK h0 T) (H : NMR h C S ws) (hk : hK h0 r ∈ [3, 4, 13]) (R : RW (cn h0 T S) r at_ l) (hb : at_ + l.length ≤ 1000000) (hv : FWI ws l v) (q : F v (cn h0 T S)) : wpB PGm ρ d m_Md_findName 0 [(0, vR T), (1, vR r), (2, vI (at_ : Int)), (3, vI (l.length : Int))] [] (cn h0 T S) (cI F E) := by
  obtain ⟨kT, G, kH⟩ := O
  obtain ⟨-, nd, a1, a2, a3⟩ := H
  have tt : TT (cn h0 T S) T := G
  have tn : TN (cn h0 T S) T ws := ⟨tt, kT, by rw [cnI (by decide)]; exact a1, a2, fun k hk => by
    obtain ⟨x1, x2, x3⟩ := a3 k hk
    exact ⟨x1, by rw [cnR, cnA' G (by decide)]; exact x2, fun i hi => by rw [cnR, cnA' G (by decide)]; exact x3 i hi⟩⟩
  refine t_findName tn hk R hb (fun k h1 h2 _ => ?_) (fun h1 => ?_)
  · rw [FWI.uq nd hv (Or.inl ⟨k, rfl, h1, h2⟩)] at q; exact q
  · rw [FWI.uq nd hv (Or.inr ⟨rfl, h1⟩)] at q; exact q
/-- which property has a name: both -/
def OWN (S : SS) (k n : Nat) (nm v : Int) : Prop := (∃ i : Nat, v = (i : Int) ∧ i < n ∧ nmT S k i = nm) ∨ (v = -1 ∧ ∀ i, i < n → nmT S k i ≠ nm)
theorem s_own {Q : QT} {k : Nat} {nm : Int} (O : TOK h0 T) (L : SLK S k n) (dn : ∀ a b, a < n → b < n → nmT S k a = nmT S k b → a = b) (hv : OWN S k n nm v) (q : Q (Sum.inl (some (vI v))) (cn h0 T S)) : wpB PGm ρ d m_Md_own 0 [(0, vR T), (1, vI (k : Int)), (2, vI nm)] [] (cn h0 T S) Q := by
  obtain ⟨kT, G, kH⟩ := O
  obtain ⟨a1, a2, a3, a4, a5, a6⟩ := L
  have ck : 0 ≤ (k : Int) ∧ (k : Int) < ((8000 : Nat) : Int) := by omega
  have key : ∀ m i (l6 : Int), i + m = n → (i < n → l6 = (slS S k i : Int)) → (∀ j, j < i → nmT S k j ≠ nm) → wpB PGm ρ d m_Md_own 10 [(0, vR T), (1, vI (k : Int)), (2, vI nm), (3, vI l6), (4, vI (i : Int))] [] (cn h0 T S) Q := by
    intro m
    induction m with
    | zero =>
      intro i l6 hi _ hj
      have e : i = n := by omega
      subst e
      have ev : v = -1 := by
        rcases hv with ⟨j, -, h2, h3⟩ | ⟨e, -⟩
        · exact absurd h3 (hj j h2)
        · exact e
      rw [ev] at q
      have e2 : ((i : Int) < (i : Int)) = False := eq_false (Int.lt_irrefl _)
      refine b_Md_own_10 ?_
      simp (decide := true) only [cnR, cnK, cnl, cnA' G, kT, KN G, LN G, a3, e2, Int.toNat_natCast, true_and, and_true, false_implies]
      exact ⟨ck, fun _ => q⟩
    | succ m ih =>
      intro i l6 hi hl hj
      have hin : i < n := by omega
      have el := hl hin
      have b1 := a5 i hin
      have c1 : 0 ≤ (slS S k i : Int) ∧ (slS S k i : Int) < ((60000 : Nat) : Int) := by omega
      have e1 : ((n : Int) ≤ (i : Int)) = False := eq_false (by omega)
      have e2 : ((i : Int) < (n : Int)) = True := eq_true (by omega)
      have x2 : i ≤ 2000000000 := by omega
      have hit : nmT S k i = nm → Q (Sum.inl (some (vI (i : Int)))) (cn h0 T S) := fun z => by
        have ev : v = (i : Int) := by
          rcases hv with ⟨j, e, h2, h3⟩ | ⟨-, h⟩
          · rw [e, dn j i h2 hin (by rw [h3, z])]
          · exact absurd z (h i hin)
        rw [← ev]; exact q
      have nx : ¬ nmT S k i = nm → wpB PGm ρ d m_Md_own 10 [(0, vR T), (1, vI (k : Int)), (2, vI nm), (3, vI (S f_Md_slotNext (slS S k i))), (4, vI ((i + 1 : Nat) : Int))] [] (cn h0 T S) Q := fun z => ih (i + 1) _ (by omega) (fun hh => by
        have := a6 i hh
        show _ = (((S f_Md_slotNext (slS S k i)).toNat : Nat) : Int)
        omega) (fun j hj' => by
        by_cases w : j = i
        · rw [w]; exact z
        · exact hj j (by omega))
      unfold nmT at hit nx
      subst el
      clear ih hl hj q hv dn
      have w1 : w32 ((i : Int) + 1) = ((i + 1 : Nat) : Int) := w32_s x2
      refine b_Md_own_10 ?_
      simp (decide := true) only [cnR, cnK, cnl, cnA' G, kT, KN G, LN G, a3, e1, e2, w1, Int.toNat_natCast, true_and, and_true, forall_const, false_implies]
      exact ⟨ck, c1, fun z => ⟨c1, nx z⟩, hit⟩
  have g := key n 0 (S f_Md_thingFirst k) (by omega) (fun hh => by
    have := a4 hh
    show _ = (((S f_Md_thingFirst k).toNat : Nat) : Int)
    omega) (fun j hj => by omega)
  clear key q hv dn
  refine b_Md_own_0 ?_
  simp (decide := true) only [cnR, cnK, cnl, cnA' G, kT, KN G, LN G, Int.toNat_natCast, true_and, and_true]
  exact ⟨ck, g⟩
/-- C: which property a name is, by the shape -/
theorem r_find {Q : QT} {sn s0 : Nat} {nm : Int} {f : Nat → Int} (SF : SHF h C S sn) (b0 : ∀ s, s < sn → S f_Md_shapeCount s = 0 → hR h f_Shape_before (hB h (C + 52) s) = 0) (q : ∀ v, ((∃ j : Nat, v = ((n - 1 - j : Nat) : Int) ∧ j < n ∧ S f_Md_shapeName (anc S s0 j) = nm) ∨ (v = -1 ∧ ∀ j, j < n → S f_Md_shapeName (anc S s0 j) ≠ nm)) → Q (Sum.inl (some (vI v))) (cc h C X Y)) (hs : s0 < sn) (hc : S f_Md_shapeCount s0 = (n : Int)) (hn : n ≤ 4000) : wpB PGm ρ d m_Shape_find 0 [(0, vR (hB h (C + 52) s0)), (1, vI nm)] [] (cc h C X Y) Q := by
  have key : ∀ m j, j + m = n → anc S s0 j < sn → S f_Md_shapeCount (anc S s0 j) = (m : Int) → (∀ i, i < j → S f_Md_shapeName (anc S s0 i) ≠ nm) → wpB PGm ρ d m_Shape_find 2 [(1, vI nm), (2, vR (hB h (C + 52) (anc S s0 j)))] [] (cc h C X Y) Q := by
    intro m
    induction m with
    | zero =>
      intro j hj hl hcn hne
      obtain ⟨f1, f2, f3, f4, f5, f6, f7, f8⟩ := SF _ hl
      refine b_Shape_find_2 ⟨f1, fun _ => q (-1) (Or.inr ⟨rfl, fun i hi => hne i (by omega)⟩), fun z => ?_⟩
      rw [ccRo (by decide)] at z
      exact absurd (b0 _ hl hcn) z
    | succ m ih =>
      intro j hj hl hcn hne
      obtain ⟨f1, f2, f3, f4, f5, f6, f7, f8⟩ := SF _ hl
      obtain ⟨g1, g2, g3, g4⟩ := f8 (by omega)
      have hl' : (S f_Md_shapeBefore (anc S s0 j)).toNat < sn := by omega
      have nz := (SF _ hl').2.1
      have x1 : 1 ≤ m + 1 ∧ m + 1 ≤ 2000000000 := by omega
      refine b_Shape_find_2 ⟨f1, fun z => ?_, fun _ => ⟨fun z => ?_, fun z => ?_⟩⟩
      · rw [ccRo (by decide), g3] at z; exact absurd z nz
      · rw [ccIo (by decide), f3] at z
        rw [ccRo (by decide), g3]
        exact ih (j + 1) (by omega) hl' (by show S f_Md_shapeCount (S f_Md_shapeBefore (anc S s0 j)).toNat = _; omega) (fun i hi => by
          by_cases w : i = j
          · rw [w]; exact z
          · exact hne i (by omega))
      · rw [ccIo (by decide), f3] at z
        have e : n - 1 - j = m := by omega
        rw [ccIo (by decide), f4, hcn, w32_m1 x1]
        refine q _ (Or.inl ⟨j, ?_, by omega, z⟩)
        rw [e]; rfl
  exact b_Shape_find_0 (key n 0 (by omega) hs hc (fun i hi => by omega))
end
