/-! who holds a property -/
set_option maxRecDepth 20000
/-- a thing has a property -/
def OWs (S : SS) (k : Nat) (nm : Int) : Prop := ∃ n : Nat, S f_Md_thingCount k = (n : Int) ∧ ∃ i, i < n ∧ nmT S k i = nm
/-- v holds it, from p on; -1 without -/
def HLD (S : SS) (nm : Int) : Nat → Int → Int → Prop
  | 0, p, v => p < 0 ∧ v = -1
  | j + 1, p, v => (p < 0 ∧ v = -1) ∨ (0 ≤ p ∧ ((OWs S p.toNat nm ∧ v = p) ∨ (¬ OWs S p.toNat nm ∧ HLD S nm j (prS S p.toNat) v)))
section
variable {ρ : Nat → Nat} {d : Nat} {h0 : ah} {Q : QT} {Γ : GH} {h h' : ah} {C ho T k f n i j sn tn N r m s0 : Nat} {p v nm : Int} {S S' S1 : SS} {X X1 : X3} {Y : Y3}
/-- all about a thing that has a shape -/
theorem CORE.sth (HC : CORE Γ h C ho X Y S N) (hk : (k : Int) < S f_Md_things 0) (kd : S f_Md_thingKind k = 4 ∨ S f_Md_thingKind k = 5) : ∃ n sn s0 : Nat, S f_Md_shapes 0 = (sn : Int) ∧ SLK S k n ∧ S f_Md_thingShape k = (s0 : Int) ∧ s0 < sn ∧ S f_Md_shapeCount s0 = (n : Int) ∧ hR h f_Obj_shape (hB h (C + 51) k) = hB h (C + 52) s0 ∧ (∀ i, i < n → S f_Md_shapeName (anc S s0 (n - 1 - i)) = nmT S k i) ∧ (∀ a b, a < n → b < n → nmT S k a = nmT S k b → a = b) ∧ (∀ i, i < n → 0 ≤ nmT S k i) ∧ SHF h C S sn ∧ (∀ s, s < sn → S f_Md_shapeCount s = 0 → hR h f_Shape_before (hB h (C + 52) s) = 0) ∧ (hK h (hB h (C + 51) k) ∈ [244, 245] ∧ hB h (C + 51) k ≠ 0) := by
  obtain ⟨tn, sn, sm, c1, c2, c5, c6', c3, c4, c6, c7, c8, U, m1, m2, m3, m4⟩ := HC.shp
  obtain ⟨TA, TB, TC, TD⟩ := (c7 k (by omega)).p
  obtain ⟨⟨u1, u1'⟩, v2', u3', u4, u5⟩ := TC.1 kd
  have kk : hK h (hB h (C + 51) k) ∈ [244, 245] := by
    rw [TA.2.1.1]
    rcases kd with w | w <;> (rw [w]; decide)
  have skm := HC.2.2.2.2.2.2.2.2.1
  obtain ⟨-, rm0, -, -, -, sk, vk, -, gk, -, ⟨-, -, r3⟩, -, -, ⟨s1, -, s3⟩, -, ⟨g1, g2, g3⟩⟩ := skm
  have en : ∃ n : Nat, S f_Md_thingCount k = (n : Int) ∧ n ≤ 64 := ⟨(S f_Md_thingCount k).toNat, by have := TB.2.1; omega, by have := TB.2.1; omega⟩
  obtain ⟨n, en, n64⟩ := en
  have L : SLK S k n := ⟨by omega, n64, en, fun w => (TB.2.2.2.2.1 (by omega)).1, fun i hi => by have := (TB.2.2.2.1 i (by omega)).1; omega, fun i hi => TB.2.2.2.2.2 i (by omega)⟩
  have hs0 : (S f_Md_thingShape k).toNat < sn := by omega
  have hnm : ∀ i, i < n → S f_Md_shapeName (anc S (S f_Md_thingShape k).toNat (n - 1 - i)) = nmT S k i := fun i hi => by
    have := u5 i (by omega)
    rw [en, Int.toNat_natCast] at this
    exact this.symm
  have SH := c8 _ hs0
  have dst := SH.2.2.2.2.2.2.2.2.2
  have hcn : S f_Md_shapeCount (S f_Md_thingShape k).toNat = (n : Int) := by rw [u3']; exact en
  have nmn : ∀ i, i < n → 0 ≤ nmT S k i := fun i hi => by
    rw [← hnm i hi]
    obtain ⟨x1, x2⟩ := anc_k (S := S) (S' := S) (sn := sn) (s := (S f_Md_thingShape k).toNat) (fun s hs => rfl) (fun s hs => (c8 s hs).bef hs) hs0 (n - 1 - i)
    have cnt : ∀ j, j < n → S f_Md_shapeCount (anc S (S f_Md_thingShape k).toNat j) = ((n - j : Nat) : Int) := fun j => by
      induction j with
      | zero => intro _; exact hcn
      | succ j ih =>
        intro hj
        have e := ih (by omega)
        obtain ⟨y1, y2⟩ := anc_k (S := S) (S' := S) (sn := sn) (s := (S f_Md_thingShape k).toNat) (fun s hs => rfl) (fun s hs => (c8 s hs).bef hs) hs0 j
        have f8 := (SHF.of c8 _ y2).2.2.2.2.2.2.2 (by omega)
        show S f_Md_shapeCount (S f_Md_shapeBefore (anc S (S f_Md_thingShape k).toNat j)).toNat = _
        have := f8.2.2.2
        omega
    have e := cnt (n - 1 - i) (by omega)
    rcases (c8 _ x2).2.2.2.1 with y | y
    · omega
    · exact y.2.2.2.1
  have dn : ∀ a b, a < n → b < n → nmT S k a = nmT S k b → a = b := fun a b ha hb e => by
    rw [← hnm a ha, ← hnm b hb] at e
    have cs : ((n : Nat) : Int) = S f_Md_shapeCount (S f_Md_thingShape k).toNat := hcn.symm
    by_cases q : a = b
    · exact q
    · exfalso
      by_cases q2 : a < b
      · exact dst (n - 1 - b) (n - 1 - a) (by omega) (by omega) e.symm
      · exact dst (n - 1 - a) (n - 1 - b) (by omega) (by omega) e
  refine ⟨n, sn, (S f_Md_thingShape k).toNat, c2, L, by omega, hs0, hcn, v2', hnm, dn, nmn, SHF.of c8, fun s hs hz => ?_, kk, TA.2.1.2.2⟩
  rcases (c8 s hs).2.2.2.1 with y | ⟨y1, y2, y3, y4, y5, y6⟩
  · exact y.2.1
  · have := (c8 (S f_Md_shapeBefore s).toNat (by omega)).2.2.2.2.2.2.1
    omega
/-- C: which property; by the thing -/
theorem r_findT {f : Nat → Int} (HC : CORE Γ h C ho X Y S N) (hk : (k : Int) < S f_Md_things 0) (kd : S f_Md_thingKind k = 4 ∨ S f_Md_thingKind k = 5) (en : S f_Md_thingCount k = (n : Int)) (q : ∀ v, OWN S k n nm v → Q (Sum.inl (some (vI v))) (cc h C X Y)) : wpB PGm ρ d m_Shape_find 0 [(0, vR (hR h f_Obj_shape (hB h (C + 51) k))), (1, vI nm)] [] (cc h C X Y) Q := by
  obtain ⟨n', sn, s0, e1, L, e2, e3, e4, e5, hnm, dn, nmn, SF, b0, -⟩ := HC.sth hk kd
  have : n' = n := by have := L.2.2.1; omega
  subst this
  rw [e5]
  refine r_find (f := f) SF b0 (fun v hv => q v ?_) e3 e4 (by have := L.2.1; omega)
  rcases hv with ⟨j, h1, h2, h3⟩ | ⟨h1, h2⟩
  · refine Or.inl ⟨n' - 1 - j, h1, by omega, ?_⟩
    have := hnm (n' - 1 - j) (by omega)
    rw [show n' - 1 - (n' - 1 - j) = j by omega, h3] at this
    exact this.symm
  · refine Or.inr ⟨h1, fun i hi c => h2 (n' - 1 - i) (by omega) ?_⟩
    rw [hnm i hi]; exact c
theorem OWN.ows (H : OWN S k n nm v) (en : S f_Md_thingCount k = (n : Int)) : (0 ≤ v ↔ OWs S k nm) := by
  rcases H with ⟨i, e, h1, h2⟩ | ⟨e, h1⟩
  · exact ⟨fun _ => ⟨n, en, i, h1, h2⟩, fun _ => by omega⟩
  · refine ⟨fun c => by omega, fun ⟨n', e', i, h2, h3⟩ => ?_⟩
    have : n' = n := by omega
    subst this
    exact absurd h3 (h1 i h2)
theorem OWN.ex : ∃ v, OWN S k n nm v := by
  by_cases q : ∃ i, i < n ∧ nmT S k i = nm
  · obtain ⟨i, h1, h2⟩ := q
    exact ⟨(i : Int), Or.inl ⟨i, rfl, h1, h2⟩⟩
  · exact ⟨-1, Or.inr ⟨rfl, fun i h1 h2 => q ⟨i, h1, h2⟩⟩⟩
/-- C: the holder -/
theorem r_holder (HC : CORE Γ h C ho X Y S N) (hp : PVL S p) (q : ∀ j v, pcS S j p < 0 → HLD S nm j p v → Q (Sum.inl (some (vR (prA h C v)))) (cc h C X Y)) : wpB PGm ρ (d + 1) m_Heap_holder 0 [(0, vR (prA h C p)), (1, vI nm)] [] (cc h C X Y) Q := by
  obtain ⟨tn, sn, sm, c1, c2, c5, c6', c3, c4, c6, c7, c8, U, m1, m2, m3, m4⟩ := HC.shp
  have wf := prS_wf c1 c7 c8
  have AY : ACY S := by obtain ⟨_, _, _, _, _, _, _, _, _, _, _, _, a⟩ := HC.2.2.2.2.2.2.2.2.2.1; exact a.2
  have key : ∀ j p, pcS S j p < 0 → PVL S p → (∀ v, HLD S nm j p v → Q (Sum.inl (some (vR (prA h C v)))) (cc h C X Y)) → wpB PGm ρ (d + 1) m_Heap_holder 2 [(1, vI nm), (2, vR (prA h C p))] [] (cc h C X Y) Q := by
    have m1z : prA h C (-1) = 0 := if_pos (by decide)
    intro j
    induction j with
    | zero =>
      intro p hj hp q
      have hj' : p < 0 := hj
      have e : prA h C p = 0 := if_pos hj'
      have g := q (-1) ⟨hj', rfl⟩
      rw [m1z] at g
      rw [e]
      exact b_Heap_holder_2 ⟨fun _ => g, fun w => absurd rfl w⟩
    | succ j ih =>
      intro p hj hp q
      by_cases pz : p < 0
      · have e : prA h C p = 0 := if_pos pz
        have g := q (-1) (Or.inl ⟨pz, rfl⟩)
        rw [m1z] at g
        rw [e]
        exact b_Heap_holder_2 ⟨fun _ => g, fun w => absurd rfl w⟩
      · have p0 : 0 ≤ p := by omega
        unfold pcS at hj
        rw [if_neg pz] at hj
        have hp' := hp
        rcases hp with e | ⟨a1, a2, a3⟩
        · omega
        have hk : ((p.toNat : Nat) : Int) < S f_Md_things 0 := by omega
        obtain ⟨n', sn', s0, e1, L, e2, e3, e4, e5, hnm, dn, nmn, SF, b0, kk, nz⟩ := HC.sth hk a3
        have ks : hK h (hR h f_Obj_shape (hB h (C + 51) p.toNat)) = k_Shape := by rw [e5]; exact (SF s0 e3).1
        have e : prA h C p = hB h (C + 51) p.toNat := if_neg pz
        have SH := c8 s0 (by omega)
        have ep : hR h f_Shape_prototype (hB h (C + 52) s0) = prA h C (prS S p.toNat) := by
          unfold prA prS
          rw [e2, Int.toNat_natCast]
          rcases SH.2.2.1 with y | ⟨y1, y2, y3, y4⟩
          · rw [y.1, y.2, if_pos (by decide)]
          · rw [if_neg (by omega)]; exact y4
        have r1 : hR (cc h C X Y) f_Obj_shape (hB h (C + 51) p.toNat) = hR h f_Obj_shape (hB h (C + 51) p.toNat) := ccRo (by decide)
        have r2 : hR (cc h C X Y) f_Shape_prototype (hB h (C + 52) s0) = hR h f_Shape_prototype (hB h (C + 52) s0) := ccRo (by decide)
        rw [e]
        refine b_Heap_holder_2 ⟨fun w => absurd w nz, fun _ => ⟨kk, by rw [r1]; exact ks, ?_⟩⟩
        rw [r1]
        refine r_findT (f := fun _ => 0) HC hk a3 L.2.2.1 (fun v hv => ⟨fun z => ?_, fun z => ⟨kk, by rw [r1]; exact ks, ?_⟩⟩)
        · have g := q p (Or.inr ⟨p0, Or.inl ⟨(hv.ows L.2.2.1).mp z, rfl⟩⟩)
          rw [e] at g; exact g
        · rw [r1, e5, r2, ep]
          exact ih (prS S p.toNat) hj (PVL.of wf p0 hp') (fun v' hl => q v' (Or.inr ⟨p0, Or.inr ⟨fun c => by have := (hv.ows L.2.2.1).mpr c; omega, hl⟩⟩))
  have ex : ∃ j, pcS S j p < 0 := by
    rcases hp with e | ⟨a1, a2, a3⟩
    · exact ⟨0, by show p < 0; omega⟩
    · obtain ⟨j, hj⟩ := AY p.toNat (by omega) a3
      exact ⟨j, by rw [show ((p.toNat : Nat) : Int) = p by omega] at hj; exact hj⟩
  obtain ⟨j, hj⟩ := ex
  exact b_Heap_holder_0 (key j p hj hp (fun v hv => q j v hj hv))
/-- T: has -/
theorem s_has24 (O : TOK h0 T) (HC : CORE Γ h C ho X Y S N) (h0' : 0 ≤ nm) : ∀ j p v, HLD S nm j p v → PVL S p → Q (Sum.inl (some (vI (if v < 0 then 0 else 1)))) (cn h0 T S) → wpB PGm ρ (d + 1) m_Md_has 24 [(0, vR T), (3, vI nm), (4, vI p)] [] (cn h0 T S) Q := by
  obtain ⟨tn, sn, sm, c1, c2, c5, c6', c3, c4, c6, c7, c8, U, m1, m2, m3, m4⟩ := HC.shp
  have wf := prS_wf c1 c7 c8
  have kT := O.1
  intro j
  induction j with
  | zero =>
    intro p v hl hp q
    obtain ⟨pz, rfl⟩ := hl
    exact b_Md_has_24 ⟨fun _ => q, fun z => absurd pz (by omega)⟩
  | succ j ih =>
    intro p v hl hp q
    rcases hl with ⟨pz, rfl⟩ | ⟨p0, hl⟩
    · exact b_Md_has_24 ⟨fun _ => q, fun z => absurd pz (by omega)⟩
    · have hp' := hp
      rcases hp with e | ⟨a1, a2, a3⟩
      · omega
      have hk : ((p.toNat : Nat) : Int) < S f_Md_things 0 := by omega
      have ec : ((p.toNat : Nat) : Int) = p := by omega
      obtain ⟨n', sn', s0, e1, L, e2, e3, e4, e5, hnm, dn, nmn, SF, b0, kk, nz⟩ := HC.sth hk a3
      obtain ⟨w, hw⟩ := OWN.ex (S := S) (k := p.toNat) (n := n') (nm := nm)
      have g := s_own (ρ := ρ) (d := d) (Q := cI (fun x16 h11 => ((x16 < 0 → hK h11 T = k_Md ∧ wpB PGm ρ d m_Md_protoOf 0 [(0, vR T), (1, vI p)] [] h11 (cI (fun x28 h23 => wpB PGm ρ (d + 1) m_Md_has 24 [(0, vR T), (3, vI nm), (4, vI x28)] [] h23 Q) (fun e26 h25 => hK h25 e26 ≠ 0 ∧ Q (Sum.inr e26) h25))) ∧ (0 ≤ x16 → Q (Sum.inl (some (vI 1))) h11))) (fun e14 h13 => hK h13 e14 ≠ 0 ∧ Q (Sum.inr e14) h13)) O L dn hw ⟨fun z => ⟨kT, ?_⟩, fun z => ?_⟩
      · rw [ec] at g
        exact b_Md_has_24 ⟨fun z => absurd z (by omega), fun _ => ⟨fun z => absurd z (by omega), fun _ => ⟨kT, g⟩⟩⟩
      · have nO : ¬ OWs S p.toNat nm := fun c => by have := (hw.ows L.2.2.1).mpr c; omega
        have hl' : HLD S nm j (prS S p.toNat) v := by
          rcases hl with ⟨c, -⟩ | ⟨-, c⟩
          · exact absurd c nO
          · exact c
        have g2 := s_protoOf (ρ := ρ) (d := d) (k := p.toNat) (S := S) O L.1 ⟨by omega, by omega⟩ (Q := cI (fun x28 h23 => wpB PGm ρ (d + 1) m_Md_has 24 [(0, vR T), (3, vI nm), (4, vI x28)] [] h23 Q) (fun e26 h25 => hK h25 e26 ≠ 0 ∧ Q (Sum.inr e26) h25)) (ih (prS S p.toNat) v hl' (PVL.of wf p0 hp') q)
        rw [ec] at g2
        exact g2
      · have yO := (hw.ows L.2.2.1).mp z
        have ev : v = p := by
          rcases hl with ⟨-, c⟩ | ⟨c, -⟩
          · exact c
          · exact absurd yO c
        rw [ev, if_neg (by omega)] at q
        exact q
end
