/-! entries of sites at objects: what they say is right -/
set_option maxRecDepth 20000
/-- w is the place of a name in a shape, -1 without -/
def PLS (S : SS) (s : Nat) (nm w : Int) : Prop := (∃ i : Nat, w = (i : Int) ∧ (i : Int) < S f_Md_shapeCount s ∧ S f_Md_shapeName (anc S s ((S f_Md_shapeCount s).toNat - 1 - i)) = nm) ∨ (w = -1 ∧ ∀ i : Nat, (i : Int) < S f_Md_shapeCount s → S f_Md_shapeName (anc S s ((S f_Md_shapeCount s).toNat - 1 - i)) ≠ nm)
/-- from a prototype p on: what was found there holds, or the prototype has changed since -/
def WLK (S : SS) (La hd w nm : Int) : Nat → Int → Prop
  | 0, p => p < 0 ∧ hd = -1 ∧ w = -1
  | j + 1, p => (p < 0 ∧ hd = -1 ∧ w = -1) ∨ ((0 ≤ p ∧ p < S f_Md_things 0 ∧ S f_Md_isWatched p.toNat = 1) ∧ (La < S f_Md_changedAt p.toNat ∨ ((0 ≤ S f_Md_thingShape p.toNat ∧ S f_Md_thingShape p.toNat < S f_Md_shapes 0) ∧ ((p = hd ∧ 0 ≤ w ∧ PLS S (S f_Md_thingShape p.toNat).toNat nm w) ∨ (¬ p = hd ∧ PLS S (S f_Md_thingShape p.toNat).toNat nm (-1) ∧ WLK S La hd w nm j (prS S p.toNat))))))
/-- an entry at an object is right -/
def ENB (S : SS) (κ nm : Int) (e : ENT) : Prop := ((κ = 4 ∨ κ = 6 → e f_Md_which = -1 ∧ e f_Md_holder = -1 ∧ e f_Md_toShape = -1) ∧ (κ = 2 ∨ κ = 3 → 0 ≤ nm)) ∧
  (κ = 1 ∨ κ = 3 → e f_Md_holder = -1 ∧ (0 ≤ e f_Md_guard ∧ e f_Md_guard < S f_Md_shapes 0) ∧ ((0 ≤ e f_Md_which ∧ PLS S (e f_Md_guard).toNat nm (e f_Md_which) ∧ e f_Md_toShape = -1) ∨ (e f_Md_which = -1 ∧ PLS S (e f_Md_guard).toNat nm (-1) ∧ ∃ r : Nat, e f_Md_toShape = (r : Int) ∧ 1 ≤ r ∧ (r : Int) < S f_Md_shapes 0 ∧ mtc S (e f_Md_guard) (S f_Md_shapeProto (e f_Md_guard).toNat) nm r))) ∧
  (rdK κ → e f_Md_toShape = -1 ∧ (0 ≤ e f_Md_guard ∧ e f_Md_guard < S f_Md_shapes 0) ∧ e f_Md_linkedAt ≤ S f_Md_changes 0 ∧ ((0 ≤ e f_Md_which ∧ e f_Md_holder = -1 ∧ PLS S (e f_Md_guard).toNat nm (e f_Md_which)) ∨ (¬ (0 ≤ e f_Md_which ∧ e f_Md_holder < 0) ∧ PLS S (e f_Md_guard).toNat nm (-1) ∧ ∃ j, WLK S (e f_Md_linkedAt) (e f_Md_holder) (e f_Md_which) nm j (S f_Md_shapeProto (e f_Md_guard).toNat))))
section
variable {ρ : Nat → Nat} {d : Nat} {Γ : GH} {h h' : ah} {C ho k n i j N M s sn r rr : Nat} {S S' S1 : SS} {X : X3} {Y : Y3} {g : HG} {nm w hd La κ p u ty v el : Int} {e : ENT}
theorem PLS.chg (H : PLS S s nm w) (hb : ∀ s : Nat, (s : Int) < S f_Md_shapes 0 → (S f_Md_shapeBefore s).toNat < (S f_Md_shapes 0).toNat) (hs : (s : Int) < S f_Md_shapes 0) (c : CHG S S') : PLS S' s nm w := by
  obtain ⟨-, ⟨-, c2⟩, -⟩ := c
  have ec : S' f_Md_shapeCount s = S f_Md_shapeCount s := c2 s hs _ (by decide)
  have A := fun j => anc_k (S := S) (S' := S') (sn := (S f_Md_shapes 0).toNat) (s := s) (fun s hs => c2 s (by omega) _ (by decide)) (fun s hs => hb s (by omega)) (by omega) j
  have en : ∀ j, S' f_Md_shapeName (anc S' s j) = S f_Md_shapeName (anc S s j) := fun j => by
    rw [(A j).1]
    exact c2 _ (by have := (A j).2; omega) _ (by decide)
  unfold PLS
  rw [ec]
  simp only [en]
  exact H
theorem WLK.chg (hb : ∀ s : Nat, (s : Int) < S f_Md_shapes 0 → (S f_Md_shapeBefore s).toNat < (S f_Md_shapes 0).toNat) (c : CHG S S') (hL : La ≤ S f_Md_changes 0) : ∀ j p, WLK S La hd w nm j p → WLK S' La hd w nm j p := fun j => by
  induction j with
  | zero => exact fun p H => H
  | succ j ih =>
    intro p H
    rcases H with H | ⟨⟨a1, a2, a3⟩, H⟩
    · exact Or.inl H
    · obtain ⟨c1, ⟨c2, c3⟩, c4, c5, -⟩ := id c
      obtain ⟨w1, w2⟩ := c5 p.toNat (by omega) a3
      refine Or.inr ⟨⟨a1, by omega, w1⟩, ?_⟩
      by_cases ch : S f_Md_changes 0 < S' f_Md_changedAt p.toNat
      · exact Or.inl (by omega)
      · have w3 := w2.resolve_right ch
        rw [w3.1, w3.2]
        rcases H with H | ⟨⟨a4, a5⟩, ⟨b1, b2, b3⟩ | ⟨b1, b2, b3⟩⟩
        · exact Or.inl H
        · exact Or.inr ⟨⟨a4, by omega⟩, Or.inl ⟨b1, b2, b3.chg hb (by omega) c⟩⟩
        · have ep : prS S' p.toNat = prS S p.toNat := by
            unfold prS
            rw [w3.1]
            exact c3 _ (by omega) _ (by decide)
          exact Or.inr ⟨⟨a4, by omega⟩, Or.inr ⟨b1, b2.chg hb (by omega) c, by rw [ep]; exact ih _ b3⟩⟩
theorem ENB.chg (H : ENB S κ nm e) (hb : ∀ s : Nat, (s : Int) < S f_Md_shapes 0 → (S f_Md_shapeBefore s).toNat < (S f_Md_shapes 0).toNat) (c : CHG S S') : ENB S' κ nm e := by
  obtain ⟨h1, h2, h3⟩ := H
  obtain ⟨c1, ⟨c2, c3⟩, c4, c5, -⟩ := id c
  refine ⟨h1, fun q => ?_, fun q => ?_⟩
  · obtain ⟨a1, ⟨a2, a3⟩, a4⟩ := h2 q
    refine ⟨a1, ⟨a2, by omega⟩, ?_⟩
    rcases a4 with ⟨b1, b2, b3⟩ | ⟨b1, b2, r, b3, b4, b5, b6⟩
    · exact Or.inl ⟨b1, b2.chg hb (by omega) c, b3⟩
    · refine Or.inr ⟨b1, b2.chg hb (by omega) c, r, b3, b4, by omega, ?_⟩
      unfold mtc at b6 ⊢
      rw [c3 r b5 _ (by decide), c3 r b5 _ (by decide), c3 r b5 _ (by decide), c3 _ (by omega) _ (by decide)]
      exact b6
  · obtain ⟨a1, ⟨a2, a3⟩, a4, a5⟩ := h3 q
    refine ⟨a1, ⟨a2, by omega⟩, by omega, ?_⟩
    rcases a5 with ⟨b1, b2, b3⟩ | ⟨b1, b2, j, b3⟩
    · exact Or.inl ⟨b1, b2, b3.chg hb (by omega) c⟩
    · refine Or.inr ⟨b1, b2.chg hb (by omega) c, j, ?_⟩
      rw [c3 _ (by omega) _ (by decide)]
      exact WLK.chg hb c a4 j _ b3
/-- a thing's place of a name is its shape's -/
theorem own_pls (HC : CORE Γ h C ho X Y S N) (hk : (k : Int) < S f_Md_things 0) (kd : S f_Md_thingKind k = 4 ∨ S f_Md_thingKind k = 5) (en : S f_Md_thingCount k = (n : Int)) : (OWN S k n nm w ↔ PLS S (S f_Md_thingShape k).toNat nm w) := by
  obtain ⟨tn, sn, sm', d1, d2, d5, d6', d3, d4, d6, d7, -⟩ := HC.shp
  obtain ⟨a1, a2, a3, a4, a5⟩ := ((d7 k (by omega)).p.2.2.1).1 kd
  have nmE : ∀ i : Nat, i < n → nmT S k i = S f_Md_shapeName (anc S (S f_Md_thingShape k).toNat (n - 1 - i)) := fun i hi => by
    unfold nmT
    rw [a5 i (by omega), en]; rfl
  unfold OWN PLS
  rw [a3, en]
  constructor
  · rintro (⟨i, e1, e2, e3⟩ | ⟨e1, e2⟩)
    · exact Or.inl ⟨i, e1, by omega, by rw [Int.toNat_natCast, ← nmE i e2]; exact e3⟩
    · exact Or.inr ⟨e1, fun i hi => by rw [Int.toNat_natCast, ← nmE i (by omega)]; exact e2 i (by omega)⟩
  · rintro (⟨i, e1, e2, e3⟩ | ⟨e1, e2⟩)
    · rw [Int.toNat_natCast] at e3
      exact Or.inl ⟨i, e1, by omega, by rw [nmE i (by omega)]; exact e3⟩
    · exact Or.inr ⟨e1, fun i hi => by
        have := e2 i (by omega)
        rw [Int.toNat_natCast] at this
        rw [nmE i hi]; exact this⟩
theorem CORE.cnt (HC : CORE Γ h C ho X Y S N) (hk : (k : Int) < S f_Md_things 0) : ∃ n : Nat, S f_Md_thingCount k = (n : Int) := by
  obtain ⟨tn, sn, sm', d1, d2, d5, d6', d3, d4, d6, d7, -⟩ := HC.shp
  have := (d7 k (by omega)).2.2.2.2.1
  exact ⟨(S f_Md_thingCount k).toNat, by omega⟩
/-- kind of what is watched -/
theorem CORE.wat (HC : CORE Γ h C ho X Y S N) (hk : (k : Int) < S f_Md_things 0) (hw : S f_Md_isWatched k = 1) : S f_Md_thingKind k = 4 ∨ S f_Md_thingKind k = 5 := by
  obtain ⟨tn, sn, sm', d1, d2, d5, d6', d3, d4, d6, d7, -⟩ := HC.shp
  have T := d7 k (by omega)
  have a1 := T.p.1.1
  have a2 := T.p.2.2.2.2.2.1
  by_cases c : S f_Md_thingKind k = 6 ∨ S f_Md_thingKind k = 7
  · have := a2 c; omega
  · omega
/-- an entry that is not stale tells who holds the name -/
theorem WLK.hld (HC : CORE Γ h C ho X Y S N) : ∀ j p, WLK S La hd w nm j p → ∀ j', STL S La hd j' p 0 → ∃ j2 u, HLD S nm j2 p u ∧ ((u = -1 ∧ w = -1 ∧ hd = -1) ∨ (0 ≤ u ∧ u = hd ∧ 0 ≤ w ∧ ∃ n : Nat, S f_Md_thingCount u.toNat = (n : Int) ∧ OWN S u.toNat n nm w)) := fun j => by
  induction j with
  | zero =>
    rintro p ⟨a1, a2, a3⟩ j' -
    exact ⟨0, -1, ⟨a1, rfl⟩, Or.inl ⟨rfl, a3, a2⟩⟩
  | succ j ih =>
    intro p H j' st
    rcases H with ⟨a1, a2, a3⟩ | ⟨⟨a1, a2, a3⟩, H⟩
    · exact ⟨0, -1, ⟨a1, rfl⟩, Or.inl ⟨rfl, a3, a2⟩⟩
    · have kd := HC.wat (k := p.toNat) (by omega) a3
      obtain ⟨n, en⟩ := HC.cnt (k := p.toNat) (by omega)
      have op := fun w => own_pls (nm := nm) (w := w) HC (k := p.toNat) (by omega) kd en
      match j', st with
      | 0, ⟨s1, _⟩ => omega
      | j' + 1, st =>
        rcases st with ⟨s1, -⟩ | ⟨-, ⟨-, s2⟩ | ⟨s1, s2, -⟩ | ⟨s1, s2, s3⟩⟩
        · omega
        · exact absurd s2 (by decide)
        · rcases H with H | ⟨-, ⟨b1, b2, b3⟩ | ⟨b1, -, -⟩⟩
          · omega
          · have ow := (op w).mpr b3
            refine ⟨1, p, Or.inr ⟨a1, Or.inl ⟨(ow.ows en).mp b2, rfl⟩⟩, Or.inr ⟨a1, b1, b2, n, en, ow⟩⟩
          · exact absurd s2 b1
        · rcases H with H | ⟨-, ⟨b1, b2, b3⟩ | ⟨b1, b2, b3⟩⟩
          · omega
          · exact absurd b1 s2
          · have ow := (op (-1)).mpr b2
            have no : ¬ OWs S p.toNat nm := fun c => by
              have := (ow.ows en).mpr c
              omega
            obtain ⟨j2, u, hu, r⟩ := ih _ b3 _ s3
            exact ⟨j2 + 1, u, Or.inr ⟨a1, Or.inr ⟨no, hu⟩⟩, r⟩
/-- so the entry says what a look finds -/
theorem ENB.lko (HC : CORE Γ h C ho X Y S N) (E : ENB S κ nm e) (hκ : rdK κ) (l0 : e f_Md_linker = 0) (st : STE S κ e 0) (hk : (k : Int) < S f_Md_things 0) (kd : S f_Md_thingKind k = 4 ∨ S f_Md_thingKind k = 5) (gd : S f_Md_thingShape k = e f_Md_guard) : LKO S nm k (e f_Md_which) (e f_Md_holder) := by
  obtain ⟨-, -, h3⟩ := E
  obtain ⟨a1, ⟨a2, a3⟩, a4, a5⟩ := h3 hκ
  obtain ⟨n, en⟩ := HC.cnt hk
  have op := fun w => own_pls (nm := nm) (w := w) HC hk kd en
  rw [gd] at op
  rcases a5 with ⟨b1, b2, b3⟩ | ⟨b1, b2, j, b3⟩
  · have ow := (op _).mpr b3
    refine ⟨1, (k : Int), Or.inr ⟨by omega, Or.inl ⟨?_, rfl⟩⟩, Or.inr ⟨by omega, ⟨n, ?_, ?_⟩, b1, ?_⟩⟩
    · rw [Int.toNat_natCast]; exact (ow.ows en).mp b1
    · rw [Int.toNat_natCast]; exact en
    · rw [Int.toNat_natCast]; exact ow
    · rw [if_pos rfl]; exact b2
  · have ow := (op _).mpr b2
    have no : ¬ OWs S k nm := fun c => by
      have := (ow.ows en).mpr c
      omega
    have st' : ∃ j, STL S (e f_Md_linkedAt) (e f_Md_holder) j (S f_Md_shapeProto (e f_Md_guard).toNat) 0 := by
      rcases st with ⟨-, -, -, x⟩ | ⟨x, -⟩
      · exact x
      · exact absurd ⟨l0, hκ, b1⟩ x
    obtain ⟨j', st'⟩ := st'
    obtain ⟨j2, u, hu, r⟩ := WLK.hld HC j _ b3 j' st'
    have ep : prS S k = S f_Md_shapeProto (e f_Md_guard).toNat := by unfold prS; rw [gd]
    refine ⟨j2 + 1, u, Or.inr ⟨by omega, Or.inr ⟨by rw [Int.toNat_natCast]; exact no, by rw [Int.toNat_natCast, ep]; exact hu⟩⟩, ?_⟩
    rcases r with ⟨r1, r2, r3⟩ | ⟨r1, r2, r3, n', r4, r5⟩
    · exact Or.inl ⟨by omega, r2, r3⟩
    · refine Or.inr ⟨r1, ⟨n', r4, r5⟩, r3, ?_⟩
      rw [if_neg (fun c => no ?_)]
      · exact r2.symm
      · rw [c, Int.toNat_natCast] at r4 r5
        exact (r5.ows r4).mp r3
end
