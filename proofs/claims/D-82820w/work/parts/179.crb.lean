/-! C: names of a shape, and what is wanting -/
set_option maxRecDepth 20000
/-- the shapes of C, for reading -/
def SHF (h : ah) (C : Nat) (S : SS) (sn : Nat) : Prop := ∀ s, s < sn → hK h (hB h (C + 52) s) = k_Shape ∧ hB h (C + 52) s ≠ 0 ∧ hI h f_Shape_name (hB h (C + 52) s) = S f_Md_shapeName s ∧ hI h f_Shape_size (hB h (C + 52) s) = S f_Md_shapeCount s ∧ (0 ≤ S f_Md_shapeCount s ∧ S f_Md_shapeCount s ≤ 4000) ∧ hR h f_Shape_child (hB h (C + 52) s) = shA h C (lastB S s sn) ∧ (0 ≤ S f_Md_shapeBefore s → hR h f_Shape_sibling (hB h (C + 52) s) = shA h C (lastB S (S f_Md_shapeBefore s).toNat s) ∧ S f_Md_shapeProto s = S f_Md_shapeProto (S f_Md_shapeBefore s).toNat) ∧ (1 ≤ S f_Md_shapeCount s → 0 ≤ S f_Md_shapeBefore s ∧ S f_Md_shapeBefore s < (s : Int) ∧ hR h f_Shape_before (hB h (C + 52) s) = hB h (C + 52) (S f_Md_shapeBefore s).toNat ∧ S f_Md_shapeCount s = S f_Md_shapeCount (S f_Md_shapeBefore s).toNat + 1)
/-- where a shape lies, null without -/
def crA (h : ah) (C : Nat) (cur : Int) : Nat := if cur < 0 then 0 else hB h (C + 52) cur.toNat
section
variable {ρ : Nat → Nat} {d : Nat} {Q : QT} {h h1 h' H : ah} {C k n m o c x y z s f i j a sn sm tn s0 : Nat} {X X' : X3} {Y : Y3} {S S' : SS} {nm : Nat → Int} {v w p cur but : Int}
theorem SHF.of (H : ∀ s, s < sn → SH1 h C S tn sn s) : SHF h C S sn := fun s hs => by
  obtain ⟨⟨x1, x2, x3⟩, x4, x5, x6, x7, x8, x9, x10, x11, x12⟩ := H s hs
  refine ⟨x1, x3, x7, x8, x9, x10, fun q => ⟨x11 q, ?_⟩, fun q => ?_⟩
  · rcases x6 with y | ⟨-, -, -, -, -, y⟩
    · omega
    · exact y
  · rcases x6 with y | ⟨y1, y2, y3, y4, y5, -⟩
    · omega
    · exact ⟨y1, y2, y3, y5⟩
theorem r_nameAt (F : SHF h C S sn) (hi : i ≤ 5000) : ∀ m s, s < sn → S f_Md_shapeCount s = ((i + 1 + m : Nat) : Int) → Q (Sum.inl (some (vI (S f_Md_shapeName (anc S s m))))) (cc h C X Y) → wpB PGm ρ d m_Shape_nameAt 2 [(1, vI (i : Int)), (2, vR (hB h (C + 52) s))] [] (cc h C X Y) Q := by
  have x1 : i ≤ 2000000000 := by omega
  intro m
  induction m with
  | zero =>
    intro s hs hc q
    obtain ⟨f1, f2, f3, f4, -⟩ := F s hs
    refine b_Shape_nameAt_2 ⟨f1, ?_⟩
    rw [ccIo (by decide), ccIo (by decide), f3, f4, hc, w32_s x1]
    exact ⟨fun _ => q, fun z => absurd z (Int.lt_irrefl _)⟩
  | succ m ih =>
    intro s hs hc q
    obtain ⟨f1, f2, f3, f4, f5, f6, f7, f8⟩ := F s hs
    obtain ⟨g1, g2, g3, g4⟩ := f8 (by omega)
    have nx := ih (S f_Md_shapeBefore s).toNat (by omega) (by omega) (by rw [← anc_s]; exact q)
    have lt : ((i + 1 : Nat) : Int) < ((i + 1 + (m + 1) : Nat) : Int) := by omega
    refine b_Shape_nameAt_2 ⟨f1, ?_⟩
    rw [ccIo (by decide), ccRo (by decide), f4, hc, w32_s x1, g3]
    exact ⟨fun z => absurd lt (Int.not_lt.mpr z), fun _ => nx⟩
theorem r_nameAt0 (F : SHF h C S sn) (hs : s0 < sn) (hc : S f_Md_shapeCount s0 = (n : Int)) (hn : n ≤ 4000) (hi : i < n) (hnm : ∀ i, i < n → S f_Md_shapeName (anc S s0 (n - 1 - i)) = nm i) (q : Q (Sum.inl (some (vI (nm i)))) (cc h C X Y)) : wpB PGm ρ d m_Shape_nameAt 0 [(0, vR (hB h (C + 52) s0)), (1, vI (i : Int))] [] (cc h C X Y) Q := by
  refine b_Shape_nameAt_0 (r_nameAt F (by omega) (n - 1 - i) s0 hs (by rw [hc]; congr 1; omega) ?_)
  rw [hnm i hi]; exact q
/-- what is known of a shape that is sought -/
theorem r_knF (F : SHF h C S sn) (U : UNQ S sn) (hc : 0 ≤ cur ∧ cur < (sn : Int)) (hp : S f_Md_shapeProto cur.toNat = p) (q : Q (Sum.inl (some (vR (crA h C (fsh S sn cur p v))))) (cc h C X Y)) : wpB PGm ρ d m_Shape_known 0 [(0, vR (crA h C cur)), (1, vI v)] [] (cc h C X Y) Q := by
  have ea : crA h C cur = hB h (C + 52) cur.toNat := if_neg (by omega)
  have ec : ((cur.toNat : Nat) : Int) = cur := by omega
  rw [ea]
  refine r_known (S := S) (sn := sn) (fun s hs => ?_) (by omega) (F cur.toNat (by omega)).2.2.2.2.2.1 (fun r r1 r2 r3 r4 => ?_) (fun w => ?_)
  · obtain ⟨f1, f2, f3, f4, f5, f6, f7, f8⟩ := F s hs
    exact ⟨f1, f2, f3, fun z => (f7 z).1⟩
  · have m : mtc S cur p v r := by
      refine ⟨by rw [r3, ec], ?_, r4⟩
      have := (F r r2).2.2.2.2.2.2.1 (by omega)
      rw [this.2, r3, Int.toNat_natCast]; exact hp
    rw [fsh_u U r1 r2 m] at q
    have : crA h C (r : Int) = hB h (C + 52) r := by unfold crA; rw [if_neg (by omega), Int.toNat_natCast]
    rw [this] at q; exact q
  · rw [fsh_n (fun r r1 r2 m => w r r1 r2 (by rw [m.1, ec]) m.2.2)] at q
    exact q
/-- C counts what is wanting -/
theorem r_wnt (F : SHF h C S sn) (U : UNQ S sn) (hs : s0 < sn) (hcn : S f_Md_shapeCount s0 = (n : Int)) (hn : n ≤ 64) (hnm : ∀ i, i < n → S f_Md_shapeName (anc S s0 (n - 1 - i)) = nm i) (hw : ∀ i, i < n → (nm i = but ↔ (i : Int) = w)) : ∀ m i c (cur : Int), i + m = n → c ≤ 100 + i → (cur = -1 ∨ (0 ≤ cur ∧ cur < (sn : Int) ∧ S f_Md_shapeProto cur.toNat = p)) → Q (Sum.inl (some (vI ((c + ctF S sn p nm w n m cur : Nat) : Int)))) (cc h C X Y) → wpB PGm ρ (d + 1) m_Heap_wanting 39 [(2, vR (hB h (C + 52) s0)), (3, vI but), (4, vR (crA h C cur)), (5, vI (c : Int)), (6, vI (i : Int))] [] (cc h C X Y) Q := by
  obtain ⟨f1, f2, f3, f4, f5, f6, f7, f8⟩ := F s0 hs
  intro m
  induction m with
  | zero =>
    intro i c cur hi hc _ q
    have e : i = n := by omega
    subst e
    unfold ctF at q
    refine b_Heap_wanting_39 ⟨f1, fun _ => q, fun z => ?_⟩
    rw [ccIo (by decide), f4, hcn] at z
    exact absurd z (Int.lt_irrefl _)
  | succ m ih =>
    intro i c cur hi hc hcur q
    have hin : i < n := by omega
    have en' : n - (m + 1) = i := by omega
    have uf : ctF S sn p nm w n (m + 1) cur = if (i : Int) = w then ctF S sn p nm w n m cur else (if nxF S sn p cur (nm i) < 0 then 1 else 0) + ctF S sn p nm w n m (nxF S sn p cur (nm i)) := by
      show (if ((n - (m + 1) : Nat) : Int) = w then _ else _) = _
      rw [en']
    rw [uf] at q
    have x0 : -2147483648 ≤ (c : Int) + 0 ∧ (c : Int) + 0 < 2147483648 := by omega
    have x1 : c ≤ 2000000000 := by omega
    have x2 : i ≤ 2000000000 := by omega
    have nlt : ¬ (n : Int) ≤ (i : Int) := by omega
    have skip : nm i = but → wpB PGm ρ (d + 1) m_Heap_wanting 39 [(2, vR (hB h (C + 52) s0)), (3, vI but), (4, vR (crA h C cur)), (5, vI (c : Int)), (6, vI (w32 ((i : Int) + 1)))] [] (cc h C X Y) Q := fun z => by
      rw [if_pos ((hw i hin).mp z)] at q
      rw [w32_s x2]
      exact ih (i + 1) c cur (by omega) (by omega) hcur q
    have nx : ¬ nm i = but → ∀ v, v = nxF S sn p cur (nm i) → wpB PGm ρ (d + 1) m_Heap_wanting 81 [(2, vR (hB h (C + 52) s0)), (3, vI but), (5, vI (c : Int)), (6, vI (i : Int))] [vR (crA h C v)] (cc h C X Y) Q := fun z v ev => by
      rw [if_neg (fun c => z ((hw i hin).mpr c)), ← ev] at q
      have hv : v = -1 ∨ (0 ≤ v ∧ v < (sn : Int) ∧ S f_Md_shapeProto v.toNat = p) := by
        rw [ev]
        unfold nxF
        by_cases c0 : cur < 0
        · rw [if_pos c0]; exact Or.inl rfl
        · rw [if_neg c0]
          rcases fsh_s (S := S) (sn := sn) (b := cur) (p := p) (nm := nm i) with ⟨r, e, a1, a2, a3⟩ | ⟨a, -⟩
          · rw [e]; exact Or.inr ⟨by omega, by omega, by rw [Int.toNat_natCast]; exact a3.2.1⟩
          · exact Or.inl a
      have az : crA h C v = 0 ↔ v < 0 := by
        unfold crA
        by_cases c0 : v < 0
        · rw [if_pos c0]; exact ⟨fun _ => c0, fun _ => rfl⟩
        · rw [if_neg c0]
          exact ⟨fun e => absurd e (F v.toNat (by omega)).2.1, fun e => absurd e c0⟩
      refine b_Heap_wanting_81 ⟨fun z2 => ?_, fun z2 => ?_⟩
      · have nv : ¬ v < 0 := fun c => z2 (az.mpr c)
        rw [if_neg nv, Nat.zero_add] at q
        rw [w32_of x0.1 x0.2, Int.add_zero, w32_s x2]
        exact ih (i + 1) c v (by omega) (by omega) hv q
      · have nv : v < 0 := az.mp z2
        rw [if_pos nv, ← Nat.add_assoc] at q
        rw [w32_s x1, w32_s x2]
        exact ih (i + 1) (c + 1) v (by omega) (by omega) hv q
    refine b_Heap_wanting_39 ⟨f1, fun z => ?_, fun _ => ?_⟩
    · rw [ccIo (by decide), f4, hcn] at z
      exact absurd z nlt
    refine r_nameAt0 F hs hcn (by omega) hin hnm ⟨fun z => ⟨fun z2 => ?_, fun z2 => ?_⟩, skip⟩
    · have c0 : ¬ cur < 0 := fun c => z2 (if_pos c)
      have hc2 : 0 ≤ cur ∧ cur < (sn : Int) ∧ S f_Md_shapeProto cur.toNat = p := by
        rcases hcur with e | e
        · omega
        · exact e
      refine ⟨?_, r_knF F U ⟨hc2.1, hc2.2.1⟩ hc2.2.2 (nx z _ ?_)⟩
      · have ea : crA h C cur = hB h (C + 52) cur.toNat := if_neg c0
        rw [ea]; exact (F cur.toNat (by omega)).1
      · unfold nxF; rw [if_neg c0]
    · have c0 : cur < 0 := by
        rcases hcur with e | e
        · omega
        · have ea : crA h C cur = hB h (C + 52) cur.toNat := if_neg (by omega)
          rw [ea] at z2
          exact absurd z2 (F cur.toNat (by omega)).2.1
      have := nx z (-1) (by unfold nxF; rw [if_pos c0])
      exact this
end
