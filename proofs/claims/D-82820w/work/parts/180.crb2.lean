/-! C: what is wanting, whole; both: a shape is rebuilt -/
set_option maxRecDepth 20000
/-- a prototype: C's and T's -/
def PRX (h : ah) (C : Nat) (S : SS) (l1 : Nat) (p : Int) : Prop := (l1 = 0 ∧ p = -1) ∨ ∃ k : Nat, l1 = hB h (C + 51) k ∧ p = (k : Int) ∧ (k : Int) < S f_Md_things 0 ∧ (S f_Md_thingKind k = 4 ∨ S f_Md_thingKind k = 5)
section
variable {ρ : Nat → Nat} {d : Nat} {Q : QT} {Γ : GH} {h h1 h' H : ah} {C ho k n m o c x y z s f i j a sn sm tn s0 l1 N r : Nat} {X X' X1 : X3} {Y : Y3} {S S' S1 : SS} {nm : Nat → Int} {v w p cur but : Int}
theorem CORE.shp (HC : CORE Γ h C ho X Y S N) : ∃ tn sn sm : Nat, S f_Md_things 0 = (tn : Int) ∧ S f_Md_shapes 0 = (sn : Int) ∧ 1 ≤ sn ∧ sn ≤ 4001 ∧ hl h (C + 51) = tn ∧ hl h (C + 52) = sn ∧ tn ≤ 8000 ∧ (∀ k, k < tn → TH1 Γ h C ho S N tn sn k) ∧ (∀ s, s < sn → SH1 h C S tn sn s) ∧ UNQ S sn ∧ (X 50 f_Heap_shapesMade 0 = (sm : Int) ∧ S f_Md_allShapes 0 = (sm : Int) ∧ sm ≤ 4000 ∧ sn ≤ sm + 1) := by
  have T := HC.2.2.2.2.2.2.2.2.2.1
  have M := HC.2.2.2.2.2.2.2.2.1
  obtain ⟨tn, sn, c1, c2, c3, c4, c5, c6, c6', c7, c8, c9, c10⟩ := T
  obtain ⟨-, -, sm, -, -, -, -, hk', -, -, -, ⟨m1, m2, m3⟩, -, -, ⟨m4, m5, m6⟩, -⟩ := M
  exact ⟨tn, sn, sm, c1, c2, c5, c6', c3, c4, c6, c7, c8, c10.1, m1, m2, m3, by omega⟩
theorem r_wanting (HC : CORE Γ h C ho X Y S N) (en : S f_Md_shapes 0 = (sn : Int)) (hd : 12 ≤ d) (P1 : PRX h C S l1 p) (hs : s0 < sn) (hcn : S f_Md_shapeCount s0 = (n : Int)) (hn : n ≤ 64) (hnm : ∀ i, i < n → S f_Md_shapeName (anc S s0 (n - 1 - i)) = nm i) (hw : ∀ i, i < n → (nm i = but ↔ (i : Int) = w)) (q : Q (Sum.inl (some (vI ((wnF S sn p nm w n : Nat) : Int)))) (cc h C X Y)) : wpB PGm ρ (d + 1) m_Heap_wanting 0 [(0, vR (C + 50)), (1, vR l1), (2, vR (hB h (C + 52) s0)), (3, vI but)] [] (cc h C X Y) Q := by
  have ⟨G, F⟩ := HC.1
  have gz := G.1
  obtain ⟨tn, sn', sm, c1, c2, c5, c6', c3, c4, c6, c7, c8, U, m1, m2, m3, m4⟩ := HC.shp
  have e : sn' = sn := by omega
  subst e
  have SF := SHF.of c8
  have go : ∀ cur, cur = rtF S sn' p → (cur = -1 ∨ (0 ≤ cur ∧ cur < (sn' : Int) ∧ S f_Md_shapeProto cur.toNat = p)) → wpB PGm ρ (d + 1) m_Heap_wanting 22 [(2, vR (hB h (C + 52) s0)), (3, vI but)] [vR (crA h C cur)] (cc h C X Y) Q := fun cur ec hcur => by
    have az : crA h C cur = 0 ↔ cur < 0 := by
      unfold crA
      by_cases c0 : cur < 0
      · rw [if_pos c0]; exact ⟨fun _ => c0, fun _ => rfl⟩
      · rw [if_neg c0]
        exact ⟨fun e => absurd e (SF cur.toNat (by omega)).2.1, fun e => absurd e c0⟩
    unfold wnF at q
    rw [← ec] at q
    refine b_Heap_wanting_22 ⟨fun z => b_Heap_wanting_34 ?_, fun z => b_Heap_wanting_34 ?_⟩
    · rw [if_neg (fun c => z (az.mpr c))] at q
      exact r_wnt (p := p) SF U hs hcn hn hnm hw n 0 0 cur (by omega) (by omega) hcur q
    · rw [if_pos (az.mp z)] at q
      exact r_wnt (p := p) SF U hs hcn hn hnm hw n 0 1 cur (by omega) (by omega) hcur q
  rcases P1 with ⟨rfl, rfl⟩ | ⟨k, rfl, rfl, hk, kd⟩
  · have e1 : hR (cc h C X Y) f_Heap_shapes (C + 50) = C + 52 := by rw [ccRo (by decide)]; exact F.2.2.1.2.2.1
    have eb : hB (cc h C X Y) (C + 52) 0 = hB h (C + 52) 0 := by
      have := ccBo (X := X) (Y := Y) (i := 0) (f := f_Heap_shapes) (b := C + 50) G (by decide) (by omega)
      rw [F.2.2.1.2.2.1] at this; exact this
    have S0 := c8 0 (by omega)
    have pz : S f_Md_shapeProto 0 = -1 := by
      rcases S0.2.2.2.1 with w | w
      · exact w.2.2.2.2.mp rfl
      · omega
    have g := go 0 (by unfold rtF; rw [if_pos (by decide)]) (Or.inr ⟨by decide, by omega, pz⟩)
    refine b_Heap_wanting_0 (by omega) ⟨fun z => absurd rfl z, fun _ => ⟨F.1.2.2.2.2.2.1, ?_⟩⟩
    rw [e1, eb]
    exact ⟨F.2.2.2.1.2.1.1, ⟨by rw [cclok]; exact F.2.2.2.1.2.1, by decide, by rw [ccl, c4]; omega⟩, Or.inr (by rw [ccK, S0.1.1]; decide), g⟩
  · obtain ⟨TA, TB, TC, TD⟩ := (c7 k (by omega)).p
    obtain ⟨u1, u2, u3', u4⟩ := TD.1 kd
    have kk : hK h (hB h (C + 51) k) ∈ [244, 245] := by
      rw [TA.2.1.1]
      rcases kd with w | w <;> (rw [w]; decide)
    have er : rtF S sn' (k : Int) = if rooB S k sn' = 0 then -1 else (rooB S k sn' : Int) := by
      unfold rtF
      rw [if_neg (by omega)]
      by_cases rz : rooB S k sn' = 0
      · rw [if_pos rz]
        exact fsh_n (fun r r1 r2 m => rooB_sp _ rz r r1 r2 ⟨m.1, m.2.1⟩)
      · rw [if_neg rz]
        obtain ⟨x1, x2⟩ := rooB_s1 _ rz
        have xl := rooB_lt (S := S) (k := k) sn'
        have x3 : S f_Md_shapeName (rooB S k sn') = -1 := by
          obtain ⟨-, -, -, q | q, -⟩ := c8 (rooB S k sn') (by omega)
          · exact q.2.2.1
          · omega
        exact fsh_u U (by omega) (by omega) ⟨x1, x2, x3⟩
    have ea : hR h f_Obj_root (hB h (C + 51) k) = crA h C (rtF S sn' (k : Int)) := by
      rw [u3', er]
      unfold shA crA
      by_cases rz : rooB S k sn' = 0
      · rw [if_pos rz, if_pos rz, if_pos (by decide)]
      · rw [if_neg rz, if_neg rz, if_neg (by omega), Int.toNat_natCast]
    refine b_Heap_wanting_0 (by omega) ⟨fun _ => ⟨kk, ?_⟩, fun z => absurd z TA.2.1.2.2⟩
    rw [ccRo (by decide), ea]
    refine go _ rfl ?_
    rw [er]
    by_cases rz : rooB S k sn' = 0
    · rw [if_pos rz]; exact Or.inl rfl
    · rw [if_neg rz]
      have xl := rooB_lt (S := S) (k := k) sn'
      exact Or.inr ⟨by omega, by omega, by rw [Int.toNat_natCast]; exact (rooB_s1 _ rz).2⟩
end
