/-! whether an object is above another -/
set_option maxRecDepth 20000
/-- the chain from p meets o -/
def HIT (S : SS) (o p : Int) : Prop := ∃ j, pcS S j p = o ∧ 0 ≤ o
def PVL (S : SS) (p : Int) : Prop := p = -1 ∨ (0 ≤ p ∧ p < S f_Md_things 0 ∧ (S f_Md_thingKind p.toNat = 4 ∨ S f_Md_thingKind p.toNat = 5))
def prA (h : ah) (C : Nat) (p : Int) : Nat := if p < 0 then 0 else hB h (C + 51) p.toNat
section
variable {ρ : Nat → Nat} {d : Nat} {h0 : ah} {Q : QT} {Γ : GH} {h h' : ah} {C ho T k f n i j sn tn N r m : Nat} {p q' o : Int} {S S' S1 : SS} {X X1 : X3} {Y : Y3}
theorem HIT.z (hp : p < 0) : ¬ HIT S o p := by
  rintro ⟨j, e, h0⟩
  cases j with
  | zero => unfold pcS at e; omega
  | succ j => unfold pcS at e; rw [if_pos hp] at e; omega
theorem HIT.nx (hp : 0 ≤ p) : HIT S o p ↔ (p = o ∨ HIT S o (prS S p.toNat)) := by
  constructor
  · rintro ⟨j, e, h0⟩
    cases j with
    | zero => exact Or.inl e
    | succ j =>
      unfold pcS at e
      rw [if_neg (by omega)] at e
      exact Or.inr ⟨j, e, h0⟩
  · rintro (e | ⟨j, e, h0⟩)
    · exact ⟨0, e, by omega⟩
    · exact ⟨j + 1, by unfold pcS; rw [if_neg (by omega)]; exact e, h0⟩
theorem PVL.of (wf : ∀ k : Nat, (k : Int) < S f_Md_things 0 → S f_Md_thingKind k = 4 ∨ S f_Md_thingKind k = 5 → prS S k = -1 ∨ (0 ≤ prS S k ∧ prS S k < S f_Md_things 0 ∧ (S f_Md_thingKind (prS S k).toNat = 4 ∨ S f_Md_thingKind (prS S k).toNat = 5))) (hp : 0 ≤ p) (H : PVL S p) : PVL S (prS S p.toNat) := by
  rcases H with e | ⟨a1, a2, a3⟩
  · omega
  · exact wf p.toNat (by omega) a3
/-- C: isAbove -/
theorem r_above (HC : CORE Γ h C ho X Y S N) (hk : (k : Int) < S f_Md_things 0) (kd : S f_Md_thingKind k = 4 ∨ S f_Md_thingKind k = 5) (q1 : HIT S (k : Int) p → Q (Sum.inl (some (vI 1))) (cc h C X Y)) (q0 : ¬ HIT S (k : Int) p → Q (Sum.inl (some (vI 0))) (cc h C X Y)) (hp : PVL S p) : wpB PGm ρ d m_Heap_isAbove 0 [(0, vR (hB h (C + 51) k)), (1, vR (prA h C p))] [] (cc h C X Y) Q := by
  obtain ⟨tn, sn, sm, c1, c2, c5, c6', c3, c4, c6, c7, c8, U, m1, m2, m3, m4⟩ := HC.shp
  have wf := prS_wf c1 c7 c8
  have AY : ACY S := by obtain ⟨_, _, _, _, _, _, _, _, _, _, _, _, a⟩ := HC.2.2.2.2.2.2.2.2.2.1; exact a.2
  have key : ∀ j p, pcS S j p < 0 → PVL S p → (HIT S (k : Int) p → Q (Sum.inl (some (vI 1))) (cc h C X Y)) → (¬ HIT S (k : Int) p → Q (Sum.inl (some (vI 0))) (cc h C X Y)) → wpB PGm ρ d m_Heap_isAbove 2 [(0, vR (hB h (C + 51) k)), (2, vR (prA h C p))] [] (cc h C X Y) Q := by
    intro j
    induction j with
    | zero =>
      intro p hj hp q1 q0
      have hj' : p < 0 := hj
      have e : prA h C p = 0 := if_pos hj'
      rw [e]
      exact b_Heap_isAbove_2 ⟨fun _ => q0 (HIT.z hj'), fun w => absurd rfl w⟩
    | succ j ih =>
      intro p hj hp q1 q0
      by_cases pz : p < 0
      · have e : prA h C p = 0 := if_pos pz
        rw [e]
        exact b_Heap_isAbove_2 ⟨fun _ => q0 (HIT.z pz), fun w => absurd rfl w⟩
      · have p0 : 0 ≤ p := by omega
        unfold pcS at hj
        rw [if_neg pz] at hj
        have hp' := hp
        rcases hp with e | ⟨a1, a2, a3⟩
        · omega
        obtain ⟨TA, TB, TC, TD⟩ := (c7 p.toNat (by omega)).p
        obtain ⟨⟨u1, u1'⟩, u2, -⟩ := TC.1 a3
        have SH := c8 (S f_Md_thingShape p.toNat).toNat (by omega)
        have e : prA h C p = hB h (C + 51) p.toNat := if_neg pz
        rw [e]
        refine b_Heap_isAbove_2 ⟨fun w => absurd w TA.2.1.2.2, fun _ => ⟨fun ne => ?_, fun eq => ?_⟩⟩
        · have nk : ¬ p = (k : Int) := fun c => ne (by rw [c, Int.toNat_natCast])
          have kk : hK h (hB h (C + 51) p.toNat) ∈ [244, 245] := by
            rw [TA.2.1.1]
            rcases a3 with w | w <;> (rw [w]; decide)
          have nx := ih (prS S p.toNat) hj (PVL.of wf p0 hp') (fun z => q1 ((HIT.nx p0).mpr (Or.inr z))) (fun z => q0 (fun c => by
            rcases (HIT.nx p0).mp c with w | w
            · exact nk w
            · exact z w))
          have ep : hR h f_Shape_prototype (hB h (C + 52) (S f_Md_thingShape p.toNat).toNat) = prA h C (prS S p.toNat) := by
            unfold prA prS
            rcases SH.2.2.1 with y | ⟨y1, y2, y3, y4⟩
            · rw [y.1, y.2, if_pos (by decide)]
            · rw [if_neg (by omega)]; exact y4
          rw [ccRo (by decide), u2, ccRo (by decide), ep]
          exact ⟨kk, SH.1.1, nx⟩
        · refine q1 ((HIT.nx p0).mpr (Or.inl ?_))
          have x1 := TA.2.2.1
          have x2 := (c7 k (by omega)).p.1.2.2.1
          rw [eq] at x1; omega
  have ex : ∃ j, pcS S j p < 0 := by
    rcases hp with e | ⟨a1, a2, a3⟩
    · exact ⟨0, by show p < 0; omega⟩
    · obtain ⟨j, hj⟩ := AY p.toNat (by omega) a3
      exact ⟨j, by rw [show ((p.toNat : Nat) : Int) = p by omega] at hj; exact hj⟩
  obtain ⟨j, hj⟩ := ex
  exact b_Heap_isAbove_0 (key j p hj hp q1 q0)
/-- T: the same walk -/
theorem s_above (O : TOK h0 T) (A : ∃ j, pcS S j p < 0) (wf : ∀ k : Nat, (k : Int) < S f_Md_things 0 → S f_Md_thingKind k = 4 ∨ S f_Md_thingKind k = 5 → prS S k = -1 ∨ (0 ≤ prS S k ∧ prS S k < S f_Md_things 0 ∧ (S f_Md_thingKind (prS S k).toNat = 4 ∨ S f_Md_thingKind (prS S k).toNat = 5))) (ws : ∀ k : Nat, (k : Int) < S f_Md_things 0 → S f_Md_thingKind k = 4 ∨ S f_Md_thingKind k = 5 → k < 8000 ∧ 0 ≤ S f_Md_thingShape k ∧ S f_Md_thingShape k < 4001) (hp : PVL S p) {l4 : Int} (q1 : HIT S o p → Q (Sum.inr (hR h0 f_Md_halt T)) (cn h0 T (erS S 12))) (q0 : ¬ HIT S o p → wpB PGm ρ (d + 2) m_Md_turns 75 [(0, vR T), (3, vI o), (4, vI l4), (5, vI (-1))] [] (cn h0 T S) Q) : wpB PGm ρ (d + 2) m_Md_turns 75 [(0, vR T), (3, vI o), (4, vI l4), (5, vI p)] [] (cn h0 T S) Q := by
  have kT := O.1
  have kH' : hK h0 (hR h0 f_Md_halt T) ≠ 0 := by rw [O.2.2]; decide
  have key : ∀ j p, pcS S j p < 0 → PVL S p → (HIT S o p → Q (Sum.inr (hR h0 f_Md_halt T)) (cn h0 T (erS S 12))) → (¬ HIT S o p → wpB PGm ρ (d + 2) m_Md_turns 75 [(0, vR T), (3, vI o), (4, vI l4), (5, vI (-1))] [] (cn h0 T S) Q) → wpB PGm ρ (d + 2) m_Md_turns 75 [(0, vR T), (3, vI o), (4, vI l4), (5, vI p)] [] (cn h0 T S) Q := by
    intro j
    induction j with
    | zero =>
      intro p hj hp q1 q0
      have hj' : p < 0 := hj
      have e : p = -1 := by rcases hp with e | e; exact e; omega
      rw [e]
      rw [e] at q0
      exact q0 (HIT.z (by decide))
    | succ j ih =>
      intro p hj hp q1 q0
      by_cases pz : p < 0
      · have e : p = -1 := by rcases hp with e | e; exact e; omega
        rw [e]
        rw [e] at q0
        exact q0 (HIT.z (by decide))
      · have p0 : 0 ≤ p := by omega
        unfold pcS at hj
        rw [if_neg pz] at hj
        have hp' := hp
        rcases hp with e | ⟨a1, a2, a3⟩
        · omega
        obtain ⟨k8, sz, sz'⟩ := ws p.toNat (by omega) a3
        have ec : ((p.toNat : Nat) : Int) = p := by omega
        refine b_Md_turns_75 ⟨fun z => absurd z pz, fun _ => ⟨fun ne => ?_, fun eq => ⟨kT, s_error O ⟨kH', q1 ((HIT.nx p0).mpr (Or.inl eq))⟩⟩⟩⟩
        have nx := ih (prS S p.toNat) hj (PVL.of wf p0 hp') (fun z => q1 ((HIT.nx p0).mpr (Or.inr z))) (fun z => q0 (fun c => by
          rcases (HIT.nx p0).mp c with w | w
          · exact ne w
          · exact z w))
        have g := s_protoOf (ρ := ρ) (d := d + 1) (k := p.toNat) (S := S) O k8 ⟨sz, sz'⟩ (Q := cI (fun x8 h3 => wpB PGm ρ (d + 2) m_Md_turns 75 [(0, vR T), (3, vI o), (4, vI l4), (5, vI x8)] [] h3 Q) (fun e6 h5 => hK h5 e6 ≠ 0 ∧ Q (Sum.inr e6) h5)) nx
        rw [ec] at g
        exact b_Md_turns_92 ⟨kT, g⟩
  obtain ⟨j, hj⟩ := A
  exact key j p hj hp q1 q0
/-- a prototype whose chain does not meet the thing -/
theorem ACY.turn (A : ACY S) (wf : ∀ k : Nat, (k : Int) < S f_Md_things 0 → S f_Md_thingKind k = 4 ∨ S f_Md_thingKind k = 5 → prS S k = -1 ∨ (0 ≤ prS S k ∧ prS S k < S f_Md_things 0 ∧ (S f_Md_thingKind (prS S k).toNat = 4 ∨ S f_Md_thingKind (prS S k).toNat = 5))) (e1 : S' f_Md_things 0 = S f_Md_things 0) (e2 : ∀ i, S' f_Md_thingKind i = S f_Md_thingKind i) (e3 : ∀ i : Nat, (i : Int) < S f_Md_things 0 → S f_Md_thingKind i = 4 ∨ S f_Md_thingKind i = 5 → i ≠ k → prS S' i = prS S i) (ek : prS S' k = p) (hp : PVL S p) (nh : ¬ HIT S (k : Int) p) : ACY S' := by
  have ch : ∀ j q, PVL S q → ¬ HIT S (k : Int) q → pcS S' j q = pcS S j q := by
    intro j
    induction j with
    | zero => intro q _ _; rfl
    | succ j ih =>
      intro q hq nh
      by_cases qz : q < 0
      · unfold pcS; rw [if_pos qz, if_pos qz]
      · have q0 : 0 ≤ q := by omega
        unfold pcS
        rw [if_neg qz, if_neg qz]
        rcases hq with e | ⟨a1, a2, a3⟩
        · omega
        have nk : q.toNat ≠ k := fun c => nh ((HIT.nx q0).mpr (Or.inl (by omega)))
        rw [e3 q.toNat (by omega) a3 nk]
        exact ih _ (PVL.of wf q0 (Or.inr ⟨a1, a2, a3⟩)) (fun c => nh ((HIT.nx q0).mpr (Or.inr c)))
  have pe : ∃ j, pcS S' j p < 0 := by
    rcases hp with e | ⟨a1, a2, a3⟩
    · exact ⟨0, by show p < 0; omega⟩
    · obtain ⟨j, hj⟩ := A p.toNat (by omega) a3
      rw [show ((p.toNat : Nat) : Int) = p by omega] at hj
      exact ⟨j, by rw [ch j p (Or.inr ⟨a1, a2, a3⟩) nh]; exact hj⟩
  have ke : ∃ j, pcS S' j (k : Int) < 0 := by
    obtain ⟨j, hj⟩ := pe
    exact ⟨j + 1, by unfold pcS; rw [if_neg (by omega), Int.toNat_natCast, ek]; exact hj⟩
  have all : ∀ j q, PVL S q → pcS S j q < 0 → ∃ j', pcS S' j' q < 0 := by
    intro j
    induction j with
    | zero => intro q _ hj; exact ⟨0, hj⟩
    | succ j ih =>
      intro q hq hj
      by_cases qz : q < 0
      · exact ⟨0, qz⟩
      · have q0 : 0 ≤ q := by omega
        by_cases qk : q = (k : Int)
        · rw [qk]; exact ke
        · unfold pcS at hj
          rw [if_neg qz] at hj
          obtain ⟨j', hj'⟩ := ih _ (PVL.of wf q0 hq) hj
          rcases hq with e | ⟨a1, a2, a3⟩
          · omega
          exact ⟨j' + 1, by unfold pcS; rw [if_neg qz, e3 q.toNat (by omega) a3 (by omega)]; exact hj'⟩
  intro i hi kd
  rw [e1] at hi
  rw [e2] at kd
  obtain ⟨j, hj⟩ := A i hi kd
  exact all j (i : Int) (Or.inr ⟨by omega, hi, by rw [Int.toNat_natCast]; exact kd⟩) hj
theorem HIT.sh (B : SHR Γ h C ho X Y S N h' X1 S1) (HC : CORE Γ h C ho X Y S N) (hp : PVL S p) : HIT S1 o p → HIT S o p := by
  obtain ⟨tn, sn, sm, c1, c2, c5, c6', c3, c4, c6, c7, c8, U, m1, m2, m3, m4⟩ := HC.shp
  have wf := prS_wf c1 c7 c8
  have pe : ∀ q : Int, 0 ≤ q → PVL S q → prS S1 q.toNat = prS S q.toNat := fun q q0 hq => by
    rcases hq with e | ⟨a1, a2, a3⟩
    · omega
    obtain ⟨TA, TB, TC, TD⟩ := (c7 q.toNat (by omega)).p
    obtain ⟨⟨u1, u1'⟩, -⟩ := TC.1 a3
    unfold prS
    rw [B.2.2.2.2.1 f_Md_thingShape q.toNat (by decide), B.row (by omega) (by decide)]
  rintro ⟨j, e, h0⟩
  refine ⟨j, ?_, h0⟩
  rw [← e]
  clear e
  revert p
  induction j with
  | zero => intro p _; rfl
  | succ j ih =>
    intro p hp
    by_cases qz : p < 0
    · unfold pcS; rw [if_pos qz, if_pos qz]
    · unfold pcS
      rw [if_neg qz, if_neg qz, pe p (by omega) hp]
      exact ih (PVL.of wf (by omega) hp)
end
