/-! T looks at things and rows -/
set_option maxRecDepth 20000
/-- what a reading site finds: which property, and who holds it -/
def LKO (S : SS) (nm : Int) (k : Nat) (w hd : Int) : Prop := ∃ j u, HLD S nm j (k : Int) u ∧ ((u < 0 ∧ w = -1 ∧ hd = -1) ∨ (0 ≤ u ∧ (∃ n : Nat, S f_Md_thingCount u.toNat = (n : Int) ∧ OWN S u.toNat n nm w) ∧ 0 ≤ w ∧ hd = if u = (k : Int) then -1 else u))
/-- what T has at the beginning of a look -/
def lk0 (S : SS) : SS := u2 (u2 (u2 (u2 S f_Md_foundHolder 0 (-1)) f_Md_foundWhich 0 (-1)) f_Md_foundShape 0 (-1)) f_Md_foundMany 0 0
def lk1 (S : SS) (L cnt : Int) : SS := if cnt = 0 then u2 (lk0 S) f_Md_foundLinker 0 L else u2 (u2 (lk0 S) f_Md_foundLinker 0 L) f_Md_asked L.toNat (w32 (S f_Md_asked L.toNat + 1))
def lkL (ty : Int) : Int := if ty = 4 ∨ ty = 5 then 0 else if ty = 7 then 1 else if ty = 8 then 2 else 3
def LFO : List Nat := [f_Md_foundHolder, f_Md_foundWhich, f_Md_foundShape, f_Md_foundMany, f_Md_foundLinker, f_Md_foundGuard]
section
variable {ρ : Nat → Nat} {P : ah → Nat → Prop} {d : Nat} {Q : QT} {Γ : GH} {h h0 : ah} {C ho T k n m f i j N M b r a s rr mn sn tn : Nat} {S S' S1 S2 SX : SS} {X : X3} {Y : Y3} {g : HG} {l L bs : List Int} {v p x y nm ty cnt κ u hd w : Int}
theorem s_lt192 (O : TOK h0 T) (HC : CORE Γ h C ho X Y S N) (ew : S f_Md_foundWhich 0 = -1) (eh : S f_Md_foundHolder 0 = -1) (hk : k < 8000) : ∀ j p u, HLD S nm j p u → PVL S p → (u < 0 → Q (Sum.inl none) (cn h0 T S)) → (0 ≤ u → ∀ n w, S f_Md_thingCount u.toNat = (n : Nat) → OWN S u.toNat n nm w → 0 ≤ w → Q (Sum.inl none) (cn h0 T (u2 (u2 S f_Md_foundWhich 0 w) f_Md_foundHolder 0 (if u = (k : Int) then -1 else u)))) → wpB PGm ρ (d + 1) m_Md_looksAtThing 192 [(0, vR T), (4, vI (k : Int)), (6, vI nm), (7, vI p)] [] (cn h0 T S) Q := by
  obtain ⟨tn, sn, sm, c1, c2, c5, c6', c3, c4, c6, c7, c8, U, m1, m2, m3, m4⟩ := HC.shp
  have wf := prS_wf c1 c7 c8
  have kT := O.1
  intro j
  induction j with
  | zero =>
    intro p u hl hp q0 q1
    obtain ⟨pz, rfl⟩ := hl
    exact b_Md_looksAtThing_192 ⟨fun _ => q0 (by decide), fun z => absurd pz (by omega)⟩
  | succ j ih =>
    intro p u hl hp q0 q1
    rcases hl with ⟨pz, rfl⟩ | ⟨p0, hl⟩
    · exact b_Md_looksAtThing_192 ⟨fun _ => q0 (by decide), fun z => absurd pz (by omega)⟩
    · have hp' := hp
      rcases hp with e | ⟨a1, a2, a3⟩
      · omega
      have hk' : ((p.toNat : Nat) : Int) < S f_Md_things 0 := by omega
      have ec : ((p.toNat : Nat) : Int) = p := by omega
      obtain ⟨n', sn', s0, e1, L, e2, e3, e4, e5, hnm, dn, nmn, SF, b0, kk, nz⟩ := HC.sth hk' a3
      obtain ⟨w, hw⟩ := OWN.ex (S := S) (k := p.toNat) (n := n') (nm := nm)
      have PR : ∀ SS1 : SS, SS1 f_Md_thingShape = S f_Md_thingShape → SS1 f_Md_shapeProto = S f_Md_shapeProto → ∀ QQ : QT, QQ (Sum.inl (some (vI (prS S p.toNat)))) (cn h0 T SS1) → wpB PGm ρ d m_Md_protoOf 0 [(0, vR T), (1, vI p)] [] (cn h0 T SS1) QQ := fun SS1 z1 z2 QQ z => by
        have := s_protoOf (ρ := ρ) (d := d) (k := p.toNat) (S := SS1) (Q := QQ) O L.1 (by rw [z1]; exact ⟨by omega, by omega⟩) (by unfold prS at z ⊢; rw [z1, z2]; exact z)
        rw [ec] at this; exact this
      have g237 : ∀ (SS1 : SS) (s0 : Int), SS1 f_Md_thingShape = S f_Md_thingShape → SS1 f_Md_shapeProto = S f_Md_shapeProto → wpB PGm ρ (d + 1) m_Md_looksAtThing 192 [(0, vR T), (4, vI (k : Int)), (6, vI nm), (7, vI (prS S p.toNat))] [] (cn h0 T (u2 SS1 f_Md_foundHolder 0 s0)) Q → wpB PGm ρ (d + 1) m_Md_looksAtThing 237 [(0, vR T), (4, vI (k : Int)), (6, vI nm), (7, vI p)] [vI s0, vR T] (cn h0 T SS1) Q := fun SS1 s0 z1 z2 z => by
        refine b_Md_looksAtThing_237 ⟨kT, ?_⟩
        show hK (sI (cn h0 T SS1) f_Md_foundHolder T s0) T = k_Md ∧ wpB PGm ρ d m_Md_protoOf 0 [(0, vR T), (1, vI p)] [] (sI (cn h0 T SS1) f_Md_foundHolder T s0) (cI (fun x11 h6 => wpB PGm ρ (d + 1) m_Md_looksAtThing 192 [(0, vR T), (4, vI (k : Int)), (6, vI nm), (7, vI x11)] [] h6 Q) (fun e9 h8 => hK h8 e9 ≠ 0 ∧ Q (Sum.inr e9) h8))
        rw [cn_sI (by decide)]
        exact ⟨kT, PR _ (by funext i; rw [u2_f (by decide), z1]) (by funext i; rw [u2_f (by decide), z2]) _ z⟩
      have go := s_own (ρ := ρ) (d := d) (Q := cI (fun x18 h13 => hK h13 T = k_Md ∧ (((hI (sI h13 f_Md_foundWhich T x18) f_Md_foundWhich T) < 0 → wpB PGm ρ (d + 1) m_Md_looksAtThing 237 [(0, vR T), (4, vI (k : Int)), (6, vI nm), (7, vI p)] [vI (-1), vR T] (sI h13 f_Md_foundWhich T x18) Q) ∧ (0 ≤ (hI (sI h13 f_Md_foundWhich T x18) f_Md_foundWhich T) → ((p = (k : Int) → wpB PGm ρ (d + 1) m_Md_looksAtThing 237 [(0, vR T), (4, vI (k : Int)), (6, vI nm), (7, vI p)] [vI (-1), vR T] (sI h13 f_Md_foundWhich T x18) Q) ∧ (¬ p = (k : Int) → wpB PGm ρ (d + 1) m_Md_looksAtThing 237 [(0, vR T), (4, vI (k : Int)), (6, vI nm), (7, vI p)] [vI p, vR T] (sI h13 f_Md_foundWhich T x18) Q))))) (fun e16 h15 => hK h15 e16 ≠ 0 ∧ Q (Sum.inr e16) h15)) O L dn hw ⟨kT, by
        rw [cn_sI (by decide), cnI (by decide), u2_s]
        have t1 : (u2 S f_Md_foundWhich 0 w) f_Md_thingShape = S f_Md_thingShape := by funext i; rw [u2_f (by decide)]
        have t2 : (u2 S f_Md_foundWhich 0 w) f_Md_shapeProto = S f_Md_shapeProto := by funext i; rw [u2_f (by decide)]
        refine ⟨fun z => ?_, fun z => ?_⟩
        · have w1 : w = -1 := by
            rcases hw with ⟨i, e, -⟩ | ⟨e, -⟩
            · omega
            · exact e
          rw [w1, u2_id ew]
          have nO : ¬ OWs S p.toNat nm := fun c => by have := (hw.ows L.2.2.1).mpr c; omega
          have hl' : HLD S nm j (prS S p.toNat) u := by
            rcases hl with ⟨c, -⟩ | ⟨-, c⟩
            · exact absurd c nO
            · exact c
          refine g237 S (-1) rfl rfl ?_
          rw [u2_id eh]
          exact ih (prS S p.toNat) u hl' (PVL.of wf p0 hp') q0 q1
        · have yO := (hw.ows L.2.2.1).mp z
          have eu : u = p := by
            rcases hl with ⟨-, c⟩ | ⟨c, -⟩
            · exact c
            · exact absurd yO c
          have fin := q1 (by omega) n' w (by rw [eu]; exact L.2.2.1) (by rw [eu]; exact hw) z
          rw [eu] at fin
          have ende : ∀ s0 : Int, Q (Sum.inl none) (cn h0 T (u2 (u2 S f_Md_foundWhich 0 w) f_Md_foundHolder 0 s0)) → wpB PGm ρ (d + 1) m_Md_looksAtThing 192 [(0, vR T), (4, vI (k : Int)), (6, vI nm), (7, vI (prS S p.toNat))] [] (cn h0 T (u2 (u2 S f_Md_foundWhich 0 w) f_Md_foundHolder 0 s0)) Q := fun s0 zz => by
            refine b_Md_looksAtThing_192 ⟨fun _ => zz, fun _ => ⟨kT, ?_⟩⟩
            rw [cnI (by decide), u2_f (by decide), u2_s]
            exact ⟨fun _ => zz, fun c => absurd c (by omega)⟩
          refine ⟨fun c => g237 _ _ t1 t2 (ende _ (by rw [if_pos c] at fin; exact fin)), fun c => g237 _ _ t1 t2 (ende _ (by rw [if_neg c] at fin; exact fin))⟩⟩
      rw [ec] at go
      refine b_Md_looksAtThing_192 ⟨fun z => absurd z (by omega), fun _ => ⟨kT, ?_⟩⟩
      rw [cnI (by decide), ew]
      exact ⟨fun z => absurd z (by decide), fun _ => go⟩
/-- the front of a look at a thing -/
theorem s_lt0 (O : TOK h0 T) (hk : k < 8000) (ek : S f_Md_goesValue 0 = (k : Int)) (hs : s < 4000) (hκ : 0 ≤ κ ∧ κ ≤ 6) (en : κ = 0 ∨ κ = 1 ∨ κ = 5 → S f_Md_siteName s = nm) (en2 : κ = 2 ∨ κ = 3 → S f_Md_elementName 0 = nm) (q5 : (κ = 4 ∨ κ = 6) → ¬ S f_Md_goesType 0 = 5 → Q (Sum.inr (hR h0 f_Md_halt T)) (cn h0 T (erS S 5))) (q1 : (κ = 4 ∨ κ = 6) → S f_Md_goesType 0 = 5 → Q (Sum.inl none) (cn h0 T (u2 S f_Md_foundGuard 0 (S f_Md_thingFunction k)))) (q6 : (κ = 2 ∨ κ = 3) → nm < 0 → Q (Sum.inr (hR h0 f_Md_halt T)) (cn h0 T (erS S 6))) (q2 : (κ = 1 ∨ κ = 3) → (κ = 3 → 0 ≤ nm) → wpB PGm ρ (d + 2) m_Md_looksAtThing 119 [(0, vR T), (3, vI cnt), (4, vI (k : Int)), (6, vI nm)] [] (cn h0 T (u2 S f_Md_foundGuard 0 (S f_Md_thingShape k))) Q) (q3 : (κ = 0 ∨ κ = 2 ∨ κ = 5) → (κ = 2 → 0 ≤ nm) → wpB PGm ρ (d + 2) m_Md_looksAtThing 192 [(0, vR T), (4, vI (k : Int)), (6, vI nm), (7, vI (k : Int))] [] (cn h0 T (u2 S f_Md_foundGuard 0 (S f_Md_thingShape k))) Q) : wpB PGm ρ (d + 2) m_Md_looksAtThing 0 [(0, vR T), (1, vI (s : Int)), (2, vI κ), (3, vI cnt)] [] (cn h0 T S) Q := by
  have kT := O.1
  have G := O.2.1
  have y1 : w32 (k : Int) = (k : Int) := w32_of (by omega) (by omega)
  have b1 : 0 ≤ (k : Int) ∧ (k : Int) < ((8000 : Nat) : Int) := by omega
  have b2 : 0 ≤ (s : Int) ∧ (s : Int) < ((4000 : Nat) : Int) := by omega
  have g18 : (κ = 4 ∨ κ = 6) → wpB PGm ρ (d + 2) m_Md_looksAtThing 18 [(0, vR T), (4, vI (k : Int))] [] (cn h0 T S) Q := fun z => by
    refine b_Md_looksAtThing_18 ⟨kT, ?_⟩
    rw [cnI (by decide)]
    refine ⟨fun e => b_Md_looksAtThing_31 ?_, fun e => s_error (d := d) O ⟨O.kh, q5 z e⟩⟩
    have := q1 z e
    clear q5 q1 q6 q2 q3 en en2
    simp (decide := true) (disch := first | decide | omega) only [cnI, cnR, cnK, cnl, cnA' G, cn_sI, kT, KN G, LN G, Int.toNat_natCast, true_and, and_true]
    exact ⟨b1, this⟩
  have g96 : ¬ (κ = 4 ∨ κ = 6) → (κ = 2 ∨ κ = 3 → 0 ≤ nm) → wpB PGm ρ (d + 2) m_Md_looksAtThing 96 [(0, vR T), (2, vI κ), (3, vI cnt), (4, vI (k : Int))] [vI nm] (cn h0 T S) Q := fun z z2 => by
    have h1 := fun c => q2 c (fun e => z2 (Or.inr e))
    have h3 := fun c => q3 c (fun e => z2 (Or.inl e))
    refine b_Md_looksAtThing_96 ?_
    clear q5 q1 q6 q2 q3 en en2 g18
    simp (decide := true) (disch := first | decide | omega) only [cnI, cnR, cnK, cnl, cnA' G, cn_sI, kT, KN G, LN G, Int.toNat_natCast, true_and, and_true]
    exact ⟨b1, fun e => h1 (Or.inl e), fun e => ⟨fun e2 => h3 (by omega), fun e2 => h1 (Or.inr e2)⟩⟩
  have g58 : ¬ (κ = 4 ∨ κ = 6) → ∀ e : Int, (e = 1 ∧ (κ = 2 ∨ κ = 3) ∨ e = 0 ∧ ¬ (κ = 2 ∨ κ = 3)) → wpB PGm ρ (d + 2) m_Md_looksAtThing 58 [(0, vR T), (1, vI (s : Int)), (2, vI κ), (3, vI cnt), (4, vI (k : Int))] [vI e] (cn h0 T S) Q := fun z e he => by
    refine b_Md_looksAtThing_58 ⟨fun e0 => b_Md_looksAtThing_78 ⟨fun _ => ?_, fun c => absurd e0 c⟩, fun e0 => ⟨kT, ?_⟩⟩
    · have g := g96 z (fun c => by omega)
      have es := en (by omega)
      clear q5 q1 q6 q2 q3 en en2 g18 g96
      simp (decide := true) (disch := first | decide | omega) only [cnI, cnR, cnK, cnl, cnA' G, kT, KN G, LN G, es, Int.toNat_natCast, true_and, and_true]
      exact ⟨b2, g⟩
    · have e1 : κ = 2 ∨ κ = 3 := by omega
      rw [cnI (by decide), en2 e1]
      refine ⟨fun c => b_Md_looksAtThing_78 ⟨fun c' => absurd c' e0, fun _ => ⟨kT, ?_⟩⟩, fun c => s_error (d := d) O ⟨O.kh, q6 e1 c⟩⟩
      rw [cnI (by decide), en2 e1]
      exact g96 z (fun _ => c)
  refine b_Md_looksAtThing_0 ⟨kT, ?_⟩
  rw [cnI (by decide), ek, y1]
  exact ⟨fun e => g18 (Or.inl e), fun e => ⟨fun e2 => ⟨fun e3 => g58 (by omega) 1 (Or.inl ⟨rfl, Or.inl e3⟩), fun e3 => ⟨fun e4 => g58 (by omega) 0 (Or.inr ⟨rfl, by omega⟩), fun e4 => g58 (by omega) 1 (Or.inl ⟨rfl, Or.inr e4⟩)⟩⟩, fun e2 => g18 (Or.inr e2)⟩⟩
/-- T looks at a thing that is written -/
theorem s_lt119 (O : TOK h0 T) (HC : CORE Γ h C ho X Y S N) (hk : (k : Int) < S f_Md_things 0) (kd : S f_Md_thingKind k = 4 ∨ S f_Md_thingKind k = 5) (en : S f_Md_thingCount k = (n : Int)) (hw : OWN S k n nm w) (q1 : 0 ≤ w → Q (Sum.inl none) (cn h0 T (u2 S f_Md_foundWhich 0 w))) (qm : w < 0 → ¬ cnt = 0 → wpB PGm ρ (d + 2) m_Md_madeShape 0 [(0, vR T), (1, vI (S f_Md_thingShape k)), (2, vI (prS S k)), (3, vI nm)] [] (cn h0 T (u2 S f_Md_foundWhich 0 w)) (cI (fun x54 h49 => hK h49 T = k_Md ∧ Q (Sum.inl none) (sI h49 f_Md_foundShape T x54)) (fun e52 h51 => hK h51 e52 ≠ 0 ∧ Q (Sum.inr e52) h51))) (qf : w < 0 → cnt = 0 → wpB PGm ρ (d + 2) m_Md_findShape 0 [(0, vR T), (1, vI (S f_Md_thingShape k)), (2, vI (prS S k)), (3, vI nm)] [] (cn h0 T (u2 S f_Md_foundWhich 0 w)) (cI (fun x54 h49 => hK h49 T = k_Md ∧ Q (Sum.inl none) (sI h49 f_Md_foundShape T x54)) (fun e52 h51 => hK h51 e52 ≠ 0 ∧ Q (Sum.inr e52) h51))) : wpB PGm ρ (d + 3) m_Md_looksAtThing 119 [(0, vR T), (3, vI cnt), (4, vI (k : Int)), (6, vI nm)] [] (cn h0 T S) Q := by
  have kT := O.1
  have G := O.2.1
  obtain ⟨n', sn', s0, e1, L, e2, e3, e4, e5, hnm, dn, nmn, SF, b0, kk, nz⟩ := HC.sth hk kd
  obtain ⟨tn, sn, sm, c1, c2, c5, c6', c3, c4, c6, c7, c8, U, m1, m2, m3, m4⟩ := HC.shp
  have e6 : n' = n := by have := L.2.2.1; omega
  subst e6
  have b1 : 0 ≤ (k : Int) ∧ (k : Int) < ((8000 : Nat) : Int) := by have := L.1; omega
  refine b_Md_looksAtThing_119 ⟨kT, s_own O L dn hw ⟨kT, ?_⟩⟩
  have PR : ∀ QQ : QT, QQ (Sum.inl (some (vI (prS S k)))) (cn h0 T (u2 S f_Md_foundWhich 0 w)) → wpB PGm ρ (d + 2) m_Md_protoOf 0 [(0, vR T), (1, vI (k : Int))] [] (cn h0 T (u2 S f_Md_foundWhich 0 w)) QQ := fun QQ z => by
    refine s_protoOf O L.1 (by rw [u2_f (by decide)]; exact ⟨by omega, by omega⟩) ?_
    unfold prS at z ⊢; rw [u2_f (by decide), u2_f (by decide)]; exact z
  clear e5 hnm dn nmn SF b0 c7 c8 U HC hw
  simp (decide := true) (disch := first | decide | omega) only [cI, cnI, cnR, cnK, cnl, cnA' G, cn_sI, kT, KN G, LN G, u2_s, u2_f, Int.toNat_natCast, true_and, and_true]
  exact ⟨q1, fun z => ⟨fun c => ⟨b1, PR _ ⟨kT, qf z c⟩⟩, fun c => ⟨b1, PR _ ⟨kT, qm z c⟩⟩⟩⟩
end
