/-! any value is printed: both -/
set_option maxRecDepth 20000
/-- what any value of C prints -/
def CVA (h : ah) (C ho : Nat) (X : X3) (g : HG) (N : Nat) (ty y : Int) (bs : List Int) : Prop := CVB h C X ty y bs ∨ (∃ k c : Nat, ty = 7 ∧ y = (k : Int) ∧ k < 8000 ∧ k < hl h (C + 51) ∧ hK h (hB h (C + 51) k) = k_Instance ∧ hR h f_Instance_type (hB h (C + 51) k) = hB h (ho + 2) c ∧ c < N ∧ bs = g.2 0 c ++ ([64] ++ nuL y)) ∨ (∃ c : Nat, ty = 8 ∧ y = (c : Int) ∧ c < N ∧ bs = g.2 0 c)
/-- what any value of T but a text prints -/
def TVA (g : HG) (N : Nat) (S : SS) (ty v : Int) (bs : List Int) : Prop := ((ty = 0 ∨ ty = 1 ∨ ty = 2 ∨ ty = 4 ∨ ty = 5 ∨ ty = 6) ∧ (ty = 2 → -9223372036854775808 ≤ v ∧ v < 9223372036854775808) ∧ bs = cvL ty v) ∨ (∃ k c : Nat, ty = 7 ∧ v = (k : Int) ∧ k < 8000 ∧ S f_Md_thingClass k = (c : Int) ∧ c < N ∧ bs = g.2 0 c ++ ([64] ++ nuL v)) ∨ (∃ c : Nat, ty = 8 ∧ v = (c : Int) ∧ c < N ∧ bs = g.2 0 c)
section
variable {ρ : Nat → Nat} {P : ah → Nat → Prop} {d : Nat} {Q : QT} {Γ Γ' : GH} {h h0 h1 h' : ah} {C ho T : Nat} {X X' X1 X2 : X3} {Y Y' : Y3} {S S' S1 S2 : SS} {N t o n c r f i j k m z s n' pu po tn w sn sm l1 s0 nn p0 kk kx by_ fr_ sz nx_ at_ M p mn us sb mb tm am ab : Nat} {ty v x y op a b : Int} {L : List Nat} {ws : List (List Int)} {l bs cs : List Int} {g : HG}
theorem hbT (HH : HCM ρ h ho g N M ws) (G : AC h C) : hB (cc h C X Y) (ho + 2) i = hB h (ho + 2) i := by
  obtain ⟨_, _, _, _, H0⟩ := HH
  exact ((cc_fr (X := X) (Y := Y) G).ar G.2.1 (f := f_Host_types) (by unfold own; decide) H0.1.2.1 H0.1.2.2.2.1 (by omega) (fun c => by rcases c with (c | c) | (c | c) <;> first | exact absurd c (by decide) | exact absurd c (by simp)) (by simp)).2.2 i
theorem ccThg (G : AC h C) (F : FC h C) : hB (cc h C X Y) (C + 51) i = hB h (C + 51) i := by
  have gz := G.1
  have := ccBo (X := X) (Y := Y) (i := i) (f := f_Heap_things) (b := C + 50) G (by decide) (by omega)
  rw [F.2.2.1.2.1] at this; exact this
theorem r_putAny (G : AC h C) (F : FC h C) (K : STM ρ h) (HH : HCM ρ h ho g N M ws) (yh : YHO Y ho) (gn : ∀ i, i < N → NMW (g.2 0 i)) (e : X 32 f_Machine_printed 0 = (p : Int)) (pl : PRL h C p) (B : CVA h C ho X g N ty y bs) (hp : p + bs.length ≤ 200020) (hd : 13 ≤ d) (q : ∀ h' X', PUT h C X p bs h' X' → Q (Sum.inl none) (cc h' C X' Y)) : wpB PGm ρ (d + 1) m_Machine_putValue 0 [(0, vR (C + 32)), (1, vI ty), (2, vL y)] [] (cc h C X Y) Q := by
  obtain ⟨d', rfl⟩ : ∃ d', d = d' + 1 := ⟨d - 1, by omega⟩
  have kM : hK (cc h C X Y) (C + 32) = k_Machine := F.1.1
  have eH : hR (cc h C X Y) f_Machine_host (C + 32) = ho := by rw [ccR (by decide)]; exact yh.1
  obtain ⟨_, _, _, _, H0⟩ := id HH
  obtain ⟨⟨a1, a2, a3, a4, a5, a6, a7, -⟩, b1, b2, b3, b4, b5, -⟩ := id H0
  have wd : ∀ c, c < N → ∃ w : Nat, w < ws.length ∧ ws.getD w [] = g.2 0 c ∧ hI (cc h C X Y) f_HostType_name (hB h (ho + 2) c) = (w : Int) := fun c hc => by
    obtain ⟨w, w1, w2, w3⟩ := (b5 c hc).2.2.1
    exact ⟨w, w1, w2, by rw [ccIo (by decide)]; exact w3⟩
  rcases B with B | ⟨k, c, rfl, ey, k8, kl, kk, ki, hc, rfl⟩ | ⟨c, rfl, ey, hc, rfl⟩
  · exact r_putValue G F K e pl B hp (by omega) q
  · obtain ⟨w, w1, w2, w3⟩ := wd c hc
    have nl := nuL_ok (v := y)
    have le : (g.2 0 c ++ ([64] ++ nuL y)).length = (g.2 0 c).length + (1 + (nuL y).length) := by simp; omega
    have n60 := (gn c hc).1
    have r64 : -9223372036854775808 ≤ y ∧ y < 9223372036854775808 := by omega
    have wy : w32 y = (k : Int) := by rw [ey]; exact w32_of (by omega) (by omega)
    have bk : 0 ≤ (k : Int) ∧ (k : Int) < (hl h (C + 51) : Int) := by omega
    have gw : ∀ {E}, wpB PGm ρ (d' + 1) m_Machine_putWord 0 [(0, vR (C + 32)), (1, vI (w : Int))] [] (cc h C X Y) (cV (fun h84 => hK h84 (C + 32) = k_Machine ∧ wpB PGm ρ (d' + 1) m_Machine_put 0 [(0, vR (C + 32)), (1, vI 64)] [] h84 (cV (fun h91 => hK h91 (C + 32) = k_Machine ∧ wpB PGm ρ (d' + 1) m_Machine_putNumber 0 [(0, vR (C + 32)), (1, vL y)] [] h91 (cV (fun h98 => wpB PGm ρ (d' + 1 + 1) m_Machine_putValue 208 [] [] h98 Q) (fun e101 h100 => hK h100 e101 ≠ 0 ∧ Q (Sum.inr e101) h100))) (fun e94 h93 => hK h93 e94 ≠ 0 ∧ Q (Sum.inr e94) h93))) E) := fun {E} => by
      refine r_putWord (d := d') G F HH yh w1 w2 (gn c hc) e pl (by omega) (by omega) (fun h2 X2 A => ?_)
      obtain ⟨G2, F2, pl2, e2⟩ := A.ok
      refine ⟨F2.1.1, r_put (d := d') G2 F2 e2 pl2 (by omega) (by omega) (fun h3 X3 B => ?_)⟩
      have w64 : w8 64 = 64 := by decide
      rw [w64] at B
      obtain ⟨G3, F3, pl3, e3⟩ := B.ok
      have AB := A.app B
      have l1 : ([64] : List Int).length = 1 := rfl
      rw [l1] at pl3 e3
      refine ⟨F3.1.1, r_putNumber (d := d') r64 G3 F3 e3 pl3 (by omega) (by omega) (fun h4 X4 D => b_Machine_putValue_208 (q h4 X4 ?_))⟩
      rw [← List.append_assoc]
      refine AB.app ?_
      rw [List.length_append, l1, ← Nat.add_assoc]; exact D
    have eP : hR (cc h C X Y) f_Machine_heap (C + 32) = C + 50 := by rw [ccRo (by decide)]; exact F.2.1.2.2.2.2.1
    have f2 := F
    unfold FC at f2
    have kty := (H0.ty hc).1
    have eB : ∀ i, hB (cc h C X Y) (C + 51) i = hB h (C + 51) i := fun i => ccThg G F
    have k51 : hK h (C + 51) = k_ArrayList := F.2.2.2.1.1.1
    have l51 : lok h (C + 51) := F.2.2.2.1.1
    have eth : hR (cc h C X Y) f_Heap_things (C + 50) = C + 51 := by rw [ccRo (by decide)]; exact F.2.2.1.2.1
    have eI : hR (cc h C X Y) f_Instance_type (hB h (C + 51) k) = hB h (ho + 2) c := by rw [ccRo (by decide)]; exact ki
    refine b_Machine_putValue_0 (by omega) ⟨fun z => absurd z (by decide), fun _ => ⟨fun z => absurd z (by decide), fun _ => ⟨fun z => absurd z (by decide), fun _ => ⟨fun z => absurd z (by decide), fun _ => ⟨fun z => absurd z (by decide), fun _ => ⟨fun z => absurd z (by decide), fun _ => ⟨fun z => absurd z (by decide), fun _ => ⟨fun _ => ⟨kM, ?_⟩, fun z => absurd rfl z⟩⟩⟩⟩⟩⟩⟩⟩
    rw [eP, eth, wy, Int.toNat_natCast, eB, eI, w3]
    exact ⟨F.1.2.2.2.2.2.1, k51, ⟨by rw [cclok]; exact l51, bk⟩, Or.inr (by rw [ccK, kk]; decide), kk, kty, gw⟩
  · obtain ⟨w, w1, w2, w3⟩ := wd c hc
    have n60 := (gn c hc).1
    have c60 : c < 60 := by omega
    have gw : ∀ {E}, wpB PGm ρ (d' + 1) m_Machine_putWord 0 [(0, vR (C + 32)), (1, vI (w : Int))] [] (cc h C X Y) (cV (fun h113 => Q (Sum.inl none) h113) E) := fun {E} => r_putWord (d := d') G F HH yh w1 w2 (gn c hc) e pl (by omega) (by omega) q
    have wy : w32 y = (c : Int) := by rw [ey]; exact w32_of (by omega) (by omega)
    have ty := H0.ty hc
    have bc : 0 ≤ (c : Int) ∧ (c : Int) < (hl h (ho + 2) : Int) := by omega
    refine b_Machine_putValue_0 (by omega) ⟨fun z => absurd z (by decide), fun _ => ⟨fun z => absurd z (by decide), fun _ => ⟨fun z => absurd z (by decide), fun _ => ⟨fun z => absurd z (by decide), fun _ => ⟨fun z => absurd z (by decide), fun _ => ⟨fun z => absurd z (by decide), fun _ => ⟨fun z => absurd z (by decide), fun _ => ⟨fun z => absurd z (by decide), fun _ => ⟨kM, ?_⟩⟩⟩⟩⟩⟩⟩⟩⟩
    have eT : hR (cc h C X Y) f_Host_types ho = ho + 2 := by rw [ccRo (by decide)]; exact a4
    have lk : lok (cc h C X Y) (ho + 2) := ⟨a7.1.1, by rw [ccIo (by decide)]; exact a7.1.2⟩
    rw [eH, eT, wy, Int.toNat_natCast, hbT HH G, w3]
    exact ⟨a1, a7.1.1, ⟨lk, bc⟩, Or.inr (by rw [ccK, ty.1]; decide), ty.1, gw⟩
/-- T prints a value that is no text -/
theorem s_printA (K : TKS ρ h0 T) (H : HRW h0 T k g N M) (gn : ∀ i, i < N → NMW (g.2 0 i)) (B : TVA g N S ty v bs) (e : S f_Md_spelling 0 = (p : Int)) (hp : p + 100 ≤ 256) (hd : 12 ≤ d) (q : Q (Sum.inl none) (cn h0 T (spS S p bs))) : wpB PGm ρ (d + 1) m_Md_print 0 [(0, vR T), (1, vI ty), (2, vL v)] [] (cn h0 T S) Q := by
  obtain ⟨d', rfl⟩ : ∃ d', d = d' + 1 := ⟨d - 1, by omega⟩
  have O := K.1
  have kT := O.1
  have G := O.2.1
  rcases B with ⟨b1, b2, rfl⟩ | ⟨k, c, rfl, ev, k8, ec, hc, rfl⟩ | ⟨c, rfl, ev, hc, rfl⟩
  · exact s_print K b1 b2 e (by omega) (by omega) q
  · have nl := nuL_ok (v := v)
    have n60 := (gn c hc).1
    have r64 : -9223372036854775808 ≤ v ∧ v < 9223372036854775808 := by omega
    have wy : w32 v = (k : Int) := by rw [ev]; exact w32_of (by omega) (by omega)
    have bk : 0 ≤ (k : Int) ∧ (k : Int) < ((8000 : Nat) : Int) := by omega
    have l64 : ([64] : List Int).length = 1 := rfl
    have gw : ∀ {E}, wpB PGm ρ (d' + 1) m_Md_spellClass 0 [(0, vR T), (1, vI (c : Int))] [] (cn h0 T S) (cV (fun h76 => hK h76 T = k_Md ∧ wpB PGm ρ (d' + 1) m_Md_spell 0 [(0, vR T), (1, vR (ρ 45))] [] h76 (cV (fun h83 => hK h83 T = k_Md ∧ wpB PGm ρ (d' + 1) m_Md_spellNumber 0 [(0, vR T), (1, vL v)] [] h83 (cV (fun h90 => Q (Sum.inl none) h90) (fun e93 h92 => hK h92 e93 ≠ 0 ∧ Q (Sum.inr e93) h92))) (fun e86 h85 => hK h85 e86 ≠ 0 ∧ Q (Sum.inr e86) h85))) E) := fun {E} => by
      refine s_spellClass (d := d' + 1) O H hc e (gn c hc) (by omega) ⟨kT, ?_⟩
      refine s_spell (p := p + (g.2 0 c).length) (bs := [64]) K (K.2.1.g (by decide)) (by decide) (by unfold spS; rw [u2_s]) (by rw [l64]; omega) (by omega) ⟨kT, ?_⟩
      refine s_spellNumber (d := d') (p := p + (g.2 0 c).length + 1) K r64 (by unfold spS; rw [u2_s, l64]) (by omega) (by omega) ?_
      have e1 : spS (spS (spS S p (g.2 0 c)) (p + (g.2 0 c).length) [64]) (p + (g.2 0 c).length + 1) (nuL v) = spS S p (g.2 0 c ++ ([64] ++ nuL v)) := by
        rw [spS_app (bs := g.2 0 c) (cs := [64])]
        have e2 : p + (g.2 0 c).length + 1 = p + (g.2 0 c ++ [64]).length := by rw [List.length_append, l64]; omega
        rw [e2, spS_app, List.append_assoc]
      show Q (Sum.inl none) _
      rw [e1]; exact q
    refine b_Md_print_0 ⟨fun z => absurd z (by decide), fun _ => ⟨fun z => absurd z (by decide), fun _ => ⟨fun z => absurd z (by decide), fun _ => ⟨fun z => absurd z (by decide), fun _ => ⟨fun z => absurd z (by decide), fun _ => ⟨fun z => absurd z (by decide), fun _ => ⟨fun z => absurd z (by decide), fun _ => ⟨fun _ => ⟨kT, ?_⟩, fun z => absurd rfl z⟩⟩⟩⟩⟩⟩⟩⟩
    clear q
    simp (decide := true) only [cnR, cnK, cnl, cnA' G, KN G, LN G, wy, ec, Int.toNat_natCast, true_and, and_true]
    exact ⟨bk, gw⟩
  · have wy : w32 v = (c : Int) := by have := H.2.2.2.2.1; rw [ev]; exact w32_of (by omega) (by omega)
    refine b_Md_print_0 ⟨fun z => absurd z (by decide), fun _ => ⟨fun z => absurd z (by decide), fun _ => ⟨fun z => absurd z (by decide), fun _ => ⟨fun z => absurd z (by decide), fun _ => ⟨fun z => absurd z (by decide), fun _ => ⟨fun z => absurd z (by decide), fun _ => ⟨fun z => absurd z (by decide), fun _ => ⟨fun z => absurd z (by decide), fun _ => b_Md_print_144 ⟨kT, ?_⟩⟩⟩⟩⟩⟩⟩⟩⟩
    rw [wy]
    exact s_spellClass O H hc e (gn c hc) (by have := (gn c hc).1; omega) q
/-- both print the same -/
theorem CORE.opa (HC : CORE Γ h C ho X Y S N) (gn : ∀ i, i < N → NMW (g.2 0 i)) (V : VR Γ S N x y ty v) : ∃ bs, ((ty = 3 ∧ ∃ m : Nat, v = (m : Int) ∧ TTX S m bs) ∨ (ty ≠ 3 ∧ TVA g N S ty v bs ∧ bs.length ≤ 100)) ∧ CVA h C ho X g N x y bs ∧ (∀ i, i < bs.length → -128 ≤ bs.getD i 0 ∧ bs.getD i 0 ≤ 127) ∧ bs.length ≤ 200000 := by
  obtain ⟨mn, us, sb, mb, tm, am, ab, TK⟩ := HC.2.2.2.2.1.kk
  have rg := V.2.2.rng8
  by_cases h6 : ty ≤ 6
  · obtain ⟨bs, A, B⟩ := TK.ops V h6
    have tb := TK.2.2.1
    refine ⟨bs, ?_, Or.inl B, A.1, ?_⟩
    · rcases A.2 with ⟨h3, xx, aa, a1, a2, a3, a4, a5, a6⟩ | ⟨h3, a2, a3, a4, a5⟩
      · exact Or.inl ⟨h3, xx, a1, aa, by omega, a3, a4, by omega, a6⟩
      · exact Or.inr ⟨h3, Or.inl ⟨a2, a5, a3⟩, by omega⟩
    · rcases A.2 with ⟨h3, xx, aa, a1, a2, a3, a4, a5, a6⟩ | ⟨h3, a2, a3, a4, a5⟩
      · rcases B.2 with ⟨-, x', a', b2, b3, b4, b5, b6, b7, b8, b9, b10⟩ | ⟨b1, -⟩
        · have tv : txO S v.toNat := by
            rcases V.2.2 with w | w | w | w | w | w
            · omega
            · omega
            · omega
            · exact w.2.2
            · omega
            · omega
          obtain ⟨ta, tn, tb', y1, y2, -, -, -, -, -, y8⟩ := TK.2.2.2.2.2.2 _ tv
          have ex : v.toNat = xx := by omega
          rw [ex, a4] at y2
          rcases y8 with y8 | y8 <;> omega
        · exact absurd (V.1.trans h3) b1
      · omega
  · have n3 : ty ≠ 3 := by omega
    have ey : y = v := by rw [V.2.1]; unfold cw; rw [if_neg n3]
    have nl := nuL_ok (v := v)
    obtain ⟨tn, sn, sm, c1, c2, c5, c6', c3, c4, c6, c7, c8, U, m1, m2, m3, m4⟩ := HC.shp
    have nr : ∀ c, c < N → ∀ i, i < (g.2 0 c).length → -128 ≤ (g.2 0 c).getD i 0 ∧ (g.2 0 c).getD i 0 ≤ 127 := fun c hc i hi => by have := (gn c hc).2 i hi; omega
    rcases V.2.2 with w | w | w | w | ⟨w1, w2, w3, w4, w5⟩ | ⟨w1, w2, w3⟩
    · omega
    · omega
    · omega
    · omega
    · have e7 : ty = 7 := by omega
      obtain ⟨k, ek⟩ : ∃ k : Nat, v = (k : Int) := ⟨v.toNat, by omega⟩
      subst ek
      rw [Int.toNat_natCast] at w5
      obtain ⟨TA, -⟩ := (c7 k (by omega)).p
      rcases TA.2.2.2.2 with ⟨z, -⟩ | ⟨z1, z2, z3, z4⟩
      · exact absurd (w5.trans e7) z
      obtain ⟨c, ec⟩ : ∃ c : Nat, S f_Md_thingClass k = (c : Int) := ⟨(S f_Md_thingClass k).toNat, by omega⟩
      have hc : c < N := by omega
      rw [ec, Int.toNat_natCast] at z4
      have n60 := (gn c hc).1
      have le : (g.2 0 c ++ ([64] ++ nuL (k : Int))).length = (g.2 0 c).length + (1 + (nuL (k : Int)).length) := by simp; omega
      refine ⟨g.2 0 c ++ ([64] ++ nuL (k : Int)), Or.inr ⟨n3, Or.inr (Or.inl ⟨k, c, e7, rfl, by omega, ec, hc, rfl⟩), by omega⟩, Or.inr (Or.inl ⟨k, c, by rw [V.1]; exact e7, ey, by omega, by omega, ?_, z4, hc, by rw [ey]⟩), fun i hi => ?_, by omega⟩
      · rw [TA.2.1.1, z1]; rfl
      · by_cases q1 : i < (g.2 0 c).length
        · rw [List.getD_eq_getElem?_getD, List.getElem?_append_left q1, ← List.getD_eq_getElem?_getD]
          exact nr c hc i q1
        · rw [List.getD_eq_getElem?_getD, List.getElem?_append_right (by omega), ← List.getD_eq_getElem?_getD]
          by_cases q2 : i = (g.2 0 c).length
          · rw [q2, Nat.sub_self]
            show -128 ≤ (64 : Int) ∧ (64 : Int) ≤ 127
            decide
          · have : i - (g.2 0 c).length = (i - (g.2 0 c).length - 1) + 1 := by omega
            rw [this]
            exact nl.1 _ (by omega)
    · obtain ⟨c, ec⟩ : ∃ c : Nat, v = (c : Int) := ⟨v.toNat, by omega⟩
      have hc : c < N := by omega
      have n60 := (gn c hc).1
      exact ⟨g.2 0 c, Or.inr ⟨n3, Or.inr (Or.inr ⟨c, w1, ec, hc, rfl⟩), by omega⟩, Or.inr (Or.inr ⟨c, by rw [V.1]; exact w1, by rw [ey]; exact ec, hc, rfl⟩), nr c hc, by omega⟩
end
