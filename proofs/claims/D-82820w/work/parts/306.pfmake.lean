/-! perform: a fun makes an object -/
set_option maxRecDepth 20000
section
variable {ρ : Nat → Nat} {d : Nat} {Q : QT} {Γ Γ' : GH} {h h' h1 h2 H : ah} {C ho k i j N M a z s r f o c t n mn m0 rr sk rk l cd nv np E va ma mk ck jm vs fm po fn pp tn wi : Nat} {g : HG} {v w hd ty κ nm x y x1 nw ac p u ar : Int} {S S' S1 : SS} {X X' X1 X2 : X3} {Y Y' Y1 Y2 : Y3} {b : Bool} {tg wd : Nat → Int} {L : List Nat} {fi ca m q : Int} {ws : List (List Int)} {l1 : List Int}
theorem RW94 (G : AC h C) (F : FC h C) : RW (cc h C X Y) (C + 94) 0 xPRO := by
  have gz := G.1
  obtain ⟨k1, k2, k3, k4, k5, k6, k7⟩ := F.2.2.2.2.2.2.2.1
  have u := F.2.2.2.2.2.2.2.2.2.1.2.1
  have e : ∀ i, hA (cc h C X Y) (C + 94) i = hA h (C + 94) i := fun i => ccA0 (fun q hq => by
    have o1 := ownA' hq
    exact u q.1 (C + q.2.1) (by omega) o1.1)
  refine ⟨?_, fun i hi => ?_⟩
  · rw [ccl, k2]; decide
  · rw [e, Nat.zero_add]
    have : i < 5 := hi
    rcases i with _ | _ | _ | _ | _ | i
    · exact k3
    · exact k4
    · exact k5
    · exact k6
    · exact k7
    · omega
/-- from the holder of the prototype on -/
theorem r_make96 (HC : CORE Γ h C ho X Y S N) (hv : v = -1 ∨ (0 ≤ v ∧ v < S f_Md_things 0 ∧ (S f_Md_thingKind v.toNat = 4 ∨ S f_Md_thingKind v.toNat = 5) ∧ OWs S v.toNat nm)) (q : ∀ l6 pT, ((v < 0 ∧ pT = -1) ∨ (0 ≤ v ∧ ∃ n wi : Nat, S f_Md_thingCount v.toNat = (n : Int) ∧ wi < n ∧ nmT S v.toNat wi = nm ∧ pT = PRV S v.toNat wi)) → ((l6 = 0 ∧ pT = -1) ∨ ∃ k : Nat, l6 = hB h (C + 51) k ∧ pT = (k : Int) ∧ (k : Int) < S f_Md_things 0 ∧ (S f_Md_thingKind k = 4 ∨ S f_Md_thingKind k = 5)) → wpB PGm ρ (d + 30) m_Machine_make 140 [(0, vR (C + 32)), (1, vR a), (2, vI x), (3, vR l), (6, vR l6)] [] (cc h C X Y) Q) : wpB PGm ρ (d + 30) m_Machine_make 96 [(0, vR (C + 32)), (1, vR a), (2, vI x), (3, vR l), (4, vI nm)] [vR (prA h C v)] (cc h C X Y) Q := by
  have G := HC.1.1
  have F := HC.1.2
  obtain ⟨tn, sn, sm', d1, d2, d5, d6', d3, d4, d6, d7, d8, U, m1, m2, m3, m4⟩ := HC.shp
  rcases hv with rfl | ⟨v1, v2, v3, n, en, wi, hw, ew⟩
  · have e : prA h C (-1) = 0 := rfl
    rw [e]
    exact b_Machine_make_96 (d := d + 29) ⟨fun _ => q 0 (-1) (Or.inl ⟨by decide, rfl⟩) (Or.inl ⟨rfl, rfl⟩), fun z => absurd rfl z⟩
  · have e : prA h C v = hB h (C + 51) v.toNat := if_neg (by omega)
    rw [e]
    obtain ⟨n', sn2, s0, esn, L, es, hs0, -, eR, -, un, -, SF, -, kk, nz⟩ := HC.sth (k := v.toNat) (by omega) v3
    have nn : n' = n := by have := L.2.2.1; omega
    subst nn
    have TH := (d7 v.toNat (by omega)).p
    obtain ⟨ta1, ⟨ta2, ta3, ta4⟩, -⟩ := TH.1
    obtain ⟨tb1, tb2, ⟨tb3, tb4, tb5, tb6, tb7, tb8, tb9⟩, tb10, -⟩ := TH.2.1
    have V := (tb10 wi (by omega)).2
    have r1 : hR (cc h C X Y) f_Thing_tags (hB h (C + 51) v.toNat) = hR h f_Thing_tags (hB h (C + 51) v.toNat) := ccRo (by decide)
    have r2 : hR (cc h C X Y) f_Thing_words (hB h (C + 51) v.toNat) = hR h f_Thing_words (hB h (C + 51) v.toNat) := ccRo (by decide)
    have r3 : hR (cc h C X Y) f_Obj_shape (hB h (C + 51) v.toNat) = hR h f_Obj_shape (hB h (C + 51) v.toNat) := ccRo (by decide)
    have a1 : hA (cc h C X Y) (hR h f_Thing_tags (hB h (C + 51) v.toNat)) wi = hA h (hR h f_Thing_tags (hB h (C + 51) v.toNat)) wi := ccAo G (by decide) ta3
    have a2 : hA (cc h C X Y) (hR h f_Thing_words (hB h (C + 51) v.toNat)) wi = hA h (hR h f_Thing_words (hB h (C + 51) v.toNat)) wi := ccAo G (by decide) ta3
    have ks : hK h (hR h f_Obj_shape (hB h (C + 51) v.toNat)) = k_Shape := by rw [eR]; exact (d8 s0 (by omega)).1.1
    have k4 : hK h (hB h (C + 51) v.toNat) ∈ [244, 245, 246, 249] := by
      rcases List.mem_cons.mp kk with w | w
      · rw [w]; decide
      · rw [List.mem_singleton.mp w]; decide
    have b1 : 0 ≤ (wi : Int) ∧ (wi : Int) < (hl h (hR h f_Thing_words (hB h (C + 51) v.toNat)) : Int) := by omega
    refine b_Machine_make_96 (d := d + 29) ⟨fun z => absurd z nz, fun _ => ⟨kk, by rw [r3]; exact ks, ?_⟩⟩
    rw [r3]
    refine r_findT (f := fun _ => 0) HC (by omega) v3 en (fun w hw2 => ?_)
    have ewi : w = (wi : Int) := by
      rcases hw2 with ⟨i, e1, e2, e3⟩ | ⟨e1, e2⟩
      · rw [e1, un i wi e2 hw (by rw [e3, ew])]
      · exact absurd ew (e2 wi hw)
    subst ewi
    show hK (cc h C X Y) (hB h (C + 51) v.toNat) ∈ [244, 245, 246, 249] ∧ _
    rw [r1, r2, Int.toNat_natCast, a1, a2]
    obtain ⟨A1, AE⟩ := V.obj HC.2.2.2.2.2.2.2.2.2.1 (h := h) (C := C)
    refine ⟨k4, ⟨by rw [ccK, tb6]; decide, b1.1, by rw [ccl, tb7]; exact b1.2⟩, ⟨by rw [ccK, tb4]; decide, b1.1, by rw [ccl]; exact b1.2⟩, F.1.1, ?_⟩
    refine r_objectOf G F (by omega) d3 d6 (fun w => ?_) ?_
    · obtain ⟨w1, w2, w3, w4, w5, w6⟩ := A1 w
      exact ⟨by omega, by omega, w5⟩
    · refine q _ (PRV S v.toNat wi) (Or.inr ⟨v1, n', wi, en, hw, ew, rfl⟩) ?_
      unfold obA PRV
      rw [AE]
      by_cases c : S f_Md_slotType (slS S v.toNat wi) = 4 ∨ S f_Md_slotType (slS S v.toNat wi) = 5
      · obtain ⟨w1, w2, w3, w4, w5, w6⟩ := A1 (by rw [AE]; exact c)
        rw [if_pos c, if_pos c]
        refine Or.inr ⟨(S f_Md_slotValue (slS S v.toNat wi)).toNat, by rw [w1], by omega, by omega, ?_⟩
        rw [w4, AE]; exact c
      · rw [if_neg c, if_neg c]; exact Or.inl ⟨rfl, rfl⟩
theorem r_make (P : PFX Γ h C ho X Y S N t o n c r s a κ mn m0 rr) (NM : NMR h C S ws) (gt : S f_Md_pileType rr = 5) (gv : S f_Md_pileValue rr = (k : Int)) (Z : FNQ S k fn ck mk vs rk np nv ar) (q0 : c = 200 → Q (Sum.inr (C + 33)) (cc h C (erX X 11) Y)) (q1 : c < 200 → ¬ (mk + 2 ≤ 8000 ∧ rk + nv ≤ 60000) → hK (cc h C (erX X 0) Y) (C + 33) ≠ 0 ∧ Q (Sum.inr (C + 33)) (cc h C (erX X 0) Y)) (q2 : c < 200 → mk + 2 ≤ 8000 → rk + nv ≤ 60000 → ∀ l6 pT, PRE ρ g N M S k pT → ((l6 = 0 ∧ pT = -1) ∨ ∃ k : Nat, l6 = hB h (C + 51) k ∧ pT = (k : Int) ∧ (k : Int) < S f_Md_things 0 ∧ (S f_Md_thingKind k = 4 ∨ S f_Md_thingKind k = 5)) → wpB PGm ρ (d + 30) m_Machine_make 140 [(0, vR (C + 32)), (1, vR a), (2, vI (m0 : Int)), (3, vR (hB h (C + 51) k)), (6, vR l6)] [] (cc h C X Y) Q) : wpB PGm ρ (d + 30) m_Machine_make 0 [(0, vR (C + 32)), (1, vR a), (2, vI (m0 : Int))] [] (cc h C X Y) Q := by
  have HC := P.1
  have G := HC.1.1
  have F := HC.1.2
  have I := P.2.1.ix
  have ht := I.2.2.1
  have e1 : Y 32 f_Machine_t 0 = C + o := I.2.2.2.1.1
  have ec : X o f_Task_calls 0 = (c : Int) := I.2.2.2.1.2.2
  have hc2 := I.2.2.2.2.2.2
  have hn := I.2.2.2.2.1
  have hm : m0 < n := P.2.2.1.2.2.2.2.1
  obtain ⟨tn, sn, sm', d1, d2, d5, d6', d3, d4, d6, d7, d8, U, m1, m2, m3, m4⟩ := HC.shp
  have wf := prS_wf d1 d7 d8
  obtain ⟨o1, o2, o3, o4, o5, o6, o7, o8⟩ := P.obj (Or.inr gt) gv
  have V0 := P.pl (i := 0) (by omega)
  rw [Nat.add_zero, Nat.add_zero] at V0
  have kd : S f_Md_thingKind k = 5 := by
    rcases V0.2.2 with z | z | z | z | z | z <;> first | omega | skip
    obtain ⟨z1, z2, z3, z4⟩ := z
    rw [gv, Int.toNat_natCast] at z4
    rw [z4.2, gt]
  obtain ⟨z1, z2, z3, z4, z5, z6, z7, z8, z9, z10, z11, z12⟩ := id Z
  obtain ⟨ta1, ⟨ta2, ta3, ta4⟩, -, tf, -⟩ := (d7 k (by omega)).p.1
  have tf' := tf.resolve_left (fun z => z.1 kd)
  rw [z2] at tf'
  obtain ⟨-, t1, t2, t3, t4, t5, t6, t7, t8⟩ := tf'
  rw [Int.toNat_natCast] at t3
  have kF : hK h (hB h (C + 51) k) = k_Fun := by rw [ta2, kd]; rfl
  obtain ⟨fN, n1, n2, n3, n4⟩ := HC.2.2.2.1
  obtain ⟨⟨p1, p2, p3⟩, -, -, p4, p5, -⟩ := n4 fn (by omega)
  obtain ⟨mk', rm', sm, tk, ck', sk, vk, hk', gk, ⟨u1, u2, v3⟩, ⟨u4, u5, u6⟩, -⟩ := HC.2.2.2.2.2.2.2.2.1
  have em : mk' = mk := by omega
  have er : rm' = rk := by omega
  subst em er
  have r0 : hR (cc h C X Y) f_Machine_PROTO (C + 32) = C + 94 := by rw [ccRo (by decide)]; exact F.2.1.2.2.2.2.2.2.2.2.2.2.2.2.1
  have r1 : hR (cc h C X Y) f_Machine_names (C + 32) = C + 34 := by rw [ccRo (by decide)]; exact F.2.1.2.1
  have r2 : hR (cc h C X Y) f_Machine_t (C + 32) = C + o := by rw [ccR (by decide)]; exact e1
  have r3 : hR (cc h C X Y) f_Machine_heap (C + 32) = C + 50 := by rw [ccRo (by decide)]; exact F.2.1.2.2.2.2.1
  have r4 : hR (cc h C X Y) f_Heap_things (C + 50) = C + 51 := by rw [ccRo (by decide)]; exact F.2.2.1.2.1
  have r5 : hR (cc h C X Y) f_Fun_code (hB h (C + 51) k) = hB h (C + 56) fn := by rw [ccRo (by decide)]; exact t3
  have r6 : hI (cc h C X Y) f_Code_variables (hB h (C + 56) fn) = (nv : Int) := by rw [ccIo (by decide)]; exact p5.trans z10
  have r7 : hI (cc h C X Y) f_Task_calls (C + o) = (c : Int) := by rw [ccIt ht (by decide)]; exact ec
  have r8 : hR (cc h C X Y) f_Machine_signal (C + 32) = C + 33 := by rw [ccRo (by decide)]; exact F.2.1.1
  have r9 : hA (cc h C X Y) (hR (cc h C X Y) f_Task_words (C + o)) m0 = (k : Int) := by rw [ccRo (by decide), ccAt G ht (by decide)]; exact o4
  have bl : hB (cc h C X Y) (C + 51) k = hB h (C + 51) k := by
    have := ccBo (X := X) (Y := Y) (i := k) (f := f_Heap_things) (b := C + 50) G (by decide) (by have := G.1; omega)
    rw [F.2.2.1.2.1] at this; exact this
  have lk : lok h (C + 51) := F.2.2.2.1.1
  have k94 : hK h (C + 94) = 3 := F.2.2.2.2.2.2.2.1.1
  have l94 : hl h (C + 94) = 5 := F.2.2.2.2.2.2.2.1.2.1
  have ft := F.t ht
  unfold FCt at ft
  have c200 : ∀ z : (c : Int) = 200, c = 200 := fun z => by omega
  have c200' : ∀ z : ¬ (c : Int) = 200, c < 200 := fun z => by omega
  have b1 : 0 ≤ (m0 : Int) ∧ (m0 : Int) < ((2001 : Nat) : Int) := by omega
  have b4 : 0 ≤ (k : Int) ∧ (k : Int) < (tn : Int) := by omega
  have nv6 : nv ≤ 1000000 := by omega
  have nk0 : ¬ (k : Int) < 0 := by omega
  have g96 : ∀ {nm v : Int} {j : Nat}, c < 200 → mk' + 2 ≤ 8000 → rm' + nv ≤ 60000 → FWI ws xPRO nm → ((nm < 0 ∧ v = -1) ∨ (0 ≤ nm ∧ HLD S nm j (k : Int) v)) → wpB PGm ρ (d + 30) m_Machine_make 96 [(0, vR (C + 32)), (1, vR a), (2, vI (m0 : Int)), (3, vR (hB h (C + 51) k)), (4, vI nm)] [vR (prA h C v)] (cc h C X Y) Q := fun {nm v j} h1 h2 h3 fw cs => by
    refine r_make96 HC ?_ (fun l6 pT c1 c2 => q2 h1 h2 h3 l6 pT (PRE.of HC NM fw o1 (Or.inr kd) ?_) c2)
    · rcases cs with ⟨-, e⟩ | ⟨-, hl⟩
      · exact Or.inl e
      · exact HLD.pv wf j _ v (Or.inr ⟨b4.1, o1, by rw [Int.toNat_natCast]; exact Or.inr kd⟩) hl
    · rcases cs with ⟨e1, e2⟩ | ⟨e1, hl⟩
      · subst e2
        rcases c1 with ⟨-, e⟩ | ⟨e, -⟩
        · exact Or.inl ⟨e1, e⟩
        · exact absurd e (by decide)
      · exact Or.inr ⟨e1, j, v, hl, c1⟩
  have dd : 10 ≤ d + 29 + 1 := by omega
  have w3 : w32 (k : Int) = (k : Int) := w32_of (by omega) (by omega)
  refine b_Machine_make_0 (d := d + 29) dd ⟨F.1.1, ?_⟩
  rw [r2, r7, r3, r4, r8, Int.toNat_natCast, r9, w3, Int.toNat_natCast, bl, r5, r6]
  refine ⟨ft.1, fun z => ⟨F.1.2.2.2.2.2.1, ⟨?_, b1.1, ?_⟩, lk.1, ⟨by rw [cclok]; exact lk, b4.1, by rw [ccl, d3]; exact b4.2⟩, Or.inr (by rw [ccK, kF]; decide), kF, p1, ?_⟩, fun z => ⟨F.1.2.1, r_sigQ G F (q0 (c200 z))⟩⟩
  · simp (decide := true) only [ccRo, ccK, KCt G ht]
  · rw [ccRo (by decide), ccl, ft.2.1]; exact b1.2
  · refine r_want (d := d + 27) (a := 2) (b := nv) (mk := mk') (rm := rm') G F u1 u4 v3 u6 (by decide) nv6 (fun h2 h3 => ⟨F.1.1, ?_⟩) (fun w => q1 (c200' z) w)
    rw [r0, r1, ccl, l94]
    refine ⟨by rw [ccK, k94]; decide, F.1.2.2.1, ?_⟩
    refine r_findName (d := d + 28) (at_ := 0) (l := xPRO) G NM (by rw [k94]; decide) (RW94 G F) (by decide) (fun nm fw => ⟨fun w => ?_, fun w => ?_⟩)
    · have ep : prA h C (k : Int) = hB h (C + 51) k := by unfold prA; rw [if_neg nk0, Int.toNat_natCast]
      have := r_holder (ρ := ρ) (d := d + 28) (nm := nm) (p := (k : Int)) (Q := cR (fun x43 h38 => wpB PGm ρ (d + 29 + 1) m_Machine_make 96 [(0, vR (C + 32)), (1, vR a), (2, vI (m0 : Int)), (3, vR (hB h (C + 51) k)), (4, vI nm)] [vR x43] h38 Q) (fun e41 h40 => hK h40 e41 ≠ 0 ∧ Q (Sum.inr e41) h40)) HC (Or.inr ⟨b4.1, o1, by rw [Int.toNat_natCast]; exact Or.inr kd⟩) (fun j v _ hl => g96 (c200' z) h2 h3 fw (Or.inr ⟨w, hl⟩))
      rw [ep] at this
      exact this
    · exact g96 (nm := nm) (v := -1) (j := 0) (c200' z) h2 h3 fw (Or.inl ⟨w, rfl⟩)
end
