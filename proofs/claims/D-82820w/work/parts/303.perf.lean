/-! perform: what is to be done -/
set_option maxRecDepth 20000
def q7T (ρ : Nat → Nat) (d : Nat) (Q : QT) : QT := fun o h => match o with
  | Sum.inl _ => wpB PGm ρ d m_Machine_perform 162 [] [] h Q
  | Sum.inr e => Q (Sum.inr e) h
section
variable {ρ : Nat → Nat} {d : Nat} {Q : QT} {Γ Γ' : GH} {h h' h1 h2 H : ah} {C ho k i j N M a z s r f o c t n mn m0 rr sk rk l cd ar nv np E va ma mk ck jm vs fm po fn pp : Nat} {g : HG} {v w hd ty κ nm x y x1 nw ac : Int} {S S' S1 : SS} {X X' X1 X2 : X3} {Y Y' Y1 Y2 : Y3} {b : Bool} {tg wd : Nat → Int} {L : List Nat} {fi ca m q : Int}
theorem perf_0 (P : PFX Γ h C ho X Y S N t o n c r s a κ mn m0 rr) (ea : X 53 f_Found_action 0 = ac) (q0 : ac = 0 ∨ ac = 3 → wpB PGm ρ (d + 11) m_Machine_property 0 [(0, vR (C + 32)), (1, vR a), (2, vI (m0 : Int))] [] (cc h C X Y) (pK Q)) (q1 : ac = 1 ∨ ac = 2 → wpB PGm ρ (d + 12) m_Machine_perform 69 [(0, vR (C + 32)), (2, vI (m0 : Int))] [] (cc h C X Y) Q) (k4 : ac = 4 → S f_Md_pileType rr = 5 ∧ S f_Md_pileValue rr = (k : Int)) (q4 : ac = 4 → wpB PGm ρ (d + 11) m_Machine_enter 0 [(0, vR (C + 32)), (1, vR (hB h (C + 51) k)), (2, vI 0), (3, vL 0), (5, vI ((m0 + 1 : Nat) : Int)), (6, vI (mn : Int)), (7, vI (m0 : Int)), (8, vR 0)] [] (cc h C X Y) (pK Q)) (q5 : ac = 5 → wpB PGm ρ (d + 11) m_Machine_make 0 [(0, vR (C + 32)), (1, vR a), (2, vI (m0 : Int))] [] (cc h C X Y) (pK Q)) (q6 : ac = 6 → wpB PGm ρ (d + 11) m_Machine_field 0 [(0, vR (C + 32)), (1, vI (m0 : Int))] [] (cc h C X Y) (pK Q)) (q7 : ac = 7 → wpB PGm ρ (d + 11) m_Machine_fieldWrite 0 [(0, vR (C + 32)), (1, vI (m0 : Int)), (2, vI ((n - 1 : Nat) : Int))] [] (cc h C X Y) (pK (q7T ρ (d + 12) Q))) (q8 : ac = 8 → wpB PGm ρ (d + 11) m_Machine_does 0 [(0, vR (C + 32)), (1, vR (Y 53 f_Found_member 0)), (2, vI (m0 : Int)), (3, vI (if κ = 0 then 0 else if κ = 1 then 1 else (mn : Int))), (4, vI (if κ = 1 then 1 else 0))] [] (cc h C X Y) (pK Q)) (q9 : ¬ (0 ≤ ac ∧ ac ≤ 8) → wpB PGm ρ (d + 11) m_Machine_row 0 [(0, vR (C + 32)), (1, vI (m0 : Int))] [] (cc h C X Y) (pK Q)) : wpB PGm ρ (d + 12) m_Machine_perform 0 [(0, vR (C + 32)), (1, vR a), (2, vI (m0 : Int))] [] (cc h C X Y) Q := by
  have G := P.1.1.1
  have F := P.1.1.2
  have I := P.2.1.ix
  have ht := I.2.2.1
  have e1 : Y 32 f_Machine_t 0 = C + o := I.2.2.2.1.1
  have e2 : X o f_Task_size 0 = (n : Int) := I.2.2.2.1.2.1
  have hn := I.2.2.2.2.1
  have hm : m0 < n := P.2.2.1.2.2.2.2.1
  obtain ⟨ka, za, sk1, so1⟩ := P.2.2.2.2.2.2.2
  have r0 : hR (cc h C X Y) f_Machine_found (C + 32) = C + 53 := by rw [ccRo (by decide)]; exact F.2.1.2.2.2.2.2.1
  have r1 : hI (cc h C X Y) f_Found_action (C + 53) = ac := by rw [ccI (by decide)]; exact ea
  have r2 : hR (cc h C X Y) f_Machine_t (C + 32) = C + o := by rw [ccR (by decide)]; exact e1
  have r3 : hR (cc h C X Y) f_Machine_heap (C + 32) = C + 50 := by rw [ccRo (by decide)]; exact F.2.1.2.2.2.2.1
  have r4 : hR (cc h C X Y) f_Heap_things (C + 50) = C + 51 := by rw [ccRo (by decide)]; exact F.2.2.1.2.1
  have r5 : hI (cc h C X Y) f_Site_operands a = (mn : Int) := by rw [ccIo (by decide)]; exact so1
  have r6 : hI (cc h C X Y) f_Site_kind a = κ := by rw [ccIo (by decide)]; exact sk1
  have r7 : hR (cc h C X Y) f_Found_member (C + 53) = Y 53 f_Found_member 0 := ccR (by decide)
  have r8 : hI (cc h C X Y) f_Task_size (C + o) = (n : Int) := by rw [ccIt ht (by decide)]; exact e2
  have r9 : hA (cc h C X Y) (hR (cc h C X Y) f_Task_words (C + o)) m0 = X o f_Task_words m0 := by rw [ccRo (by decide), ccAt G ht (by decide)]
  have ft := F.t ht
  unfold FCt at ft
  obtain ⟨tn, sn, sm, d1, d2, d5, d6', d3, d4, d6, d7, d8, U, m1, m2, m3, m4⟩ := P.1.shp
  have k4' : ac = 4 → X o f_Task_words m0 = (k : Int) ∧ k < tn ∧ hK h (hB h (C + 51) k) = k_Fun := fun w => by
    obtain ⟨w1, w2⟩ := k4 w
    obtain ⟨o1, o2, o3, o4, o5, o6, o7, o8⟩ := P.obj (Or.inr w1) w2
    have V0 := P.pl (i := 0) (by omega)
    rw [Nat.add_zero, Nat.add_zero] at V0
    have kk : S f_Md_thingKind k = 5 := by
      rcases V0.2.2 with z | z | z | z | z | z <;> first | omega | skip
      obtain ⟨z1, z2, z3, z4⟩ := z
      rw [w2, Int.toNat_natCast] at z4
      rw [z4.2, w1]
    have TH := (d7 k (by omega)).p.1
    exact ⟨o4, by omega, by rw [TH.2.1.1, kk]; rfl⟩
  have b1 : 0 ≤ (m0 : Int) ∧ (m0 : Int) < ((2001 : Nat) : Int) := by omega
  have b2 : 1 ≤ n ∧ n ≤ 2000000000 := by omega
  have b3 : m0 ≤ 2000000000 := by omega
  have q9' : (¬ ac = 0) → (¬ ac = 1) → (¬ ac = 2) → (¬ ac = 3) → (¬ ac = 4) → (¬ ac = 5) → (¬ ac = 6) → (¬ ac = 7) → (¬ ac = 8) → wpB PGm ρ (d + 11) m_Machine_row 0 [(0, vR (C + 32)), (1, vI (m0 : Int))] [] (cc h C X Y) (pK Q) := fun _ _ _ _ _ _ _ _ _ => q9 (by omega)
  have bk : ∀ w : ac = 4, 0 ≤ (k : Int) ∧ (k : Int) < (tn : Int) ∧ (k : Int) < 2000000000 := fun w => by have := (k4' w).2.1; omega
  have w1 : w32 ((n : Int) - 1) = ((n - 1 : Nat) : Int) := w32_m1 b2
  have w2 : w32 ((m0 : Int) + 1) = ((m0 + 1 : Nat) : Int) := w32_p1 b3
  have g211 : ∀ {u1 u2 : Int}, (ac = 8) → u1 = (if κ = 0 then 0 else if κ = 1 then 1 else (mn : Int)) → wpB PGm ρ (d + 12) m_Machine_perform 198 [(1, vR a)] [vI u1, vI (m0 : Int), vR (Y 53 f_Found_member 0), vR (C + 32)] (cc h C X Y) Q := fun w e1 => by
    have g1 := q8 w
    rw [← e1] at g1
    refine b_Machine_perform_198 ⟨ka, ?_⟩
    rw [r6]
    refine ⟨fun z => b_Machine_perform_211 (d := d + 11) ⟨F.1.1, ?_⟩, fun z => b_Machine_perform_211 (d := d + 11) ⟨F.1.1, ?_⟩⟩
    · rw [if_neg z] at g1; exact g1
    · rw [if_pos z] at g1; exact g1
  refine b_Machine_perform_0 (d := d + 11) (by omega) ⟨F.1.1, ?_⟩
  rw [r0]
  refine ⟨F.1.2.2.2.2.2.2.1, ?_⟩
  rw [r1, r2, r3, r4, r5, r6, r7, r8, Int.toNat_natCast, r9, w1, w2]
  refine ⟨fun z => b_Machine_perform_60 (d := d + 11) ⟨F.1.1, q0 (Or.inl z)⟩, fun n0 => ⟨fun z => q1 (Or.inl z), fun n1 => ⟨fun z => q1 (Or.inr z), fun n2 => ⟨fun z => b_Machine_perform_60 (d := d + 11) ⟨F.1.1, q0 (Or.inr z)⟩, fun n3 => ⟨fun z => ⟨F.1.2.2.2.2.2.1, ft.1, ⟨?_, b1.1, ?_⟩, ?_⟩, fun n4 => ⟨q5, fun n5 => ⟨q6, fun n6 => ⟨fun z => ⟨ft.1, q7 z⟩, fun n7 => ⟨fun z => ⟨ka, fun y0 => ⟨fun y1 => g211 (u2 := 0) z (by rw [if_neg y0, if_neg y1]), fun y1 => g211 (u2 := 0) z (by rw [if_neg y0, if_pos y1])⟩, fun y0 => g211 (u2 := 0) z (by rw [if_pos y0])⟩, fun n8 => q9' n0 n1 n2 n3 n4 n5 n6 n7 n8⟩⟩⟩⟩⟩⟩⟩⟩⟩
  · simp (decide := true) only [ccRo, ccK, KCt G ht]
  · rw [ccRo (by decide), ccl, ft.2.1]; exact b1.2
  · obtain ⟨z1, z2, z3⟩ := k4' z
    obtain ⟨z4, z5, z6⟩ := bk z
    have lk : lok h (C + 51) := F.2.2.2.1.1
    have w3 : w32 (k : Int) = (k : Int) := w32_of (by omega) (by omega)
    have bl : hB (cc h C X Y) (C + 51) k = hB h (C + 51) k := by
      have := ccBo (X := X) (Y := Y) (i := k) (f := f_Heap_things) (b := C + 50) G (by decide) (by have := G.1; omega)
      rw [F.2.2.1.2.1] at this; exact this
    rw [z1, w3, Int.toNat_natCast, bl, ccl, d3]
    exact ⟨lk.1, ⟨by rw [cclok]; exact lk, z4, z5⟩, Or.inr (by rw [ccK, z3]; decide), ka, q4 z⟩
theorem PFR.q7 (q : PFR ρ g N M Γ h C ho X Y S s Q) : PFR ρ g N M Γ h C ho X Y S s (q7T ρ d Q) := fun e S' h' X' Y' T R => by
  have := q e S' h' X' Y' T R
  cases e with
  | none => exact b_Machine_perform_162 this
  | some v => exact this
theorem PFR.pk (q : PFR ρ g N M Γ h C ho X Y S s Q) : PFR ρ g N M Γ h C ho X Y S s (pK Q) := fun e S' h' X' Y' T R => by
  obtain ⟨Γ', z, s', M', -⟩ := id R
  exact oE_pK (fun _ _ => kSg M'.1.2) (q e S' h' X' Y' T R)
/-- a property that is a function is called -/
theorem pf_send (P : PFX Γ h C ho X Y S N t o n c r s a κ mn m0 rr) (hκ : κ = 5) (hb : bsS S t (c - 1) ≤ m0) (eac : ¬ X 53 f_Found_action 0 = 0) (fl : S f_Md_foundLinker 0 = 0) (ew : S f_Md_foundWhich 0 = w) (eh : S f_Md_foundHolder 0 = hd) (epl : X 53 f_Found_place 0 = w) (ehd : Y 53 f_Found_holder 0 = prA h C hd) (pv : PVL S hd) (gt : S f_Md_pileType rr = 4 ∨ S f_Md_pileType rr = 5) (gv : S f_Md_pileValue rr = (k : Int)) (k8 : k < 8000) (R : RDV S k w hd 5 v) (wh : w < 0 → hd < 0) (q : PFR ρ g N M Γ h C ho X Y S s Q) : wpB PGm ρ (d + 13) m_Machine_property 0 [(0, vR (C + 32)), (1, vR a), (2, vI (m0 : Int))] [] (cc h C X Y) (pK Q) := by
  have G := P.1.1.1
  have F := P.1.1.2
  have I := P.2.1.ix
  have ht := I.2.2.1
  have e1 : Y 32 f_Machine_t 0 = C + o := I.2.2.2.1.1
  have hn := I.2.2.2.2.1
  have hm : m0 < n := P.2.2.1.2.2.2.2.1
  obtain ⟨ka, za, sk1, so1⟩ := P.2.2.2.2.2.2.2
  obtain ⟨tn, sn, sm, d1, d2, d5, d6', d3, d4, d6, d7, d8, U, m1, m2, m3, m4⟩ := P.1.shp
  refine r_prop (d := d + 1) P epl ehd pv gt gv R wh (fun x y V => ?_)
  have V0 := P.pl (i := 0) (by omega)
  rw [Nat.add_zero, Nat.add_zero] at V0
  have vv : ∃ u : Nat, v = (u : Int) ∧ u < tn ∧ S f_Md_thingKind u = 5 := by
    rcases V.2.2 with z | z | z | z | z | z <;> first | omega | skip
    exact ⟨v.toNat, by omega, by omega, z.2.2.2.2⟩
  obtain ⟨u, eu, u1, u2⟩ := vv
  subst eu
  have ey : y = (u : Int) := by rw [V.2.1]; unfold cw; rw [if_neg (by decide)]
  have kF : hK h (hB h (C + 51) u) = k_Fun := by rw [(d7 u u1).p.1.2.1.1, u2]; rfl
  have x1 : hI (cc h C X Y) f_Found_action (C + 53) = X 53 f_Found_action 0 := by rw [ccI (by decide)]
  have r2 : hR (cc h C X Y) f_Machine_t (C + 32) = C + o := by rw [ccR (by decide)]; exact e1
  have r3 : hR (cc h C X Y) f_Machine_heap (C + 32) = C + 50 := by rw [ccRo (by decide)]; exact F.2.1.2.2.2.2.1
  have r4 : hR (cc h C X Y) f_Heap_things (C + 50) = C + 51 := by rw [ccRo (by decide)]; exact F.2.2.1.2.1
  have r5 : hI (cc h C X Y) f_Site_operands a = (mn : Int) := by rw [ccIo (by decide)]; exact so1
  have r9 : hA (cc h C X Y) (hR (cc h C X Y) f_Task_words (C + o)) m0 = X o f_Task_words m0 := by rw [ccRo (by decide), ccAt G ht (by decide)]
  have r8 : hA (cc h C X Y) (hR (cc h C X Y) f_Task_tags (C + o)) m0 = X o f_Task_tags m0 := by rw [ccRo (by decide), ccAt G ht (by decide)]
  have bl : hB (cc h C X Y) (C + 51) u = hB h (C + 51) u := by
    have := ccBo (X := X) (Y := Y) (i := u) (f := f_Heap_things) (b := C + 50) G (by decide) (by have := G.1; omega)
    rw [F.2.2.1.2.1] at this; exact this
  have lk : lok h (C + 51) := F.2.2.2.1.1
  have ft := F.t ht
  unfold FCt at ft
  have b1 : 0 ≤ (m0 : Int) ∧ (m0 : Int) < ((2001 : Nat) : Int) := by omega
  have b3 : m0 ≤ 2000000000 := by omega
  have b4 : 0 ≤ (u : Int) ∧ (u : Int) < (tn : Int) := by omega
  have ath : ATQ S s k κ := ⟨P.2.2.2.2.2.1.1, P.2.2.2.2.2.1.2.1, fl, by rw [P.2.2.2.2.2.2.1.2]; exact gv, k8⟩
  have ees : S f_Md_es 0 = (mn : Int) := by
    rw [P.2.2.2.2.2.1.2.2.2.1]
    unfold esK; rw [if_neg (by omega), if_neg (by omega), if_neg (by omega)]
  have ge := pf_enter (d := d) (ρ := ρ) (g := g) (M := M) (Q := pK Q) P (Or.inr hκ) hb (k := u) (by omega) u2 V0 (fun e S' he T => by
    rw [gv] at T
    exact TAC.send he ath hκ ew eh R (by omega) P.2.2.2.2.2.2.1.1 ees T) q.pk
  have w3 : w32 (u : Int) = (u : Int) := w32_of (by omega) (by omega)
  have w2 : w32 ((m0 : Int) + 1) = ((m0 + 1 : Nat) : Int) := w32_p1 b3
  refine b_Machine_property_94 (d := d + 12) (by omega) ⟨F.1.2.2.2.2.2.2.1, fun _ => ⟨fun _ => ⟨F.1.1, ?_⟩, fun z => absurd V.1 z⟩, fun z => absurd (x1.symm.trans z) eac⟩
  rw [r3, r4, r2, r5, ey, w3, w2, Int.toNat_natCast, Int.toNat_natCast, bl, r8, r9]
  refine ⟨F.1.2.2.2.2.2.1, lk.1, ⟨by rw [cclok]; exact lk, b4.1, by rw [ccl, d3]; exact b4.2⟩, Or.inr (by rw [ccK, kF]; decide), ft.1, ⟨?_, b1.1, ?_⟩, ⟨?_, b1.1, ?_⟩, ka, ge⟩
  · simp (decide := true) only [ccRo, ccK, KCt G ht]
  · rw [ccRo (by decide), ccl, ft.2.2.1]; exact b1.2
  · simp (decide := true) only [ccRo, ccK, KCt G ht]
  · rw [ccRo (by decide), ccl, ft.2.1]; exact b1.2
/-- a function is called -/
theorem pf_call (P : PFX Γ h C ho X Y S N t o n c r s a κ mn m0 rr) (hκ : κ = 4) (hb : bsS S t (c - 1) ≤ m0) (fl : S f_Md_foundLinker 0 = 0) (gt : S f_Md_pileType rr = 5) (gv : S f_Md_pileValue rr = (k : Int)) (q : PFR ρ g N M Γ h C ho X Y S s Q) : wpB PGm ρ (d + 12) m_Machine_enter 0 [(0, vR (C + 32)), (1, vR (hB h (C + 51) k)), (2, vI 0), (3, vL 0), (5, vI ((m0 + 1 : Nat) : Int)), (6, vI (mn : Int)), (7, vI (m0 : Int)), (8, vR 0)] [] (cc h C X Y) (pK Q) := by
  obtain ⟨o1, o2, o3, o4, o5, o6, o7, o8⟩ := P.obj (Or.inr gt) gv
  have V0 := P.pl (i := 0) (by omega)
  rw [Nat.add_zero, Nat.add_zero] at V0
  have kk : S f_Md_thingKind k = 5 := by
    rcases V0.2.2 with z | z | z | z | z | z <;> first | omega | skip
    obtain ⟨z1, z2, z3, z4⟩ := z
    rw [gv, Int.toNat_natCast] at z4
    rw [z4.2, gt]
  have ees : S f_Md_es 0 = (mn : Int) := by
    rw [P.2.2.2.2.2.1.2.2.2.1]
    unfold esK; rw [if_neg (by omega), if_neg (by omega), if_neg (by omega)]
  exact pf_enter P (Or.inl hκ) hb o1 kk (VR.nil trivial) (fun e S' he T => TAC.call he ⟨P.2.2.2.2.2.1.1, P.2.2.2.2.2.1.2.1, fl, by rw [P.2.2.2.2.2.2.1.2]; exact gv, o2⟩ hκ ees T) q
end
