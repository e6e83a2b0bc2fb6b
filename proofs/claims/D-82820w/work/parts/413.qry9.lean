set_option maxRecDepth 20000
section
variable {ρ : Nat → Nat} {d : Nat} {Q K : QT} {Γ Γ' Γ1 Γ2 : GH} {h h' h1 h2 H : ah} {C ho N M z s t o n c r i j k p a T cd fn ck mk vs rk np sn tn : Nat} {g g' : HG} {S S' S1 S2 : SS} {X X' X1 X2 : X3} {Y Y' Y1 Y2 : Y3} {ws ws' hw : List (List Int)} {x y ty v fl l1 l2 l3 l4 kd : Int} {h0 : ah}
/-- properties -/
def ppC (S : SS) (l1 l2 l3 : Int) : Int := if (0 ≤ l1 ∧ l1 < S f_Md_things 0) ∧ (0 ≤ l3 ∧ l3 ≤ 2) ∧ 0 ≤ l2 ∧ l2 < S f_Md_thingCount l1.toNat then 0 else 1
def ppA (S : SS) (l1 l2 l3 : Int) : Int := if l3 = 2 then S f_Md_slotName (slS S l1.toNat l2.toNat) else tdA S (S f_Md_slotType (slS S l1.toNat l2.toNat)) (S f_Md_slotValue (slS S l1.toNat l2.toNat)) l3
theorem c_property (A : ALL ρ Γ h C ho X Y S g N M hw ws) (LT : LTM h C) (q0 : ppC S l1 l2 l3 = 0 → Q (Sum.inl (some (vL (ppA S l1 l2 l3)))) (cc h C X Y)) (q1 : ppC S l1 l2 l3 = 1 → Q (Sum.inr (hz h)) (cc (hn h k_IndexOutOfBoundsException 6 0) C X Y)) : wpB PGm ρ (d + 12) m_LT_property 0 [(0, vR C), (1, vI l1), (2, vI l2), (3, vI l3)] [] (cc h C X Y) Q := by
  have G := A.1.1.1
  have F := A.1.1.2
  obtain ⟨tn, sn, et, es, lt, ls, s1, t8, s4, TH, SH, -⟩ := id A.1.2.2.2.2.2.2.2.2.2.1
  have rm : hR (cc h C X Y) f_LT_machine C = C + 32 := by rw [ccRo (by decide)]; exact LT.2.1
  have rh : hR (cc h C X Y) f_Machine_heap (C + 32) = C + 50 := by rw [ccRo (by decide)]; exact F.2.1.2.2.2.2.1
  have rs : hR (cc h C X Y) f_Heap_things (C + 50) = C + 51 := by rw [ccRo (by decide)]; exact F.2.2.1.2.1
  have lk : lok (cc h C X Y) (C + 51) := by rw [cclok]; exact F.2.2.2.1.1
  have lf : hl (cc h C X Y) (C + 51) = tn := lt
  have kk : hK (cc (hn h k_IndexOutOfBoundsException 6 0) C X Y) (hz h) = k_IndexOutOfBoundsException := by rw [ccK, g_hK_hn, if_pos rfl]
  have bad : ¬ ((0 ≤ l1 ∧ l1 < S f_Md_things 0) ∧ (0 ≤ l3 ∧ l3 ≤ 2) ∧ 0 ≤ l2 ∧ l2 < S f_Md_thingCount l1.toNat) → wpB PGm ρ (d + 12) m_LT_property 30 [] [] (cc h C X Y) Q ∧ wpB PGm ρ (d + 12) m_LT_property 70 [] [] (cc h C X Y) Q := fun z => by
    have q1 := q1 (if_neg z)
    refine ⟨b_LT_property_30 (by omega) ?_, b_LT_property_70 (by omega) ?_⟩ <;>
    · dsimp only
      rw [cc_hn G, show hz (cc h C X Y) = hz h from rfl, kk]
      exact ⟨by decide, by decide, q1⟩
  clear q1
  unfold ppC at q0
  unfold ppA at q0
  rw [et] at q0 bad
  refine b_LT_property_0 (d := d + 11) (by omega) ⟨fun c => (bad (by omega)).1, fun c => ⟨LT.1, ?_⟩⟩
  rw [rm, rh, rs, lf, eTh F G]
  refine ⟨F.1.1, F.1.2.2.2.2.2.1, lk.1, lk, fun c2 => (bad (by omega)).1, fun c2 => ⟨fun c3 => (bad (by omega)).1, fun c3 => ⟨fun c4 => ?_, fun c4 => (bad (by omega)).1⟩⟩⟩
  have ⟨u, eu⟩ : ∃ u : Nat, l1 = (u : Int) := ⟨l1.toNat, by omega⟩
  subst eu
  have hu : u < tn := by omega
  rw [Int.toNat_natCast] at q0 bad
  rw [Int.toNat_natCast]
  obtain ⟨⟨kb, ⟨ka, az, a0⟩, num, fun5, cls⟩, ⟨sz, ⟨z1, z2⟩, ⟨w1, w2, w3, w4, w5, w6, w7⟩, vals, -⟩, ⟨shp, shn⟩, -⟩ := (TH u hu).p
  have ka' : hK (cc h C X Y) (hB h (C + 51) u) = kdK (S f_Md_thingKind u) := ka
  have k4 : kdK (S f_Md_thingKind u) ∈ [244, 245, 246, 249] := by
    have : S f_Md_thingKind u = 4 ∨ S f_Md_thingKind u = 5 ∨ S f_Md_thingKind u = 6 ∨ S f_Md_thingKind u = 7 := by omega
    rcases this with e | e | e | e <;> rw [e] <;> decide
  have k45 : S f_Md_thingKind u = 4 ∨ S f_Md_thingKind u = 5 → kdK (S f_Md_thingKind u) ∈ [244, 245] := fun w => by
    rcases w with e | e <;> rw [e] <;> decide
  have isz : hI (cc h C X Y) f_Thing_size (hB h (C + 51) u) = S f_Md_thingCount u := by rw [ccIo (by decide)]; exact sz
  rw [isz]
  refine ⟨lk.1, ⟨lk, c, c2⟩, Or.inr (by rw [ccK, ka]; exact k4), fun c5 => (bad (by omega)).2, fun c5 => ⟨by rw [ka']; exact k4, fun c6 => ?_, fun c6 => (bad (by omega)).2⟩⟩
  have ⟨w, ew⟩ : ∃ w : Nat, l2 = (w : Int) := ⟨l2.toNat, by omega⟩
  subst ew
  replace q0 := q0 (if_pos (by omega))
  rw [Int.toNat_natCast] at q0 ⊢
  clear bad
  refine ⟨fun m2 => r_tagD ka' kb ?_, fun m2 => ?_⟩
  · rw [if_pos (by omega)] at q0
    refine b_LT_property_112 (d := d + 11) ⟨F.1.1, r_objectOf (tn := tn) G F (by omega) lt t8 (fun w => ⟨c, c2, by rw [Int.toNat_natCast, ka]; exact k45 w⟩) ?_⟩
    have ob : obA h C (S f_Md_thingKind u) (u : Int) = if S f_Md_thingKind u = 4 ∨ S f_Md_thingKind u = 5 then hB h (C + 51) u else 0 := by unfold obA; rw [Int.toNat_natCast]
    dsimp only [cR]
    rw [ob]
    by_cases w9 : S f_Md_thingKind u = 4 ∨ S f_Md_thingKind u = 5
    · rw [if_pos w9]
      obtain ⟨⟨s0, s2⟩, s3, s5, s6, s7⟩ := shp w9
      have r1 : hR (cc h C X Y) f_Obj_shape (hB h (C + 51) u) = hB h (C + 52) (S f_Md_thingShape u).toNat := by rw [ccRo (by decide)]; exact s3
      rw [r1]
      obtain ⟨⟨ks, -⟩, -⟩ := SH (S f_Md_thingShape u).toNat (by omega)
      refine ⟨fun _ => ⟨by rw [ka']; exact k45 w9, ks, ?_⟩, fun e => absurd e a0⟩
      rw [s7 w c6] at q0
      have ⟨n, en⟩ : ∃ n : Nat, S f_Md_thingCount u = (n : Int) := ⟨(S f_Md_thingCount u).toNat, by omega⟩
      rw [en, Int.toNat_natCast] at q0
      exact r_nameAt0 (n := n) (SHF.of SH) (by omega) (by rw [s5, en]) (by omega) (by omega) (fun i _ => rfl) q0
    · rw [if_neg w9]
      rw [shn (by omega) w c6] at q0
      exact ⟨fun e => absurd rfl e, fun _ => q0⟩
  · rw [if_neg (by omega)] at q0
    have r1 : hR (cc h C X Y) f_Thing_tags (hB h (C + 51) u) = hR h f_Thing_tags (hB h (C + 51) u) := ccRo (by decide)
    have r2 : hR (cc h C X Y) f_Thing_words (hB h (C + 51) u) = hR h f_Thing_words (hB h (C + 51) u) := ccRo (by decide)
    have a1 : hA (cc h C X Y) (hR h f_Thing_tags (hB h (C + 51) u)) w = hA h (hR h f_Thing_tags (hB h (C + 51) u)) w := ccAo G (by decide) az
    have a2 : hA (cc h C X Y) (hR h f_Thing_words (hB h (C + 51) u)) w = hA h (hR h f_Thing_words (hB h (C + 51) u)) w := ccAo G (by decide) az
    rw [r1, r2, a1, a2]
    refine ⟨⟨by show hK h _ ∈ _; rw [w4]; decide, c5, by show _ < (hl h _ : Int); omega⟩, ⟨by show hK h _ ∈ _; rw [w2]; decide, c5, by show _ < (hl h _ : Int); omega⟩, ?_⟩
    exact c_tell A LT (vals w c6).2 q0
theorem t_property (O : TOK h0 T) (en : S f_Md_things 0 = (n : Int)) (hn : n ≤ 8000) (kb : ∀ k, k < n → ∃ m, SLG S k m) (tx : ∀ k i : Nat, k < n → (i : Int) < S f_Md_thingCount k → S f_Md_slotType (slS S k i) = 3 → ∃ (m : Nat) (l : List Int), S f_Md_slotValue (slS S k i) = (m : Int) ∧ TTX S m l) (q : Q (Sum.inl (some (vL (if ppC S l1 l2 l3 = 0 then ppA S l1 l2 l3 else 0)))) (cn h0 T (thQ S (ppC S l1 l2 l3)))) : wpB PGm ρ (d + 1) m_Md_property 0 [(0, vR T), (1, vI l1), (2, vI l2), (3, vI l3)] [] (cn h0 T S) Q := by
  have O' := O
  obtain ⟨kT, G, kH⟩ := O
  have kM : ∀ S : SS, hK (cn h0 T S) T = k_Md := fun S => by rw [cnK]; exact kT
  have e1 : hI (cn h0 T S) f_Md_things T = (n : Int) := by rw [cnI (by decide)]; exact en
  have bad : ¬ ((0 ≤ l1 ∧ l1 < (n : Int)) ∧ (0 ≤ l3 ∧ l3 ≤ 2) ∧ 0 ≤ l2 ∧ l2 < S f_Md_thingCount l1.toNat) → wpB PGm ρ (d + 1) m_Md_property 71 [(0, vR T), (1, vI l1), (2, vI l2), (3, vI l3)] [vI 0] (cn h0 T S) Q := fun z => by
    have e : ppC S l1 l2 l3 = 1 := if_neg (by rw [en]; exact z)
    rw [e, if_neg (by decide)] at q
    refine b_Md_property_71 ⟨fun _ => b_Md_property_84 ⟨kM _, ?_⟩, fun c => absurd rfl c⟩
    rw [cn_tq]
    exact ⟨fun c => absurd rfl c, fun _ => q⟩
  have wu : w32 ((n : Int) - 1) = (n : Int) - 1 := w32_of (by omega) (by omega)
  refine b_Md_property_0 ⟨kM _, ?_⟩
  rw [e1, wu]
  refine t_inF (fun a1 a2 => ⟨fun c => absurd c (by decide), fun _ => ?_⟩) (fun a1 => ⟨fun _ => bad (fun z => a1 ⟨z.1.1, by have := z.1.2; omega⟩), fun c => absurd rfl c⟩)
  refine t_inF (fun a3 a4 => ⟨fun c => absurd c (by decide), fun _ => ⟨kM _, ?_⟩⟩) (fun a3 => ⟨fun _ => bad (fun z => a3 z.2.1), fun c => absurd rfl c⟩)
  rw [e1, wu]
  clear wu
  refine t_inF (fun _ _ => ⟨fun c => absurd c (by decide), fun _ => ⟨kM _, ?_⟩⟩) (fun c => absurd ⟨a1, a2⟩ c)
  have ⟨u, eu⟩ : ∃ u : Nat, l1 = (u : Int) := ⟨l1.toNat, by omega⟩
  subst eu
  have hu : u < n := by omega
  have bu : 0 ≤ (u : Int) ∧ (u : Int) < ((8000 : Nat) : Int) := by omega
  obtain ⟨m, L⟩ := kb u hu
  have em := L.2.2.1
  have m6 := L.2.1
  rw [Int.toNat_natCast, em] at bad
  have c0 : hA (cn h0 T S) (hR (cn h0 T S) f_Md_thingCount T) u = (m : Int) := by
    clear kb tx bad q
    simp (decide := true) (disch := first | decide | omega) only [cnI, cnIe, cnR, cnK, cnl, cnA' G, cn_sI, cn_sIe, cn_sA' G, kT, kH, KN G, LN G, u2_f, u2_s, w32_aa, w32_ss, w32_p1, w32_m1, Int.toNat_natCast, true_and, and_true, false_and, and_false, or_false, false_or, ne_eq, not_false_eq_true, forall_const, implies_true, not_true_eq_false, false_implies, em]
  rw [Int.toNat_natCast, c0]
  refine ⟨?_, ?_⟩
  · clear kb tx bad q
    simp (decide := true) (disch := first | decide | omega) only [cnI, cnIe, cnR, cnK, cnl, cnA' G, cn_sI, cn_sIe, cn_sA' G, kT, kH, KN G, LN G, u2_f, u2_s, w32_aa, w32_ss, w32_p1, w32_m1, Int.toNat_natCast, true_and, and_true, false_and, and_false, or_false, false_or, ne_eq, not_false_eq_true, forall_const, implies_true, not_true_eq_false, false_implies, bu]
  refine b_Md_property_57 ?_
  have x1 : -2147483648 ≤ (m : Int) - 1 ∧ (m : Int) - 1 < 2147483648 := by omega
  rw [w32_of x1.1 x1.2]
  refine t_inF (fun b1 b2 => ⟨fun c => absurd c (by decide), fun _ => ?_⟩) (fun b1 => ⟨fun _ => bad (fun z => b1 ⟨z.2.2.1, by have := z.2.2.2; omega⟩), fun c => absurd rfl c⟩)
  have ⟨w, ew⟩ : ∃ w : Nat, l2 = (w : Int) := ⟨l2.toNat, by omega⟩
  subst ew
  have hw2 : w < m := by omega
  have ok : ppC S (u : Int) (w : Int) l3 = 0 := if_pos (by rw [en, Int.toNat_natCast, em]; omega)
  rw [ok, if_pos rfl] at q
  unfold ppA at q
  rw [Int.toNat_natCast, Int.toNat_natCast] at q
  replace tx := tx u w hu (by rw [em]; omega)
  have o1 : OFF [f_Md_thrown] S (thQ S 0) := fun f i hf => u2_f (by rintro rfl; exact absurd hf (by decide))
  have L1 : SLG (thQ S 0) u m := L.off o1 (by decide) (by decide) (by decide)
  have sl : slS (thQ S 0) u w = slS S u w := by
    have : ∀ j, slS (thQ S 0) u j = slS S u j := fun j => by
      induction j with
      | zero => show (thQ S 0 f_Md_thingFirst u).toNat = _; rw [show thQ S 0 f_Md_thingFirst u = S f_Md_thingFirst u from u2_f (by decide)]; rfl
      | succ j ih => show (thQ S 0 f_Md_slotNext (slS (thQ S 0) u j)).toNat = _; rw [ih, show thQ S 0 f_Md_slotNext (slS S u j) = S f_Md_slotNext (slS S u j) from u2_f (by decide)]; rfl
    exact this w
  have b6 := L.2.2.2.2.1 w hw2
  have bs : 0 ≤ ((slS S u w : Nat) : Int) ∧ ((slS S u w : Nat) : Int) < ((60000 : Nat) : Int) := by omega
  have e2 : ∀ f, f ≠ f_Md_thrown → thQ S 0 f (slS S u w) = S f (slS S u w) := fun f hf => u2_f hf
  refine b_Md_property_71 ⟨fun c => absurd c (by decide), fun _ => b_Md_property_84 ⟨kM _, ?_⟩⟩
  rw [cn_tq]
  refine ⟨fun _ => ⟨kM _, s_slotAt O' L1 hw2 ?_⟩, fun c => absurd c (by decide)⟩
  rw [sl]
  clear kb bad L L1
  dsimp only [cI]
  refine ⟨fun m2 => ?_, fun m2 => ?_⟩
  · rw [if_neg m2] at q
    have g1 := t_told (ρ := ρ) (d := d) (Q := cL (fun x29 h24 => Q (Sum.inl (some (vL x29))) h24) (fun e27 h26 => hK h26 e27 ≠ 0 ∧ Q (Sum.inr e27) h26)) (S1 := thQ S 0) O' tx (fun f hf i => u2_f (by rintro rfl; exact absurd hf (by decide))) q
    clear tx q
    simp (decide := true) (disch := first | decide | omega) only [cnI, cnIe, cnR, cnK, cnl, cnA' G, cn_sI, cn_sIe, cn_sA' G, kT, kH, KN G, LN G, u2_f, u2_s, w32_aa, w32_ss, w32_p1, w32_m1, Int.toNat_natCast, true_and, and_true, false_and, and_false, or_false, false_or, ne_eq, not_false_eq_true, forall_const, implies_true, not_true_eq_false, false_implies, e2, bs]
    exact g1
  · rw [if_pos m2] at q
    clear tx
    simp (decide := true) (disch := first | decide | omega) only [cnI, cnIe, cnR, cnK, cnl, cnA' G, cn_sI, cn_sIe, cn_sA' G, kT, kH, KN G, LN G, u2_f, u2_s, w32_aa, w32_ss, w32_p1, w32_m1, Int.toNat_natCast, true_and, and_true, false_and, and_false, or_false, false_or, ne_eq, not_false_eq_true, forall_const, implies_true, not_true_eq_false, false_implies, e2, bs]
    exact q
end
