set_option maxRecDepth 20000
section
variable {ρ : Nat → Nat} {d : Nat} {Q K : QT} {Γ Γ' Γ1 Γ2 : GH} {h h' h1 h2 H : ah} {C ho N M z s t o n c r i j k p a T cd fn ck mk vs rk np sn tn : Nat} {g g' : HG} {S S' S1 S2 : SS} {X X' X1 X2 : X3} {Y Y' Y1 Y2 : Y3} {ws ws' hw : List (List Int)} {x y ty v fl l1 l2 l3 l4 kd : Int} {h0 : ah}
theorem r_tagD (kk : hK h a = kdK kd) (b : 4 ≤ kd ∧ kd ≤ 7) (q : K (Sum.inl (some (vI kd))) h) : ((hK h a = k_Obj → wpB PGm ρ d m_Obj_tag 0 [(0, vR a)] [] h K) ∧ (¬ hK h a = k_Obj → ((hK h a = k_Fun → wpB PGm ρ d m_Fun_tag 0 [(0, vR a)] [] h K) ∧ (¬ hK h a = k_Fun → ((hK h a = k_Row → wpB PGm ρ d m_Row_tag 0 [(0, vR a)] [] h K) ∧ (¬ hK h a = k_Row → ((hK h a = k_Instance → wpB PGm ρ d m_Instance_tag 0 [(0, vR a)] [] h K) ∧ (¬ hK h a = k_Instance → False)))))))) := by
  rw [kk]
  have : kd = 4 ∨ kd = 5 ∨ kd = 6 ∨ kd = 7 := by omega
  rcases this with rfl | rfl | rfl | rfl
  · exact ⟨fun _ => b_Obj_tag_0 q, fun c => absurd rfl c⟩
  · exact ⟨fun c => absurd c (by decide), fun _ => ⟨fun _ => b_Fun_tag_0 q, fun c => absurd rfl c⟩⟩
  · exact ⟨fun c => absurd c (by decide), fun _ => ⟨fun c => absurd c (by decide), fun _ => ⟨fun _ => b_Row_tag_0 q, fun c => absurd rfl c⟩⟩⟩
  · exact ⟨fun c => absurd c (by decide), fun _ => ⟨fun c => absurd c (by decide), fun _ => ⟨fun c => absurd c (by decide), fun _ => ⟨fun _ => b_Instance_tag_0 q, fun c => absurd rfl c⟩⟩⟩⟩
/-- things -/
def thgA (S : SS) (l1 l2 : Int) : Int := if 0 ≤ l1 ∧ l1 < S f_Md_things 0 then (if l2 = 0 then S f_Md_thingKind l1.toNat - 4 else if l2 = 1 then (if S f_Md_thingKind l1.toNat = 4 ∨ S f_Md_thingKind l1.toNat = 5 then S f_Md_thingShape l1.toNat else -1) else if l2 = 2 then (if S f_Md_thingKind l1.toNat = 4 ∨ S f_Md_thingKind l1.toNat = 5 then prS S l1.toNat else -1) else if l2 = 3 then (if S f_Md_thingKind l1.toNat = 7 then S f_Md_thingClass l1.toNat else S f_Md_thingCount l1.toNat) else if l2 = 4 then (if S f_Md_isWatched l1.toNat = 0 then -1 else S f_Md_epoch l1.toNat) else if l2 = 5 then S f_Md_thingFunction l1.toNat else -1) else -1
theorem c_thing (A : ALL ρ Γ h C ho X Y S g N M hw ws) (LT : LTM h C) (q : Q (Sum.inl (some (vI (thgA S l1 l2)))) (cc h C X Y)) : wpB PGm ρ (d + 12) m_LT_thing 0 [(0, vR C), (1, vI l1), (2, vI l2)] [] (cc h C X Y) Q := by
  have G := A.1.1.1
  have F := A.1.1.2
  have HX := A.2.1.1.1.1.1
  obtain ⟨tn, sn, et, es, lt, ls, s1, t8, s4, TH, SH, -⟩ := id A.1.2.2.2.2.2.2.2.2.2.1
  obtain ⟨fnn, fe, f400, flen, FN⟩ := id A.1.2.2.2.1
  have rm : hR (cc h C X Y) f_LT_machine C = C + 32 := by rw [ccRo (by decide)]; exact LT.2.1
  have rh : hR (cc h C X Y) f_Machine_heap (C + 32) = C + 50 := by rw [ccRo (by decide)]; exact F.2.1.2.2.2.2.1
  have rs : hR (cc h C X Y) f_Heap_things (C + 50) = C + 51 := by rw [ccRo (by decide)]; exact F.2.2.1.2.1
  have lk : lok (cc h C X Y) (C + 51) := by rw [cclok]; exact F.2.2.2.1.1
  have lf : hl (cc h C X Y) (C + 51) = tn := lt
  unfold thgA at q
  rw [et] at q
  refine b_LT_thing_0 (d := d + 11) (by omega) ⟨fun c => ?_, fun c => ⟨LT.1, ?_⟩⟩
  · rw [if_neg (by omega)] at q; exact q
  rw [rm, rh, rs, lf, eTh F G]
  refine ⟨F.1.1, F.1.2.2.2.2.2.1, lk.1, lk, fun c2 => ?_, fun c2 => ?_⟩
  · have ⟨u, eu⟩ : ∃ u : Nat, l1 = (u : Int) := ⟨l1.toNat, by omega⟩
    subst eu
    have hu : u < tn := by omega
    rw [if_pos (by omega), Int.toNat_natCast] at q
    rw [Int.toNat_natCast]
    obtain ⟨⟨kb, ⟨ka, az, a0⟩, num, fun5, cls⟩, ⟨sz, -⟩, ⟨shp, -⟩, ⟨ep, wb, w67, -⟩⟩ := (TH u hu).p
    have ka' : hK (cc h C X Y) (hB h (C + 51) u) = kdK (S f_Md_thingKind u) := ka
    have k4 : kdK (S f_Md_thingKind u) ∈ [244, 245, 246, 249] := by
      have : S f_Md_thingKind u = 4 ∨ S f_Md_thingKind u = 5 ∨ S f_Md_thingKind u = 6 ∨ S f_Md_thingKind u = 7 := by omega
      rcases this with e | e | e | e <;> rw [e] <;> decide
    have k45 : S f_Md_thingKind u = 4 ∨ S f_Md_thingKind u = 5 → kdK (S f_Md_thingKind u) ∈ [244, 245] := fun w => by
      rcases w with e | e <;> rw [e] <;> decide
    refine ⟨lk.1, ⟨lk, c, c2⟩, Or.inr (by rw [ccK, ka]; exact k4), r_tagD ka' kb ?_⟩
    refine b_LT_thing_49 (d := d + 11) ⟨F.1.1, r_objectOf (tn := tn) G F (by omega) lt t8 (fun w => ⟨c, c2, by rw [Int.toNat_natCast, ka]; exact k45 w⟩) ?_⟩
    have ob : obA h C (S f_Md_thingKind u) (u : Int) = if S f_Md_thingKind u = 4 ∨ S f_Md_thingKind u = 5 then hB h (C + 51) u else 0 := by unfold obA; rw [Int.toNat_natCast]
    dsimp only [cR]
    rw [ob]
    clear ob
    refine ⟨fun m0 => r_tagD ka' kb ?_, fun m0 => ⟨fun m1 => ?_, fun m1 => ⟨fun m2 => ?_, fun m2 => ⟨fun m3 => ?_, fun m3 => ⟨fun m4 => ?_, fun m4 => ⟨fun m5 => ?_, fun m5 => ?_⟩⟩⟩⟩⟩⟩
    · rw [if_pos m0] at q
      refine b_LT_thing_100 ?_
      have x1 : -2147483648 ≤ S f_Md_thingKind u - 4 ∧ S f_Md_thingKind u - 4 < 2147483648 := by omega
      rw [w32_of x1.1 x1.2]
      exact q
    · rw [if_neg m0, if_pos m1] at q
      by_cases w : S f_Md_thingKind u = 4 ∨ S f_Md_thingKind u = 5
      · rw [if_pos w] at q ⊢
        obtain ⟨⟨s0, s2⟩, s3, -⟩ := shp w
        obtain ⟨⟨ks, -⟩, sn2, -⟩ := SH (S f_Md_thingShape u).toNat (by omega)
        have r1 : hR (cc h C X Y) f_Obj_shape (hB h (C + 51) u) = hB h (C + 52) (S f_Md_thingShape u).toNat := by rw [ccRo (by decide)]; exact s3
        have i1 : hI (cc h C X Y) f_Shape_number (hB h (C + 52) (S f_Md_thingShape u).toNat) = ((S f_Md_thingShape u).toNat : Int) := by rw [ccIo (by decide)]; exact sn2
        rw [r1, i1]
        refine ⟨fun _ => ⟨by rw [ka']; exact k45 w, ks, ?_⟩, fun e => absurd e a0⟩
        rw [show ((S f_Md_thingShape u).toNat : Int) = S f_Md_thingShape u by omega]
        exact q
      · rw [if_neg w] at q ⊢
        exact ⟨fun e => absurd rfl e, fun _ => q⟩
    · rw [if_neg m0, if_neg m1, if_pos m2] at q
      by_cases w : S f_Md_thingKind u = 4 ∨ S f_Md_thingKind u = 5
      · rw [if_pos w] at q ⊢
        obtain ⟨⟨s0, s2⟩, s3, -⟩ := shp w
        obtain ⟨⟨ks, -⟩, sn2, pr, -⟩ := SH (S f_Md_thingShape u).toNat (by omega)
        have r1 : hR (cc h C X Y) f_Obj_shape (hB h (C + 51) u) = hB h (C + 52) (S f_Md_thingShape u).toNat := by rw [ccRo (by decide)]; exact s3
        have r2 : hR (cc h C X Y) f_Shape_prototype (hB h (C + 52) (S f_Md_thingShape u).toNat) = hR h f_Shape_prototype (hB h (C + 52) (S f_Md_thingShape u).toNat) := ccRo (by decide)
        rw [r1, r2]
        refine ⟨fun e => absurd e a0, fun _ => ⟨by rw [ka']; exact k45 w, ks, ?_⟩⟩
        unfold prS at q
        rcases pr with ⟨p1, p2⟩ | ⟨p1, p2, p3, p4⟩
        · rw [p2]
          exact ⟨fun c => absurd rfl c, fun _ => by rw [p1] at q; exact q⟩
        · rw [p4]
          have ⟨k, ek⟩ : ∃ k : Nat, S f_Md_shapeProto (S f_Md_thingShape u).toNat = (k : Int) := ⟨(S f_Md_shapeProto (S f_Md_thingShape u).toNat).toNat, by omega⟩
          rw [ek, Int.toNat_natCast] at p3 ⊢
          rw [ek] at q
          obtain ⟨-, ⟨kk, kz, k0⟩, num, -⟩ := (TH k (by omega)).p.1
          have inn : hI (cc h C X Y) f_Thing_number (hB h (C + 51) k) = (k : Int) := by rw [ccIo (by decide)]; exact num
          rw [inn]
          refine ⟨fun _ => ⟨?_, q⟩, fun c => absurd c k0⟩
          rw [ccK, kk]
          rcases p3 with e | e <;> rw [e] <;> decide
      · rw [if_neg w] at q ⊢
        exact ⟨fun _ => q, fun e => absurd rfl e⟩
    · rw [if_neg m0, if_neg m1, if_neg m2, if_pos m3] at q
      rw [ka']
      have isz : hI (cc h C X Y) f_Thing_size (hB h (C + 51) u) = S f_Md_thingCount u := by rw [ccIo (by decide)]; exact sz
      rw [isz]
      refine ⟨fun e => absurd e a0, fun _ => ⟨fun w => ⟨fun e => absurd e (by decide), fun _ => ?_⟩, fun w => ⟨?_, fun _ => ⟨k4, ?_⟩, fun e => absurd rfl e⟩⟩⟩
      · have k7 : S f_Md_thingKind u = 7 := by
          have : S f_Md_thingKind u = 4 ∨ S f_Md_thingKind u = 5 ∨ S f_Md_thingKind u = 6 ∨ S f_Md_thingKind u = 7 := by omega
          rcases this with e | e | e | e
          · rw [e] at w; exact absurd w (by decide)
          · rw [e] at w; exact absurd w (by decide)
          · rw [e] at w; exact absurd w (by decide)
          · exact e
        rw [if_pos k7] at q
        rcases cls with ⟨c7, -⟩ | ⟨-, c0, cN, ct⟩
        · exact absurd k7 c7
        · obtain ⟨⟨kt, -⟩, nt, -⟩ := HX.tp (i := (S f_Md_thingClass u).toNat) (by omega)
          have r1 : hR (cc h C X Y) f_Instance_type (hB h (C + 51) u) = hB h (ho + 2) (S f_Md_thingClass u).toNat := by rw [ccRo (by decide)]; exact ct
          have i1 : hI (cc h C X Y) f_HostType_number (hB h (ho + 2) (S f_Md_thingClass u).toNat) = ((S f_Md_thingClass u).toNat : Int) := by rw [ccIo (by decide)]; exact nt
          rw [r1, i1]
          refine ⟨Or.inr w, by rw [k7]; rfl, kt, ?_⟩
          rw [show ((S f_Md_thingClass u).toNat : Int) = S f_Md_thingClass u by omega]
          exact q
      · have : S f_Md_thingKind u = 4 ∨ S f_Md_thingKind u = 5 ∨ S f_Md_thingKind u = 6 ∨ S f_Md_thingKind u = 7 := by omega
        rcases this with e | e | e | e
        · rw [e]; decide
        · rw [e]; decide
        · rw [e]; decide
        · rw [e] at w; exact absurd w (by decide)
      · rw [if_neg (fun e => w (by rw [e]; decide))] at q; exact q
    · rw [if_neg m0, if_neg m1, if_neg m2, if_neg m3, if_pos m4] at q
      by_cases w : S f_Md_thingKind u = 4 ∨ S f_Md_thingKind u = 5
      · rw [if_pos w]
        have i1 : hI (cc h C X Y) f_Obj_epoch (hB h (C + 51) u) = if S f_Md_isWatched u = 0 then -1 else S f_Md_epoch u := by rw [ccIo (by decide)]; exact (ep w).1
        rw [i1]
        exact ⟨fun _ => ⟨by rw [ka']; exact k45 w, q⟩, fun e => absurd e a0⟩
      · rw [if_neg w]
        rw [if_pos (w67 (by omega))] at q
        exact ⟨fun e => absurd rfl e, fun _ => q⟩
    · rw [if_neg m0, if_neg m1, if_neg m2, if_neg m3, if_neg m4, if_pos m5] at q
      rw [ka']
      refine ⟨fun e => absurd e a0, fun _ => ⟨fun w => ⟨fun e => absurd e (by decide), fun _ => ?_⟩, fun w => ⟨?_, fun _ => b_LT_thing_213 ?_, fun e => absurd rfl e⟩⟩⟩
      · have k5 : S f_Md_thingKind u = 5 := by
          have : S f_Md_thingKind u = 4 ∨ S f_Md_thingKind u = 5 ∨ S f_Md_thingKind u = 6 ∨ S f_Md_thingKind u = 7 := by omega
          rcases this with e | e | e | e
          · rw [e] at w; exact absurd w (by decide)
          · exact e
          · rw [e] at w; exact absurd w (by decide)
          · rw [e] at w; exact absurd w (by decide)
        rcases fun5 with ⟨c5, -⟩ | ⟨-, c0, cN, ct, -⟩
        · exact absurd k5 c5
        · obtain ⟨⟨kt, -⟩, nt, -⟩ := FN (S f_Md_thingFunction u).toNat (by omega)
          have r1 : hR (cc h C X Y) f_Fun_code (hB h (C + 51) u) = hB h (C + 56) (S f_Md_thingFunction u).toNat := by rw [ccRo (by decide)]; exact ct
          have i1 : hI (cc h C X Y) f_Code_number (hB h (C + 56) (S f_Md_thingFunction u).toNat) = ((S f_Md_thingFunction u).toNat : Int) := by rw [ccIo (by decide)]; exact nt
          rw [r1, i1]
          refine ⟨Or.inr w, by rw [k5]; rfl, kt, ?_⟩
          rw [show ((S f_Md_thingFunction u).toNat : Int) = S f_Md_thingFunction u by omega]
          exact q
      · have : S f_Md_thingKind u = 4 ∨ S f_Md_thingKind u = 5 ∨ S f_Md_thingKind u = 6 ∨ S f_Md_thingKind u = 7 := by omega
        rcases this with e | e | e | e
        · rw [e]; decide
        · rw [e] at w; exact absurd w (by decide)
        · rw [e]; decide
        · rw [e]; decide
      · rcases fun5 with ⟨-, c5⟩ | ⟨c5, -⟩
        · rw [c5] at q; exact q
        · exact absurd (by rw [c5]; decide) w
    · rw [if_neg m0, if_neg m1, if_neg m2, if_neg m3, if_neg m4, if_neg m5] at q; exact q
  · rw [if_neg (by omega)] at q; exact q
theorem t_thing (O : TOK h0 T) (en : S f_Md_things 0 = (n : Int)) (hn : n ≤ 8000) (kb : ∀ k, k < n → (4 ≤ S f_Md_thingKind k ∧ S f_Md_thingKind k ≤ 7) ∧ (S f_Md_thingKind k = 4 ∨ S f_Md_thingKind k = 5 → 0 ≤ S f_Md_thingShape k ∧ S f_Md_thingShape k < 4001)) (q : Q (Sum.inl (some (vI (thgA S l1 l2)))) (cn h0 T (thZ S))) : wpB PGm ρ (d + 1) m_Md_thing 0 [(0, vR T), (1, vI l1), (2, vI l2)] [] (cn h0 T S) Q := by
  have O' := O
  obtain ⟨kT, G, kH⟩ := O
  have kM : ∀ S : SS, hK (cn h0 T S) T = k_Md := fun S => by rw [cnK]; exact kT
  have e1 : hI (cn h0 T (thZ S)) f_Md_things T = (n : Int) := by rw [cnI (by decide), thZ_o (by decide)]; exact en
  unfold thgA at q
  rw [en] at q
  refine b_Md_thing_0 ⟨kM _, ?_⟩
  dsimp only
  rw [cn_th, e1]
  have wu : w32 ((n : Int) - 1) = (n : Int) - 1 := w32_of (by omega) (by omega)
  rw [wu]
  clear wu
  refine t_inF (fun a1 a2 => ⟨fun _ => ⟨kM _, ?_⟩, fun c => absurd c (by decide)⟩) (fun a1 => ⟨fun c => absurd rfl c, fun _ => ?_⟩)
  · have ⟨u, eu⟩ : ∃ u : Nat, l1 = (u : Int) := ⟨l1.toNat, by omega⟩
    subst eu
    have bu : 0 ≤ (u : Int) ∧ (u : Int) < ((8000 : Nat) : Int) := by omega
    obtain ⟨kb1, kb2⟩ := kb u (by omega)
    clear kb
    rw [if_pos (by omega), Int.toNat_natCast] at q
    have e2 : ∀ f, f ≠ f_Md_thrown → ∀ i, thZ S f i = S f i := fun f hf i => thZ_o hf
    have x1 : -2147483648 ≤ S f_Md_thingKind u - 4 ∧ S f_Md_thingKind u - 4 < 2147483648 := by omega
    have wk : w32 (S f_Md_thingKind u - 4) = S f_Md_thingKind u - 4 := w32_of x1.1 x1.2
    have pro : (S f_Md_thingKind u = 4 ∨ S f_Md_thingKind u = 5) → l2 = 2 → wpB PGm ρ d m_Md_protoOf 0 [(0, vR T), (1, vI (u : Int))] [] (cn h0 T (thZ S)) (cI (fun x55 h50 => Q (Sum.inl (some (vI x55))) h50) (fun e53 h52 => hK h52 e53 ≠ 0 ∧ Q (Sum.inr e53) h52)) := fun w m2 => by
      have m : ¬ l2 = 0 ∧ ¬ l2 = 1 := by rw [m2]; decide
      rw [if_neg m.1, if_neg m.2, if_pos m2, if_pos w] at q
      refine s_protoOf O' (by omega) (by rw [e2 _ (by decide)]; exact kb2 w) ?_
      rw [show prS (thZ S) u = prS S u by unfold prS; rw [e2 _ (by decide), e2 _ (by decide)]]
      exact q
    have t121 : l2 = 3 → S f_Md_thingKind u = 7 → wpB PGm ρ (d + 1) m_Md_thing 121 [(0, vR T), (1, vI (u : Int))] [] (cn h0 T (thZ S)) Q := fun m3 k7 => by
      have m : ¬ l2 = 0 ∧ ¬ l2 = 1 ∧ ¬ l2 = 2 := by rw [m3]; decide
      rw [if_neg m.1, if_neg m.2.1, if_neg m.2.2, if_pos m3, if_pos k7] at q
      refine b_Md_thing_121 ?_
      clear kb2 pro
      simp (decide := true) (disch := first | decide | omega) only [cnI, cnIe, cnR, cnK, cnl, cnA' G, cn_sI, cn_sIe, cn_sA' G, kT, kH, KN G, LN G, u2_f, u2_s, w32_aa, w32_ss, w32_p1, w32_m1, Int.toNat_natCast, true_and, and_true, false_and, and_false, or_false, false_or, ne_eq, not_false_eq_true, forall_const, implies_true, not_true_eq_false, false_implies, e2, bu]
      exact q
    have kk : hA (cn h0 T (thZ S)) (hR (cn h0 T (thZ S)) f_Md_thingKind T) u = S f_Md_thingKind u := by
      clear kb2 pro t121
      simp (decide := true) (disch := first | decide | omega) only [cnI, cnIe, cnR, cnK, cnl, cnA' G, cn_sI, cn_sIe, cn_sA' G, kT, kH, KN G, LN G, u2_f, u2_s, w32_aa, w32_ss, w32_p1, w32_m1, Int.toNat_natCast, true_and, and_true, false_and, and_false, or_false, false_or, ne_eq, not_false_eq_true, forall_const, implies_true, not_true_eq_false, false_implies, e2]
    rw [Int.toNat_natCast, kk]
    refine ⟨?_, s_hasSh (fun w => ?_) (fun w => ?_)⟩
    · clear kb2 pro t121
      simp (decide := true) (disch := first | decide | omega) only [cnI, cnIe, cnR, cnK, cnl, cnA' G, cn_sI, cn_sIe, cn_sA' G, kT, kH, KN G, LN G, u2_f, u2_s, w32_aa, w32_ss, w32_p1, w32_m1, Int.toNat_natCast, true_and, and_true, false_and, and_false, or_false, false_or, ne_eq, not_false_eq_true, forall_const, implies_true, not_true_eq_false, false_implies, bu]
    · dsimp only [cI]
      have pro := pro w
      clear kb2
      refine ⟨fun m0 => ?_, fun m0 => ⟨fun m1 => ⟨fun e => absurd e (by decide), fun _ => ?_⟩, fun m1 => ⟨fun m2 => ⟨fun e => absurd e (by decide), fun _ => ⟨kM _, pro m2⟩⟩, fun m2 => ⟨fun m3 => ?_, fun m3 => ⟨fun m4 => ?_, fun m4 => ⟨fun m5 => ?_, fun m5 => ?_⟩⟩⟩⟩⟩⟩
      · rw [if_pos m0] at q
        clear pro t121
        simp (decide := true) (disch := first | decide | omega) only [cnI, cnIe, cnR, cnK, cnl, cnA' G, cn_sI, cn_sIe, cn_sA' G, kT, kH, KN G, LN G, u2_f, u2_s, w32_aa, w32_ss, w32_p1, w32_m1, Int.toNat_natCast, true_and, and_true, false_and, and_false, or_false, false_or, ne_eq, not_false_eq_true, forall_const, implies_true, not_true_eq_false, false_implies, e2, bu, wk]
        exact q
      · rw [if_neg m0, if_pos m1, if_pos w] at q
        clear pro t121
        simp (decide := true) (disch := first | decide | omega) only [cnI, cnIe, cnR, cnK, cnl, cnA' G, cn_sI, cn_sIe, cn_sA' G, kT, kH, KN G, LN G, u2_f, u2_s, w32_aa, w32_ss, w32_p1, w32_m1, Int.toNat_natCast, true_and, and_true, false_and, and_false, or_false, false_or, ne_eq, not_false_eq_true, forall_const, implies_true, not_true_eq_false, false_implies, e2, bu]
        exact q
      · rw [if_neg m0, if_neg m1, if_neg m2, if_pos m3] at q
        have t121 := t121 m3
        clear pro
        simp (decide := true) (disch := first | decide | omega) only [cnI, cnIe, cnR, cnK, cnl, cnA' G, cn_sI, cn_sIe, cn_sA' G, kT, kH, KN G, LN G, u2_f, u2_s, w32_aa, w32_ss, w32_p1, w32_m1, Int.toNat_natCast, true_and, and_true, false_and, and_false, or_false, false_or, ne_eq, not_false_eq_true, forall_const, implies_true, not_true_eq_false, false_implies, e2, bu]
        exact ⟨fun k7 => by rw [if_neg k7] at q; exact q, t121⟩
      · rw [if_neg m0, if_neg m1, if_neg m2, if_neg m3, if_pos m4] at q
        clear pro t121
        simp (decide := true) (disch := first | decide | omega) only [cnI, cnIe, cnR, cnK, cnl, cnA' G, cn_sI, cn_sIe, cn_sA' G, kT, kH, KN G, LN G, u2_f, u2_s, w32_aa, w32_ss, w32_p1, w32_m1, Int.toNat_natCast, true_and, and_true, false_and, and_false, or_false, false_or, ne_eq, not_false_eq_true, forall_const, implies_true, not_true_eq_false, false_implies, e2, bu]
        exact ⟨fun k7 => by rw [if_pos k7] at q; exact q, fun k7 => by rw [if_neg k7] at q; exact q⟩
      · rw [if_neg m0, if_neg m1, if_neg m2, if_neg m3, if_neg m4, if_pos m5] at q
        clear pro t121
        simp (decide := true) (disch := first | decide | omega) only [cnI, cnIe, cnR, cnK, cnl, cnA' G, cn_sI, cn_sIe, cn_sA' G, kT, kH, KN G, LN G, u2_f, u2_s, w32_aa, w32_ss, w32_p1, w32_m1, Int.toNat_natCast, true_and, and_true, false_and, and_false, or_false, false_or, ne_eq, not_false_eq_true, forall_const, implies_true, not_true_eq_false, false_implies, e2, bu]
        exact q
      · rw [if_neg m0, if_neg m1, if_neg m2, if_neg m3, if_neg m4, if_neg m5] at q; exact q
    · dsimp only [cI]
      clear kb2 pro
      refine ⟨fun m0 => ?_, fun m0 => ⟨fun m1 => ⟨fun _ => ?_, fun e => absurd rfl e⟩, fun m1 => ⟨fun m2 => ⟨fun _ => ?_, fun e => absurd rfl e⟩, fun m2 => ⟨fun m3 => ?_, fun m3 => ⟨fun m4 => ?_, fun m4 => ⟨fun m5 => ?_, fun m5 => ?_⟩⟩⟩⟩⟩⟩
      · rw [if_pos m0] at q
        clear t121
        simp (decide := true) (disch := first | decide | omega) only [cnI, cnIe, cnR, cnK, cnl, cnA' G, cn_sI, cn_sIe, cn_sA' G, kT, kH, KN G, LN G, u2_f, u2_s, w32_aa, w32_ss, w32_p1, w32_m1, Int.toNat_natCast, true_and, and_true, false_and, and_false, or_false, false_or, ne_eq, not_false_eq_true, forall_const, implies_true, not_true_eq_false, false_implies, e2, bu, wk]
        exact q
      · rw [if_neg m0, if_pos m1, if_neg w] at q; exact q
      · rw [if_neg m0, if_neg m1, if_pos m2, if_neg w] at q; exact q
      · rw [if_neg m0, if_neg m1, if_neg m2, if_pos m3] at q
        have t121 := t121 m3
        simp (decide := true) (disch := first | decide | omega) only [cnI, cnIe, cnR, cnK, cnl, cnA' G, cn_sI, cn_sIe, cn_sA' G, kT, kH, KN G, LN G, u2_f, u2_s, w32_aa, w32_ss, w32_p1, w32_m1, Int.toNat_natCast, true_and, and_true, false_and, and_false, or_false, false_or, ne_eq, not_false_eq_true, forall_const, implies_true, not_true_eq_false, false_implies, e2, bu]
        exact ⟨fun k7 => by rw [if_neg k7] at q; exact q, t121⟩
      · rw [if_neg m0, if_neg m1, if_neg m2, if_neg m3, if_pos m4] at q
        clear t121
        simp (decide := true) (disch := first | decide | omega) only [cnI, cnIe, cnR, cnK, cnl, cnA' G, cn_sI, cn_sIe, cn_sA' G, kT, kH, KN G, LN G, u2_f, u2_s, w32_aa, w32_ss, w32_p1, w32_m1, Int.toNat_natCast, true_and, and_true, false_and, and_false, or_false, false_or, ne_eq, not_false_eq_true, forall_const, implies_true, not_true_eq_false, false_implies, e2, bu]
        exact ⟨fun k7 => by rw [if_pos k7] at q; exact q, fun k7 => by rw [if_neg k7] at q; exact q⟩
      · rw [if_neg m0, if_neg m1, if_neg m2, if_neg m3, if_neg m4, if_pos m5] at q
        clear t121
        simp (decide := true) (disch := first | decide | omega) only [cnI, cnIe, cnR, cnK, cnl, cnA' G, cn_sI, cn_sIe, cn_sA' G, kT, kH, KN G, LN G, u2_f, u2_s, w32_aa, w32_ss, w32_p1, w32_m1, Int.toNat_natCast, true_and, and_true, false_and, and_false, or_false, false_or, ne_eq, not_false_eq_true, forall_const, implies_true, not_true_eq_false, false_implies, e2, bu]
        exact q
      · rw [if_neg m0, if_neg m1, if_neg m2, if_neg m3, if_neg m4, if_neg m5] at q; exact q
  · rw [if_neg (by omega)] at q; exact q
end
