/-! type, member, subtype -/
set_option maxRecDepth 20000
section
variable {ρ : Nat → Nat} {d : Nat} {h h' : ah} {F : Int → ah → Prop} {G : ah → Prop} {E : Nat → ah → Prop} {Q : QT} {C ho ho2 T k k2 : Nat} {tp tq : List Int} {a b v w : Int} {g : HG} {n m : Nat} {ws : List (List Int)} {by_ fr sz nx_ : Nat}
theorem c_typeQ (L : LTO h C ho ho2 tp) (H : HC ρ h ho g n m ws by_ fr sz nx_) (hd : 10 ≤ d) (q : Q (Sum.inl (some (vI (tyA g n a w)))) h) : wpB PGm ρ (d + 1) m_LT_type 0 [(0, vR C), (1, vI a), (2, vI w)] [] h Q := by
  have eh := L.2.2.2.1
  have no : (a < 0 ∨ (n : Int) ≤ a) → Q (Sum.inl (some (vI (-1)))) h := fun x => by unfold tyA at q; rw [if_pos x] at q; exact q
  refine b_LT_type_0 (by omega) ⟨fun x => no (Or.inl x), fun x => ?_⟩
  rw [eh, H.1.2.2.2.1, H.2.1]
  refine ⟨L.1, H.1.1, H.1.2.2.2.2.2.2.1.1.1, H.1.2.2.2.2.2.2.1.1, fun y => ?_, fun y => no (Or.inr y)⟩
  obtain ⟨i, rfl⟩ : ∃ i : Nat, a = (i : Int) := ⟨a.toNat, by omega⟩
  have hi : i < n := by omega
  unfold tyA at q
  rw [if_neg (by omega)] at q
  rw [Int.toNat_natCast] at q ⊢
  have TI := H.2.2.2.2.2.1 i hi
  obtain ⟨⟨a1, a2, a3⟩, b1, b2, b3, b4, b5, b6, b7, ⟨c1, c2, c3⟩, ⟨d1, d2, d3⟩, -⟩ := id TI
  refine ⟨H.1.2.2.2.2.2.2.1.1.1, ⟨H.1.2.2.2.2.2.2.1.1, by omega, by omega⟩, Or.inr (by rw [a1]; decide), a1, b_HostType_tell_0 (by omega) ⟨fun e => ⟨a1, fun z => ?_, fun z => ?_⟩, fun n0 => ⟨fun e => ⟨a1, fun z => ?_, fun z => ?_⟩, fun n1 => ⟨fun e => ⟨a1, c1.1.1, c1.1, ?_⟩, fun n2 => ⟨fun e => ⟨a1, d1.1.1, d1.1, ?_⟩, fun n3 => ⟨fun e => ⟨a1, ?_⟩, fun n4 => ?_⟩⟩⟩⟩⟩⟩
  · rw [if_pos e, ← b3, z] at q; exact q
  · rw [if_pos e] at q
    rw [b3] at z
    rw [show g.1 1 i = 1 by omega] at q; exact q
  · rw [if_neg (by omega), if_pos e] at q
    rcases b7 with ⟨x1, x2⟩ | ⟨x1, x2, x3⟩
    · exact absurd x2 z
    · have TA := H.2.2.2.2.2.1 (g.1 2 i).toNat (by omega)
      rw [x3]
      refine ⟨TA.1.1, ?_⟩
      show Q (Sum.inl (some (vI (hI h f_HostType_number (hB h (ho + 2) (g.1 2 i).toNat))))) h
      rw [TA.2.1, Int.toNat_of_nonneg x1]; exact q
  · rw [if_neg (by omega), if_pos e] at q
    rcases b7 with ⟨x1, x2⟩ | ⟨x1, x2, x3⟩
    · rw [x1] at q; exact q
    · have TA := H.2.2.2.2.2.1 (g.1 2 i).toNat (by omega)
      rw [x3] at z
      exact absurd z TA.1.2.2
  · rw [if_neg (by omega), if_neg (by omega), if_pos e, ← c2] at q; exact q
  · rw [if_neg (by omega), if_neg (by omega), if_neg (by omega), if_pos e, ← d2] at q; exact q
  · rw [if_neg (by omega), if_neg (by omega), if_neg (by omega), if_neg (by omega), if_pos e, ← b5] at q; exact q
  · rw [if_neg (by omega), if_neg (by omega), if_neg (by omega), if_neg (by omega), if_neg (by omega)] at q; exact q
theorem t_typeQ (M : TMO h T k k2 tp) (H : THO h k g n m tq) (q : Q (Sum.inl (some (vI (tyA g n a w)))) (sI h f_Md_thrown T 0)) : wpB PGm ρ (d + 1) m_Md_type 0 [(0, vR T), (1, vI a), (2, vI w)] [] h Q := by
  have eh := M.2.2.2.2.2.2.1
  refine b_Md_type_0 ⟨M.1, ?_⟩
  intro h1
  have H1 : THO h1 k g n m tq := H.thr
  have M1 : TMO h1 T k k2 tp := M.thr
  have e1 : hR h1 f_Md_host T = k := eh
  have q' : Q (Sum.inl (some (vI (tyA g n a w)))) h1 := q
  clear_value h1
  obtain ⟨⟨a1, a2⟩, a3, a4, hn, a6, a7, S, a8, hg, -⟩ := H1
  rw [e1, a3]
  have no : (a < 0 ∨ (n : Int) ≤ a) → Q (Sum.inl (some (vI (-1)))) h1 := fun x => by unfold tyA at q'; rw [if_pos x] at q'; exact q'
  rw [w32_of (by omega) (by omega)]
  refine ⟨a2, t_inF (fun x y => ⟨fun _ => ?_, fun z => absurd z (by decide)⟩) (fun x => ⟨fun z => absurd rfl z, fun _ => no (by omega)⟩)⟩
  obtain ⟨i, rfl⟩ : ∃ i : Nat, a = (i : Int) := ⟨a.toNat, by omega⟩
  have hi : i < n := by omega
  have gi : (0 : Int) ≤ (i : Int) ∧ (i : Int) < ((60 : Nat) : Int) := by omega
  unfold tyA at q'
  rw [if_neg (by omega)] at q'
  rw [e1]
  rw [Int.toNat_natCast] at q' ⊢
  obtain ⟨r1, r2, r3, r4, r5, r6, r7, r8, r9, r10, -⟩ := hg i hi
  rw [a8.g (f := f_MdHost_isInterface) rfl i, a8.g (f := f_MdHost_above) rfl i, a8.g (f := f_MdHost_supers) rfl i, a8.g (f := f_MdHost_many) rfl i, a8.g (f := f_MdHost_first) rfl i, r1, r3, r6, r9, r10]
  refine ⟨fun e => ⟨M1.1, a2, a1.rt rfl gi, fun z => ?_, fun z => ?_⟩, fun n0 => ⟨fun e => ⟨M1.1, a2, a1.ri rfl gi, ?_⟩, fun n1 => ⟨fun e => ⟨M1.1, a2, a1.ri rfl gi, ?_⟩, fun n2 => ⟨fun e => ⟨M1.1, a2, a1.ri rfl gi, ?_⟩, fun n3 => ⟨fun e => ⟨M1.1, a2, a1.ri rfl gi, ?_⟩, fun n4 => b_Md_type_118 ?_⟩⟩⟩⟩⟩
  · rw [if_pos e, z] at q'; exact q'
  · rw [if_pos e, show g.1 1 i = 1 by omega] at q'; exact q'
  · rw [if_neg (by omega), if_pos e] at q'; exact q'
  · rw [if_neg (by omega), if_neg (by omega), if_pos e] at q'; exact q'
  · rw [if_neg (by omega), if_neg (by omega), if_neg (by omega), if_pos e] at q'; exact q'
  · rw [if_neg (by omega), if_neg (by omega), if_neg (by omega), if_neg (by omega), if_pos e] at q'; exact q'
  · rw [if_neg (by omega), if_neg (by omega), if_neg (by omega), if_neg (by omega), if_neg (by omega)] at q'; exact q'
theorem c_memberQ (L : LTO h C ho ho2 tp) (H : HC ρ h ho g n m ws by_ fr sz nx_) (hd : 10 ≤ d) (hw : w < 2147483648) (q : Q (Sum.inl (some (vI (meA g m a w)))) h) : wpB PGm ρ (d + 1) m_LT_member 0 [(0, vR C), (1, vI a), (2, vI w)] [] h Q := by
  have eh := L.2.2.2.1
  have no : (a < 0 ∨ (m : Int) ≤ a) → Q (Sum.inl (some (vI (-1)))) h := fun x => by unfold meA at q; rw [if_pos x] at q; exact q
  refine b_LT_member_0 (by omega) ⟨fun x => no (Or.inl x), fun x => ?_⟩
  rw [eh, H.1.2.2.2.2.1, H.2.2.1]
  refine ⟨L.1, H.1.1, H.1.2.2.2.2.2.2.2.1.1.1, H.1.2.2.2.2.2.2.2.1.1, fun y => ?_, fun y => no (Or.inr y)⟩
  obtain ⟨i, rfl⟩ : ∃ i : Nat, a = (i : Int) := ⟨a.toNat, by omega⟩
  have hi : i < m := by omega
  unfold meA at q
  rw [if_neg (by omega)] at q
  rw [Int.toNat_natCast] at q ⊢
  have MI := H.2.2.2.2.2.2.1 i hi
  obtain ⟨⟨a1, a2, a3⟩, b1, b2, b3, b4, b5, ⟨b6, b7, b8⟩, c1, c2, c3, c4, c5, ⟨d1, d2, d3, d4, d5, d6, d7⟩⟩ := id MI
  have TO := H.2.2.2.2.2.1 (g.1 5 i).toNat (by omega)
  have kA : 1 ≤ hK h (hR h f_Member_parameters (hB h (ho + 3) i)) ∧ hK h (hR h f_Member_parameters (hB h (ho + 3) i)) < 100 := by rw [d4]; decide
  refine ⟨H.1.2.2.2.2.2.2.2.1.1.1, ⟨H.1.2.2.2.2.2.2.2.1.1, by omega, by omega⟩, Or.inr (by rw [a1]; decide), a1, b_Member_tell_0 ⟨fun e => ⟨a1, by rw [b8]; exact TO.1.1, ?_⟩, fun n0 => ⟨fun e => ⟨a1, ?_⟩, fun n1 => ⟨fun e => ⟨a1, fun z => ?_, fun z => ?_⟩, fun n2 => ⟨fun e => ⟨a1, ?_⟩, fun n3 => ⟨fun e => ⟨a1, kA, ?_⟩, fun n4 => ⟨fun e => ⟨a1, fun z => ?_, fun z => ?_⟩, fun n5 => ⟨fun z => ?_, fun z => ⟨a1, kA, fun u => ?_, fun u => ?_⟩⟩⟩⟩⟩⟩⟩⟩⟩
  · rw [if_pos e] at q
    show Q (Sum.inl (some (vI (hI h f_HostType_number (hR h f_Member_owner (hB h (ho + 3) i)))))) h
    rw [b8, TO.2.1, Int.toNat_of_nonneg b6]; exact q
  · rw [if_neg (by omega), if_pos e, ← b2] at q; exact q
  · rw [if_neg (by omega), if_neg (by omega), if_pos e, ← c1, z] at q; exact q
  · rw [if_neg (by omega), if_neg (by omega), if_pos e] at q
    rw [c1] at z
    rw [show g.1 7 i = 1 by omega] at q; exact q
  · rw [if_neg (by omega), if_neg (by omega), if_neg (by omega), if_pos e, ← b4] at q; exact q
  · rw [if_neg (by omega), if_neg (by omega), if_neg (by omega), if_neg (by omega), if_pos e, ← d5] at q; exact q
  · rw [if_neg (by omega), if_neg (by omega), if_neg (by omega), if_neg (by omega), if_neg (by omega), if_pos e, ← c4, z] at q; exact q
  · rw [if_neg (by omega), if_neg (by omega), if_neg (by omega), if_neg (by omega), if_neg (by omega), if_pos e] at q
    rw [c4] at z
    rw [show g.1 9 i = 1 by omega] at q; exact q
  · rw [if_neg (by omega), if_neg (by omega), if_neg (by omega), if_neg (by omega), if_neg (by omega), if_neg (by omega), if_neg (by omega)] at q; exact q
  · rw [d5, w32_of (by omega) (by omega)] at u
    rw [if_neg (by omega), if_neg (by omega), if_neg (by omega), if_neg (by omega), if_neg (by omega), if_neg (by omega), if_neg (by omega)] at q; exact q
  · rw [d5, w32_of (by omega) (by omega)] at u
    rw [w32_of (by omega) (by omega), d5]
    rw [if_neg (by omega), if_neg (by omega), if_neg (by omega), if_neg (by omega), if_neg (by omega), if_neg (by omega), if_pos ⟨z, u⟩, ← d7 _ (by omega)] at q
    exact ⟨⟨by rw [d4]; decide, by omega, u⟩, q⟩
theorem t_memberQ (M : TMO h T k k2 tp) (H : THO h k g n m tq) (hw : w < 2147483648) (q : (∀ j, j < m → (g.1 7 j = 0 ∨ g.1 7 j = 1) ∧ (g.1 9 j = 0 ∨ g.1 9 j = 1)) ∧ Q (Sum.inl (some (vI (meA g m a w)))) (sI h f_Md_thrown T 0)) : wpB PGm ρ (d + 1) m_Md_member 0 [(0, vR T), (1, vI a), (2, vI w)] [] h Q := by
  have eh := M.2.2.2.2.2.2.1
  refine b_Md_member_0 ⟨M.1, ?_⟩
  intro h1
  have H1 : THO h1 k g n m tq := H.thr
  have M1 : TMO h1 T k k2 tp := M.thr
  have e1 : hR h1 f_Md_host T = k := eh
  obtain ⟨g01, q⟩ := q
  have q' : Q (Sum.inl (some (vI (meA g m a w)))) h1 := q
  clear_value h1
  obtain ⟨⟨a1, a2⟩, a3, a4, hn, hm4, a7, S, a8, hg, mg, -⟩ := H1
  rw [e1, a4]
  have no : (a < 0 ∨ (m : Int) ≤ a) → Q (Sum.inl (some (vI (-1)))) h1 := fun x => by unfold meA at q'; rw [if_pos x] at q'; exact q'
  rw [w32_of (by omega) (by omega)]
  refine ⟨a2, t_inF (fun x y => ⟨fun _ => ?_, fun z => absurd z (by decide)⟩) (fun x => ⟨fun z => absurd rfl z, fun _ => no (by omega)⟩)⟩
  obtain ⟨i, rfl⟩ : ∃ i : Nat, a = (i : Int) := ⟨a.toNat, by omega⟩
  have hi : i < m := by omega
  have gi : (0 : Int) ≤ (i : Int) ∧ (i : Int) < ((400 : Nat) : Int) := by omega
  unfold meA at q'
  rw [if_neg (by omega)] at q'
  rw [e1]
  rw [Int.toNat_natCast] at q' ⊢
  obtain ⟨r1, r2, r3, r4, r5, r6, r7, r8, -⟩ := mg i hi
  obtain ⟨g7, g9⟩ := g01 i hi
  have E7 : hA h1 (hR h1 f_MdHost_isStatic k) i = g.1 7 i := (a8.g rfl i).trans r3
  have E9 : hA h1 (hR h1 f_MdHost_variable k) i = g.1 9 i := (a8.g rfl i).trans r5
  rw [a8.g (f := f_MdHost_itsClass) rfl i, a8.g (f := f_MdHost_sort) rfl i, E7, a8.g (f := f_MdHost_type) rfl i, a8.g (f := f_MdHost_parameters) rfl i, r1, r2, r4, r6]
  refine ⟨fun e => ⟨M1.1, a2, a1.ri rfl gi, ?_⟩, fun n0 => ⟨fun e => ⟨M1.1, a2, a1.ri rfl gi, ?_⟩, fun n1 => ⟨fun e => ⟨M1.1, a2, a1.rt rfl gi, fun z => ?_, fun z => ?_⟩, fun n2 => ⟨fun e => ⟨M1.1, a2, a1.ri rfl gi, ?_⟩, fun n3 => ⟨fun e => ⟨M1.1, a2, a1.ri rfl gi, ?_⟩, fun n4 => ⟨fun e => b_Md_member_122 ?_, fun n5 => ⟨fun z => ?_, fun z => ⟨M1.1, a2, a1.ri rfl gi, fun u => ?_, fun u => ?_⟩⟩⟩⟩⟩⟩⟩⟩
  · rw [if_pos e] at q'; exact q'
  · rw [if_neg (by omega), if_pos e] at q'; exact q'
  · rw [if_neg (by omega), if_neg (by omega), if_pos e, z] at q'; exact q'
  · rw [if_neg (by omega), if_neg (by omega), if_pos e, show g.1 7 i = 1 by omega] at q'; exact q'
  · rw [if_neg (by omega), if_neg (by omega), if_neg (by omega), if_pos e] at q'; exact q'
  · rw [if_neg (by omega), if_neg (by omega), if_neg (by omega), if_neg (by omega), if_pos e] at q'; exact q'
  · rw [if_neg (by omega), if_neg (by omega), if_neg (by omega), if_neg (by omega), if_neg (by omega), if_pos e] at q'
    rw [e1, Int.toNat_natCast, E9]
    refine ⟨M1.1, a2, a1.rt rfl gi, fun z => ?_, fun z => ?_⟩
    · rw [z] at q'; exact q'
    · rw [show g.1 9 i = 1 by omega] at q'; exact q'
  · rw [if_neg (by omega), if_neg (by omega), if_neg (by omega), if_neg (by omega), if_neg (by omega), if_neg (by omega), if_neg (by omega)] at q'; exact q'
  · rw [w32_of (by omega) (by omega)] at u
    rw [if_neg (by omega), if_neg (by omega), if_neg (by omega), if_neg (by omega), if_neg (by omega), if_neg (by omega), if_neg (by omega)] at q'; exact q'
  · rw [w32_of (by omega) (by omega)] at u
    obtain ⟨j, rfl⟩ : ∃ j : Nat, w = 6 + (j : Int) := ⟨(w - 6).toNat, by omega⟩
    have hj : j < (g.2 2 i).length := by omega
    rw [if_neg (by omega), if_neg (by omega), if_neg (by omega), if_neg (by omega), if_neg (by omega), if_neg (by omega), if_pos ⟨z, u⟩, show (6 + (j : Int) - 6).toNat = j by omega, ← r8 j hj] at q'
    rw [w32_of (x := 8 * (i : Int)) (by omega) (by omega), w32_of (x := 8 * (i : Int) + (6 + (j : Int))) (by omega) (by omega), w32_of (by omega) (by omega), show (8 * (i : Int) + (6 + (j : Int)) - 6) = ((8 * i + j : Nat) : Int) by omega, Int.toNat_natCast, a8.g (f := f_MdHost_parameter) rfl]
    exact ⟨a1.ri rfl (by omega), q'⟩
theorem c_subQ (L : LTO h C ho ho2 tp) (H : HC ρ h ho g n m ws by_ fr sz nx_) (hd : 10 ≤ d) (q1 : suA g n a b → Q (Sum.inl (some (vI 1))) h) (q0 : ¬ suA g n a b → Q (Sum.inl (some (vI 0))) h) : wpB PGm ρ (d + 2) m_LT_subtype 0 [(0, vR C), (1, vI a), (2, vI b)] [] h Q := by
  have eh := L.2.2.2.1
  have hn := H.2.2.2.1
  have ty : ∀ {x : Int} {F : Int → ah → Prop} {E : Nat → ah → Prop}, (0 ≤ x ∧ x < 9 + (n : Int) → F 1 h) → (¬ (0 ≤ x ∧ x < 9 + (n : Int)) → F 0 h) → wpB PGm ρ (d + 1) m_Host_isType 0 [(0, vR ho), (1, vI x)] [] h (cI F E) := fun {x F E} q1 q0 => by
    refine b_Host_isType_0 (by omega) ⟨fun z => q0 (by omega), fun z => ?_⟩
    rw [H.1.2.2.2.1, H.2.1, w32_of (by omega) (by omega)]
    exact ⟨H.1.1, H.1.2.2.2.2.2.2.1.1.1, H.1.2.2.2.2.2.2.1.1, fun y => q0 (by omega), fun y => q1 (by omega)⟩
  refine b_LT_subtype_0 ⟨L.1, by rw [eh]; exact H.1.1, ?_⟩
  rw [eh]
  refine ty (fun x1 => ⟨fun z => absurd z (by decide), fun _ => ⟨L.1, by rw [eh]; exact H.1.1, ?_⟩⟩) (fun x1 => ⟨fun _ => q0 (fun y => x1 y.1), fun z => absurd rfl z⟩)
  rw [eh]
  refine ty (fun x2 => ⟨fun z => absurd z (by decide), fun _ => ⟨L.1, by rw [eh]; exact H.1.1, ?_⟩⟩) (fun x2 => ⟨fun _ => q0 (fun y => x2 y.2.1), fun z => absurd rfl z⟩)
  rw [eh]
  exact c_isUnder H hd x1.2 x2.2 (fun u => ⟨fun z => absurd z (by decide), fun _ => q1 ⟨x1, x2, u⟩⟩) (fun u => ⟨fun _ => q0 (fun y => u y.2.2), fun z => absurd rfl z⟩)
theorem t_subQ (M : TMO h T k k2 tp) (H : THO h k g n m tq) (q1 : suA g n a b → Q (Sum.inl (some (vI 1))) (sI h f_Md_thrown T 0)) (q0 : ¬ suA g n a b → Q (Sum.inl (some (vI 0))) (sI h f_Md_thrown T 0)) : wpB PGm ρ (d + 1) m_Md_subtype 0 [(0, vR T), (1, vI a), (2, vI b)] [] h Q := by
  have eh := M.2.2.2.2.2.2.1
  refine b_Md_subtype_0 ⟨M.1, ?_⟩
  intro h1
  have H1 : THO h1 k g n m tq := H.thr
  have M1 : TMO h1 T k k2 tp := M.thr
  have e1 : hR h1 f_Md_host T = k := eh
  have q1' : suA g n a b → Q (Sum.inl (some (vI 1))) h1 := q1
  have q0' : ¬ suA g n a b → Q (Sum.inl (some (vI 0))) h1 := q0
  clear_value h1
  obtain ⟨⟨a1, a2⟩, a3, a4, hn, -⟩ := id H1
  rw [e1, a3, w32_of (x := 9 + (n : Int)) (by omega) (by omega), w32_of (by omega) (by omega)]
  have nu : ¬ (1 ≤ a ∧ a ≤ 9 + (n : Int) - 1) → ¬ suA g n a b := fun x y => by have := y.2.2.1; have := y.1; omega
  have nv : ¬ (1 ≤ b ∧ b ≤ 9 + (n : Int) - 1) → ¬ suA g n a b := fun x y => by have := y.2.2.2.1; have := y.2.1; omega
  refine ⟨a2, t_inF (fun x y => ⟨fun z => absurd z (by decide), fun _ => t_inF (fun u w => ⟨fun z => absurd z (by decide), fun _ => ⟨M1.1, by rw [e1]; exact a2, ?_⟩⟩) (fun u => ⟨fun _ => q0' (nv u), fun z => absurd rfl z⟩)⟩) (fun x => ⟨fun _ => q0' (nu x), fun z => absurd rfl z⟩)⟩
  rw [e1]
  exact t_isSub H1 (by omega) (by omega) (fun r => ⟨fun z => absurd z (by decide), fun _ => q1' ⟨by omega, by omega, r⟩⟩) (fun r => ⟨fun _ => q0' (fun s => r s.2.2), fun z => absurd rfl z⟩)
end
