/-! questions to a host -/
set_option maxRecDepth 20000
def tyA (g : HG) (n : Nat) (k w : Int) : Int := if k < 0 ∨ (n : Int) ≤ k then -1 else if w = 0 then g.1 1 k.toNat else if w = 1 then g.1 2 k.toNat else if w = 2 then ((g.2 1 k.toNat).length : Int) else if w = 3 then g.1 4 k.toNat else if w = 4 then g.1 3 k.toNat else -1
def meA (g : HG) (m : Nat) (k w : Int) : Int := if k < 0 ∨ (m : Int) ≤ k then -1 else if w = 0 then g.1 5 k.toNat else if w = 1 then g.1 6 k.toNat else if w = 2 then g.1 7 k.toNat else if w = 3 then g.1 8 k.toNat else if w = 4 then ((g.2 2 k.toNat).length : Int) else if w = 5 then g.1 9 k.toNat else if 5 < w ∧ w - 6 < ((g.2 2 k.toNat).length : Int) then (g.2 2 k.toNat).getD (w - 6).toNat 0 else -1
def unF (g : HG) (a b : Int) : Prop := ¬ a = 0 ∧ ¬ b = 0 ∧ (a = b ∨ (a = 1 ∧ b = 2) ∨ (4 ≤ a ∧ 4 ≤ b ∧ (b = 8 ∨ (9 ≤ a ∧ 9 ≤ b ∧ ¬ g.1 (100 + (a - 9).toNat) (b - 9).toNat = 0))))
def suA (g : HG) (n : Nat) (a b : Int) : Prop := (0 ≤ a ∧ a < 9 + (n : Int)) ∧ (0 ≤ b ∧ b < 9 + (n : Int)) ∧ unF g a b
section
variable {ρ : Nat → Nat} {d : Nat} {h h' : ah} {F : Int → ah → Prop} {G : ah → Prop} {E : Nat → ah → Prop} {Q : QT} {C ho ho2 T k k2 : Nat} {tp : List Int} {a b v : Int} {g : HG} {n m : Nat} {ws : List (List Int)} {by_ fr sz nx_ : Nat}
theorem THO.frm {L : List Nat} {P : List (Nat × Nat)} {z s : Nat} (H : THO h k g n m tp) (hf : Fr L P z s h h') (h1 : ∀ q, q ∈ tabH → ¬ okC L P q.1 k) (h2 : ¬ okW L P f_MdHost_classes k ∧ ¬ okW L P f_MdHost_members k) (hP : ∀ y, (0, y) ∉ P) : THO h' k g n m tp := by
  obtain ⟨⟨a1, a2⟩, a3, a4, a5, a6, a7, S, a8, a9⟩ := H
  have lk := a1.1
  exact ⟨⟨a1.frm hf (fun q hq c => h1 q hq (Or.inl c)) (by decide) (by decide), by rw [hf.K lk]; exact a2⟩, by rw [hf.I lk (by decide) h2.1]; exact a3, by rw [hf.I lk (by decide) h2.2]; exact a4, a5, a6, a7, S, a8.frm a1 hf h1 (by decide) hP, a9⟩
theorem THO.thr {w : Int} (H : THO h k g n m tp) : THO (sI h f_Md_thrown T w) k g n m tp := H.frm (L := [f_Md_thrown]) (P := []) (Fr.wL (by decide) Fr.r0) (nokT2 (by decide)) ⟨nokW rfl rfl, nokW rfl rfl⟩ (fun y c => by cases c)
theorem HC.tk (H : HC ρ h ho g n m ws by_ fr sz nx_) {i : Nat} (hi : i < n) : hK h (hB h (ho + 2) i) = k_HostType := (H.2.2.2.2.2.1 i hi).1.1
theorem c_isUnder (H : HC ρ h ho g n m ws by_ fr sz nx_) (hd : 10 ≤ d) (ha : a < 9 + (n : Int)) (hb : b < 9 + (n : Int)) (q1 : unF g a b → F 1 h) (q0 : ¬ unF g a b → F 0 h) : wpB PGm ρ (d + 1) m_Host_isUnder 0 [(0, vR ho), (1, vI a), (2, vI b)] [] h (cI F E) := by
  have hn := H.2.2.2.1
  have st : ¬ a = 0 → ¬ b = 0 → ¬ a = b → ¬ (a = 1 ∧ b = 2) → wpB PGm ρ (d + 1) m_Host_isUnder 27 [(0, vR ho), (1, vI a), (2, vI b)] [] h (cI F E) := by
    intro na nb ne n12
    have no : ¬ (4 ≤ a ∧ 4 ≤ b ∧ (b = 8 ∨ (9 ≤ a ∧ 9 ≤ b ∧ ¬ g.1 (100 + (a - 9).toNat) (b - 9).toNat = 0))) → F 0 h := fun x => q0 (fun y => y.2.2.elim ne (fun z => z.elim n12 x))
    refine b_Host_isUnder_27 (by omega) ⟨fun x => no (by omega), fun x => ⟨fun y => ⟨fun z => ⟨fun w => no (by omega), fun w => ⟨fun u => no (by omega), fun u => ?_⟩⟩, fun z => q1 ⟨na, nb, Or.inr (Or.inr ⟨x, y, Or.inl z⟩)⟩⟩, fun y => no (by omega)⟩⟩
    obtain ⟨i, rfl⟩ : ∃ i : Nat, a = 9 + (i : Int) := ⟨(a - 9).toNat, by omega⟩
    obtain ⟨j, rfl⟩ : ∃ j : Nat, b = 9 + (j : Int) := ⟨(b - 9).toNat, by omega⟩
    have hi : i < n := by omega
    have hj : j < n := by omega
    have ei : (9 + (i : Int) - 9).toNat = i := by omega
    have ej : (9 + (j : Int) - 9).toNat = j := by omega
    have yes : ¬ g.1 (100 + i) j = 0 → F 1 h := fun z => q1 ⟨na, nb, Or.inr (Or.inr ⟨by omega, by omega, Or.inr ⟨by omega, by omega, by rw [ei, ej]; exact z⟩⟩)⟩
    rw [ei, ej] at no
    have TI := H.2.2.2.2.2.1 i hi
    have TJ := H.2.2.2.2.2.1 j hj
    rw [show (9 + (i : Int)) - 9 = (i : Int) by omega, show (9 + (j : Int)) - 9 = (j : Int) by omega, w32_of (x := (i : Int)) (by omega) (by omega), w32_of (x := (j : Int)) (by omega) (by omega), Int.toNat_natCast, Int.toNat_natCast, H.1.2.2.2.1, H.2.1]
    refine ⟨H.1.1, H.1.2.2.2.2.2.2.1.1.1, ⟨H.1.2.2.2.2.2.2.1.1, by omega, by omega⟩, Or.inr (by rw [TI.1.1]; decide), H.1.2.2.2.2.2.2.1.1.1, ⟨H.1.2.2.2.2.2.2.1.1, by omega, by omega⟩, Or.inr (by rw [TJ.1.1]; decide), TI.1.1, b_HostType_isBelow_0 ?_⟩
    obtain ⟨e1, e2, e3, e4⟩ := TI.2.2.2.2.2.2.2.2.2.2.1
    obtain ⟨f1, f2⟩ := e4 j (by omega)
    rw [TJ.2.1, Int.toNat_natCast, f1]
    refine ⟨TI.1.1, TJ.1.1, ⟨by rw [e2]; decide, by omega, by omega⟩, f2, fun z => no (by omega), fun z => yes z⟩
  refine b_Host_isUnder_0 ⟨fun x => q0 (fun y => y.1 x), fun na => ⟨fun nb => ⟨fun e => q1 ⟨na, nb, Or.inl e⟩, fun ne => ⟨fun n1 => st na nb ne (fun y => n1 y.1), fun e1 => ⟨fun n2 => st na nb ne (fun y => n2 y.2), fun e2 => q1 ⟨na, nb, Or.inr (Or.inl ⟨e1, e2⟩)⟩⟩⟩⟩, fun x => q0 (fun y => y.2.1 x)⟩⟩
theorem t_isSub (H : THO h k g n m tp) (ha : a < 9 + (n : Int)) (hb : b < 9 + (n : Int)) (q1 : unF g a b → F 1 h) (q0 : ¬ unF g a b → F 0 h) : wpB PGm ρ d m_MdHost_isSub 0 [(0, vR k), (1, vI a), (2, vI b)] [] h (cI F E) := by
  obtain ⟨⟨a1, a2⟩, a3, a4, hn, a6, a7, S, a8, hg, -⟩ := H
  have st : ¬ a = 0 → ¬ b = 0 → ¬ a = b → ¬ (a = 1 ∧ b = 2) → wpB PGm ρ d m_MdHost_isSub 27 [(0, vR k), (1, vI a), (2, vI b)] [] h (cI F E) := by
    intro na nb ne n12
    have no : ¬ (4 ≤ a ∧ 4 ≤ b ∧ (b = 8 ∨ (9 ≤ a ∧ 9 ≤ b ∧ ¬ g.1 (100 + (a - 9).toNat) (b - 9).toNat = 0))) → F 0 h := fun x => q0 (fun y => y.2.2.elim ne (fun z => z.elim n12 x))
    refine b_MdHost_isSub_27 ⟨fun z => ⟨fun w => no (by omega), fun w => ⟨fun u => no (by omega), fun u => ?_⟩⟩, fun z => ⟨fun w => no (by omega), fun w => q1 ⟨na, nb, Or.inr (Or.inr ⟨by omega, by omega, Or.inl z⟩)⟩⟩⟩
    obtain ⟨i, rfl⟩ : ∃ i : Nat, a = 9 + (i : Int) := ⟨(a - 9).toNat, by omega⟩
    obtain ⟨j, rfl⟩ : ∃ j : Nat, b = 9 + (j : Int) := ⟨(b - 9).toNat, by omega⟩
    have hi : i < n := by omega
    have hj : j < 60 := by omega
    have ei : (9 + (i : Int) - 9).toNat = i := by omega
    have ej : (9 + (j : Int) - 9).toNat = j := by omega
    have yes : ¬ g.1 (100 + i) j = 0 → F 1 h := fun z => q1 ⟨na, nb, Or.inr (Or.inr ⟨by omega, by omega, Or.inr ⟨by omega, by omega, by rw [ei, ej]; exact z⟩⟩)⟩
    rw [ei, ej] at no
    have gi : (0 : Int) ≤ (i : Int) ∧ (i : Int) < ((60 : Nat) : Int) := by omega
    have ea : hA h (hR h f_MdHost_all k) i = S f_MdHost_all i := a8.g rfl i
    have eb := (hg i hi).2.2.2.2.2.2.2.2.2.2.2 j hj
    rw [show (9 + (i : Int)) - 9 = (i : Int) by omega, show (9 + (j : Int)) - 9 = (j : Int) by omega, w32_of (x := (i : Int)) (by omega) (by omega), w32_of (x := (j : Int)) (by omega) (by omega), Int.toNat_natCast, ea, eb]
    have x := a1.g (f := f_MdHost_all) rfl
    have b01 : g.1 (100 + i) j = 0 ∨ g.1 (100 + i) j = 1 := by
      have := bt_e (S f_MdHost_all i) j (by omega)
      rw [show bt (S f_MdHost_all i) j = g.1 (100 + i) j from eb] at this
      split at this
      · exact Or.inr this
      · exact Or.inl this
    refine ⟨a2, ⟨by rw [x.2.1]; decide, by omega, by rw [x.2.2.1]; exact gi.2⟩, fun z => no ?_, fun z => yes ?_⟩
    · rcases b01 with e | e
      · omega
      · rw [e] at z; exact absurd rfl z
    · rcases b01 with e | e
      · rw [e] at z; exact absurd z (by decide)
      · omega
  refine b_MdHost_isSub_0 ⟨fun x => q0 (fun y => y.1 x), fun na => ⟨fun nb => ⟨fun e => q1 ⟨na, nb, Or.inl e⟩, fun ne => ⟨fun n1 => st na nb ne (fun y => n1 y.1), fun e1 => ⟨fun n2 => st na nb ne (fun y => n2 y.2), fun e2 => q1 ⟨na, nb, Or.inr (Or.inl ⟨e1, e2⟩)⟩⟩⟩⟩, fun x => q0 (fun y => y.2.1 x)⟩⟩
end
