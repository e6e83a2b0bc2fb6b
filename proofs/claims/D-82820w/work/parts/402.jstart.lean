set_option maxRecDepth 20000
section
variable {ρ : Nat → Nat} {d : Nat} {Q : QT} {Γ Γ' Γ1 Γ2 : GH} {h h' h1 h2 H : ah} {C ho N M z s t o n c r i j k p a T cd fn ck mk vs rk np : Nat} {g g' : HG} {S S' S1 S2 : SS} {X X' X1 X2 : X3} {Y Y' Y1 Y2 : Y3} {ws ws' hw : List (List Int)} {x y ty v fl l1 l2 : Int} {h0 : ah}
def TSU (ρ : Nat → Nat) (P : ah → Nat → Prop) (S : SS) (l1 l2 fl : Int) (S' : SS) : Prop := ∀ (d : Nat) (h0 : ah) (T : Nat) (Q : QT), P h0 T → Q (Sum.inl (some (vI fl))) (cn h0 T S') → wpB PGm ρ (d + 4) m_Md_start 0 [(0, vR T), (1, vI l1), (2, vI l2)] [] (cn h0 T S) Q
/-- the first call of a task -/
theorem CT.first (hto : isTO t o) (f1 : (fn : Int) < S f_Md_functions 0) (gh0 : ghs Γ fn 0 = 0) (gt0 : gtd Γ fn 0 = 0) (cs : 0 < S f_Md_codeSize fn) (hck : (ck : Int) < S f_Md_calls 0) (ecf : gcf Γ ck = fn)
    (ln : ∃ l : Nat, hl h (hR h f_Task_tryCall (C + o)) = l ∧ hl h (hR h f_Task_tryTo (C + o)) = l ∧ hl h (hR h f_Task_trySize (C + o)) = l ∧ 16 ≤ l ∧ l ≤ 20000)
    (s1 : S f_Md_state t = 1 ∧ S f_Md_height t = 0 ∧ S f_Md_frames t = 1 ∧ S f_Md_tries t = 0) (s2 : S f_Md_frameFunction (200 * t) = (fn : Int) ∧ S f_Md_frameAt (200 * t) = 0 ∧ S f_Md_frameAround (200 * t) = (ck : Int) ∧ S f_Md_thisType (200 * t) = 0 ∧ S f_Md_thisValue (200 * t) = 0 ∧ S f_Md_frameNew (200 * t) = -1 ∧ S f_Md_frameBase (200 * t) = 0 ∧ S f_Md_frameTries (200 * t) = 0)
    (x1 : X o f_Task_state 0 = 1 ∧ X o f_Task_size 0 = 0 ∧ X o f_Task_calls 0 = 1 ∧ X o f_Task_tries 0 = 0) (x2 : X o f_Task_next 0 = 0 ∧ X o f_Task_base 0 = 0 ∧ X o f_Task_thisTag 0 = 0 ∧ X o f_Task_thisWord 0 = 0) (y2 : Y o f_Task_code 0 = hB h (C + 56) fn ∧ Y o f_Task_variables 0 = gva Γ ck ∧ Y o f_Task_made 0 = 0) : CT Γ h C X Y S N t o 0 1 0 := by
  obtain ⟨s3, s4, s5, s6⟩ := s1
  obtain ⟨u1, u2', u3', u4, u5, u6, u7, u8⟩ := s2
  obtain ⟨x3, x4, x5, x6⟩ := x1
  obtain ⟨v1, v2, v3, v4⟩ := x2
  obtain ⟨w1, w2, w3⟩ := y2
  obtain ⟨l, m1, m2, m3, m4, m5⟩ := ln
  have fs : fsS S t 0 = fn := by unfold fsS; rw [Nat.add_zero, u1, Int.toNat_natCast]
  have ps : psS S t 0 = 0 := by unfold psS; rw [Nat.add_zero, u2']; rfl
  have bs : bsS S t 0 = 0 := by unfold bsS; rw [Nat.add_zero, u7]; rfl
  have qs : qsS S t 0 = 0 := by unfold qsS; rw [Nat.add_zero, u8]; rfl
  have ks : ksS S t 0 = ck := by unfold ksS; rw [Nat.add_zero, u3', Int.toNat_natCast]
  refine ⟨hto, ⟨by rw [x3, s3], by omega, by omega, fun _ => by omega, fun c => absurd (Or.inl s3) c⟩, ⟨x4, s4, by omega⟩, ⟨x5, s5, by omega⟩, ⟨x6, s6⟩, fun i hi => absurd hi (by omega), fun i hi => ?_, ⟨fun i hi => ?_, by rw [bs], by rw [qs]⟩, fun k hk => absurd hk (by omega), fun c => by omega, l, m1, m2, m3, by omega, m4, m5⟩
  · have i0 : i = 0 := by omega
    subst i0
    refine ⟨?_, ?_, ?_, ?_, ?_, ?_, ?_⟩
    · rw [fs, Nat.add_zero]; exact ⟨u1, f1, w1⟩
    · rw [ps, fs, Nat.add_zero]; exact ⟨u2', v1, cs⟩
    · rw [bs, Nat.add_zero]; exact ⟨u7, v2, by omega⟩
    · rw [ks, fs, Nat.add_zero]; exact ⟨u3', hck, w2, ecf⟩
    · rw [Nat.add_zero, v3, v4, u4, u5]; exact VR.nil trivial
    · rw [Nat.add_zero]; exact Or.inl ⟨u6, w3⟩
    · rw [qs, Nat.add_zero]; exact u8
  · have i0 : i = 0 := by omega
    subst i0
    rw [if_pos rfl, if_pos rfl, bs, qs, fs, ps, gh0, gt0]
    exact ⟨rfl, rfl, by omega, fun c => absurd c (by omega)⟩
end
