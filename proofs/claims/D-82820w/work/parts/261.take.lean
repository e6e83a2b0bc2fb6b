/-! C: an entry is taken -/
set_option maxRecDepth 20000
/-- an entry is taken and set -/
def TKJ (h : ah) (Y : Y3) (e : Nat) (h2 : ah) (Y2 : Y3) : Prop := (∃ z s, z ≤ 2 ∧ s ≤ 23 ∧ Fr LEF [] z s h h2) ∧ (∀ o f i, f ≠ f_Spare_free → Y2 o f i = Y o f i) ∧ (∀ x f, x < hz h → x ≠ e → hI h2 f x = hI h f x ∧ hR h2 f x = hR h f x) ∧ (∀ x i, x < hz h → hB h2 x i = hB h x i) ∧ (∀ x i, 0 < x → x < hz h → (e < hz h → x ≠ hR h f_Entry_classes e) → hA h2 x i = hA h x i) ∧ (hK h2 e = k_Entry ∧ e < hz h2 ∧ e ≠ 0)
section
variable {ρ : Nat → Nat} {d : Nat} {Q : QT} {Γ : GH} {h h' h0 h1 h2 H : ah} {C ho T k n m f i j N M b a rr mn sn tn row e t z s be ca : Nat} {S S' S1 S2 SX : SS} {X : X3} {Y Y1 Y2 : Y3} {g : HG} {v p x y nm ty κ hd w La bv el now : Int} {sp : List Nat}
theorem CORE.ent {Y1 : Y3} (HC : CORE Γ h C ho X Y S N) (fr : Fr LEF [] z s h h1) (ey : ∀ o f i, f ≠ f_Spare_free → Y1 o f i = Y o f i) : CORE Γ h1 C ho X Y1 S N := (HC.fzz (L := LEF) (Pp := []) (X' := X) (Y' := Y1) fr (by unfold DJ; decide +kernel) (fun y c => by simp at c) (fun _ _ _ => rfl) (Int.le_refl _) EXX.rf (fun o f hf i => ey o f i (by rintro rfl; exact absurd hf (by decide)))).1.1
theorem r_take (HC : CORE Γ h C ho X Y S N) (ti : X 53 f_Found_isText 0 = 0 ∨ X 53 f_Found_isText 0 = 1) (eo : ¬ X 53 f_Found_byClasses 0 = 0 → X 53 f_Found_operands 0 = (n : Int) ∧ n ≤ 8) (c4 : NXL h 0 sp) (c5 : Y 55 f_Spare_free 0 = hdO sp 0) (al : ∀ x, x ∈ sp → x ≠ 0 ∧ (hK h x = k_Entry ∧ x < hz h) ∧ ECL h x) (q : ∀ e h2 Y2 sp2, TKJ h Y e h2 Y2 → STQ h2 e X Y be now → ECL h2 e → (¬ X 53 f_Found_byClasses 0 = 0 → hR h2 f_Entry_classes e ≠ 0 ∧ ∀ i, i < n → hA h2 (hR h2 f_Entry_classes e) i = X 53 f_Found_classes i) → Y2 55 f_Spare_free 0 = hdO sp2 0 → (sp = e :: sp2 ∨ (sp = [] ∧ sp2 = [] ∧ e = hz h)) → Q (Sum.inl (some (vR e))) (cc h2 C X Y2)) : wpB PGm ρ (d + 12) m_Spare_take 0 [(0, vR (C + 55)), (1, vR (C + 53)), (2, vR be), (3, vI now)] [] (cc h C X Y) Q := by
  have k55 : hK h (C + 55) = k_Spare := CORE.k55 HC
  have y1 : hR (cc h C X Y) f_Spare_free (C + 55) = hdO sp 0 := by rw [ccR (by decide)]; exact c5
  refine b_Spare_take_0 (d := d + 11) ⟨k55, ?_⟩
  rw [y1]
  cases sp with
  | nil =>
    refine ⟨fun c => absurd rfl c, fun _ => ?_⟩
    have fr : Fr LEF [] (0 + 1) (0 + 15) h (hn h k_Entry 15 0) := Fr.r0.new
    have HC1 := HC.ent fr (fun _ _ _ _ => rfl)
    have hz0 : 0 < hz h := (CORE.inj HC).2.2
    have ke : hK (hn h k_Entry 15 0) (hz h) = k_Entry := if_pos rfl
    have c0 : hR (hn h k_Entry 15 0) f_Entry_classes (hz h) = 0 := if_pos rfl
    have lz : hz h < hz (hn h k_Entry 15 0) := Nat.lt_succ_self _
    show wpB PGm ρ (d + 11) m_Entry_init 0 [(0, vR (hz h))] [] (hn (cc h C X Y) k_Entry 15 0) _
    rw [cc_hn HC.1.1]
    refine b_Entry_init_0 (by omega) ⟨by show hK (hn h k_Entry 15 0) (hz h) ≠ 0; rw [ke]; decide, ?_⟩
    refine b_Spare_take_32 ⟨ke, ?_⟩
    refine r_set HC1 ke lz ti eo (Or.inl c0) (fun h2 j1 j2 j3 j4 => ?_)
    obtain ⟨⟨z, s, z1, s1, fr2⟩, o1, o2, o3⟩ := j1
    refine q (hz h) h2 Y [] ⟨⟨0 + 1 + z, 0 + 15 + s, by omega, by omega, fr.trans fr2⟩, fun _ _ _ _ => rfl, fun x f hx ne => ?_, fun x i hx => ?_, fun x i h0 hx _ => ?_, ⟨by rw [fr2.K lz]; exact ke, fr2.lt lz, by omega⟩⟩ j2 j3 j4 c5 (Or.inr ⟨rfl, rfl, rfl⟩)
    · have := o1 x f (by omega) ne
      rw [this.1, this.2]
      exact ⟨if_neg ne, if_neg ne⟩
    · rw [o2 x i (by omega)]; exact if_neg (by omega)
    · rw [o3 x i (by omega) (by show x ≠ hR (hn h k_Entry 15 0) f_Entry_classes (hz h); rw [c0]; omega)]; exact if_neg (by omega)
  | cons e l =>
    obtain ⟨e0, ⟨ek, ez⟩, cl⟩ := al e (List.mem_cons_self ..)
    refine ⟨fun _ => ⟨ek, ?_⟩, fun c => absurd c e0⟩
    have r2 : hR (cc h C X Y) f_Entry_next e = hdO l 0 := by rw [ccRo (by decide)]; exact c4.1
    show wpB PGm ρ (d + 12) m_Spare_take 32 [(1, vR (C + 53)), (2, vR be), (3, vI now), (4, vR e)] [] (sR (cc h C X Y) f_Spare_free (C + 55) (hR (cc h C X Y) f_Entry_next e)) Q
    rw [r2, cc_sR (by decide)]
    have ey : ∀ o f i, f ≠ f_Spare_free → u3 Y 55 f_Spare_free 0 (hdO l 0) o f i = Y o f i := fun o f i hf => u3_f hf
    have HC1 := HC.ent Fr.r0 ey
    refine b_Spare_take_32 ⟨ek, ?_⟩
    refine r_set HC1 ek ez ti eo cl (fun h2 j1 j2 j3 j4 => ?_)
    obtain ⟨⟨z, s, z1, s1, fr2⟩, o1, o2, o3⟩ := j1
    have j2' : STQ h2 e X Y be now := by
      unfold STQ at j2 ⊢
      simp only [ey _ f_Found_shape _ (by decide), ey _ f_Found_to _ (by decide), ey _ f_Found_type _ (by decide), ey _ f_Found_code _ (by decide), ey _ f_Found_holder _ (by decide), ey _ f_Found_member _ (by decide)] at j2
      exact j2
    exact q e h2 _ l ⟨⟨z, s, by omega, by omega, fr2⟩, ey, o1, o2, fun x i h0 hx ne => o3 x i hx (ne ez), ⟨by rw [fr2.K ez]; exact ek, fr2.lt ez, e0⟩⟩ j2' j3 j4 u3_s (Or.inl rfl)
end
