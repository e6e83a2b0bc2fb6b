/-! C: all entries of a site go -/
set_option maxRecDepth 20000
section
variable {ρ : Nat → Nat} {P : ah → Nat → Prop} {d : Nat} {Q : QT} {Γ : GH} {h h' h0 h1 h2 : ah} {C ho T k n m f i j N M b a rr mn sn tn row e t z s : Nat} {S S' S1 S2 SX : SS} {X : X3} {Y Y1 Y2 : Y3} {g : HG} {v p x y nm ty κ hd w La bv el : Int} {r : ENT} {A B l E : List Nat} {L : List Nat} {Pp : List (Nat × Nat)}
theorem HJ.sz (J : HJ h Y a E h1 Y1) (v1 : Int) : HJ h Y a E (sI h1 f_Site_size a v1) Y1 := by
  obtain ⟨j1, j2, j3, j4, j5, j6⟩ := J
  refine ⟨j1.wI (by decide) (Or.inl (by decide)), j2, j3, fun x hx => ?_, fun x f => ?_, j6⟩
  · obtain ⟨c1, c2, c3, c4⟩ := j4 x hx
    exact ⟨c1, by rw [I_Ine' hx]; exact c2, by rw [I_Ine (by decide)]; exact c3, by rw [I_Ine (by decide)]; exact c4⟩
  · by_cases w : f = f_Site_size
    · exact Or.inr (Or.inl w)
    · rw [I_Ine w]; exact j5 x f
theorem HJ.lg (J : HJ h Y a E h1 Y1) (he : e ∈ E) (t b : Nat) : HJ h Y a E (sR (sR h1 f_Site_first a t) f_Entry_next e b) (u3 Y1 55 f_Spare_free 0 e) := by
  obtain ⟨j1, j2, j3, j4, j5, j6⟩ := J
  have nO1 : ¬ own f_Entry_next := by unfold own; decide
  have nO2 : ¬ own f_Site_first := by unfold own; decide
  refine ⟨(j1.wR (Or.inl (by decide)) nO2).wR (Or.inl (by decide)) nO1, fun o f i hf => ?_, fun x hx => ?_, fun x hx => ?_, j5, j6⟩
  · rw [u3_f hf]; exact j2 o f i hf
  · rw [R_Rne' (by rintro rfl; exact hx he), R_Rne (by decide)]; exact j3 x hx
  · obtain ⟨c1, c2, c3, c4⟩ := j4 x hx
    exact ⟨by rw [R_Rne (by decide), R_Rne' hx]; exact c1, c2, c3, c4⟩
theorem r_letGo (HC : CORE Γ h C ho X Y S N) (ka : hK h a = k_Site) (ha : a < hz h) : ∀ (ch sp : List Nat) (h1 : ah) (Y1 : Y3) (Q : QT), HJ h Y a E h1 Y1 → NXL h1 0 ch → hR h1 f_Site_first a = hdO ch 0 → NXL h1 0 sp → Y1 55 f_Spare_free 0 = hdO sp 0 → (ch ++ sp).Nodup → (∀ x, x ∈ ch ++ sp → x ∈ E ∧ x ≠ 0 ∧ (hK h x = k_Entry ∧ x < hz h)) → (∀ h2 Y2 sp2, HJ h Y a E h2 Y2 → HCH h2 Y2 a [] sp2 → (∀ x, x ∈ sp2 → x ∈ E ∧ x ≠ 0 ∧ (hK h x = k_Entry ∧ x < hz h)) → hI h2 f_Site_pruned a = hI h1 f_Site_pruned a → hI h2 f_Site_hits a = hI h1 f_Site_hits a → Q (Sum.inl none) (cc h2 C X Y2)) → wpB PGm ρ (d + 1) m_Site_letGo 0 [(0, vR a), (1, vR (C + 55))] [] (cc h1 C X Y1) Q := by
  have s55 : C + 55 < hz h := CORE.hz55 HC
  have ks : hK h (C + 55) = k_Spare := CORE.k55 HC
  intro ch
  induction ch with
  | nil =>
    intro sp h1 Y1 Q J c1 c2 c4 c5 nd al q
    have ka1 : hK h1 a = k_Site := by rw [J.1.K ha]; exact ka
    have r1 : hR (cc h1 C X Y1) f_Site_first a = hR h1 f_Site_first a := ccRo (by decide)
    refine b_Site_letGo_0 ⟨ka1, ?_⟩
    rw [r1, c2]
    refine ⟨fun _ => ?_, fun c => absurd rfl c⟩
    show Q (Sum.inl none) (sI (cc h1 C X Y1) f_Site_size a 0)
    rw [cc_sIo (by decide)]
    exact q _ Y1 sp (J.sz 0) ⟨trivial, c2, by rw [I_I]; rfl, c4.fr (fun _ _ => rfl), c5, nd⟩ al (by rw [I_Ine (by decide)]) (by rw [I_Ine (by decide)])
  | cons e l ih =>
    intro sp h1 Y1 Q J c1 c2 c4 c5 nd al q
    obtain ⟨aE, a0, ak, az⟩ := al e (by simp)
    have ka1 : hK h1 a = k_Site := by rw [J.1.K ha]; exact ka
    have ks1 : hK h1 (C + 55) = k_Spare := by rw [J.1.K s55]; exact ks
    have ke1 : hK h1 e = k_Entry := by rw [J.1.K az]; exact ak
    have r1 : hR (cc h1 C X Y1) f_Site_first a = hR h1 f_Site_first a := ccRo (by decide)
    have r2 : hR (cc h1 C X Y1) f_Entry_next e = hdO l 0 := by rw [ccRo (by decide)]; exact c1.1
    have ne := List.nodup_cons.mp nd
    have J2 := J.lg aE (hdO l 0) (Y1 55 f_Spare_free 0)
    have g1 := ih (e :: sp) _ _ Q J2 ((c1.2.fr (h' := sR h1 f_Site_first a (hdO l 0)) (fun x hx => R_Rne (by decide))).fr (fun x hx => R_Rne' (by rintro rfl; exact ne.1 (List.mem_append_left _ hx)))) (by rw [R_Rne (by decide), R_R]) ⟨by rw [R_R, c5], (c4.fr (h' := sR h1 f_Site_first a (hdO l 0)) (fun x hx => R_Rne (by decide))).fr (fun x hx => R_Rne' (by rintro rfl; exact ne.1 (List.mem_append_right _ hx)))⟩ u3_s (by
      have p1 : (l ++ e :: sp).Perm (e :: (l ++ sp)) := List.perm_middle
      exact p1.nodup_iff.mpr nd) (fun x hx => al x (by
        simp only [List.mem_append, List.mem_cons] at hx ⊢
        rcases hx with z | z | z
        · exact Or.inl (Or.inr z)
        · exact Or.inl (Or.inl z)
        · exact Or.inr z)) (fun h2 Y2 sp2 u1 u2 u3' u4 u5 => q h2 Y2 sp2 u1 u2 u3' u4 u5)
    refine b_Site_letGo_0 ⟨ka1, ?_⟩
    rw [r1, c2]
    refine ⟨fun c => absurd c a0, fun _ => ⟨ke1, ?_⟩⟩
    show hK (sR (cc h1 C X Y1) f_Site_first a (hR (cc h1 C X Y1) f_Entry_next e)) (C + 55) = k_Spare ∧ wpB PGm ρ d m_Spare_give 0 [(0, vR (C + 55)), (1, vR e)] [] (sR (cc h1 C X Y1) f_Site_first a (hR (cc h1 C X Y1) f_Entry_next e)) _
    rw [r2, cc_sRo (by decide)]
    refine ⟨ks1, b_Spare_give_0 ⟨ks1, ke1, ?_⟩⟩
    have y2 : hR (cc (sR h1 f_Site_first a (hdO l 0)) C X Y1) f_Spare_free (C + 55) = Y1 55 f_Spare_free 0 := ccR (by decide)
    rw [y2, cc_sRo (by decide)]
    show cV _ _ (Sum.inl none) (sR (cc (sR (sR h1 f_Site_first a (hdO l 0)) f_Entry_next e (Y1 55 f_Spare_free 0)) C X Y1) f_Spare_free (C + 55) e)
    rw [cc_sR (by decide)]
    exact g1
end
