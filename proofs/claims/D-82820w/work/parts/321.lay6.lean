/-! layouts that are known stay known -/
set_option maxRecDepth 20000
section
variable {ρ : Nat → Nat} {d : Nat} {Q : QT} {Γ Γ' : GH} {h h' h1 h2 H : ah} {C ho k i j N M a z s r f o c t n mn m0 rr : Nat} {g : HG} {v w hd ty κ x y : Int} {S S' S1 : SS} {X X' X1 X2 : X3} {Y Y' Y1 Y2 : Y3} {hw : List (List Int)} {ls : List Nat}
theorem HCX.ccB (H0 : HCX ρ h ho g N M hw) (G : AC h C) : (∀ i, hB (cc h C X Y) (ho + 2) i = hB h (ho + 2) i) ∧ (∀ i, hB (cc h C X Y) (ho + 3) i = hB h (ho + 3) i) := by
  have hh := H0.hh
  refine ⟨fun i => ?_, fun i => ?_⟩
  · have := ccBo (X := X) (Y := Y) (i := i) (f := f_Host_types) (b := ho) G (by decide) hh.2.1
    rw [hh.2.2.1] at this; exact this
  · have := ccBo (X := X) (Y := Y) (i := i) (f := f_Host_members) (b := ho) G (by decide) hh.2.1
    rw [hh.2.2.2.1] at this; exact this
theorem HCX.ccx (H0 : HCX ρ h ho g N M hw) (G : AC h C) : HCX ρ (cc h C X Y) ho g N M hw := H0.fr (cc_fr G) (by unfold DJ; decide) (fun y c => by simp at c)
theorem LYM.ccx (LM : LYM h ho g N) (H0 : HCX ρ h ho g N M hw) (G : AC h C) : LYM (cc h C X Y) ho g N := fun c hc => by
  obtain ⟨b2, b3⟩ := H0.ccB (X := X) (Y := Y) G
  have r : hR (cc h C X Y) f_HostType_layout (hB h (ho + 2) c) = hR h f_HostType_layout (hB h (ho + 2) c) := ccRo (by decide)
  rw [b2, r]
  rcases LM c hc with e | ⟨⟨a1, a2, a3, a4⟩, a5, a6⟩
  · exact Or.inl e
  · right
    have u : ∀ i, hB (cc h C X Y) (hR h f_HostType_layout (hB h (ho + 2) c)) i = hB h (hR h f_HostType_layout (hB h (ho + 2) c)) i := fun i => ccB0 (fun q hq => a4 q.1 _ (by
      have k1 : raC.all (fun q => Nat.ble q.2.1 101) = true := by decide
      have := Nat.le_of_ble_eq_true (List.all_eq_true.mp k1 _ hq)
      have := G.1; omega) (by
      have k1 : raC.all (fun q => ownF.elem q.1) = true := by decide
      exact List.all_eq_true.mp k1 _ hq))
    have G1 : AC (cc h C X Y) C := cc_AC G
    refine ⟨⟨a1, a2, a3, fun f x hx hf => ?_⟩, a5, fun i hi => by rw [u, b3]; exact a6 i hi⟩
    by_cases w : noP rfC f = true
    · rw [ccRo w]; exact a4 f x hx hf
    · exact absurd hf (by
        intro hf2
        have k1 : rfC.all (fun q => !ownF.elem q.1) = true := by decide
        refine w ?_
        unfold noP
        rw [List.all_eq_true]
        intro q hq
        have := List.all_eq_true.mp k1 q hq
        by_cases e : q.1 = f
        · rw [e] at this
          have hf3 : ownF.elem f = true := hf2
          rw [hf3] at this; cases this
        · cases hb : Nat.beq q.1 f with
          | false => rfl
          | true => exact absurd (Nat.eq_of_beq_eq_true hb) e)
theorem LYJ.lym (J : LYJ h ho g k h') (H0 : HCX ρ h ho g N M hw) (LM : LYM h ho g N) (ij : INJ h) (hk : k < N) (A0 : LYA h' ho (hR h' f_HostType_layout (hB h (ho + 2) k)) (layG g k)) : LYM h' ho g N := fun c hc => by
  have hh := H0.hh
  have e2 : ∀ j, hB h' (ho + 2) j = hB h (ho + 2) j := (J.old _ hh.2.2.2.2.2.1.2.2).2.2.2.2.2.1
  have e3 : ∀ j, hB h' (ho + 3) j = hB h (ho + 3) j := (J.old _ hh.2.2.2.2.2.2.1.2.2).2.2.2.2.2.1
  rw [e2]
  by_cases w : c = k
  · subst w; exact Or.inr A0
  · obtain ⟨⟨y1, y1', y0⟩, -⟩ := H0.tp hc
    have ne : hB h (ho + 2) c ≠ hB h (ho + 2) k := fun e => w (H0.tad c k hc hk e)
    have r := (J.old _ y1').2.2.2.2.2.2 f_HostType_layout ne
    rw [r]
    rcases LM c hc with e | ⟨⟨a1, a2, a3, a4⟩, a5, a6⟩
    · exact Or.inl e
    · obtain ⟨b1, b2, -, -, -, b6, -⟩ := J.old _ a3
      refine Or.inr ⟨⟨by rw [b1]; exact a1, a2, J.fr.lt a3, fun f x hx hf => ?_⟩, by rw [b2]; exact a5, fun i hi => by rw [b6, e3]; exact a6 i hi⟩
      have fne : f ≠ f_HostType_layout := by rintro rfl; exact absurd hf (by unfold own; decide)
      by_cases w2 : x < hz h
      · rw [(J.old _ w2).2.2.2.1 f fne]; exact a4 f x w2 hf
      · rcases J with rfl | ⟨-, H, A, rfl⟩
        · exact absurd hx w2
        · have hx2 : x < hz H := hx
          have ex : x = hz h := by have := A.1.1; omega
          rw [R_Rne fne, ex, A.2.2.2.2 f]
          exact fun c => a2 c.symm
theorem lyc_e (e : ∀ i, i < n → hR h' f_HostType_layout (hB h' (ho + 2) i) = hR h f_HostType_layout (hB h (ho + 2) i)) : lyc h' ho n = lyc h ho n := by
  induction n with
  | zero => rfl
  | succ n ih =>
    unfold lyc
    rw [ih (fun i hi => e i (by omega)), e n (by omega)]
theorem lyc_1 (hk : k < n) (e : ∀ i, i < n → i ≠ k → hR h' f_HostType_layout (hB h' (ho + 2) i) = hR h f_HostType_layout (hB h (ho + 2) i)) (e0 : hR h f_HostType_layout (hB h (ho + 2) k) = 0) (e1 : hR h' f_HostType_layout (hB h' (ho + 2) k) ≠ 0) : lyc h' ho n = lyc h ho n + 1 := by
  induction n with
  | zero => omega
  | succ n ih =>
    unfold lyc
    by_cases w : k = n
    · subst w
      rw [lyc_e (fun i hi => e i (by omega) (by omega)), if_neg e1, if_pos e0]
    · rw [ih (by omega) (fun i hi => e i (by omega)), e n (by omega) (fun c => w c.symm)]
      omega
theorem lyc_le : ∀ n, lyc h ho n ≤ n
  | 0 => Nat.le_refl _
  | n + 1 => by
    unfold lyc
    have := lyc_le n
    split <;> omega
end
