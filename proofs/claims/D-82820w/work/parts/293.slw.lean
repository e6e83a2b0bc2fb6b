/-! a value of a thing is written -/
set_option maxRecDepth 20000
def PSW (a : Nat) : List (Nat × Nat) := [(f_Thing_words + 1, a), (f_Thing_tags + 1, a)]
def slwH (h : ah) (a i : Nat) (x y : Int) : ah := sA (sA h (hR h f_Thing_words a) i y) (hR h f_Thing_tags a) i x
def slwS (S : SS) (k i : Nat) (ty v : Int) : SS := u2 (u2 S f_Md_slotType (slS S k i) ty) f_Md_slotValue (slS S k i) v
section
variable {ρ : Nat → Nat} {d : Nat} {Q : QT} {Γ : GH} {h h' h1 h2 : ah} {C ho k i j N M a b z s r f o c t n mn m0 rr : Nat} {g : HG} {v w hd ty κ x y : Int} {S S' S1 : SS} {X X' X1 X2 : X3} {Y Y' Y1 Y2 : Y3}
theorem slwS_o (h1 : f ≠ f_Md_slotType) (h2 : f ≠ f_Md_slotValue) : slwS S k i ty v f j = S f j := by unfold slwS; rw [u2_f h2, u2_f h1]
theorem slwS_sl : ∀ j i', slS (slwS S k i ty v) j i' = slS S j i' := fun j i' => by
  induction i' with
  | zero => show (slwS S k i ty v _ j).toNat = _; rw [slwS_o (by decide) (by decide)]; rfl
  | succ i' ih => show (slwS S k i ty v _ (slS _ j i')).toNat = _; rw [ih, slwS_o (by decide) (by decide)]; rfl
theorem CORE.slw (HC : CORE Γ h C ho X Y S N) (hk : (k : Int) < S f_Md_things 0) (hi : (i : Int) < S f_Md_thingCount k) (V : VR Γ S N x y ty v) : (CORE Γ (slwH h (hB h (C + 51) k) i x y) C ho X Y (slwS S k i ty v) N ∧ ∀ {t o n c r' : Nat}, CT Γ h C X Y S N t o n c r' → CT Γ (slwH h (hB h (C + 51) k) i x y) C X Y (slwS S k i ty v) N t o n c r') ∧ GRO Γ Γ h (slwH h (hB h (C + 51) k) i x y) C S (slwS S k i ty v) ∧ BND h C S (slwH h (hB h (C + 51) k) i x y) (slwS S k i ty v) 0 0 ∧ Fr LHc [] 0 0 h (slwH h (hB h (C + 51) k) i x y) := by
  have HC0 := HC
  obtain ⟨⟨G, F⟩, -, -, -, q2', q3, q4, q5, q6, q7, q8⟩ := HC0
  have gz := G.1
  have q7' := q7
  obtain ⟨tn, sn, c1, c2, c3, c4, c5, c6, c6', c7, c8, c9, c10⟩ := q7'
  have T0 := (c7 k (by omega)).p
  obtain ⟨TA, TB, TC, TD⟩ := T0
  have ad := TA.2.1.2.1
  have oW : own f_Thing_words := by unfold own; decide
  have oT : own f_Thing_tags := by unfold own; decide
  have fr : Fr [] (PSW (hB h (C + 51) k)) 0 0 h (slwH h (hB h (C + 51) k) i x y) := by
    unfold slwH
    exact Fr.wA (Or.inr (Or.inr (Or.inr ⟨f_Thing_tags, _, ad, oT, rfl, Or.inr (Or.inr (by simp [PSW]))⟩))) (Fr.wA (Or.inr (Or.inr (Or.inr ⟨f_Thing_words, _, ad, oW, rfl, Or.inr (Or.inr (by simp [PSW]))⟩))) Fr.r0)
  have p0 : ∀ y, (0, y) ∉ PSW (hB h (C + 51) k) := fun y c => by unfold PSW at c; simp at c
  have o0 : ∀ f i', [f_Md_slotType, f_Md_slotValue].elem f = false → slwS S k i ty v f i' = S f i' := fun f i' hf => slwS_o (by rintro rfl; exact absurd hf (by decide)) (by rintro rfl; exact absurd hf (by decide))
  have ne : hR h f_Thing_words (hB h (C + 51) k) ≠ hR h f_Thing_tags (hB h (C + 51) k) := fun c => absurd (G.2.1.2.1 _ _ _ _ ad ad oW oT c TB.2.2.1.1).1 (by decide)
  have fI : ∀ f x', hI (slwH h (hB h (C + 51) k) i x y) f x' = hI h f x' := fun _ _ => rfl
  have fR : ∀ f x', hR (slwH h (hB h (C + 51) k) i x y) f x' = hR h f x' := fun _ _ => rfl
  have fK : ∀ x', hK (slwH h (hB h (C + 51) k) i x y) x' = hK h x' := fun _ => rfl
  have fl : ∀ x', hl (slwH h (hB h (C + 51) k) i x y) x' = hl h x' := fun _ => rfl
  have fB : ∀ x' i', hB (slwH h (hB h (C + 51) k) i x y) x' i' = hB h x' i' := fun _ _ => rfl
  have wA : ∀ i', hA (slwH h (hB h (C + 51) k) i x y) (hR h f_Thing_words (hB h (C + 51) k)) i' = if i' = i then y else hA h (hR h f_Thing_words (hB h (C + 51) k)) i' := fun i' => by
    unfold slwH
    rw [g_hA_sA, if_neg (fun c => ne c.1), g_hA_sA]
    by_cases w : i' = i
    · rw [if_pos ⟨rfl, w⟩, if_pos w]
    · rw [if_neg (fun c => w c.2), if_neg w]
  have tA : ∀ i', hA (slwH h (hB h (C + 51) k) i x y) (hR h f_Thing_tags (hB h (C + 51) k)) i' = if i' = i then x else hA h (hR h f_Thing_tags (hB h (C + 51) k)) i' := fun i' => by
    unfold slwH
    rw [g_hA_sA]
    by_cases w : i' = i
    · rw [if_pos ⟨rfl, w⟩, if_pos w]
    · rw [if_neg (fun c => w c.2), if_neg w, g_hA_sA, if_neg (fun c => ne c.1.symm)]
  have sl : ∀ j i', slS (slwS S k i ty v) j i' = slS S j i' := slwS_sl
  have st : ∀ m, slwS S k i ty v f_Md_slotType m = if m = slS S k i then ty else S f_Md_slotType m := fun m => by
    unfold slwS
    rw [u2_f (by decide), u2_e]
    by_cases w : m = slS S k i
    · rw [if_pos ⟨rfl, w⟩, if_pos w]
    · rw [if_neg (fun c => w c.2), if_neg w]
  have sv : ∀ m, slwS S k i ty v f_Md_slotValue m = if m = slS S k i then v else S f_Md_slotValue m := fun m => by
    unfold slwS
    rw [u2_e]
    by_cases w : m = slS S k i
    · rw [if_pos ⟨rfl, w⟩, if_pos w]
    · rw [if_neg (fun c => w c.2), if_neg w, u2_f (by decide)]
  have eA : ACY S → ACY (slwS S k i ty v) := fun A => by
    refine A.ext ?_
    exact exs_of o0 (by decide)
  generalize eh2 : slwH h (hB h (C + 51) k) i x y = h2 at *
  generalize slwS S k i ty v = S1 at *
  have g : GRO Γ Γ h h2 C S S1 := GRO.fr (exs_of o0 (by decide)) G F fr (by unfold DJ; rfl) p0
  have kt : THC Γ h2 C ho S1 N := by
    refine THC.mod (k := k) q7 G F g fr (by unfold DJ; rfl) (fun q hq => by unfold PSW at hq; simp at hq; rcases hq with rfl | rfl <;> rfl) p0 hk (fun i _ => fB _ _) (exs_of o0 (by decide)) (fun j _ f hf => o0 f j ?_) (fun j hj hjt i' hi' f hf => ?_) (Int.le_of_eq (o0 _ _ (by decide)).symm) (Int.le_of_eq (o0 _ _ (by decide)).symm) eA (fun tn' sn' et es e51 e52 c8' T => ?_) (fun a9 j i j' i' h1 h2 h3 h4 h5 => ?_)
    · have : LTT.all (fun f => !([f_Md_slotType, f_Md_slotValue].elem f)) = true := by decide
      simpa using List.all_eq_true.mp this f (by simpa using hf)
    · have ns : ¬ slS S j i' = slS S k i := fun c => hj (c9 j i' k i (by omega) (by omega) hi' hi c).1
      by_cases w1 : f = f_Md_slotType
      · rw [w1, st, if_neg ns]
      · by_cases w2 : f = f_Md_slotValue
        · rw [w2, sv, if_neg ns]
        · exact o0 f _ (by simp [w1, w2])
    · have sne : sn' = sn := by omega
      subst sne
      have A2 := TA.keep g (e51 k) (fun f hf => o0 f k (by
        have : f = f_Md_thingKind ∨ f = f_Md_thingFunction ∨ f = f_Md_thingAround ∨ f = f_Md_thingClass := by simpa using hf
        rcases this with rfl | rfl | rfl | rfl <;> decide)) (fI _ _) (fun f _ => fR _ _) (fK _) (fr.lt ad) (fun i _ => fB _ _)
      have B2 : TB1 Γ h2 C S1 N k := by
        obtain ⟨b1, b2, b3, b4, b5, b6⟩ := TB
        unfold TB1
        rw [e51, o0 f_Md_thingCount k (by decide), o0 f_Md_thingFirst k (by decide), o0 f_Md_thingLast k (by decide), o0 f_Md_slots 0 (by decide), fI, fR, fR, fK, fK, fl, fl]
        refine ⟨b1, b2, b3, fun i' hi' => ?_, by rw [sl]; exact b5, fun i' hi' => by rw [sl, o0 f_Md_slotNext _ (by decide)]; exact b6 i' hi'⟩
        obtain ⟨z1, z2⟩ := b4 i' hi'
        rw [sl, wA, tA, st, sv]
        refine ⟨z1, ?_⟩
        by_cases w : i' = i
        · rw [if_pos w, if_pos w, if_pos (by rw [w]), if_pos (by rw [w])]
          exact g.vr V
        · have ns : ¬ slS S k i' = slS S k i := fun c => w (c9 k i' k i (by omega) (by omega) hi' hi c).2
          rw [if_neg w, if_neg w, if_neg ns, if_neg ns]
          exact g.vr z2
      have C2 : TC1 h2 C S1 sn' k := TC.keep (e51 k) (fun s _ => e52 s) (Nat.le_refl _) (fun f hf => o0 f k (by
        have : f = f_Md_thingKind ∨ f = f_Md_thingCount ∨ f = f_Md_thingShape := by simpa using hf
        rcases this with rfl | rfl | rfl <;> decide)) (fun i' _ => ⟨sl k i', o0 _ _ (by decide)⟩) (fun s _ f hf => o0 f s (by
        have : LSP.all (fun f => !([f_Md_slotType, f_Md_slotValue].elem f)) = true := by decide
        simpa using List.all_eq_true.mp this f (by simpa using hf))) (fun s hs => (c8 s hs).bef hs) (fR _ _)
      have D2 : TD1 h2 C S1 sn' k := TD.keep (e51 k) (fun s _ => e52 s) (fun f hf => o0 f k (by
        have : f = f_Md_thingKind ∨ f = f_Md_isWatched ∨ f = f_Md_epoch ∨ f = f_Md_changedAt := by simpa using hf
        rcases this with rfl | rfl | rfl | rfl <;> decide)) (Int.le_of_eq (o0 _ _ (by decide)).symm) (rooB_k (fun s hs => ⟨o0 _ _ (by decide), o0 _ _ (by decide)⟩)) (fun f _ => fI _ _) (fR _ _)
      exact TH1.mk A2 B2 C2 D2
    · rw [sl, sl] at h5
      rw [o0 _ _ (by decide)] at h3 h4
      exact a9 j i j' i' h1 h2 h3 h4 h5
  refine ⟨HC.mv (S' := S1) (X' := X) fr g (exs_of o0 (by decide)) EXX.rf p0 (by unfold DJ; rfl) (by unfold DJ; rfl) (by unfold DJ; rfl) (by unfold DJ; rfl) (exs_of o0 (by decide)) (Int.le_of_eq (o0 _ _ (by decide)).symm) (q2'.ext g (exs_of o0 (by decide)) EXX.rf (ac_len G fr (by decide) (by unfold DJ; rfl)) (ac_len G fr (by decide) (by unfold DJ; rfl)) (ac_len G fr (by decide) (by unfold DJ; rfl))) (q3.ext (C := C) G.2.1 g (exs_of o0 (by decide)) fr (by unfold DJ; rfl) (by unfold DJ; rfl) p0) (q4.ext g (exs_of o0 (by decide)) EXX.rf (ac_len G fr (by decide) (by unfold DJ; rfl)) (ac_len G fr (by decide) (by unfold DJ; rfl)) (ac_len G fr (by decide) (by unfold DJ; rfl))) (q5.ext (exs_of o0 (by decide)) EXX.rf (ac_len G fr (by decide) (by unfold DJ; rfl)) (ac_len G fr (by decide) (by unfold DJ; rfl)) (ac_len G fr (by decide) (by unfold DJ; rfl))) (q6.ext (exs_of o0 (by decide)) EXX.rf) kt (by unfold DJ; rfl), g, BND.fr G F (q7.thk G) (exs_of o0 (by decide)) fr (by unfold DJ; rfl) (by unfold DJ; rfl) p0, ?_⟩
  have wl : f_Thing_words + 1 ∈ LHc ∧ f_Thing_tags + 1 ∈ LHc := by decide
  refine (Fr.into (L := LHc) (P := []) Fr.r0 fr (fun f q => by cases q) (fun q hq => Or.inr (Or.inl ?_))).le (by omega) (by omega)
  unfold PSW at hq
  simp at hq
  rcases hq with rfl | rfl
  · exact ⟨Nat.le_of_ble_eq_true rfl, wl.1⟩
  · exact ⟨Nat.le_of_ble_eq_true rfl, wl.2⟩
end
