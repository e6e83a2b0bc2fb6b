/-! C: chains of entries; entries stay -/
set_option maxRecDepth 20000
def hdO (l : List Nat) (t : Nat) : Nat := match l with
  | [] => t
  | y :: _ => y
/-- entries one behind the other, t behind the last -/
def NXL (h : ah) (t : Nat) : List Nat → Prop
  | [] => True
  | x :: l => hR h f_Entry_next x = hdO l t ∧ NXL h t l
def LEE : List Nat := [f_Entry_linker, f_Entry_action, f_Entry_place, f_Entry_element, f_Entry_ticks, f_Entry_isText, f_Entry_operands, f_Entry_holder, f_Entry_to, f_Entry_code, f_Entry_shape, f_Entry_type, f_Entry_member, f_Entry_classes]
def LEE1 : List Nat := [f_Entry_classes + 1]
section
variable {ρ : Nat → Nat} {P : ah → Nat → Prop} {d : Nat} {Q : QT} {Γ : GH} {h h' h0 : ah} {C ho T k n m f i j N M b a rr mn sn tn row e t z s : Nat} {S S' S1 S2 SX : SS} {X : X3} {Y : Y3} {g : HG} {v p x y nm ty κ hd w La bv el : Int} {r : ENT} {A B l : List Nat} {L : List Nat} {Pp : List (Nat × Nat)}
theorem hdO_app : hdO (A ++ B) t = hdO A (hdO B t) := by cases A <;> rfl
theorem NXL_app : NXL h t (A ++ B) ↔ NXL h (hdO B t) A ∧ NXL h t B := by
  induction A with
  | nil => exact ⟨fun z => ⟨trivial, z⟩, fun z => z.2⟩
  | cons x l ih =>
    show (hR h f_Entry_next x = hdO (l ++ B) t ∧ NXL h t (l ++ B)) ↔ (hR h f_Entry_next x = hdO l (hdO B t) ∧ NXL h (hdO B t) l) ∧ NXL h t B
    rw [ih, hdO_app]
    exact ⟨fun z => ⟨⟨z.1, z.2.1⟩, z.2.2⟩, fun z => ⟨z.1.1, z.1.2, z.2⟩⟩
theorem NXL.fr (H : NXL h t A) (e : ∀ x, x ∈ A → hR h' f_Entry_next x = hR h f_Entry_next x) : NXL h' t A := by
  induction A with
  | nil => exact trivial
  | cons x l ih => exact ⟨by rw [e x (List.mem_cons_self ..)]; exact H.1, ih H.2 (fun y hy => e y (List.mem_cons_of_mem _ hy))⟩
/-- the last of a chain goes on elsewhere -/
theorem NXL.last (H : NXL h t (A ++ [k])) (nk : k ∉ A) (b : Nat) : NXL (sR h f_Entry_next k b) b (A ++ [k]) := by
  rw [NXL_app] at H ⊢
  refine ⟨?_, ?_, trivial⟩
  · have h1 : NXL h k A := H.1
    have h2 : NXL (sR h f_Entry_next k b) k A := h1.fr (fun x hx => R_Rne' (fun c => nk (by rw [← c]; exact hx)))
    exact h2
  · exact R_R ..
/-- what an entry leans on stays -/
def EKP (h : ah) (C ho : Nat) (S : SS) (N M : Nat) (h' : ah) (S' : SS) : Prop := (∀ k : Nat, (k : Int) < S f_Md_things 0 → hB h' (C + 51) k = hB h (C + 51) k) ∧ (∀ k : Nat, (k : Int) < S f_Md_shapes 0 → hB h' (C + 52) k = hB h (C + 52) k) ∧ (∀ k : Nat, (k : Int) < S f_Md_functions 0 → hB h' (C + 56) k = hB h (C + 56) k) ∧ (∀ k, k < N → hB h' (ho + 2) k = hB h (ho + 2) k) ∧ (∀ k, k < M → hB h' (ho + 3) k = hB h (ho + 3) k) ∧ S f_Md_things 0 ≤ S' f_Md_things 0 ∧ S f_Md_shapes 0 ≤ S' f_Md_shapes 0 ∧ S f_Md_functions 0 ≤ S' f_Md_functions 0 ∧ (∀ k : Nat, (k : Int) < S f_Md_things 0 → S' f_Md_thingKind k = S f_Md_thingKind k)
theorem EKP.pra (K : EKP h C ho S N M h' S') (hp : PVL S p) : prA h' C p = prA h C p := by
  unfold prA
  by_cases w : p < 0
  · rw [if_pos w, if_pos w]
  · rw [if_neg w, if_neg w]
    rcases hp with c | ⟨c1, c2, -⟩
    · omega
    · exact K.1 _ (by omega)
theorem EKP.pvl (K : EKP h C ho S N M h' S') (hp : PVL S p) : PVL S' p := by
  rcases hp with c | ⟨c1, c2, c3⟩
  · exact Or.inl c
  · exact Or.inr ⟨c1, by have := K.2.2.2.2.2.1; omega, by rw [K.2.2.2.2.2.2.2.2 _ (by omega)]; exact c3⟩
theorem ENO.ext (E : ENO g h C ho S N M κ nm mn e r) (G : INJ h) (K : EKP h C ho S N M h' S') (fr : Fr L Pp z s h h') (d1 : DJ LEE L Pp) (d2 : DJ LEE1 L Pp) (p0 : ∀ y, (0, y) ∉ Pp) : ENO g h' C ho S' N M κ nm mn e r := by
  obtain ⟨⟨k1, k2, k3⟩, e1, l03, e2, e3, e4, e5, ez⟩ := E
  have I : ∀ f, LEE.elem f = true → 5 ≤ f → hI h' f e = hI h f e := fun f hf h5 => fr.I k2 h5 (d1.w hf)
  have R : ∀ f, LEE.elem f = true → 5 ≤ f → hR h' f e = hR h f e := fun f hf h5 => fr.R k2 h5 (d1.w hf)
  have oC : own f_Entry_classes := by unfold own; decide
  refine ⟨⟨by rw [fr.K k2]; exact k1, fr.lt k2, k3⟩, by rw [I _ (by decide) (by decide)]; exact e1, l03, by rw [I _ (by decide) (by decide)]; exact e2, fun l0 => ?_, fun l3 => ?_, fun l12 => ?_, fun z => by rw [R _ (by decide) (by decide), R _ (by decide) (by decide)]; exact ez.1 z, fun z => by rw [R _ (by decide) (by decide)]; exact ez.2 z⟩
  · obtain ⟨b1, b2, b2', b3, b4, b5, b6, b7, b8, b9⟩ := e3 l0
    refine ⟨by rw [I _ (by decide) (by decide)]; exact b1, by rw [I _ (by decide) (by decide)]; exact b2, b2', by rw [R _ (by decide) (by decide), K.pra b4]; exact b3, K.pvl b4, ?_, by have := K.2.2.2.2.2.2.1; omega, by rw [I _ (by decide) (by decide)]; exact b7, fun z => ?_, fun z => ?_⟩
    · rw [R _ (by decide) (by decide), b5]
      unfold crA
      by_cases w : r f_Md_toShape < 0
      · rw [if_pos w, if_pos w]
      · rw [if_neg w, if_neg w, K.2.1 _ (by omega)]
    · obtain ⟨f1, f2, f3⟩ := b8 z
      exact ⟨f1, by have := K.2.2.2.2.2.2.2.1; omega, by rw [R _ (by decide) (by decide), K.2.2.1 _ (by omega)]; exact f3⟩
    · obtain ⟨f1, f2, f3, f4⟩ := b9 z
      exact ⟨by rw [R _ (by decide) (by decide)]; exact f1, f2, by have := K.2.2.2.2.2.2.1; omega, by rw [R _ (by decide) (by decide), K.2.1 _ (by omega)]; exact f4⟩
  · obtain ⟨f1, f2⟩ := e4 l3
    exact ⟨by rw [I _ (by decide) (by decide)]; exact f1, f2⟩
  · obtain ⟨f1, f2, f3, f4, f5⟩ := e5 l12
    refine ⟨f1, by rw [R _ (by decide) (by decide), K.2.2.2.1 _ (by omega)]; exact f2, f3, by rw [R _ (by decide) (by decide), K.2.2.2.2.1 _ (by omega)]; exact f4, ?_⟩
    rcases f5 with ⟨o1, o2⟩ | ⟨o1, o2, o3, ⟨o4, o5, o6⟩, o7⟩
    · exact Or.inl ⟨by rw [I _ (by decide) (by decide)]; exact o1, o2⟩
    · have sc := fr.ar G oC k2 rfl o4 (fun c => c.elim (d1.w (by decide)) (d2.w (by decide))) (p0 _)
      have lC := G.1 _ _ k2 oC
      have rc := R f_Entry_classes (by decide) (by decide)
      refine Or.inr ⟨by rw [I _ (by decide) (by decide)]; exact o1, o2, o3, ⟨by rw [rc]; exact o4, by rw [rc, fr.K lC]; exact o5, by rw [rc, sc.1]; exact o6⟩, fun i hi => ?_⟩
      rw [rc, sc.2.1]; exact o7 i hi
end
