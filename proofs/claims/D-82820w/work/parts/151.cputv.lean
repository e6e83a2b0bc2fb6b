/-! C: a value is printed -/
set_option maxRecDepth 20000
/-- what a value of C prints -/
def CVB (h : ah) (C : Nat) (X : X3) (ty y : Int) (bs : List Int) : Prop := (∀ i, i < bs.length → -128 ≤ bs.getD i 0 ∧ bs.getD i 0 ≤ 127) ∧ ((ty = 3 ∧ ∃ x a : Nat, y = (x : Int) ∧ x < hl h (hR h f_Texts_size (C + 46)) ∧ x < hl h (hR h f_Texts_from (C + 46)) ∧ X 46 f_Texts_from x = (a : Int) ∧ X 46 f_Texts_size x = (bs.length : Int) ∧ a + bs.length ≤ hl h (hR h f_Texts_bytes (C + 46)) ∧ x ≤ 1000000 ∧ a + bs.length ≤ 1000000 ∧ ∀ i, i < bs.length → X 46 f_Texts_bytes (a + i) = bs.getD i 0) ∨ (ty ≠ 3 ∧ (ty = 0 ∨ ty = 1 ∨ ty = 2 ∨ ty = 4 ∨ ty = 5 ∨ ty = 6) ∧ bs = cvL ty y ∧ bs.length ≤ 20 ∧ (ty = 2 → -9223372036854775808 ≤ y ∧ y < 9223372036854775808)))
section
variable {ρ : Nat → Nat} {d : Nat} {Q : QT} {h h1 h' h2 : ah} {C k n m o c x z s f i j p r a mn us l am ab : Nat} {X X' X1 X2 : X3} {Y : Y3} {L : List Nat} {P : List (Nat × Nat)} {v w ty y : Int} {bs cs : List Int}
theorem CVB.put (H : CVB h C X ty y bs) (G : AC h C) (A : PUT h C X p cs h' X') : CVB h' C X' ty y bs := by
  obtain ⟨z, s, fr⟩ := A.2.2.1
  have l1 := ac_len G fr (f := f_Texts_size) (o := 46) (by decide) (by unfold DJ; decide)
  have l2 := ac_len G fr (f := f_Texts_from) (o := 46) (by decide) (by unfold DJ; decide)
  have l3 := ac_len G fr (f := f_Texts_bytes) (o := 46) (by decide) (by unfold DJ; decide)
  have ex := A.2.2.2.2.2.2.2.2
  refine ⟨H.1, ?_⟩
  rcases H.2 with ⟨a1, x, a, a2, a3, a4, a5, a6, a7, a8, a9, a10⟩ | q
  · refine Or.inl ⟨a1, x, a, a2, by rw [l1]; exact a3, by rw [l2]; exact a4, by rw [ex _ _ _ (by decide)]; exact a5, by rw [ex _ _ _ (by decide)]; exact a6, by rw [l3]; exact a7, a8, a9, fun i hi => by rw [ex _ _ _ (by decide)]; exact a10 i hi⟩
  · exact Or.inr q
theorem CVB.u (H : CVB h C X ty y bs) (hf : f = f_Machine_printed) : CVB h C (u3 X o f i v) ty y bs := by
  subst hf
  refine ⟨H.1, ?_⟩
  rcases H.2 with ⟨a1, x, a, a2, a3, a4, a5, a6, a7, a8, a9, a10⟩ | q
  · exact Or.inl ⟨a1, x, a, a2, a3, a4, by rw [u3_f (by decide)]; exact a5, by rw [u3_f (by decide)]; exact a6, a7, a8, a9, fun i hi => by rw [u3_f (by decide)]; exact a10 i hi⟩
  · exact Or.inr q
theorem txB_e (hb : ∀ i, i < bs.length → X 46 f_Texts_bytes (a + i) = bs.getD i 0) : txB X a bs.length = bs := by
  refine List.ext_getElem (by rw [txB_len]) (fun i h1 h2 => ?_)
  have := txB_g (X := X) (a := a) (i := i) (n := bs.length) h2
  rw [hb i h2, List.getD_eq_getElem?_getD, List.getD_eq_getElem?_getD, List.getElem?_eq_getElem h1, List.getElem?_eq_getElem h2] at this
  exact this
/-- a value is printed -/
theorem r_putValue (G : AC h C) (F : FC h C) (K : STM ρ h) (e : X 32 f_Machine_printed 0 = (p : Int)) (pl : PRL h C p) (B : CVB h C X ty y bs) (hp : p + bs.length ≤ 200020) (hd : 12 ≤ d) (q : ∀ h' X', PUT h C X p bs h' X' → Q (Sum.inl none) (cc h' C X' Y)) : wpB PGm ρ (d + 1) m_Machine_putValue 0 [(0, vR (C + 32)), (1, vI ty), (2, vL y)] [] (cc h C X Y) Q := by
  obtain ⟨rg, B⟩ := B
  have kM : hK (cc h C X Y) (C + 32) = k_Machine := F.1.1
  obtain ⟨d', rfl⟩ : ∃ d', d = d' + 1 := ⟨d - 1, by omega⟩
  have pt : ∀ {r : Nat}, SOK h r bs → ∀ {E}, wpB PGm ρ (d' + 1) m_Machine_put_2 0 [(0, vR (C + 32)), (1, vR r)] [] (cc h C X Y) (cV (fun h7 => Q (Sum.inl none) h7) E) := fun {r} sk {E} => r_puts G F e pl sk rg (by omega) (by omega) q
  refine b_Machine_putValue_0 (by omega) ?_
  rcases B with ⟨t3, x, a, a2, a3, a4, a5, a6, a7, a8, a9, a10⟩ | ⟨n3, tc, eb, b20, rn⟩
  · subst t3
    have w1 : w32 y = (x : Int) := by rw [a2]; exact w32_of (by omega) (by omega)
    refine ⟨fun z => absurd z (by decide), fun _ => ⟨fun z => absurd z (by decide), fun _ => ⟨fun z => absurd z (by decide), fun _ => ⟨fun _ => ?_, fun z => absurd rfl z⟩⟩⟩⟩
    rw [w1]
    refine r_putText (a := a) (n := bs.length) G F e pl ⟨a3, a4⟩ a5 a6 a7 a9 (fun i hi => by rw [a10 i hi]; exact rg i hi) (by omega) (by omega) (fun h' X' A => q h' X' ?_)
    rw [txB_e a10] at A
    exact A
  · rcases tc with rfl | rfl | rfl | rfl | rfl | rfl
    · refine ⟨fun _ => ⟨kM, pt ?_⟩, fun z => absurd rfl z⟩
      have : cvL 0 y = [110, 117, 108, 108] := rfl
      rw [eb, this]; exact K.g (by decide)
    · refine ⟨fun z => absurd z (by decide), fun _ => ⟨fun _ => ⟨fun z => b_Machine_putValue_73 ⟨kM, pt ?_⟩, fun z => b_Machine_putValue_73 ⟨kM, pt ?_⟩⟩, fun z => absurd rfl z⟩⟩
      · have y0 : ¬ y = 0 := fun c => by subst c; exact absurd z (by decide)
        rw [eb]; unfold cvL; rw [if_neg (by decide), if_pos rfl, if_neg y0]; exact K.g (by decide)
      · have y0 : y = 0 := Classical.byContradiction fun c => by
          revert z; split
          · decide
          · decide
        rw [eb]; unfold cvL; rw [if_neg (by decide), if_pos rfl, if_pos y0]; exact K.g (by decide)
    · refine ⟨fun z => absurd z (by decide), fun _ => ⟨fun z => absurd z (by decide), fun _ => ⟨fun _ => ⟨kM, ?_⟩, fun z => absurd rfl z⟩⟩⟩
      have e3 : nuL y = bs := by rw [eb]; unfold cvL; rw [if_neg (by decide), if_neg (by decide), if_pos rfl]
      exact r_putNumber (rn rfl) G F e pl (by omega) (by omega) (by rw [e3]; exact q)
    · refine ⟨fun z => absurd z (by decide), fun _ => ⟨fun z => absurd z (by decide), fun _ => ⟨fun z => absurd z (by decide), fun _ => ⟨fun z => absurd z (by decide), fun _ => ⟨fun _ => ⟨kM, pt ?_⟩, fun z => absurd rfl z⟩⟩⟩⟩⟩
      have : cvL 4 y = [123, 125] := rfl
      rw [eb, this]; exact K.g (by decide)
    · refine ⟨fun z => absurd z (by decide), fun _ => ⟨fun z => absurd z (by decide), fun _ => ⟨fun z => absurd z (by decide), fun _ => ⟨fun z => absurd z (by decide), fun _ => ⟨fun z => absurd z (by decide), fun _ => ⟨fun _ => ⟨kM, pt ?_⟩, fun z => absurd rfl z⟩⟩⟩⟩⟩⟩
      have : cvL 5 y = [102, 117, 110] := rfl
      rw [eb, this]; exact K.g (by decide)
    · refine ⟨fun z => absurd z (by decide), fun _ => ⟨fun z => absurd z (by decide), fun _ => ⟨fun z => absurd z (by decide), fun _ => ⟨fun z => absurd z (by decide), fun _ => ⟨fun z => absurd z (by decide), fun _ => ⟨fun z => absurd z (by decide), fun _ => ⟨fun _ => ⟨kM, pt ?_⟩, fun z => absurd rfl z⟩⟩⟩⟩⟩⟩⟩
      have : cvL 6 y = [91, 93] := rfl
      rw [eb, this]; exact K.g (by decide)
end
