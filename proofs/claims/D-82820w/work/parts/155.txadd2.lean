/-! a text is made on both sides -/
set_option maxRecDepth 20000
/-- T's rows with the text -/
def mtS (S0 : SS) (tm mb am ab : Nat) (bs : List Int) : SS := tx1 (ntS S0 tm mb am ab bs.length) (69632 + mb) bs
section
variable {ρ : Nat → Nat} {d : Nat} {Q : QT} {Γ Γ' : GH} {h h1 h' h2 : ah} {C ho k n m o c x z s f i j p r a mn us l am ab sb mb tm t N : Nat} {X X' X1 X2 : X3} {Y : Y3} {S S' S0 S1 : SS} {L : List Nat} {P : List (Nat × Nat)} {v w ty y xx : Int} {bs cs : List Int}
theorem mtS_o (hf : [f_Md_textFrom, f_Md_textLength, f_Md_textSigns, f_Md_madeBytes, f_Md_madeTexts, f_Md_allTexts, f_Md_allBytes].elem f = false) : mtS S0 tm mb am ab bs f i = S0 f i := by
  have n : ∀ g, [f_Md_textFrom, f_Md_textLength, f_Md_textSigns, f_Md_madeBytes, f_Md_madeTexts, f_Md_allTexts, f_Md_allBytes].elem g = true → f ≠ g := by rintro g hg rfl; rw [hg] at hf; cases hf
  unfold mtS tx1
  rw [if_neg (fun c => n _ (by decide) c.1)]
  unfold ntS
  rw [u2_f (n _ (by decide)), u2_f (n _ (by decide)), u2_f (n _ (by decide)), u2_f (n _ (by decide)), u2_f (n _ (by decide)), u2_f (n _ (by decide))]
theorem mtS_1 : mtS S0 tm mb am ab bs f_Md_madeTexts 0 = ((tm + 1 : Nat) : Int) ∧ mtS S0 tm mb am ab bs f_Md_madeBytes 0 = ((mb + bs.length : Nat) : Int) ∧ mtS S0 tm mb am ab bs f_Md_allTexts 0 = ((am + 1 : Nat) : Int) ∧ mtS S0 tm mb am ab bs f_Md_allBytes 0 = ((ab + bs.length : Nat) : Int) := by
  unfold mtS tx1 ntS
  refine ⟨?_, ?_, ?_, ?_⟩
  · rw [if_neg (fun c => absurd c.1 (by decide)), u2_f (by decide), u2_f (by decide), u2_f (by decide), u2_s]
  · rw [if_neg (fun c => absurd c.1 (by decide)), u2_f (by decide), u2_f (by decide), u2_s]
  · rw [if_neg (fun c => absurd c.1 (by decide)), u2_f (by decide), u2_s]
  · rw [if_neg (fun c => absurd c.1 (by decide)), u2_s]
theorem mtS_f : mtS S0 tm mb am ab bs f_Md_textFrom i = (if i = 4000 + tm then ((69632 + mb : Nat) : Int) else S0 f_Md_textFrom i) ∧ mtS S0 tm mb am ab bs f_Md_textLength i = (if i = 4000 + tm then (bs.length : Int) else S0 f_Md_textLength i) := by
  unfold mtS tx1 ntS
  refine ⟨?_, ?_⟩
  · rw [if_neg (fun c => absurd c.1 (by decide)), u2_f (by decide), u2_f (by decide), u2_f (by decide), u2_f (by decide), u2_f (by decide), u2_e]
    by_cases q : i = 4000 + tm
    · rw [if_pos ⟨rfl, q⟩, if_pos q]
    · rw [if_neg (fun c => q c.2), if_neg q]
  · rw [if_neg (fun c => absurd c.1 (by decide)), u2_f (by decide), u2_f (by decide), u2_f (by decide), u2_f (by decide), u2_e]
    by_cases q : i = 4000 + tm
    · rw [if_pos ⟨rfl, q⟩, if_pos q]
    · rw [if_neg (fun c => q c.2), if_neg q, u2_f (by decide)]
theorem mtS_b : mtS S0 tm mb am ab bs f_Md_textSigns i = if 69632 + mb ≤ i ∧ i < 69632 + mb + bs.length then bs.getD (i - (69632 + mb)) 0 else S0 f_Md_textSigns i := by
  unfold mtS tx1
  by_cases q : 69632 + mb ≤ i ∧ i < 69632 + mb + bs.length
  · rw [if_pos ⟨rfl, q⟩, if_pos q]
  · rw [if_neg (fun c => q c.2), if_neg q]
    unfold ntS
    rw [u2_f (by decide), u2_f (by decide), u2_f (by decide), u2_f (by decide), u2_f (by decide), u2_f (by decide)]
/-- C's rows with the text -/
theorem JND.rows (J : JND h C X mn us am ab bs h' X') : (X' 46 f_Texts_many 0 = ((mn + 1 : Nat) : Int) ∧ X' 46 f_Texts_used 0 = ((us + bs.length : Nat) : Int) ∧ X' 46 f_Texts_made 0 = ((am + 1 : Nat) : Int) ∧ X' 46 f_Texts_bytesMade 0 = ((ab + bs.length : Nat) : Int)) ∧ (X' 46 f_Texts_from mn = (us : Int) ∧ X' 46 f_Texts_size mn = (bs.length : Int)) ∧ (∀ i, i < mn → X' 46 f_Texts_from i = X 46 f_Texts_from i ∧ X' 46 f_Texts_size i = X 46 f_Texts_size i) ∧ (∀ i, i < us → X' 46 f_Texts_bytes i = X 46 f_Texts_bytes i) ∧ (∀ i, i < bs.length → X' 46 f_Texts_bytes (us + i) = bs.getD i 0) := by
  obtain ⟨h1, X1, X2, A, B, -, rfl⟩ := J
  obtain ⟨-, -, -, -, b5, b6, b7⟩ := B
  have a9 := A.2.2.2.2.2.2.2.2
  refine ⟨⟨?_, ?_, ?_, ?_⟩, ⟨?_, ?_⟩, fun i hi => ⟨?_, ?_⟩, fun i hi => ?_, fun i hi => ?_⟩
  · unfold taX; rw [u3_s]
  · unfold taX; rw [u3_f (by decide), u3_s]
  · unfold taX; rw [u3_f (by decide), u3_f (by decide), u3_f (by decide), u3_f (by decide), txA_o (by decide), b5 _ _ _ (fun c => absurd c.2 (by decide))]
    unfold mkX; rw [u3_f (by decide), u3_s]
  · unfold taX; rw [u3_f (by decide), u3_f (by decide), u3_f (by decide), u3_f (by decide), txA_o (by decide), b5 _ _ _ (fun c => absurd c.2 (by decide))]
    unfold mkX; rw [u3_s]
  · unfold taX; rw [u3_f (by decide), u3_f (by decide), u3_f (by decide), u3_s]
  · unfold taX; rw [u3_f (by decide), u3_f (by decide), u3_s]
  · unfold taX; rw [u3_f (by decide), u3_f (by decide), u3_f (by decide), u3_e, if_neg (fun c => by have := c.2.2; omega), txA_o (by decide), (b6 i hi).1]
    unfold mkX; rw [u3_f (by decide), u3_f (by decide), a9 _ _ _ (by decide), u3_f (by decide)]
  · unfold taX; rw [u3_f (by decide), u3_f (by decide), u3_e, if_neg (fun c => by have := c.2.2; omega), u3_f (by decide), txA_o (by decide), (b6 i hi).2]
    unfold mkX; rw [u3_f (by decide), u3_f (by decide), a9 _ _ _ (by decide), u3_f (by decide)]
  · unfold taX; rw [u3_f (by decide), u3_f (by decide), u3_f (by decide), u3_f (by decide)]
    unfold txA; rw [if_neg (fun c => by have := c.2.2.1; omega), b7 i hi]
    unfold mkX; rw [u3_f (by decide), u3_f (by decide), a9 _ _ _ (by decide), u3_f (by decide)]
  · unfold taX; rw [u3_f (by decide), u3_f (by decide), u3_f (by decide), u3_f (by decide)]
    unfold txA; rw [if_pos ⟨rfl, rfl, by omega, by omega⟩]
    congr 1; omega
theorem gadd_n (hi : i ≠ x) : gtn (gadd Γ x mn) i = gtn Γ i := if_neg hi
theorem gadd_s : gtn (gadd Γ x mn) x = mn := if_pos rfl
theorem TXK.add (K : TXK Γ h C X S mn us sb mb tm am ab) (rm : am < 12000 ∧ ab + bs.length ≤ 200000) (rg : ∀ i, i < bs.length → -128 ≤ bs.getD i 0 ∧ bs.getD i 0 ≤ 127) (J : JND h C X mn us am ab bs h' X') (o0 : ∀ f i, [f_Md_spelt, f_Md_spelling].elem f = false → S0 f i = S f i) : TXK (gadd Γ (4000 + tm) mn) h' C X' (mtS S0 tm mb am ab bs) (mn + 1) (us + bs.length) sb (mb + bs.length) (tm + 1) (am + 1) (ab + bs.length) := by
  obtain ⟨j1, ⟨j2, j3⟩, j4, j5, j6⟩ := J.rows
  obtain ⟨-, -, -, -, -, tg, -⟩ := J
  obtain ⟨m1, m2, m3, m4⟩ := mtS_1 (S0 := S0) (tm := tm) (mb := mb) (am := am) (ab := ab) (bs := bs)
  obtain ⟨k1, ⟨k2, k3, k4, k5, k6⟩, ⟨k7, k8, k9, k10, k11⟩, ⟨k12, k13⟩, k14, ⟨k15, k16⟩, tx⟩ := K
  have es : mtS S0 tm mb am ab bs f_Md_sourceTexts 0 = S f_Md_sourceTexts 0 := by rw [mtS_o (by decide), o0 _ _ (by decide)]
  refine ⟨j1, ⟨by rw [mtS_o (by decide), o0 _ _ (by decide)]; exact k2, m2, m1, m3, m4⟩, ⟨k7, by omega, by omega, by omega, by omega⟩, by rw [es]; exact ⟨k12, k13⟩, tg, ⟨by omega, by omega⟩, fun x hx => ?_⟩
  by_cases q : x = 4000 + tm
  · subst q
    refine ⟨69632 + mb, bs.length, us, by rw [mtS_f.1, if_pos rfl], by rw [mtS_f.2, if_pos rfl], by rw [gadd_s]; exact j2, by rw [gadd_s]; exact j3, by rw [gadd_s]; omega, by omega, fun i hi => ?_, Or.inr ⟨by omega, by omega, by omega⟩⟩
    rw [mtS_b, if_pos ⟨by omega, by omega⟩, Nat.add_sub_cancel_left, j6 i hi]
    exact ⟨rfl, rg i hi⟩
  · have hx' : txO S x := by
      unfold txO at hx ⊢
      rw [es, m1] at hx
      rw [k4]
      rcases hx with w | w
      · exact Or.inl w
      · exact Or.inr ⟨w.1, by omega⟩
    obtain ⟨a, n, b, e1, e2, e3, e4, e5, e6, e7, e8⟩ := tx x hx'
    refine ⟨a, n, b, by rw [mtS_f.1, if_neg q, o0 _ _ (by decide)]; exact e1, by rw [mtS_f.2, if_neg q, o0 _ _ (by decide)]; exact e2, by rw [gadd_n q, (j4 _ e5).1]; exact e3, by rw [gadd_n q, (j4 _ e5).2]; exact e4, by rw [gadd_n q]; omega, by omega, fun i hi => ?_, by omega⟩
    rw [mtS_b, if_neg (by omega), o0 _ _ (by decide), j5 _ (by omega)]
    exact e7 i hi
/-- a text is made on both sides, all else stays -/
theorem CORE.mkt (H : CORE Γ h C ho X Y S N) (K : TXK Γ h C X S mn us sb mb tm am ab) (rm : am < 12000 ∧ ab + bs.length ≤ 200000) (rg : ∀ i, i < bs.length → -128 ≤ bs.getD i 0 ∧ bs.getD i 0 ≤ 127) (J : JND h C X mn us am ab bs h' X') (o0 : ∀ f i, [f_Md_spelt, f_Md_spelling].elem f = false → S0 f i = S f i) : ∃ z s, (CORE (gadd Γ (4000 + tm) mn) h' C ho X' Y (mtS S0 tm mb am ab bs) N ∧ ∀ {t o n c r : Nat}, CT Γ h C X Y S N t o n c r → CT (gadd Γ (4000 + tm) mn) h' C X' Y (mtS S0 tm mb am ab bs) N t o n c r) ∧ GRO Γ (gadd Γ (4000 + tm) mn) h h' C S (mtS S0 tm mb am ab bs) ∧ BND h C S h' (mtS S0 tm mb am ab bs) 0 0 ∧ NSc S (mtS S0 tm mb am ab bs) ∧ NXc X X' ∧ Fr LHc [] z s h h' ∧ VR (gadd Γ (4000 + tm) mn) (mtS S0 tm mb am ab bs) N 3 (mn : Int) 3 ((4000 + tm : Nat) : Int) := by
  have J0 := J
  obtain ⟨h1, X1, X2, A, B, tg, e⟩ := J
  have ⟨G, F⟩ := H.1
  have K2 := K.add rm rg J0 o0
  obtain ⟨z1, s1, f1⟩ := A.2.2.1
  obtain ⟨z2, s2, f2⟩ := B.2.2.1
  have fr : Fr LTP [] (z1 + z2) (s1 + s2) h h' := by
    refine (f1.mono (L' := LTP) (P' := []) (fun f hf => ?_) (fun q hq => by cases hq)).trans (f2.mono (fun f hf => ?_) (fun q hq => by cases hq))
    · unfold LTP
      rcases List.mem_append.mp hf with w | w
      · exact List.mem_append_left _ w
      · refine List.mem_append_right _ ?_
        simp only [List.mem_cons, List.not_mem_nil, or_false] at w ⊢
        exact Or.inl w
    · unfold LTP
      rcases List.mem_append.mp hf with w | w
      · exact List.mem_append_left _ w
      · exact List.mem_append_right _ (List.mem_cons_of_mem _ w)
  have o1 : ∀ f i, LXS2.elem f = false → mtS S0 tm mb am ab bs f i = S f i := fun f i hf => by
    have n : ∀ L : List Nat, (L.all fun f => LXS2.elem f) = true → L.elem f = false := fun L q => by
      cases w : L.elem f with
      | false => rfl
      | true => rw [List.all_eq_true.mp q f (by simpa using w)] at hf; cases hf
    rw [mtS_o (n _ (by decide)), o0 _ _ (n _ (by decide))]
  have x1 : ∀ o f i, LXX2.elem f = false → X' o f i = X o f i := fun o f i hf => by
    have n : ∀ L : List Nat, (L.all fun f => LXX2.elem f) = true → L.elem f = false := fun L q => by
      cases w : L.elem f with
      | false => rfl
      | true => rw [List.all_eq_true.mp q f (by simpa using w)] at hf; cases hf
    exact J0.oo (n _ (by decide)) (n _ (by decide))
  have sr : SRC S (u2 (mtS S0 tm mb am ab bs) f_Md_madeTexts 0 (tm : Int)) := by
    refine ⟨fun x hx => ?_, fun j hj => ?_⟩
    · rw [u2_f (by decide), u2_f (by decide)]
      unfold mtS tx1 ntS
      rw [if_neg (fun c => absurd c.1 (by decide)), if_neg (fun c => absurd c.1 (by decide)), u2_f (by decide), u2_f (by decide), u2_f (by decide), u2_f (by decide), u2_f (by decide), u2_e, if_neg (by omega), u2_f (by decide), u2_f (by decide), u2_f (by decide), u2_f (by decide), u2_e, if_neg (by omega), u2_f (by decide), o0 _ _ (by decide), o0 _ _ (by decide)]
      exact ⟨rfl, rfl⟩
    · rw [u2_f (by decide)]
      unfold mtS tx1 ntS
      rw [if_neg (by omega), u2_f (by decide), u2_f (by decide), u2_f (by decide), u2_f (by decide), u2_f (by decide), u2_f (by decide), o0 _ _ (by decide)]
  have g0 : GRO Γ Γ h h' C S (u2 (mtS S0 tm mb am ab bs) f_Md_madeTexts 0 (tm : Int)) := by
    refine GRO.frs sr (fun f hf i => ?_) G F fr (by unfold DJ; decide) (by simp)
    by_cases q : f = f_Md_madeTexts
    · subst q
      rw [u2_e]
      by_cases q2 : i = 0
      · rw [if_pos ⟨rfl, q2⟩, q2, K.2.1.2.2.1]
      · rw [if_neg (fun c => q2 c.2)]
        unfold mtS tx1 ntS
        rw [if_neg (fun c => absurd c.1 (by decide)), u2_f (by decide), u2_f (by decide), u2_f (by decide), u2_e, if_neg (fun c => q2 c.2), u2_f (by decide), u2_f (by decide), o0 _ _ (by decide)]
    · rw [u2_f q]
      refine o1 f i ?_
      have : f = f_Md_functions ∨ f = f_Md_codeSize ∨ f = f_Md_calls ∨ f = f_Md_things ∨ f = f_Md_thingKind ∨ f = f_Md_sourceTexts ∨ f = f_Md_madeTexts := by simpa using hf
      rcases this with rfl | rfl | rfl | rfl | rfl | rfl | rfl
      all_goals first | decide | exact absurd rfl q
  have g : GRO Γ (gadd Γ (4000 + tm) mn) h h' C S (mtS S0 tm mb am ab bs) := by
    obtain ⟨⟨a1, a2⟩, ⟨b1, b2⟩, ⟨c1, c2⟩, ⟨d1, d2, d3, d4⟩⟩ := g0
    rw [u2_f (by decide)] at a1 b1 c1 d1
    refine ⟨⟨a1, fun i hi => ?_⟩, ⟨b1, fun i hi => b2 i hi⟩, ⟨c1, fun i hi => ?_⟩, ⟨d1, ?_, fun i hi => ?_, fun x hx => ?_, fun j hj => ?_⟩⟩
    · have := a2 i hi
      rw [u2_f (by decide)] at this; exact this
    · have := c2 i hi
      rw [u2_f (by decide)] at this; exact this
    · rw [mtS_1.1, K.2.1.2.2.1]; omega
    · refine gadd_n ?_
      have k13 := K.2.2.2.1.2
      have k4 := K.2.1.2.2.1
      unfold txO at hi
      omega
    · have := d4.1 x hx
      rw [u2_f (by decide), u2_f (by decide)] at this
      exact this
    · have := d4.2 j hj
      rw [u2_f (by decide)] at this
      exact this
  obtain ⟨-, -, -, -, pl⟩ := A.ok |> fun ⟨a, b, c, d⟩ => (⟨a, b, c, d, trivial⟩ : _ ∧ _ ∧ _ ∧ _ ∧ True)
  have pl1 := A.2.2.2.2.1
  have pl2 : PRL h' C (0 + bs.length) := by
    have l := ac_len A.1 f2 (f := f_Machine_print) (o := 32) (by decide) (by unfold DJ; decide)
    unfold PRL
    rw [l]; exact pl1
  obtain ⟨M1, M2, M3, M4, M5⟩ := H.txs (S' := mtS S0 tm mb am ab bs) (X' := X') B.1 B.2.1 fr (A.2.2.2.1.tr B.2.2.2.1) g o1 x1 K2.cc pl2
  refine ⟨_, _, M1, g, M2, M3, M4, M5, rfl, ?_, Or.inr (Or.inr (Or.inr (Or.inl ⟨rfl, by omega, Or.inr ⟨by omega, ?_⟩⟩)))⟩
  · unfold cw; rw [if_pos rfl, Int.toNat_natCast, gadd_s]
  · rw [Int.toNat_natCast, mtS_1.1]; omega
end
