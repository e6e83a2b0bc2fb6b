/-! C: a new instance -/
set_option maxRecDepth 20000
section
variable {ρ : Nat → Nat} {d : Nat} {Q : QT} {Γ Γ' : GH} {h h' h1 h2 H H1 : ah} {C ho k i j N M a z s r f o c t n m mn m0 rr l1 l2 la p E mk tn : Nat} {g : HG} {v w hd ty κ x y : Int} {S S' S1 S2 : SS} {X X' X1 X2 : X3} {Y Y' Y1 Y2 : Y3} {hw : List (List Int)} {e : Option Int} {tyv : Nat → Int} {FR : Nat → ah → Prop} {EE : Nat → ah → Prop}
theorem r_lay (HC : CORE Γ h C ho X Y S N) (U : HUS ρ Γ h ho S g N M hw) (hc : c < N) (q : ∀ H a, LYR ρ Γ h C ho X Y S g N M hw H → LYA H ho a (layG g c) → FR a (cc H C X Y)) : wpB PGm ρ (d + 11) m_HostType_layout 0 [(0, vR (hB h (ho + 2) c))] [] (cc h C X Y) (cR FR EE) := by
  have G := HC.1.1
  have F0 := HC.1.2
  obtain ⟨H0, V, LM, ⟨W, W2⟩, l4⟩ := U
  have hh := H0.hh
  obtain ⟨b2, b3⟩ := H0.ccB (X := X) (Y := Y) G
  have HX := H0.ccx (X := X) (Y := Y) G
  have LX := LM.ccx (X := X) (Y := Y) H0 G
  have ijc : INJ (cc h C X Y) := cc_INJ G.2.1
  rw [← b2]
  refine c_layout W W2 HX LX ijc hc (fun h' a J ea A => ?_)
  have LM' : LYM h' ho g N := J.lym HX LX ijc hc (by rw [ea]; exact A)
  have e2 : ∀ j, hB h' (ho + 2) j = hB h (ho + 2) j := fun j => by
    rw [(J.old _ hh.2.2.2.2.2.1.2.2).2.2.2.2.2.1, b2]
  have rl : ∀ x, hR (cc h C X Y) f_HostType_layout x = hR h f_HostType_layout x := fun x => ccRo (by decide)
  have fin : ∀ (e z s : Nat), AC h' C → cc h' C X Y = h' → Fr LLC [] z s h h' → (z : Int) ≤ e → (s : Int) ≤ ((400 * e : Nat) : Int) → lyc h' ho N = lyc h ho N + e → FR a h' := fun e z s G2 E2 R z1 s1 ly => by
    obtain ⟨M1, g1, bd⟩ := HC.lay R
    have HX' : HCX ρ h' ho g N M hw := H0.fr R (by unfold DJ; decide) (fun y c => by simp at c)
    have r := q h' a ⟨e, z, s, M1, g1, bd.le z1 s1, R, ⟨HX', V.mv H0 G.2.1 g1 R EXS.rf, LM', ⟨W, W2⟩, l4⟩, ly⟩ A
    rw [E2] at r
    exact r
  rcases J with rfl | ⟨w0, H, AA, eh⟩
  · have fr0 : Fr ([] : List Nat) [] 0 0 (cc h C X Y) (cc h C X Y) := Fr.r0
    obtain ⟨G2, F2, E2, R2⟩ := mat G F0 fr0 (by unfold DJ; decide)
    refine fin 0 0 0 G2 E2 (R2.mono (fun f hf => by unfold LLC; simp only [List.append_nil] at hf; exact List.mem_append_left _ hf) (fun _ q => q)) (by omega) (by omega) (lyc_e (fun j _ => by rw [b2, rl]))
  · have J2 : LYJ (cc h C X Y) ho g c h' := Or.inr ⟨w0, H, AA, eh⟩
    obtain ⟨G2, F2, E2, R2⟩ := mat G F0 J2.fr (by unfold DJ; decide)
    have w : hR h f_HostType_layout (hB h (ho + 2) c) = 0 := by rw [rl, b2] at w0; exact w0
    have ne0 : hR h' f_HostType_layout (hB h' (ho + 2) c) ≠ 0 := by
      rw [e2, ← b2, ea]; exact A.1.2.1
    have l4c := (l4 c hc).1
    refine fin 1 _ _ G2 E2 R2 (by omega) (by omega) (lyc_1 hc (fun j hj hne => ?_) w ne0)
    rw [e2, ← rl, ← b2]
    exact (J2.old _ (HX.tp hj).1.2.1).2.2.2.2.2.2 _ (fun c' => hne (HX.tad _ _ hj hc c'))
theorem t_ini15 (hd : 10 ≤ d) (hn6 : n ≤ 60000) (LA : ∀ H, Fr [] (PTA a) 0 0 H1 H → (1 ≤ hK H la ∧ hK H la < 100 ∧ 20 ≤ hK H la ∧ hl H la = n) ∧ ∀ i, i < n → hK H (hB H la i) = k_Member ∧ hI H f_Member_type (hB H la i) = tyv i) (q : ∀ H', Fr [] (PTA a) 0 0 H1 H' → (hz H' = hz H1 ∧ hs H' = hs H1) → TA H' a n n → hK H' a = k_Instance → (∀ i, i < n → hA H' (hR H' f_Thing_words a) i = 0 ∧ hA H' (hR H' f_Thing_tags a) i = firT (tyv i)) → Q (Sum.inl none) H') : ∀ r j H, j + r = n → INJ H → TA H a j n → hK H a = k_Instance → Fr [] (PTA a) 0 0 H1 H → (hz H = hz H1 ∧ hs H = hs H1) → (∀ i, i < j → hA H (hR H f_Thing_words a) i = 0 ∧ hA H (hR H f_Thing_tags a) i = firT (tyv i)) → wpB PGm ρ (d + 1) m_Instance_init 15 [(0, vR a), (3, vR la), (4, vI (j : Int))] [] H Q := fun r => by
  induction r with
  | zero =>
    intro j H hj ij A ka fr zs ct
    have ej : j = n := by omega
    subst ej
    obtain ⟨⟨l1, l2, l3, l4⟩, -⟩ := LA H fr
    refine b_Instance_init_15 (d := d) ⟨⟨l1, l2⟩, fun _ => q H fr zs A ka ct, fun z => absurd z (by rw [l4]; omega)⟩
  | succ r ih =>
    intro j H hj ij A ka fr zs ct
    obtain ⟨⟨l1, l2, l3, l4⟩, l5⟩ := LA H fr
    obtain ⟨l6, l7⟩ := l5 j (by omega)
    have fv : -128 ≤ firT (tyv j) ∧ firT (tyv j) ≤ 127 := by unfold firT; split <;> (try split) <;> omega
    have go : wpB PGm ρ d m_Thing_add 0 [(0, vR a), (1, vI (firT (tyv j))), (2, vL 0)] [] H (cV (fun h15 => wpB PGm ρ (d + 1) m_Instance_init 15 [(0, vR a), (3, vR la), (4, vI (w32 ((j : Int) + 1)))] [] h15 Q) (fun e18 h17 => hK h17 e18 ≠ 0 ∧ Q (Sum.inr e18) h17)) := by
      refine t_add ij A hd (by omega) fv (fun H' l' f' fz A2 el c1 c2 => ?_)
      obtain ⟨e1, e2⟩ := el (by omega)
      subst e1
      have f0 : Fr [] (PTA a) 0 0 H H' := ⟨⟨f'.1.1, by omega, f'.1.2.2.1, by omega⟩, f'.2⟩
      have zs' : hz H' = hz H1 ∧ hs H' = hs H1 := ⟨by omega, by have := f'.1; omega⟩
      show wpB PGm ρ (d + 1) m_Instance_init 15 _ [] H' Q
      rw [w32_p1 (by omega)]
      refine ih (j + 1) H' (by omega) (f'.inj ij) A2 (by rw [f'.K A.2.1]; exact ka) (fr.trans f0) zs' (fun i hi => ?_)
      rw [c1 i (by omega), c2 i (by omega)]
      by_cases w : i = j
      · subst w; rw [if_pos rfl, if_pos rfl]; exact ⟨rfl, rfl⟩
      · rw [if_neg w, if_neg w]; exact ct i (by omega)
    have tg : wpB PGm ρ d m_LT_tagOf 0 [(0, vI (tyv j))] [] H (cI (fun x12 h7 => hK h7 a = k_Instance ∧ wpB PGm ρ d m_Thing_add 0 [(0, vR a), (1, vI x12), (2, vL 0)] [] h7 (cV (fun h15 => wpB PGm ρ (d + 1) m_Instance_init 15 [(0, vR a), (3, vR la), (4, vI (w32 ((j : Int) + 1)))] [] h15 Q) (fun e18 h17 => hK h17 e18 ≠ 0 ∧ Q (Sum.inr e18) h17))) (fun e10 h9 => hK h9 e10 ≠ 0 ∧ Q (Sum.inr e10) h9)) := by
      have e1 : ∀ v, firT (tyv j) = v → hK H a = k_Instance ∧ wpB PGm ρ d m_Thing_add 0 [(0, vR a), (1, vI v), (2, vL 0)] [] H (cV (fun h15 => wpB PGm ρ (d + 1) m_Instance_init 15 [(0, vR a), (3, vR la), (4, vI (w32 ((j : Int) + 1)))] [] h15 Q) (fun e18 h17 => hK h17 e18 ≠ 0 ∧ Q (Sum.inr e18) h17)) := fun v ev => by rw [← ev]; exact ⟨ka, go⟩
      refine b_LT_tagOf_0 ⟨fun c => e1 2 (by unfold firT; rw [if_pos (Or.inl c)]), fun c1 => ⟨fun c2 => ⟨fun c3 => e1 0 (by unfold firT; rw [if_neg (by omega), if_neg c3]), fun c3 => e1 1 (by unfold firT; rw [if_neg (by omega), if_pos c3])⟩, fun c2 => e1 2 (by unfold firT; rw [if_pos (Or.inr c2)])⟩⟩
    have b1 : ¬ (hl H la : Int) ≤ (j : Int) ∧ 0 ≤ (j : Int) ∧ (j : Int) < (hl H la : Int) := by rw [l4]; omega
    refine b_Instance_init_15 (d := d) ⟨⟨l1, l2⟩, fun z => absurd z b1.1, fun _ => ⟨⟨l3, l2, b1.2.1, b1.2.2⟩, ?_⟩⟩
    rw [Int.toNat_natCast, l7]
    exact ⟨l6, tg⟩
end
