/-! C: a look at a list or text -/
set_option maxRecDepth 20000
section
variable {ρ : Nat → Nat} {d : Nat} {Q : QT} {Γ : GH} {h h' h0 h1 h2 H : ah} {C ho T k n m f i j N M b a rr mn sn tn row e t z s s0 c o at_ r m0 E w most mb by_ fr sz nx hd : Nat} {S S' S1 S2 SX : SS} {X X' X1 X2 : X3} {Y Y' Y1 Y2 : Y3} {g : HG} {v p x y nm ty κ La bv el now : Int} {ws hw : List (List Int)} {l L bs : List Int}
/-- a letter of a word -/
theorem c_byteAt (W : WD h w most mb ws by_ fr sz nx hd) (hk : k < ws.length) (hi : i < (ws.getD k []).length) (q : Q (Sum.inl (some (vI ((ws.getD k []).getD i 0)))) h) : wpB PGm ρ d m_Words_byteAt 0 [(0, vR w), (1, vI (k : Int)), (2, vI (i : Int))] [] h Q := by
  obtain ⟨⟨a1, a2, a3, a4, a5, a6, a7⟩, ⟨b1, b2, b3, b4, b5⟩, ⟨c1, c2, c3, c4, c5⟩, -, ⟨g1, g2, g3, g4, g5, g6, g7⟩, ⟨m1, m2, m3, m4, m5⟩, H7, -⟩ := W
  obtain ⟨x1, x2, x3, -⟩ := H7 k hk
  have tb : tot ws k + (ws.getD k []).length ≤ tot ws ws.length := by
    have := tot_mono (ws := ws) (m := k + 1) (n := ws.length) (by omega)
    simp only [tot] at this; omega
  have z0 : tot ws k + i ≤ 2000000000 := by omega
  have z1 : 0 ≤ (k : Int) ∧ (k : Int) < (hl h fr : Int) := by omega
  have z2 : 0 ≤ ((tot ws k + i : Nat) : Int) ∧ ((tot ws k + i : Nat) : Int) < (hl h by_ : Int) := by omega
  refine b_Words_byteAt_0 ⟨a1, ?_⟩
  rw [b1, b2, Int.toNat_natCast, x1, w32_aa z0, Int.toNat_natCast, x3 i hi]
  exact ⟨⟨by rw [c2]; decide, z1⟩, ⟨by rw [c1]; decide, z2⟩, q⟩
theorem NMR.wd (H : NMR h C S ws) (G : AC h C) : ∃ by_ fr sz nx hd, WD (cc h C X Y) (C + 34) 4000 240000 ws by_ fr sz nx hd := (NMR.fr (S' := S) H (cc_fr (X := X) (Y := Y) G) (by unfold DJ; decide) (by simp) EXS.rf).1
theorem r_isName (HC : CORE Γ h C ho X Y S N) (NM : NMR h C S ws) (hd' : 10 ≤ d) (sk : SOK h r bs) (hk : k < ws.length) (eL : ws.getD k [] = L) (q1 : L = bs → Q (Sum.inl (some (vI 1))) (cc h C X Y)) (q0 : ¬ L = bs → Q (Sum.inl (some (vI 0))) (cc h C X Y)) : wpB PGm ρ (d + 1) m_Lookup_isName 0 [(0, vR (C + 98)), (1, vI (k : Int)), (2, vR r)] [] (cc h C X Y) Q := by
  have F := HC.1.2
  have G := HC.1.1
  obtain ⟨by_, fr, sz, nx, hd, W⟩ := NM.wd (X := X) (Y := Y) G
  obtain ⟨s1, s2, s3⟩ := sk.cc (X := X) (Y := Y) G
  have kl : hK (cc h C X Y) (C + 98) = k_Lookup := F.1.2.2.2.2.2.2.2.2
  have en : hR (cc h C X Y) f_Lookup_names (C + 98) = C + 34 := by rw [ccRo (by decide)]; exact F.2.2.1.2.2.2.1
  have kw := W.1.1
  obtain ⟨x1, x2, x3, -⟩ := W.2.2.2.2.2.2.1 k hk
  rw [eL] at x2
  have bl : bs.length ≤ 1000 := sk.1.2.2.1
  have z25 : ¬ L = bs → ∀ j : Int, wpB PGm ρ (d + 1) m_Lookup_isName 25 [(0, vR (C + 98)), (1, vI (k : Int)), (2, vR r), (3, vI 0), (4, vI j)] [] (cc h C X Y) Q := fun z j => b_Lookup_isName_25 (by omega) ⟨s1, s1, fun _ => ⟨Or.inl rfl, q0 z⟩, fun _ => ⟨fun _ => ⟨Or.inl rfl, q0 z⟩, fun c => absurd rfl c⟩⟩
  have lp : L.length = bs.length → ∀ mm j, j + mm = bs.length → (∀ i, i < j → L.getD i 0 = bs.getD i 0) → wpB PGm ρ (d + 1) m_Lookup_isName 25 [(0, vR (C + 98)), (1, vI (k : Int)), (2, vR r), (3, vI 1), (4, vI (j : Int))] [] (cc h C X Y) Q := fun le mm => by
    induction mm with
    | zero =>
      intro j hj hp
      refine b_Lookup_isName_25 (by omega) ⟨s1, s1, fun _ => ⟨Or.inr rfl, q1 (list_ext0 le (fun i hi => hp i (by omega)))⟩, fun z => by rw [s2] at z; omega⟩
    | succ mm ih =>
      intro j hj hp
      have jl : j < bs.length := by omega
      refine b_Lookup_isName_25 (by omega) ⟨s1, s1, fun z => by rw [s2] at z; omega, fun _ => ⟨fun c => absurd c (by decide), fun _ => ⟨kl, by rw [en]; exact kw, ?_⟩⟩⟩
      rw [en]
      refine c_byteAt W hk (by rw [eL]; omega) ⟨s1, ⟨s1, by omega, by rw [s2]; omega⟩, ?_⟩
      rw [Int.toNat_natCast, s3 j jl, eL]
      have z0 : j ≤ 2000000000 := by omega
      refine ⟨fun ne => b_Lookup_isName_62 (z25 (fun c => ne (by rw [c])) _), fun eq => b_Lookup_isName_62 ?_⟩
      rw [w32_p1 z0]
      exact ih (j + 1) (by omega) (fun i hi => by
        by_cases c : i = j
        · rw [c]; exact eq
        · exact hp i (by omega))
  refine b_Lookup_isName_0 (by omega) ⟨kl, by rw [en]; exact kw, ?_⟩
  rw [en, W.2.1.2.2.1, Int.toNat_natCast, x2, s2]
  have hl1 : hl (cc h C X Y) sz = hl (cc h C X Y) fr := W.2.2.2.2.1.1
  have hl2 : ws.length ≤ hl (cc h C X Y) fr := W.2.2.2.2.1.2.2.1
  refine ⟨⟨by rw [W.2.2.1.2.2.1]; decide, by omega, by rw [hl1]; omega⟩, s1, s1, fun z => b_Lookup_isName_21 (z25 (fun c => z (by rw [c])) _), fun z => b_Lookup_isName_21 (lp (by omega) bs.length 0 (by omega) (fun i hi => absurd hi (Nat.not_lt_zero _)))⟩
/-- what C does to a list or text -/
def raC' (κ : Int) (mn : Nat) (ty : Int) : Int := if κ = 0 then 9 else if κ = 2 then 12 else if κ = 3 then 13 else if ty = 3 then 14 else if mn = 1 then 10 else 11
theorem r_row (HC : CORE Γ h C ho X Y S N) (NM : NMR h C S ws) (ST : STM ρ h) (ka : hK h a = k_Site) (ek : hI h f_Site_kind a = κ) (em : hI h f_Site_operands a = (mn : Int)) (hκ : 0 ≤ κ ∧ κ ≤ 6) (hty : ty = 3 ∨ ty = 6) (it : X 53 f_Found_isText 0 = if ty = 3 then 1 else 0) (en : κ = 0 ∨ κ = 5 → ∃ k : Nat, hI h f_Site_name a = (k : Int) ∧ k < ws.length ∧ ws.getD k [] = L) (q1 : rkG κ L mn ty = 0 → Q (Sum.inl none) (cc h C (u3 X 53 f_Found_action 0 (raC' κ mn ty)) Y)) (q0 : ¬ rkG κ L mn ty = 0 → Q (Sum.inr (C + 33)) (cc h C (erX X (rkG κ L mn ty)) Y)) : wpB PGm ρ (d + 12) m_Lookup_row 0 [(0, vR (C + 98)), (1, vR a), (2, vR (C + 53))] [] (cc h C X Y) Q := by
  have F := HC.1.2
  have G := HC.1.1
  have ko : hK h (C + 53) = k_Found := F.1.2.2.2.2.2.2.1
  have kl : hK (cc h C X Y) (C + 98) = k_Lookup := F.1.2.2.2.2.2.2.2.2
  have ik : hI (cc h C X Y) f_Site_kind a = κ := by rw [ccIo (by decide)]; exact ek
  have io : hI (cc h C X Y) f_Site_operands a = (mn : Int) := by rw [ccIo (by decide)]; exact em
  have xt : hI (cc h C X Y) f_Found_isText (C + 53) = if ty = 3 then 1 else 0 := by rw [ccI (by decide)]; exact it
  have ia : ∀ v : Int, raC' κ mn ty = v → rkG κ L mn ty = 0 → Q (Sum.inl none) (sI (cc h C X Y) f_Found_action (C + 53) v) := fun v ev r0 => by
    rw [cc_sI (by decide), ← ev]; exact q1 r0
  have ir : ∀ v : Int, rkG κ L mn ty = v → ¬ v = 0 → Q (Sum.inr (C + 33)) (cc h C (erX X v) Y) := fun v ev nz => by
    rw [← ev]; exact q0 (by rw [ev]; exact nz)
  have g223 : rkG κ L mn ty = 5 → wpB PGm ρ (d + 12) m_Lookup_row 223 [(0, vR (C + 98))] [] (cc h C X Y) Q := fun c => b_Lookup_row_223 (d := d + 11) (r_sigL HC (ir 5 c (by decide)))
  have g183 : rkG κ L mn ty = 4 → wpB PGm ρ (d + 12) m_Lookup_row 183 [(0, vR (C + 98))] [] (cc h C X Y) Q := fun c => b_Lookup_row_183 (d := d + 11) (r_sigL HC (ir 4 c (by decide)))
  have s26 : SOK h (ρ 26) xSIZE := ST.g (by decide +kernel)
  have s27 : SOK h (ρ 27) xSUB := ST.g (by decide +kernel)
  have s28 : SOK h (ρ 28) xPUSH := ST.g (by decide +kernel)
  have s29 : SOK h (ρ 29) xPOP := ST.g (by decide +kernel)
  -- a call on a list or text
  have g147 : κ = 5 → (ty = 3 → ¬ (L = xSUB ∧ mn = 2)) → (ty = 6 → ¬ (L = xPUSH ∧ mn = 1)) → wpB PGm ρ (d + 12) m_Lookup_row 147 [(0, vR (C + 98)), (1, vR a), (2, vR (C + 53))] [] (cc h C X Y) Q := fun k5 n1 n2 => by
    obtain ⟨kx, e1, e2, e3⟩ := en (Or.inr k5)
    have i1 : hI (cc h C X Y) f_Site_name a = (kx : Int) := by rw [ccIo (by decide)]; exact e1
    refine b_Lookup_row_147 (d := d + 11) ⟨ko, ?_⟩
    rw [xt, i1]
    refine ⟨fun c => g183 ?_, fun c => ⟨ka, kl, ?_⟩⟩
    · have t3 : ty = 3 := by
        by_cases w : ty = 3
        · exact w
        · rw [if_neg w] at c; exact absurd rfl c
      unfold rkG
      rw [if_neg (by omega), if_pos k5, if_neg (by omega), if_neg (n1 t3)]
    · have t6 : ty = 6 := by
        rcases hty with w | w
        · rw [if_pos w] at c; exact absurd c (by decide)
        · exact w
      have bad : ¬ (L = xPOP ∧ mn = 0) → wpB PGm ρ (d + 12) m_Lookup_row 183 [(0, vR (C + 98))] [] (cc h C X Y) Q := fun n3 => g183 (by
        unfold rkG
        rw [if_neg (by omega), if_pos k5, if_pos t6, if_neg (fun c => c.elim (n2 t6) n3)])
      refine r_isName (d := d + 10) HC NM (by omega) s29 e2 e3 (fun eL => ⟨fun c => absurd c (by decide), fun _ => ⟨ka, ?_⟩⟩) (fun nL => ⟨fun _ => bad (fun c => nL c.1), fun c => absurd rfl c⟩)
      rw [io]
      refine ⟨fun c => bad (fun z => c (by omega)), fun c => ⟨ko, ia 11 ?_ ?_⟩⟩
      · unfold raC'
        rw [if_neg (by omega), if_neg (by omega), if_neg (by omega), if_neg (by omega), if_neg (by omega)]
      · unfold rkG
        rw [if_neg (by omega), if_pos k5, if_pos t6, if_pos (Or.inr ⟨eL, by omega⟩)]
  have g110 : κ = 5 → (ty = 3 → ¬ (L = xSUB ∧ mn = 2)) → wpB PGm ρ (d + 12) m_Lookup_row 110 [(0, vR (C + 98)), (1, vR a), (2, vR (C + 53))] [] (cc h C X Y) Q := fun k5 n1 => by
    obtain ⟨kx, e1, e2, e3⟩ := en (Or.inr k5)
    have i1 : hI (cc h C X Y) f_Site_name a = (kx : Int) := by rw [ccIo (by decide)]; exact e1
    refine b_Lookup_row_110 (d := d + 11) ⟨ko, ?_⟩
    rw [xt, i1]
    refine ⟨fun c => g147 k5 n1 (fun t6 => ?_), fun c => ⟨ka, kl, ?_⟩⟩
    · exfalso; rw [if_neg (by omega)] at c; exact c rfl
    · have t6 : ty = 6 := by
        rcases hty with w | w
        · rw [if_pos w] at c; exact absurd c (by decide)
        · exact w
      refine r_isName (d := d + 10) HC NM (by omega) s28 e2 e3 (fun eL => ⟨fun c => absurd c (by decide), fun _ => ⟨ka, ?_⟩⟩) (fun nL => ⟨fun _ => g147 k5 n1 (fun _ c => nL c.1), fun c => absurd rfl c⟩)
      rw [io]
      refine ⟨fun c => g147 k5 n1 (fun _ z => c (by omega)), fun c => ⟨ko, ia 10 ?_ ?_⟩⟩
      · unfold raC'
        rw [if_neg (by omega), if_neg (by omega), if_neg (by omega), if_neg (by omega), if_pos (by omega)]
      · unfold rkG
        rw [if_neg (by omega), if_pos k5, if_pos t6, if_pos (Or.inl ⟨eL, by omega⟩)]
  have r5 : ¬ κ = 0 → ¬ κ = 5 → ¬ κ = 2 → ¬ (κ = 3 ∧ ty = 6) → rkG κ L mn ty = 5 := fun c0 c5 c2 c3 => by
    unfold rkG
    rw [if_neg c0, if_neg c5, if_neg c2, if_neg c3]
  refine b_Lookup_row_0 (d := d + 11) ⟨ka, ?_⟩
  rw [ik, xt]
  refine ⟨fun k0 => ⟨kl, ?_⟩, fun k0 => ⟨fun k1 => g223 (r5 k0 (by omega) (by omega) (by omega)), fun k1 => ⟨fun k2 => ⟨ko, ia 12 ?_ ?_⟩, fun k2 => ⟨fun k3 => ⟨ko, fun c => ia 13 ?_ ?_, fun c => r_sigL HC (ir 5 ?_ (by decide))⟩, fun k3 => ⟨fun k4 => g223 (r5 k0 (by omega) (by omega) (by omega)), fun k4 => ⟨fun k5 => ⟨ko, fun c => g110 k5 (fun t3 => ?_), fun c => ⟨kl, ?_⟩⟩, fun k5 => g223 (r5 k0 k5 k2 (by omega))⟩⟩⟩⟩⟩⟩
  · obtain ⟨kx, e1, e2, e3⟩ := en (Or.inl k0)
    have i1 : hI (cc h C X Y) f_Site_name a = (kx : Int) := by rw [ccIo (by decide)]; exact e1
    rw [i1]
    refine r_isName (d := d + 10) HC NM (by omega) s26 e2 e3 (fun eL => ⟨fun _ => ⟨ko, ia 9 ?_ ?_⟩, fun c => absurd c (by decide)⟩) (fun nL => ⟨fun c => absurd rfl c, fun _ => r_sigL HC (ir 4 ?_ (by decide))⟩)
    · unfold raC'; rw [if_pos k0]
    · unfold rkG; rw [if_pos k0, if_pos eL]
    · unfold rkG; rw [if_pos k0, if_neg nL]
  · unfold raC'; rw [if_neg k0, if_pos k2]
  · unfold rkG; rw [if_neg k0, if_neg (by omega), if_pos k2]
  · unfold raC'; rw [if_neg k0, if_neg k2, if_pos k3]
  · have t6 : ty = 6 := by
      rcases hty with w | w
      · rw [if_pos w] at c; exact absurd c (by decide)
      · exact w
    unfold rkG; rw [if_neg k0, if_neg (by omega), if_neg k2, if_pos ⟨k3, t6⟩]
  · refine r5 k0 (by omega) k2 (fun z => ?_)
    rw [if_neg (by omega)] at c; exact c rfl
  · rw [if_pos t3] at c; exact absurd c (by decide)
  · have t3 : ty = 3 := by
      by_cases w : ty = 3
      · exact w
      · rw [if_neg w] at c; exact absurd rfl c
    obtain ⟨kx, e1, e2, e3⟩ := en (Or.inr k5)
    have i1 : hI (cc h C X Y) f_Site_name a = (kx : Int) := by rw [ccIo (by decide)]; exact e1
    rw [i1]
    refine r_isName (d := d + 10) HC NM (by omega) s27 e2 e3 (fun eL => ⟨fun c => absurd c (by decide), fun _ => ⟨ka, ?_⟩⟩) (fun nL => ⟨fun _ => g110 k5 (fun _ c => nL c.1), fun c => absurd rfl c⟩)
    rw [io]
    refine ⟨fun c => g110 k5 (fun _ z => c (by omega)), fun c => ⟨ko, ia 14 ?_ ?_⟩⟩
    · unfold raC'
      rw [if_neg (by omega), if_neg (by omega), if_neg (by omega), if_pos t3]
    · unfold rkG
      rw [if_neg (by omega), if_pos k5, if_neg (by omega), if_pos ⟨eL, by omega⟩]
end
