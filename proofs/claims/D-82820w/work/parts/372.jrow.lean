set_option maxRecDepth 20000
section
variable {ρ : Nat → Nat} {d : Nat} {Q : QT} {Γ : GH} {h h' h1 h2 : ah} {C ho k i j N M a b z s x y r f o c t n mn m0 rr : Nat} {g : HG} {v w hd ty κ nm el La p : Int} {S S' S1 : SS} {X X' X1 X2 : X3} {Y Y' Y1 Y2 : Y3} {e : ENT} {L : List Int} {ws hw : List (List Int)}
theorem rk_cs (hκ : 0 ≤ κ ∧ κ ≤ 6) (hty : ty = 3 ∨ ty = 6) (H : rkG κ L mn ty = 0) : κ = 0 ∨ (κ = 5 ∧ ty = 6 ∧ (mn = 1 ∨ mn = 0)) ∨ (κ = 5 ∧ ty = 3 ∧ mn = 2) ∨ κ = 2 ∨ (κ = 3 ∧ ty = 6) := by
  unfold rkG at H
  split at H
  · omega
  · split at H
    · split at H
      · split at H
        · omega
        · omega
      · split at H
        · omega
        · omega
    · split at H
      · omega
      · split at H
        · omega
        · omega
theorem j_prow (P : PFX Γ h C ho X Y S N t o n c r s a κ mn m0 rr) (F : FND g h C ho X Y S M κ nm L mn ty v el rr) (hty : ty = 3 ∨ ty = 6) (gt : S f_Md_pileType rr = ty) (gv : S f_Md_pileValue rr = v) (hc : S f_Md_changes 0 + 1 ≤ 1000000) (q : PFR ρ g N M Γ h C ho X Y S s Q) : wpB PGm ρ (d + 40) m_Machine_perform 0 [(0, vR (C + 32)), (1, vR a), (2, vI (m0 : Int))] [] (cc h C X Y) Q := by
  obtain ⟨e, EV, FO, ⟨f1, f2, f3, f4⟩, ST, GD⟩ := F
  have HC := P.1
  have hκ := P.2.2.2.2.2.1.2.2.2.2.1
  have V := P.pl (i := 0) (Nat.zero_le _)
  rw [Nat.add_zero, Nat.add_zero, gt, gv] at V
  have ⟨k, ek⟩ : ∃ k : Nat, v = (k : Int) := by
    obtain ⟨-, -, O⟩ := V
    unfold VO at O
    exact ⟨v.toNat, by omega⟩
  subst ek
  have GD' : e f_Md_linker = 3 ∧ e f_Md_guard = (if ty = 6 then 0 else 1) := by
    rcases GD with ⟨g1, -⟩ | ⟨-, g2, g3, -⟩
    · omega
    · unfold gdL at g2
      unfold gdG at g3
      rw [if_neg (by omega), if_neg (by omega)] at g2 g3
      refine ⟨?_, g3⟩
      rw [g2]
      rcases hty with z | z <;> simp [z]
  obtain ⟨l3, gu⟩ := GD'
  obtain ⟨-, -, -, -, e5⟩ := EV.2.1 l3
  have e5 : rkG κ L mn ty = 0 := by
    rw [gu] at e5
    rcases hty with z | z
    · rw [z] at e5 ⊢; simpa using e5
    · rw [z] at e5 ⊢; simpa using e5
  have rc := rk_cs hκ hty e5
  have ac : X 53 f_Found_action 0 = (if κ = 0 then 9 else if κ = 2 then 12 else if κ = 3 then 13 else if ty = 3 then 14 else if mn = 1 then 10 else 11) := by
    rw [FO.1]
    unfold acE
    rw [if_neg (by omega), if_pos l3, gu]
    rcases hty with z | z
    · rw [z]; simp
    · rw [z]; simp
  have lst : ty = 6 → ∃ sz : Nat, S f_Md_thingCount k = (sz : Int) ∧ sz ≤ 60000 ∧ k < 8000 := fun z => by
    obtain ⟨o1, o2, o3, -⟩ := P.lst (k := k) (by omega) gv
    obtain ⟨sz, L1, e1⟩ := SLG.co HC o1
    exact ⟨sz, e1, L1.2.1, o2⟩
  have hi : ¬ (0 ≤ X 53 f_Found_action 0 ∧ X 53 f_Found_action 0 ≤ 8) := by
    rw [ac]
    repeat' split
    all_goals decide
  clear GD FO EV ST V
  refine perf_0 (d := d + 28) (k := 0) P rfl (fun c0 => absurd ⟨by omega, by omega⟩ hi) (fun c1 => absurd ⟨by omega, by omega⟩ hi) (fun c4 => absurd ⟨by omega, by omega⟩ hi) (fun c4 => absurd ⟨by omega, by omega⟩ hi) (fun c5 => absurd ⟨by omega, by omega⟩ hi) (fun c6 => absurd ⟨by omega, by omega⟩ hi) (fun c7 => absurd ⟨by omega, by omega⟩ hi) (fun c8 => absurd ⟨by omega, by omega⟩ hi) (fun _ => ?_)
  rcases rc with z | ⟨z1, z2, z3⟩ | ⟨z1, z2, z3⟩ | z | ⟨z1, z2⟩
  · -- how many there are
    rw [if_pos z] at ac
    rcases hty with y | y
    · obtain ⟨mn', us, sb, mb, tm, am, ab, l, tx, a', TK, ⟨x1, x2, x3, x4, x5⟩, rg, ll, etx, CX⟩ := P.txt (k := k) (by omega) gv
      have tb := TK.2.2.1
      refine r_rowT (d := d + 19) P (by omega) (l1 := l) (by rw [etx]; exact CX) ?_
      exact pf_size (d := d + 19) P z ac (P.rwq (sz := l.length) (by omega) gv (Or.inr ⟨by omega, by omega, x3⟩) (by omega)) q
    · obtain ⟨sz, e1, e2, e3⟩ := lst y
      refine r_rowL (d := d + 19) P (by omega) gv e1 ?_
      exact pf_size (d := d + 19) P z ac (P.rwq (sz := sz) (by omega) gv (Or.inl ⟨by omega, by omega, e1⟩) (by omega)) q
  · obtain ⟨sz, e1, -, -⟩ := lst z2
    rw [if_neg (by omega), if_neg (by omega), if_neg (by omega), if_neg (by omega)] at ac
    by_cases m1 : mn = 1
    · rw [if_pos m1] at ac
      exact pf_push (d := d + 19) P z1 m1 ac (by omega) (by omega) gv e1 hc q
    · rw [if_neg m1] at ac
      exact pf_pop (d := d + 19) P z1 m1 ac (by omega) (by omega) gv e1 q
  · rw [if_neg (by omega), if_neg (by omega), if_neg (by omega), if_pos z2] at ac
    exact pf_part (d := d + 18) P z1 z3 ac (by omega) (by omega) gv q
  · rw [if_neg (by omega), if_pos z] at ac
    rcases hty with y | y
    · exact pf_atT (d := d + 18) P z ac (by omega) (by omega) gv q
    · obtain ⟨sz, e1, -, -⟩ := lst y
      exact pf_atL (d := d + 19) P z ac (by omega) (by omega) gv e1 q
  · obtain ⟨sz, e1, -, -⟩ := lst z2
    rw [if_neg (by omega), if_neg (by omega), if_pos z1] at ac
    exact pf_put (d := d + 19) P z1 ac (by omega) (by omega) gv e1 hc q
end
