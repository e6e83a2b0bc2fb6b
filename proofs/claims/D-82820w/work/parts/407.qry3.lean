set_option maxRecDepth 20000
section
variable {ρ : Nat → Nat} {d : Nat} {Q : QT} {Γ Γ' Γ1 Γ2 : GH} {h h' h1 h2 H : ah} {C ho N M z s t o n c r i j k p a T cd fn ck mk vs rk np : Nat} {g g' : HG} {S S' S1 S2 : SS} {X X' X1 X2 : X3} {Y Y' Y1 Y2 : Y3} {ws ws' hw : List (List Int)} {x y ty v fl l1 l2 l3 : Int} {h0 : ah}
/-- names -/
def nmA (S : SS) (l1 l2 : Int) : Int := if (0 ≤ l1 ∧ l1 < S f_Md_names 0) ∧ 0 ≤ l2 ∧ l2 < S f_Md_nameSize l1.toNat then S f_Md_nameSigns (60 * l1.toNat + l2.toNat) else -1
theorem c_nameQ (A : ALL ρ Γ h C ho X Y S g N M hw ws) (LT : LTM h C) (q : Q (Sum.inl (some (vI (nmA S l1 l2)))) (cc h C X Y)) : wpB PGm ρ (d + 12) m_LT_name 0 [(0, vR C), (1, vI l1), (2, vI l2)] [] (cc h C X Y) Q := by
  have G := A.1.1.1
  have F := A.1.1.2
  have NM := A.2.1.2.1.1
  obtain ⟨by_, fr, sz, nx, hd, W⟩ := NM.wd (X := X) (Y := Y) G
  obtain ⟨-, -, en, n4, nr⟩ := NM
  have rm : hR (cc h C X Y) f_LT_machine C = C + 32 := by rw [ccRo (by decide)]; exact LT.2.1
  have rf : hR (cc h C X Y) f_Machine_names (C + 32) = C + 34 := by rw [ccRo (by decide)]; exact F.2.1.2.1
  unfold nmA at q
  rw [en] at q
  refine b_LT_name_0 (d := d + 11) ⟨fun c => ?_, fun c => ⟨LT.1, ?_⟩⟩
  · rw [if_neg (by omega)] at q; exact q
  rw [rm, rf]
  have im : hI (cc h C X Y) f_Words_many (C + 34) = (ws.length : Int) := W.1.2.2.2.2.2.1
  have rs : hR (cc h C X Y) f_Words_size (C + 34) = sz := W.2.1.2.2.1
  have ks : hK (cc h C X Y) sz = 1 := W.2.2.1.2.2.1
  have ls : ws.length ≤ hl (cc h C X Y) sz := by rw [W.2.2.2.2.1.1]; exact W.2.2.2.2.1.2.2.1
  rw [im, rs, ks]
  refine ⟨F.1.1, F.1.2.2.1, fun c2 => ?_, fun c2 => ⟨fun c3 => ?_, fun c3 => ?_⟩⟩
  · rw [if_neg (by omega)] at q; exact q
  · rw [if_neg (by omega)] at q; exact q
  have ⟨u, eu⟩ : ∃ u : Nat, l1 = (u : Int) := ⟨l1.toNat, by omega⟩
  subst eu
  have hu : u < ws.length := by omega
  obtain ⟨m1, m2, m3⟩ := nr u hu
  rw [Int.toNat_natCast, m2] at q
  have sa : hA (cc h C X Y) sz u = ((ws.getD u []).length : Int) := (W.2.2.2.2.2.2.1 u hu).2.1
  rw [Int.toNat_natCast, sa]
  refine ⟨⟨by decide, by omega, by omega⟩, fun c4 => ?_, fun c4 => ?_⟩
  · have ⟨v, ev⟩ : ∃ v : Nat, l2 = (v : Int) := ⟨l2.toNat, by omega⟩
    subst ev
    have hv : v < (ws.getD u []).length := by omega
    rw [if_pos (by omega), Int.toNat_natCast, m3 v hv] at q
    exact c_byteAt W hu hv q
  · rw [if_neg (by omega)] at q; exact q
theorem t_nameQ (O : TOK h0 T) (en : S f_Md_names 0 = (n : Int)) (hn : n ≤ 4000) (er : ∀ u, u < n → ∃ z : Nat, S f_Md_nameSize u = (z : Int) ∧ z ≤ 60) (q : Q (Sum.inl (some (vI (nmA S l1 l2)))) (cn h0 T (thZ S))) : wpB PGm ρ (d + 1) m_Md_name 0 [(0, vR T), (1, vI l1), (2, vI l2)] [] (cn h0 T S) Q := by
  obtain ⟨kT, G, kH⟩ := O
  have kM : ∀ S : SS, hK (cn h0 T S) T = k_Md := fun S => by rw [cnK]; exact kT
  have e1 : hI (cn h0 T (thZ S)) f_Md_names T = (n : Int) := by rw [cnI (by decide), thZ_o (by decide)]; exact en
  unfold nmA at q
  rw [en] at q
  refine b_Md_name_0 ⟨kM _, ?_⟩
  dsimp only
  rw [cn_th, e1]
  have wu : w32 ((n : Int) - 1) = (n : Int) - 1 := w32_of (by omega) (by omega)
  rw [wu]
  clear wu
  refine t_inF (fun a1 a2 => ⟨fun c => absurd c (by decide), fun _ => ⟨kM _, ?_⟩⟩) (fun a1 => ⟨fun _ => ?_, fun c => absurd rfl c⟩)
  · have ⟨u, eu⟩ : ∃ u : Nat, l1 = (u : Int) := ⟨l1.toNat, by omega⟩
    subst eu
    obtain ⟨zz, ez, kz⟩ := er u (by omega)
    clear er
    have bu : 0 ≤ (u : Int) ∧ (u : Int) < ((4000 : Nat) : Int) := by omega
    rw [Int.toNat_natCast, ez] at q
    have e2 : thZ S f_Md_nameSize u = (zz : Int) := by rw [thZ_o (by decide), ez]
    simp (decide := true) (disch := first | decide | omega) only [cnI, cnIe, cnR, cnK, cnl, cnA' G, cn_sI, cn_sIe, cn_sA' G, kT, kH, KN G, LN G, u2_f, u2_s, w32_aa, w32_ss, w32_p1, w32_m1, Int.toNat_natCast, true_and, and_true, false_and, and_false, or_false, false_or, ne_eq, not_false_eq_true, forall_const, implies_true, not_true_eq_false, false_implies, e2, bu]
    have wu : w32 ((zz : Int) - 1) = (zz : Int) - 1 := w32_of (by omega) (by omega)
    rw [wu]
    clear wu
    refine t_inF (fun b1 b2 => ⟨fun c => absurd c (by decide), fun _ => ?_⟩) (fun b1 => ⟨fun _ => ?_, fun c => absurd rfl c⟩)
    · have ⟨v, ev⟩ : ∃ v : Nat, l2 = (v : Int) := ⟨l2.toNat, by omega⟩
      subst ev
      rw [if_pos (by omega), Int.toNat_natCast] at q
      have bv : 0 ≤ ((60 * u + v : Nat) : Int) ∧ ((60 * u + v : Nat) : Int) < ((240000 : Nat) : Int) := by omega
      have e4 : thZ S f_Md_nameSigns (60 * u + v) = S f_Md_nameSigns (60 * u + v) := thZ_o (by decide)
      have x1 : -2147483648 ≤ 60 * (u : Int) ∧ 60 * (u : Int) < 2147483648 := by omega
      have x2 : -2147483648 ≤ 60 * (u : Int) + (v : Int) ∧ 60 * (u : Int) + (v : Int) < 2147483648 := by omega
      have x3 : 60 * (u : Int) + (v : Int) = ((60 * u + v : Nat) : Int) := by omega
      have wv : w32 (w32 (60 * (u : Int)) + (v : Int)) = ((60 * u + v : Nat) : Int) := by rw [w32_of x1.1 x1.2, w32_of x2.1 x2.2, x3]
      rw [wv]
      simp (decide := true) (disch := first | decide | omega) only [cnI, cnIe, cnR, cnK, cnl, cnA' G, cn_sI, cn_sIe, cn_sA' G, kT, kH, KN G, LN G, u2_f, u2_s, w32_aa, w32_ss, w32_p1, w32_m1, Int.toNat_natCast, true_and, and_true, false_and, and_false, or_false, false_or, ne_eq, not_false_eq_true, forall_const, implies_true, not_true_eq_false, false_implies, e4, bv]
      exact q
    · rw [if_neg (by omega)] at q; exact q
  · rw [if_neg (by omega)] at q; exact q
end
