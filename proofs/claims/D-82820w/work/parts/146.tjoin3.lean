/-! T: two values are joined -/
set_option maxRecDepth 20000
def spj (S : SS) (ty : Int) (bs : List Int) (ty2 : Int) (cs : List Int) : SS := if ty ≠ 3 then spS (u2 S f_Md_spelling 0 0) 0 bs else if ty2 ≠ 3 then spS (u2 S f_Md_spelling 0 0) 0 cs else u2 S f_Md_spelling 0 0
section
variable {ρ : Nat → Nat} {d : Nat} {h h' h0 : ah} {Q : QT} {T k f g n c t i j x p r tm mb am ab A : Nat} {op a b v w ty ty2 v2 : Int} {S X S1 : SS} {bs cs : List Int}
theorem spS_o (h1 : f ≠ f_Md_spelt) (h2 : f ≠ f_Md_spelling) : spS S p bs f i = S f i := by unfold spS; rw [u2_f h2, sp1_o h1]
theorem spj_o (h1 : f ≠ f_Md_spelt) (h2 : f ≠ f_Md_spelling) : spj S ty bs ty2 cs f i = S f i := by
  unfold spj
  split
  · rw [spS_o h1 h2, u2_f h2]
  · split
    · rw [spS_o h1 h2, u2_f h2]
    · rw [u2_f h2]
theorem ntS_o (e : [f_Md_textFrom, f_Md_textLength, f_Md_madeTexts, f_Md_madeBytes, f_Md_allTexts, f_Md_allBytes].elem f = false) : ntS S tm mb am ab n f i = S f i := by
  have nn : ∀ g, [f_Md_textFrom, f_Md_textLength, f_Md_madeTexts, f_Md_madeBytes, f_Md_allTexts, f_Md_allBytes].elem g = true → f ≠ g := by rintro g hg rfl; rw [hg] at e; cases e
  unfold ntS
  rw [u2_f (nn _ (by decide)), u2_f (nn _ (by decide)), u2_f (nn _ (by decide)), u2_f (nn _ (by decide)), u2_f (nn _ (by decide)), u2_f (nn _ (by decide))]
theorem ntS_x (hx : x ≠ 4000 + tm) : ntS S tm mb am ab n f_Md_textFrom x = S f_Md_textFrom x ∧ ntS S tm mb am ab n f_Md_textLength x = S f_Md_textLength x := by
  unfold ntS
  constructor
  · rw [u2_f (by decide), u2_f (by decide), u2_f (by decide), u2_f (by decide), u2_f (by decide), u2_e, if_neg (fun c => hx c.2)]
  · rw [u2_f (by decide), u2_f (by decide), u2_f (by decide), u2_f (by decide), u2_e, if_neg (fun c => hx c.2), u2_f (by decide)]
theorem ntS_n : ntS S tm mb am ab n f_Md_textFrom (4000 + tm) = ((69632 + mb : Nat) : Int) ∧ ntS S tm mb am ab n f_Md_textLength (4000 + tm) = (n : Int) ∧ ntS S tm mb am ab n f_Md_madeTexts 0 = ((tm + 1 : Nat) : Int) ∧ ntS S tm mb am ab n f_Md_madeBytes 0 = ((mb + n : Nat) : Int) ∧ ntS S tm mb am ab n f_Md_allTexts 0 = ((am + 1 : Nat) : Int) ∧ ntS S tm mb am ab n f_Md_allBytes 0 = ((ab + n : Nat) : Int) := by
  unfold ntS
  refine ⟨?_, ?_, ?_, ?_, ?_, ?_⟩ <;> simp (decide := true) (disch := first | decide | omega) only [u2_f, u2_s]
/-- an operand whose bytes stand ready -/
theorem TOP.opb (H : TOP S tm mb ty v bs) (sp : ty ≠ 3 → ∀ i, i < bs.length → S1 f_Md_spelt i = bs.getD i 0) (e : ∀ f i, f ≠ f_Md_spelt → f ≠ f_Md_spelling → S1 f i = S f i) (ht : tm ≤ 12000) : OPB (ntS S1 tm mb am ab n) (69632 + mb) ty v bs := by
  obtain ⟨h1, h2⟩ := H
  refine ⟨h1, ?_⟩
  rcases h2 with ⟨t3, x, a, e1, e2, e3, e4, e5, e6⟩ | ⟨t3, e1, e2, e3, e4⟩
  · exact Or.inl ⟨t3, x, a, e1, by omega, by rw [(ntS_x (by omega)).1, e _ _ (by decide) (by decide)]; exact e3, e5, fun i hi => by rw [ntS_o (by decide), e _ _ (by decide) (by decide)]; exact e6 i hi⟩
  · exact Or.inr ⟨t3, by omega, fun i hi => by rw [ntS_o (by decide)]; exact sp t3 i hi⟩
theorem sp0 (hi : i < bs.length) : spS S 0 bs f_Md_spelt i = bs.getD i 0 := by
  unfold spS
  rw [u2_f (by decide)]
  unfold sp1
  rw [if_pos ⟨rfl, by omega, by omega⟩]; rfl
theorem s_joined (K : TKS ρ h0 T) (M : TMS S tm mb am ab) (A1 : TOP S tm mb ty v bs) (A2 : TOP S tm mb ty2 v2 cs) (one : ty = 3 ∨ ty2 = 3) (q1 : am < 12000 → ab + (bs.length + cs.length) ≤ 200000 → Q (Sum.inl (some (vI ((4000 + tm : Nat) : Int)))) (cn h0 T (tx1 (ntS (spj S ty bs ty2 cs) tm mb am ab (bs.length + cs.length)) (69632 + mb) (bs ++ cs)))) (q0 : ¬ (am < 12000 ∧ ab + (bs.length + cs.length) ≤ 200000) → Q (Sum.inr (hR h0 f_Md_halt T)) (cn h0 T (erS (spj S ty bs ty2 cs) 99))) : wpB PGm ρ (d + 20) m_Md_joined 0 [(0, vR T), (1, vI ty), (2, vL v), (4, vI ty2), (5, vL v2)] [] (cn h0 T S) Q := by
  have kT := K.1.1
  have kH := K.1.2.2
  have kz : hK h0 (hR h0 f_Md_halt T) ≠ 0 := by rw [kH]; decide
  have tm1 : tm ≤ 12000 := by have := M.2; omega
  have l1 : bs.length ≤ 269632 := by
    rcases A1.2 with ⟨-, x, a, -, -, -, -, e5, -⟩ | ⟨-, -, -, e3, -⟩
    · have := M.2; omega
    · omega
  have l2 : cs.length ≤ 269632 := by
    rcases A2.2 with ⟨-, x, a, -, -, -, -, e5, -⟩ | ⟨-, -, -, e3, -⟩
    · have := M.2; omega
    · omega
  -- behind the printing
  have g30 : wpB PGm ρ (d + 20) m_Md_joined 30 [(0, vR T), (1, vI ty), (2, vL v), (4, vI ty2), (5, vL v2)] [] (cn h0 T (spj S ty bs ty2 cs)) Q := by
    have Me : TMS (spj S ty bs ty2 cs) tm mb am ab := by
      obtain ⟨⟨m1, m2, m3, m4⟩, m5⟩ := M
      exact ⟨⟨by rw [spj_o (by decide) (by decide)]; exact m1, by rw [spj_o (by decide) (by decide)]; exact m2, by rw [spj_o (by decide) (by decide)]; exact m3, by rw [spj_o (by decide) (by decide)]; exact m4⟩, m5⟩
    have e : ∀ f i, f ≠ f_Md_spelt → f ≠ f_Md_spelling → spj S ty bs ty2 cs f i = S f i := fun f i h1 h2 => spj_o h1 h2
    have B1 : OPB (ntS (spj S ty bs ty2 cs) tm mb am ab (bs.length + cs.length)) (69632 + mb) ty v bs := A1.opb (fun t3 i hi => by unfold spj; rw [if_pos t3]; exact sp0 hi) e tm1
    have B2 : OPB (ntS (spj S ty bs ty2 cs) tm mb am ab (bs.length + cs.length)) (69632 + mb) ty2 v2 cs := A2.opb (fun t3 i hi => by
      have : ty = 3 := by omega
      unfold spj; rw [if_neg (fun c => c this), if_pos t3]; exact sp0 hi) e tm1
    have z1 : ty ≠ 3 → spj S ty bs ty2 cs f_Md_spelling 0 = (bs.length : Int) := fun t3 => by unfold spj spS; rw [if_pos t3, u2_s]; omega
    have z2 : ty2 ≠ 3 → spj S ty bs ty2 cs f_Md_spelling 0 = (cs.length : Int) := fun t3 => by
      have : ty = 3 := by omega
      unfold spj spS; rw [if_neg (fun c => c this), if_pos t3, u2_s]; omega
    have y1 : ty = 3 → ∃ x : Nat, v = (x : Int) ∧ x < 16000 ∧ spj S ty bs ty2 cs f_Md_textLength x = (bs.length : Int) := fun t3 => by
      rcases A1.2 with ⟨-, x, a, e1, e2, e3, e4, -⟩ | ⟨c, -⟩
      · exact ⟨x, e1, by omega, by rw [spj_o (by decide) (by decide)]; exact e4⟩
      · exact absurd t3 c
    have y2 : ty2 = 3 → ∃ x : Nat, v2 = (x : Int) ∧ x < 16000 ∧ spj S ty bs ty2 cs f_Md_textLength x = (cs.length : Int) := fun t3 => by
      rcases A2.2 with ⟨-, x, a, e1, e2, e3, e4, -⟩ | ⟨c, -⟩
      · exact ⟨x, e1, by omega, by rw [spj_o (by decide) (by decide)]; exact e4⟩
      · exact absurd t3 c
    generalize spj S ty bs ty2 cs = S2 at *
    -- the text is made
    have g72 : wpB PGm ρ (d + 20) m_Md_joined 72 [(0, vR T), (1, vI ty), (2, vL v), (4, vI ty2), (5, vL v2), (7, vI (bs.length : Int))] [vI (cs.length : Int)] (cn h0 T S2) Q := by
      have c1 : bs.length + cs.length ≤ 2000000000 := by omega
      have ww : w32 ((bs.length : Int) + (cs.length : Int)) = ((bs.length + cs.length : Nat) : Int) := w32_aa c1
      refine b_Md_joined_72 ?_
      rw [ww]
      clear ww
      refine ⟨kT, s_newText (d := d + 17) K.1 Me (by omega) (fun r1 r2 => ?_) (fun r => ⟨kz, q0 r⟩)⟩
      have fin := q1 r1 r2
      rw [← tx1_app] at fin
      have a1 : 69632 + mb + bs.length + cs.length ≤ 269632 := by have := M.2; omega
      refine s_j88 K.1 (k := 4000 + tm) (A := 69632 + mb) (by have := M.2; omega) ntS_n.1 B1 (by omega) ?_
      refine s_j149 K.1 (by have := M.2; omega) (by rw [tx1_o (by decide)]; exact ntS_n.1) ?_ (by omega) fin
      have := B2.tx (p := 69632 + mb) (cs := bs) (Nat.le_refl _)
      obtain ⟨u1, u2⟩ := this
      refine ⟨u1, ?_⟩
      rcases u2 with ⟨t3, x, a, e1, e2, e3, e4, e5⟩ | u2
      · exact Or.inl ⟨t3, x, a, e1, e2, e3, by omega, e5⟩
      · exact Or.inr u2
    obtain ⟨-, G, -⟩ := K.1
    have g49 : wpB PGm ρ (d + 20) m_Md_joined 49 [(0, vR T), (1, vI ty), (2, vL v), (4, vI ty2), (5, vL v2)] [vI (bs.length : Int)] (cn h0 T S2) Q := by
      refine b_Md_joined_49 ⟨fun t3 => ⟨kT, ?_⟩, fun t3 => ?_⟩
      · rw [cnI (by decide), z2 t3]; exact g72
      · obtain ⟨x, e1, e2, e3⟩ := y2 t3
        have b5 : 0 ≤ (x : Int) ∧ (x : Int) < ((16000 : Nat) : Int) := by omega
        have w3 : w32 v2 = (x : Int) := by rw [e1]; exact w32_of (by omega) (by omega)
        rw [w3]
        clear w3
        simp (decide := true) only [kT, cnK, cnl, cnR, cnA' G, KN G, LN G, e3, Int.toNat_natCast, true_and]
        exact ⟨b5, g72⟩
    refine b_Md_joined_30 ⟨fun t3 => ⟨kT, ?_⟩, fun t3 => ?_⟩
    · rw [cnI (by decide), z1 t3]; exact g49
    · obtain ⟨x, e1, e2, e3⟩ := y1 t3
      have b5 : 0 ≤ (x : Int) ∧ (x : Int) < ((16000 : Nat) : Int) := by omega
      have w3 : w32 v = (x : Int) := by rw [e1]; exact w32_of (by omega) (by omega)
      rw [w3]
      clear w3
      simp (decide := true) only [kT, cnK, cnl, cnR, cnA' G, KN G, LN G, e3, Int.toNat_natCast, true_and]
      exact ⟨b5, g49⟩
  refine b_Md_joined_0 ⟨kT, ?_⟩
  rw [show sI (cn h0 T S) f_Md_spelling T 0 = cn h0 T (u2 S f_Md_spelling 0 0) from cn_sI (by decide)]
  refine ⟨fun t3 => ?_, fun t3 => ?_⟩
  · refine b_Md_joined_16 ⟨fun t4 => ?_, fun t4 => ⟨kT, ?_⟩⟩
    · unfold spj at g30
      rw [if_neg (fun c => c t3), if_neg (fun c => c t4)] at g30; exact g30
    · rcases A2.2 with ⟨c, -⟩ | ⟨-, e1, e2, e3, e4⟩
      · exact absurd c t4
      · unfold spj at g30
        rw [if_neg (fun c => c t3), if_pos t4, e2] at g30
        exact s_print (d := d + 18) (p := 0) K e1 e4 (by rw [u2_s]; rfl) (by omega) (by omega) g30
  · rcases A1.2 with ⟨c, -⟩ | ⟨-, e1, e2, e3, e4⟩
    · exact absurd c t3
    · unfold spj at g30
      rw [if_pos t3, e2] at g30
      refine s_print (d := d + 18) (p := 0) K e1 e4 (by rw [u2_s]; rfl) (by omega) (by omega) ?_
      exact b_Md_joined_16 ⟨fun _ => g30, fun t4 => absurd (one.resolve_left t3) t4⟩
end
