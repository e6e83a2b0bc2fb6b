/-! printing of host names: both -/
set_option maxRecDepth 20000
/-- a name that may be printed -/
def NMW (l : List Int) : Prop := l.length ≤ 60 ∧ ∀ j, j < l.length → 0 ≤ l.getD j 0 ∧ l.getD j 0 ≤ 126
/-- what values of a host print -/
def hvL (g : HG) (S : SS) (ty v : Int) : List Int := if ty = 7 then g.2 0 (S f_Md_thingClass v.toNat).toNat ++ ([64] ++ nuL v) else g.2 0 v.toNat
section
variable {ρ : Nat → Nat} {P : ah → Nat → Prop} {d : Nat} {Q : QT} {Γ Γ' : GH} {h h0 h1 h' : ah} {C ho T : Nat} {X X' X1 X2 : X3} {Y Y' : Y3} {S S' S1 S2 : SS} {N t o n c r f i j k m z s n' pu po tn w sn sm l1 s0 nn p0 kk kx by_ fr_ sz nx_ at_ M p : Nat} {ty v x y op a b : Int} {L : List Nat} {ws : List (List Int)} {l bs cs : List Int} {g : HG}
theorem r_putWord (G : AC h C) (F : FC h C) (HH : HCM ρ h ho g N M ws) (yh : YHO Y ho) (hw : w < ws.length) (el : ws.getD w [] = l) (nw : NMW l) (e : X 32 f_Machine_printed 0 = (p : Int)) (pl : PRL h C p) (hp : p + l.length ≤ 200100) (hd : 11 ≤ d) (q : ∀ h' X', PUT h C X p l h' X' → Q (Sum.inl none) (cc h' C X' Y)) : wpB PGm ρ (d + 1) m_Machine_putWord 0 [(0, vR (C + 32)), (1, vI (w : Int))] [] (cc h C X Y) Q := by
  refine b_Machine_putWord_0 ?_
  have wf : ∀ {bs : List Int} {h' : ah} {X' : X3}, PUT h C X p bs h' X' → (hK (cc h' C X' Y) ho = k_Host ∧ hR (cc h' C X' Y) f_Host_words ho = ho + 4 ∧ hR (cc h' C X' Y) f_Machine_host (C + 32) = ho) ∧ ∃ by_ fr sz nx, WD (cc h' C X' Y) (ho + 4) 512 15360 ws by_ fr sz nx (ho + 9) := fun {bs h' X'} A => by
    obtain ⟨z, s, fr⟩ := A.2.2.1
    obtain ⟨a, b, c, d, H⟩ := (HH.fr fr (by unfold DJ; decide) (by simp)).cc (X := X') (Y := Y) A.1
    exact ⟨⟨H.1.1, H.1.2.2.2.2.2.1, by rw [ccR (by decide)]; exact yh.1⟩, a, b, c, d, H.2.2.2.2.2.2.2⟩
  refine puts_ind (F1 := fun j H => wpB PGm ρ (d + 1) m_Machine_putWord 2 [(0, vR (C + 32)), (1, vI (w : Int)), (2, vI (j : Int))] [] H Q) l (fun h' X' A => ?_) hp (fun j h' X' hj A nx => ?_) G F pl e
  · obtain ⟨G2, F2, -, -⟩ := A.ok
    obtain ⟨⟨u1, u2, u3⟩, by_, fr, sz, nx, W⟩ := wf A
    obtain ⟨⟨a1, a2, a3, a4, a5, a6, a7⟩, ⟨b1, b2, b3, b4, b5⟩, ⟨c1, c2, c3, c4, c5⟩, -, ⟨e1, e2, e3, e4, e5, e6, e7⟩, -, H7, -, -⟩ := W
    obtain ⟨h1, h2, h3, -⟩ := H7 w hw
    rw [el] at h2
    refine b_Machine_putWord_2 ⟨F2.1.1, ?_⟩
    rw [u3, u2, b3, Int.toNat_natCast, h2]
    exact ⟨u1, a1, ⟨by rw [c3]; decide, by omega, by omega⟩, fun _ => q h' X' A, fun z => absurd z (Int.lt_irrefl _)⟩
  · obtain ⟨G2, F2, pl2, e3'⟩ := A.ok
    obtain ⟨⟨u1, u2, u3⟩, by_, fr, sz, nx', W⟩ := wf A
    have l1 : (l.take j).length = j := by rw [List.length_take]; omega
    rw [l1] at pl2 e3'
    obtain ⟨⟨a1, a2, a3, a4, a5, a6, a7⟩, ⟨b1, b2, b3, b4, b5⟩, ⟨c1, c2, c3, c4, c5⟩, -, ⟨e1, e2, e3, e4, e5, e6, e7⟩, ⟨g1, g2, g3, g4, g5⟩, H7, -, -⟩ := W
    obtain ⟨h1, h2, h3, -⟩ := H7 w hw
    have ht : tot ws w + (ws.getD w []).length ≤ tot ws ws.length := by
      have := tot_mono (ws := ws) (m := w + 1) (n := ws.length) (by omega)
      simpa only [tot] using this
    rw [el] at h2 h3 ht
    have rg := nw.2 j hj
    obtain ⟨d', rfl⟩ : ∃ d', d = d' + 1 := ⟨d - 1, by omega⟩
    have go : wpB PGm ρ (d' + 1) m_Machine_put 0 [(0, vR (C + 32)), (1, vI (l.getD j 0))] [] (cc h' C X' Y) (cV (fun h21 => wpB PGm ρ (d' + 1 + 1) m_Machine_putWord 2 [(0, vR (C + 32)), (1, vI (w : Int)), (2, vI ((j + 1 : Nat) : Int))] [] h21 Q) (fun e24 h23 => hK h23 e24 ≠ 0 ∧ Q (Sum.inr e24) h23)) := by
      refine r_put G2 F2 e3' pl2 (by omega) (by omega) (fun h2 X2 B => nx h2 X2 ?_)
      rw [w8_of (by omega) (by omega)] at B
      exact B
    have jl : ¬ (l.length : Int) ≤ (j : Int) := by omega
    have r1 : 0 ≤ (w : Int) ∧ (w : Int) < (hl (cc h' C X' Y) sz : Int) := by omega
    have r2 : 0 ≤ (w : Int) ∧ (w : Int) < (hl (cc h' C X' Y) fr : Int) := by omega
    have r3 : 0 ≤ ((tot ws w + j : Nat) : Int) ∧ ((tot ws w + j : Nat) : Int) < (hl (cc h' C X' Y) by_ : Int) := by omega
    have y1 : j ≤ 2000000000 := by omega
    have y2 : tot ws w + j ≤ 2000000000 := by omega
    have w1 : w32 ((j : Int) + 1) = ((j + 1 : Nat) : Int) := w32_s y1
    have w2 : w32 ((tot ws w : Int) + (j : Int)) = ((tot ws w + j : Nat) : Int) := w32_aa y2
    refine b_Machine_putWord_2 ⟨F2.1.1, ?_⟩
    rw [u3, u2, b3, Int.toNat_natCast, h2, w1]
    refine ⟨u1, a1, ⟨by rw [c3]; decide, r1⟩, fun z => absurd z jl, fun _ => b_Words_byteAt_0 ⟨a1, ?_⟩⟩
    rw [b2, b1, Int.toNat_natCast, h1, w2, Int.toNat_natCast, h3 j hj]
    exact ⟨⟨by rw [c2]; decide, r2⟩, ⟨by rw [c1]; decide, r3⟩, F2.1.1, go⟩
/-- T: a class's name is spelt -/
theorem s_spellClass (O : TOK h0 T) (H : HRW h0 T k g n m) (hi : i < n) (e : S f_Md_spelling 0 = (p : Int)) (nw : NMW (g.2 0 i)) (hp : p + (g.2 0 i).length ≤ 256) (q : Q (Sum.inl none) (cn h0 T (spS S p (g.2 0 i)))) : wpB PGm ρ d m_Md_spellClass 0 [(0, vR T), (1, vI (i : Int))] [] (cn h0 T S) Q := by
  obtain ⟨ek, hT, hn, hm, n6, -, hc, -⟩ := H
  have kT := O.1
  have G := O.2.1
  obtain ⟨-, -, -, -, -, -, -, -, -, a, a1, a2, a3, a4⟩ := hc i hi
  have c0 : 0 ≤ (i : Int) ∧ (i : Int) < ((60 : Nat) : Int) := by omega
  generalize hL : g.2 0 i = L at *
  have lp : ∀ mm j, j + mm = L.length → wpB PGm ρ d m_Md_spellClass 10 [(0, vR T), (1, vI (i : Int)), (2, vI ((a + j : Nat) : Int))] [] (cn h0 T (u2 (sp1 S p (L.take j)) f_Md_spelling 0 ((p + j : Nat) : Int))) Q := by
    intro mm
    induction mm with
    | zero =>
      intro j hj
      have e2 : j = L.length := by omega
      subst e2
      rw [List.take_length]
      refine b_Md_spellClass_10 ⟨kT, ?_⟩
      simp (decide := true) only [cnR, cnK, cnl, cnA' G, tAH O hT, KN G, LN G, tKH hT.1, tLH hT.1, ek, hT.2, a2, Int.toNat_natCast, true_and, and_true]
      exact ⟨c0, fun _ => q, fun z => absurd z (Int.lt_irrefl _)⟩
    | succ mm ih =>
      intro j hj
      have hj' : j < L.length := by omega
      have nx := ih (j + 1) (by omega)
      have nlt : ¬ ((a + L.length : Nat) : Int) ≤ ((a + j : Nat) : Int) := by omega
      obtain ⟨s1, s2, s3⟩ := a4 j hj'
      have b1 : 0 ≤ ((a + j : Nat) : Int) ∧ ((a + j : Nat) : Int) < ((65536 : Nat) : Int) := by omega
      have b2 : 0 ≤ ((p + j : Nat) : Int) ∧ ((p + j : Nat) : Int) < ((256 : Nat) : Int) := by omega
      have b3 : -128 ≤ L.getD j 0 ∧ L.getD j 0 ≤ 127 := by omega
      have u := sp1_u (S := S) (p := p) hj'
      have u' : u2 (u2 (u2 (sp1 S p (L.take j)) f_Md_spelling 0 ((p + j : Nat) : Int)) f_Md_spelt (p + j) (L.getD j 0)) f_Md_spelling 0 ((p + (j + 1) : Nat) : Int) = u2 (sp1 S p (L.take (j + 1))) f_Md_spelling 0 ((p + (j + 1) : Nat) : Int) := by
        rw [← u]
        funext f x
        simp only [u2_e]
        by_cases q1 : f = f_Md_spelling ∧ x = 0
        · rw [if_pos q1, if_pos q1]
        · rw [if_neg q1]
          by_cases q2 : f = f_Md_spelt ∧ x = p + j
          · rw [if_pos q2, if_neg q1, if_pos q2]
          · rw [if_neg q2, if_neg q1, if_neg q1, if_neg q2]
      have y1 : p + j ≤ 2000000000 := by omega
      have y2 : a + j ≤ 2000000000 := by omega
      have w1 : w32 (((p + j : Nat) : Int) + 1) = ((p + (j + 1) : Nat) : Int) := w32_s y1
      have w2 : w32 (((a + j : Nat) : Int) + 1) = ((a + (j + 1) : Nat) : Int) := w32_s y2
      clear ih q hc nw
      refine b_Md_spellClass_10 ⟨kT, ?_⟩
      simp (decide := true) only [cnI, cnR, cnK, cnl, cnA' G, cn_sI, cn_sA' G, tAH O hT, KN G, LN G, tKH hT.1, tLH hT.1, ek, hT.2, a2, s1, u2_f, u2_s, w1, w2, u', Int.toNat_natCast, true_and, and_true, or_false, false_and]
      exact ⟨c0, fun z => absurd z nlt, fun _ => ⟨b1, ⟨b3, b2⟩, nx⟩⟩
  have g0 := lp L.length 0 (Nat.zero_add _)
  rw [List.take_zero, sp1_nil, Nat.add_zero, Nat.add_zero, u2_id (S := S) (f := f_Md_spelling) (i := 0) (v := (p : Int)) e] at g0
  clear lp q
  refine b_Md_spellClass_0 ⟨kT, ?_⟩
  simp (decide := true) only [cnR, cnK, cnl, tAH O hT, tKH hT.1, tLH hT.1, ek, hT.2, a1, Int.toNat_natCast, true_and, and_true]
  exact ⟨c0, g0⟩
end
