/-! the builtin kind -/
set_option maxRecDepth 20000
/-- which text tells a kind -/
def kdX (x y : Int) : Nat × List Int := if x = 0 then (13, [110, 117, 108, 108]) else if x = 1 then (3, [98, 111, 111, 108]) else if x = 2 then (if y = w32 y then (1, [105, 110, 116]) else (2, [108, 111, 110, 103])) else if x = 3 then (14, [116, 101, 120, 116]) else if x = 4 then (15, [111, 98, 106, 101, 99, 116]) else if x = 5 then (16, [102, 117, 110]) else if x = 6 then (17, [108, 105, 115, 116]) else if x = 7 then (18, [104, 111, 115, 116]) else (10, [99, 108, 97, 115, 115])
def kdI : Nat → Nat
  | 0 => 13
  | 1 => 3
  | 2 => 1
  | 3 => 14
  | 4 => 15
  | 5 => 16
  | 6 => 17
  | 7 => 18
  | _ => 10
def KND (ρ : Nat → Nat) (h : ah) (C : Nat) : Prop := ∀ i, i < 9 → hB h (C + 97) i = ρ (kdI i)
section
variable {ρ : Nat → Nat} {P : ah → Nat → Prop} {d : Nat} {Q : QT} {Γ Γ' : GH} {h h0 h1 h' : ah} {C ho T : Nat} {X X' X1 X2 : X3} {Y Y' : Y3} {S S' S1 S2 : SS} {N t o n c r f i j k m z s n' pu po p tn w sn mn us am ab tm mb A : Nat} {ty v x y op a b p' : Int} {L : List Nat} {bs cs : List Int}
theorem kdX_ok : txM.elem (kdX x y) = true ∧ ((∀ i, i < (kdX x y).2.length → -128 ≤ (kdX x y).2.getD i 0 ∧ (kdX x y).2.getD i 0 ≤ 127) ∧ (kdX x y).2.length ≤ 20) := by
  have h : ∀ q : Nat × List Int, q ∈ [(13, [110, 117, 108, 108]), (3, [98, 111, 111, 108]), (1, [105, 110, 116]), (2, [108, 111, 110, 103]), (14, [116, 101, 120, 116]), (15, [111, 98, 106, 101, 99, 116]), (16, [102, 117, 110]), (17, [108, 105, 115, 116]), (18, [104, 111, 115, 116]), (10, [99, 108, 97, 115, 115])] → txM.elem q = true ∧ ((∀ i, i < q.2.length → -128 ≤ q.2.getD i 0 ∧ q.2.getD i 0 ≤ 127) ∧ q.2.length ≤ 20) := by decide
  apply h
  unfold kdX
  repeat' split
  all_goals simp
/-- what is spelt becomes a text -/
theorem s_madeText (O : TOK h0 T) (M : TMS S tm mb am ab) (e : S f_Md_spelling 0 = (bs.length : Int)) (es : ∀ i, i < bs.length → S f_Md_spelt i = bs.getD i 0) (rg : ∀ i, i < bs.length → -128 ≤ bs.getD i 0 ∧ bs.getD i 0 ≤ 127) (hb : bs.length ≤ 256) (q1 : am < 12000 → ab + bs.length ≤ 200000 → Q (Sum.inl (some (vI ((4000 + tm : Nat) : Int)))) (cn h0 T (mtS S tm mb am ab bs))) (q0 : ¬ (am < 12000 ∧ ab + bs.length ≤ 200000) → Q (Sum.inr (hR h0 f_Md_halt T)) (cn h0 T (erS S 99))) : wpB PGm ρ (d + 3) m_Md_madeText 0 [(0, vR T)] [] (cn h0 T S) Q := by
  have O' := O
  obtain ⟨kT, G, kH⟩ := O
  have kH' : hK h0 (hR h0 f_Md_halt T) ≠ 0 := by rw [kH]; decide
  have Mb := M.2
  have e1 : hI (cn h0 T S) f_Md_spelling T = (bs.length : Int) := by rw [cnI (by decide)]; exact e
  refine b_Md_madeText_0 ⟨kT, ?_⟩
  rw [e1]
  refine s_newText O' M (by omega) (fun r1 r2 => ?_) (fun z => ⟨kH', q0 z⟩)
  have key : ∀ m j, j + m = bs.length → wpB PGm ρ (d + 3) m_Md_madeText 11 [(0, vR T), (1, vI ((4000 + tm : Nat) : Int)), (2, vI (j : Int))] [] (cn h0 T (tx1 (ntS S tm mb am ab bs.length) (69632 + mb) (bs.take j))) Q := by
    intro m
    induction m with
    | zero =>
      intro j hj
      have : j = bs.length := by omega
      subst this
      rw [List.take_length]
      have t1 : tx1 (ntS S tm mb am ab bs.length) (69632 + mb) bs f_Md_spelling 0 = (bs.length : Int) := by rw [tx1_o (by decide)]; unfold ntS; rw [u2_f (by decide), u2_f (by decide), u2_f (by decide), u2_f (by decide), u2_f (by decide), u2_f (by decide)]; exact e
      have g := q1 r1 r2
      unfold mtS at g
      refine b_Md_madeText_11 ⟨kT, fun _ => g, fun w => ?_⟩
      rw [cnI (by decide), t1] at w; omega
    | succ m ih =>
      intro j hj
      have hj' : j < bs.length := by omega
      have nx := ih (j + 1) (by omega)
      have u := tx1_u (S := ntS S tm mb am ab bs.length) (p := 69632 + mb) hj'
      have t1 : tx1 (ntS S tm mb am ab bs.length) (69632 + mb) (bs.take j) f_Md_spelling 0 = (bs.length : Int) := by rw [tx1_o (by decide)]; unfold ntS; rw [u2_f (by decide), u2_f (by decide), u2_f (by decide), u2_f (by decide), u2_f (by decide), u2_f (by decide)]; exact e
      have t2 : tx1 (ntS S tm mb am ab bs.length) (69632 + mb) (bs.take j) f_Md_spelt j = bs.getD j 0 := by rw [tx1_o (by decide)]; unfold ntS; rw [u2_f (by decide), u2_f (by decide), u2_f (by decide), u2_f (by decide), u2_f (by decide), u2_f (by decide)]; exact es j hj'
      have t3 : tx1 (ntS S tm mb am ab bs.length) (69632 + mb) (bs.take j) f_Md_textFrom (4000 + tm) = ((69632 + mb : Nat) : Int) := by rw [tx1_o (by decide)]; unfold ntS; rw [u2_f (by decide), u2_f (by decide), u2_f (by decide), u2_f (by decide), u2_f (by decide), u2_s]
      have rg' := rg j hj'
      have b1 : 0 ≤ ((4000 + tm : Nat) : Int) ∧ ((4000 + tm : Nat) : Int) < ((16000 : Nat) : Int) := by omega
      have b2 : 0 ≤ (j : Int) ∧ (j : Int) < ((256 : Nat) : Int) := by omega
      have b3 : 0 ≤ ((69632 + mb + j : Nat) : Int) ∧ ((69632 + mb + j : Nat) : Int) < ((269632 : Nat) : Int) := by omega
      have c1 : 69632 + mb + j ≤ 2000000000 := by omega
      have c2 : j ≤ 2000000000 := by omega
      have jn : (j : Int) < (bs.length : Int) := by omega
      have w1 : w32 (((69632 + mb : Nat) : Int) + (j : Int)) = ((69632 + mb + j : Nat) : Int) := w32_aa c1
      have w2 : w32 ((j : Int) + 1) = ((j + 1 : Nat) : Int) := w32_s c2
      have nj : ((bs.length : Int) ≤ (j : Int)) = False := eq_false (Int.not_le.mpr jn)
      have pj : ((j : Int) < (bs.length : Int)) = True := eq_true jn
      clear ih rg es q1 q0 c1 c2 hj hj' jn Mb M r1 r2
      generalize bs.getD j 0 = cv at *
      generalize bs.take (j + 1) = bt at *
      generalize bs.take j = bq at *
      refine b_Md_madeText_11 ⟨kT, ?_⟩
      simp (decide := true) only [cnI, cnR, cnK, cnl, cnA' G, cn_sA' G, KN G, LN G, t1, t2, t3, w1, w2, nj, pj, u, Int.toNat_natCast, true_and, and_true, forall_const, false_implies, false_and, or_false]
      exact ⟨b1, b2, ⟨rg', b3⟩, nx⟩
  have := key bs.length 0 (by omega)
  rw [List.take_zero, tx1_nil] at this
  exact this
theorem s_spellKind (K : TKS ρ h0 T) (hx : 0 ≤ x ∧ x ≤ 8) (e : S f_Md_spelling 0 = 0) (hd : 10 ≤ d) (q : Q (Sum.inl none) (cn h0 T (spS S 0 (kdX x y).2))) : wpB PGm ρ (d + 1) m_Md_spellKind 0 [(0, vR T), (1, vI x), (2, vL y)] [] (cn h0 T S) Q := by
  have kT := K.1.1
  have ok := kdX_ok (x := x) (y := y)
  have l20 : 0 + (kdX x y).2.length ≤ 256 := by have := ok.2.2; omega
  have sp : wpB PGm ρ (d + 1) m_Md_spellKind 107 [] [vR (ρ (kdX x y).1), vR T] (cn h0 T S) Q := b_Md_spellKind_107 ⟨kT, s_spell (p := 0) K (K.2.1.g ok.1) ok.2.1 (by rw [e]; rfl) l20 hd q⟩
  have g : ∀ q : Nat × List Int, kdX x y = q → wpB PGm ρ (d + 1) m_Md_spellKind 107 [] [vR (ρ q.1), vR T] (cn h0 T S) Q := fun q e => by rw [← e]; exact sp
  unfold kdX at g
  clear sp q ok l20
  refine b_Md_spellKind_0 ⟨fun n0 => ⟨fun n1 => ⟨fun n2 => ⟨fun n3 => ⟨fun n4 => ⟨fun n5 => ⟨fun n6 => ⟨fun n7 => ?_, fun z => ?_⟩, fun z => ?_⟩, fun z => ?_⟩, fun z => ?_⟩, fun z => ?_⟩, fun z => ⟨fun z2 => ?_, fun z2 => ?_⟩⟩, fun z => ?_⟩, fun z => ?_⟩
  · exact g (10, _) (by rw [if_neg n0, if_neg n1, if_neg n2, if_neg n3, if_neg n4, if_neg n5, if_neg n6, if_neg n7])
  · exact g (18, _) (by rw [if_neg n0, if_neg n1, if_neg n2, if_neg n3, if_neg n4, if_neg n5, if_neg n6, if_pos z])
  · exact g (17, _) (by rw [if_neg n0, if_neg n1, if_neg n2, if_neg n3, if_neg n4, if_neg n5, if_pos z])
  · exact g (16, _) (by rw [if_neg n0, if_neg n1, if_neg n2, if_neg n3, if_neg n4, if_pos z])
  · exact g (15, _) (by rw [if_neg n0, if_neg n1, if_neg n2, if_neg n3, if_pos z])
  · exact g (14, _) (by rw [if_neg n0, if_neg n1, if_neg n2, if_pos z])
  · have ne : ¬ y = w32 y := fun c => z2 (by rw [if_neg (by omega), if_pos c])
    exact g (2, _) (by rw [if_neg n0, if_neg n1, if_pos z, if_neg ne])
  · have ne : y = w32 y := Classical.byContradiction fun c => by
      rw [if_neg c] at z2
      revert z2; split <;> decide
    exact g (1, _) (by rw [if_neg n0, if_neg n1, if_pos z, if_pos ne])
  · exact g (3, _) (by rw [if_neg n0, if_pos z])
  · exact g (13, _) (by rw [if_pos z])
end
