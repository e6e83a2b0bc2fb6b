/-! the builtin kind: both machines -/
set_option maxRecDepth 20000
section
variable {ρ : Nat → Nat} {P : ah → Nat → Prop} {d : Nat} {Q : QT} {Γ Γ' : GH} {h h0 h1 h' : ah} {C ho T : Nat} {X X' X1 X2 : X3} {Y Y' : Y3} {S S' S1 S2 : SS} {N t o n c r f i j k m z s n' pu po p tn w sn mn us am ab tm mb A : Nat} {ty v x y op a b p' : Int} {L : List Nat} {bs cs : List Int}
/-- a text of the program becomes a text -/
theorem r_b324 (I : IX h C X Y o n c) (sk : SOK h r bs) (rg : ∀ i, i < bs.length → -128 ≤ bs.getD i 0 ∧ bs.getD i 0 ≤ 127) (hb : bs.length ≤ 256) (hx : m ≤ 2000) (M : TMX X mn us am ab) (T : TGL h C mn us) (pl : PRL h C 0) (hm : am < 12000 → mn < 16000) (hn : ∀ z, ab + z ≤ 200000 → us + z ≤ 265600)
  (q1 : am < 12000 ∧ ab + bs.length ≤ 200000 → ∀ h' X', JND h C X mn us am ab bs h' X' → Q (Sum.inl none) (cc h' C (ansX X' o m c 3 (mn : Int)) Y))
  (q2 : ¬ (am < 12000 ∧ ab + bs.length ≤ 200000) → ∀ h' X', PUT h C (u3 X 32 f_Machine_printed 0 0) 0 bs h' X' → Q (Sum.inr (C + 33)) (cc h' C (erX X' 0) Y)) : wpB PGm ρ (d + 20) m_Machine_builtin 324 [(0, vR (C + 32)), (2, vI (m : Int))] [vR r, vR (C + 32)] (cc h C (u3 X 32 f_Machine_printed 0 0) Y) Q := by
  obtain ⟨G, F, ht, ⟨e1, e2, e3⟩, hn', hc1, hc2⟩ := I
  refine b_Machine_builtin_324 ⟨F.1.1, r_puts (p := 0) (d := d + 18) G F u3_s pl sk rg (by omega) (by omega) (fun h2 X2 AA => ⟨AA.2.1.1.1, ?_⟩)⟩
  obtain ⟨G2, F2, pl2, p2⟩ := AA.ok
  have x2 := AA.2.2.2.2.2.2.2.2
  rw [Nat.zero_add] at pl2 p2
  have pr : PRT X2 bs := ⟨p2, fun i hi => by
    have := AA.2.2.2.2.2.2.2.1 i hi
    rw [Nat.zero_add] at this; exact this, rg⟩
  have M2 : TMX X2 mn us am ab := M.eq (fun f hf => by
    have : f = f_Texts_many ∨ f = f_Texts_used ∨ f = f_Texts_made ∨ f = f_Texts_bytesMade := by simpa using hf
    rw [x2 _ _ _ (by rcases this with rfl | rfl | rfl | rfl <;> decide), u3_f (by rcases this with rfl | rfl | rfl | rfl <;> decide)])
  refine r_makeText (d := d + 16) (bs := bs) G2 F2 (by omega) M2 (AA.tgl T G) pr pl2 hm (hn _) (fun rm2 h3 X3 T3 L3 => ⟨T3.2.1.1.1, ?_⟩) (fun rm2 => ⟨by rw [ccK, F2.1.2.1]; decide, q2 rm2 _ _ AA⟩)
  have JJ : JND h C X mn us am ab bs h3 (taX X3 mn us bs) := ⟨h2, X2, X3, AA, T3, L3, rfl⟩
  refine r_answer (d := d + 18) (n := m) (c := c) T3.1 T3.2.1 ht e1 ?_ hx ⟨hc1, hc2⟩ (by decide) (q1 rm2 _ _ JJ)
  rw [JJ.oo (by decide) (by decide)]; exact e3
theorem VO.rng8 (V : VO S N ty v) : 0 ≤ ty ∧ ty ≤ 8 := by unfold VO at V; omega
theorem r_KIND (I : IX h C X Y o n c) (n1 : 1 ≤ n) (KN : KND ρ h C) (V8 : 0 ≤ X o f_Task_tags (n - 1) ∧ X o f_Task_tags (n - 1) ≤ 8) (c3 : hl h (C + 51) = tn) (c6 : tn ≤ 8000) (VV : X o f_Task_tags (n - 1) = 4 ∨ X o f_Task_tags (n - 1) = 5 → 0 ≤ X o f_Task_words (n - 1) ∧ X o f_Task_words (n - 1) < (tn : Int) ∧ hK h (hB h (C + 51) (X o f_Task_words (n - 1)).toNat) ∈ [244, 245]) (q : wpB PGm ρ (d + 39 + 20) m_Machine_builtin 324 [(0, vR (C + 32)), (2, vI ((n - 1 : Nat) : Int))] [vR (ρ (kdX (X o f_Task_tags (n - 1)) (X o f_Task_words (n - 1))).1), vR (C + 32)] (cc h C (u3 X 32 f_Machine_printed 0 0) Y) (cV (fun h3 => Q (Sum.inl none) h3) (fun e h' => hK h' e ≠ 0 ∧ Q (Sum.inr e) h'))) : wpB PGm ρ (d + 60) m_Machine_instruct 0 [(0, vR (C + 32)), (1, vI 28), (2, vI 6), (3, vI b)] [] (cc h C X Y) Q := by
  obtain ⟨G, F, ht, ⟨e1, e2, e3⟩, hn, hc1, hc2⟩ := I
  have gz := G.1
  have w1 : w32 ((n : Int) - ((1 : Nat) : Int)) = ((n - 1 : Nat) : Int) := w32_m1 (by omega)
  have b1 : 0 ≤ ((n - 1 : Nat) : Int) ∧ ((n - 1 : Nat) : Int) < ((2001 : Nat) : Int) := by omega
  refine r_BLT (w := 1) (d := d + 40) ⟨G, F, ht, ⟨e1, e2, e3⟩, hn, hc1, hc2⟩ n1 (Or.inr ⟨by decide, rfl⟩) (b_Machine_builtin_27 ?_)
  have eR : hR (sI (cc h C X Y) f_Machine_printed (C + 32) 0) f_Machine_KINDS (C + 32) = C + 97 := by
    show hR (cc h C X Y) f_Machine_KINDS (C + 32) = _
    rw [ccRo (by decide)]; exact F.2.1.2.2.2.2.2.2.2.2.2.2.2.2.2
  have kk : hK h (C + 97) = 28 ∧ hl h (C + 97) = 9 := F.2.2.2.2.2.2.2.2.1
  have un : UNO h (C + 97) := F.2.2.2.2.2.2.2.2.2.1.2.2
  generalize hx : X o f_Task_tags (n - 1) = x at *
  generalize hy : X o f_Task_words (n - 1) = y at *
  have eB : hB (sI (cc h C X Y) f_Machine_printed (C + 32) 0) (C + 97) x.toNat = ρ (kdI x.toNat) := by
    show hB (cc h C X Y) (C + 97) _ = _
    rw [ccB0 (fun q m c => un q.1 (C + q.2.1) (by have := (ownB' m).2; omega) (ownB' m).1 c), KN _ (by omega)]
  have ek : x ≠ 2 → kdI x.toNat = (kdX x y).1 := fun n2 => by
    have : x = 0 ∨ x = 1 ∨ x = 3 ∨ x = 4 ∨ x = 5 ∨ x = 6 ∨ x = 7 ∨ x = 8 := by omega
    clear hx q VV V8 eB
    rcases this with e | e | e | e | e | e | e | e <;> (subst e; rfl)
  have bb : (20 ≤ hK (sI (cc h C X Y) f_Machine_printed (C + 32) 0) (C + 97) ∧ hK (sI (cc h C X Y) f_Machine_printed (C + 32) 0) (C + 97) < 100 ∧ 0 ≤ x ∧ x < (hl (sI (cc h C X Y) f_Machine_printed (C + 32) 0) (C + 97) : Int)) := by
    show 20 ≤ hK h (C + 97) ∧ hK h (C + 97) < 100 ∧ 0 ≤ x ∧ x < (hl h (C + 97) : Int)
    omega
  have q2 : x = 2 → ∀ r : Nat, (y = w32 y ∧ r = 1 ∨ ¬ y = w32 y ∧ r = 2) → wpB PGm ρ (d + 39 + 20) m_Machine_builtin 324 [(0, vR (C + 32)), (2, vI ((n - 1 : Nat) : Int))] [vR (ρ r), vR (C + 32)] (cc h C (u3 X 32 f_Machine_printed 0 0) Y) (cV (fun h3 => Q (Sum.inl none) h3) (fun e h' => hK h' e ≠ 0 ∧ Q (Sum.inr e) h')) := fun z2 r hr => by
    have e : (kdX x y).1 = r := by
      clear hx q VV V8 eB ek bb
      subst z2
      unfold kdX
      rw [if_neg (by decide), if_neg (by decide), if_pos rfl]
      rcases hr with ⟨w, rfl⟩ | ⟨w, rfl⟩
      · rw [if_pos w]
      · rw [if_neg w]
    rw [← e]; exact q
  have f1 := F.t ht
  unfold FCt at f1
  have f2 := F
  unfold FC at f2
  have cs : sI (cc h C X Y) f_Machine_printed (C + 32) 0 = cc h C (u3 X 32 f_Machine_printed 0 0) Y := cc_sI (by decide)
  clear KN gz un kk n1
  simp (decide := true) only [ccI, ccR, ccRo, ccK, ccl, ccA G, ccAt G ht, KC G, KCt G ht, f1, f2, e1, w1, hx, hy, Int.toNat_natCast, true_and, and_true, false_implies, forall_const]
  refine ⟨b1, b1, r_objectOf G F (by omega) c3 c6 VV ⟨F.1.1, ?_, ?_⟩⟩
  · intro n2
    rw [eR, eB, ek n2]
    refine ⟨bb, ?_⟩
    rw [cs]
    exact q
  · intro z2
    rw [cs]
    refine b_Machine_isInt_0 ⟨fun z => ⟨fun _ => q2 z2 2 (Or.inr ⟨fun c => ?_, rfl⟩), fun w => absurd rfl w⟩, fun z => ⟨fun w => absurd w (by decide), fun _ => q2 z2 1 (Or.inl ⟨?_, rfl⟩)⟩⟩
    · clear q q2 hx hy VV V8 eB ek bb
      revert z; rw [← c]; rw [if_neg (Int.lt_irrefl _), if_pos rfl]; exact fun w => w rfl
    · clear q q2 hx hy VV V8 eB ek bb
      refine Classical.byContradiction fun c => ?_
      rw [if_neg c] at z
      revert z; split <;> decide
end
