/-! C: a value is asked, whole -/
set_option maxRecDepth 20000
section
variable {ρ : Nat → Nat} {d : Nat} {Q : QT} {Γ : GH} {h h' h0 h1 h2 H : ah} {C ho T k n m f i j N M b a rr mn sn tn row e t z s s0 c o at_ r m0 E : Nat} {S S' S1 S2 SX : SS} {X X' X1 X2 : X3} {Y Y' Y1 Y2 : Y3} {g : HG} {v p x y nm ty κ hd w La bv el now : Int} {ws hw : List (List Int)} {l : List Int}
theorem r_ask (HC : CORE Γ h C ho X Y S N) (HX : HCX ρ h ho g N M hw) (yo : Y 32 f_Machine_host 0 = ho) (NM : NMR h C S ws) (I : IX h C X Y o n c) (PL : ∀ i, i < n → VR Γ S N (X o f_Task_tags i) (X o f_Task_words i) (S f_Md_pileType (2100 * t + i)) (S f_Md_pileValue (2100 * t + i))) (er : rr = 2100 * t + m0) (ety : S f_Md_pileType rr = ty) (ev : S f_Md_pileValue rr = v) (ka : hK h a = k_Site) (ek : hI h f_Site_kind a = κ) (en : hI h f_Site_name a = nm) (em : hI h f_Site_operands a = (mn : Int)) (hm8 : mn ≤ 8) (hκ : 0 ≤ κ ∧ κ ≤ 6) (hm : m0 + 1 + esK κ mn = n) (it : X 53 f_Found_isText 0 = 0 ∨ X 53 f_Found_isText 0 = 1) (es : EXS LNE S S1)
    (q1 : ¬ ((κ = 2 ∨ κ = 3) ∧ (ty = 4 ∨ ty = 5)) → ∀ X1 Y1, AXJ X X1 → AYJ Y Y1 → FDA h C ho X1 Y1 S κ ty v (-1) nm rr mn → (X1 53 f_Found_isText 0 = 0 ∨ X1 53 f_Found_isText 0 = 1) → Q (Sum.inl none) (cc h C X1 Y1))
    (q2 : (κ = 2 ∨ κ = 3) → (ty = 4 ∨ ty = 5) → ∀ el X1 Y1, NEL S1 ws rr el S1 → (el = -1 ∨ 0 ≤ el ∧ el < (ws.length : Int)) → AXJ X X1 → AYJ Y Y1 → FDA h C ho X1 Y1 S κ ty v el nm rr mn → (X1 53 f_Found_isText 0 = 0 ∨ X1 53 f_Found_isText 0 = 1) → Q (Sum.inl none) (cc h C X1 Y1))
    (q3 : (κ = 2 ∨ κ = 3) → (ty = 4 ∨ ty = 5) → ∀ l h1 X1 Y1, NEL S1 ws rr (ws.length : Int) (naS S1 ws.length l) → NMR h1 C (naS S1 ws.length l) (ws ++ [l]) → AC h1 C → FC h1 C → Fr LCC (WP (C + 34)) 5 (3 * 4000 + 4096 + 240000) h h1 → hz h1 + WNZ h1 C ≤ hz h + WNZ h C → hs h1 + WNS h1 C ≤ hs h + WNS h C → AXJ X X1 → AYJ Y Y1 → FDA h C ho X1 Y1 S κ ty v (ws.length : Int) nm rr mn → (X1 53 f_Found_isText 0 = 0 ∨ X1 53 f_Found_isText 0 = 1) → Q (Sum.inl none) (cc h1 C X1 Y1))
    (q4 : (κ = 2 ∨ κ = 3) → (ty = 4 ∨ ty = 5) → NEM S1 ws rr → ∀ X1 Y1, AXJ X X1 → AYJ Y Y1 → (X1 53 f_Found_isText 0 = 0 ∨ X1 53 f_Found_isText 0 = 1) → Q (Sum.inr (C + 33)) (cc h C (erX X1 0) Y1)) : wpB PGm ρ (d + 21) m_Machine_ask 0 [(0, vR (C + 32)), (1, vR a), (2, vI (m0 : Int))] [] (cc h C X Y) Q := by
  have F := HC.1.2
  have G := HC.1.1
  have ht := I.2.2.1
  have hn := I.2.2.2.2.1
  have e1 : Y 32 f_Machine_t 0 = C + o := I.2.2.2.1.1
  have hm0 : m0 < n := by omega
  have V := PL m0 hm0
  rw [← er, ety, ev] at V
  have tg : X o f_Task_tags m0 = ty := V.1
  have rg : 0 ≤ ty ∧ ty ≤ 8 := by
    rcases V.2.2 with z | z | z | z | z | z <;> omega
  have oe : m0 + 1 + opC κ mn ≤ n := by
    have : opC κ mn ≤ esK κ mn := by
      unfold opC esK
      by_cases w1 : κ = 1
      · rw [if_pos w1, if_neg (by omega), if_neg (by omega), if_pos (by omega)]; exact Nat.le_refl _
      · rw [if_neg w1]
        by_cases w5 : κ = 5 ∨ κ = 6
        · rw [if_pos w5, if_neg (by omega), if_neg (by omega), if_neg (by omega)]; exact Nat.le_refl _
        · rw [if_neg w5]; omega
    omega
  have named : κ = 2 ∨ κ = 3 → m0 + 1 < n := fun c => by
    have : 1 ≤ esK κ mn := by
      unfold esK
      by_cases w3 : κ = 3
      · rw [if_neg (by omega), if_pos w3]; omega
      · rw [if_neg (by omega), if_neg w3, if_pos (by omega)]; omega
    omega
  have b1 : 0 ≤ (m0 : Int) ∧ (m0 : Int) < ((2001 : Nat) : Int) := by omega
  have HC1 := HC.fnd (askX_a (X := X) (nm := nm)) (askY_a (Y := Y))
  have g84 : ty = 4 ∨ ty = 5 → wpB PGm ρ (d + 21) m_Machine_ask 84 [(0, vR (C + 32)), (1, vR a), (2, vI (m0 : Int)), (3, vR (C + 53)), (4, vI ty)] [] (cc h C (askX X nm) (askY Y)) Q := fun c => r_ask84 (mn := mn) HC NM I PL er ety ev c ka ek hm0 named es (fun nk X1 Y1 a1 a2 a3 a4 => q1 (fun z => nk z.1) X1 Y1 a1 a2 a3 (by rw [a4]; exact it)) (fun ck el X1 Y1 a1 a2 a3 a4 a5 a6 => q2 ck c el X1 Y1 a1 a2 a3 a4 a5 (by rw [a6]; exact it)) (fun ck l h1 X1 Y1 a1 a2 a3 a4 a5 a6 a7 a8 a9 a10 a11 => q3 ck c l h1 X1 Y1 a1 a2 a3 a4 a5 a6 a7 a8 a9 a10 (by rw [a11]; exact it)) (fun ck a1 X1 Y1 a2 a3 a4 => q4 ck c a1 X1 Y1 a2 a3 (by rw [a4]; exact it))
  have g165 : ty = 3 ∨ ty = 6 → wpB PGm ρ (d + 21) m_Machine_ask 165 [(3, vR (C + 53)), (4, vI ty)] [] (cc h C (askX X nm) (askY Y)) Q := fun c => by
    refine r_ask165 HC1 (q1 (fun z => by omega) _ _ ((askX_a.u (by decide)).u (by decide)) askY_a ⟨?_, fun z => by omega, fun _ => u3_s, fun z => by omega⟩ ?_)
    · rw [u3_f (by decide), u3_s, if_neg (by omega)]
      unfold gdL
      rcases c with c | c
      · rw [if_neg (by omega), if_neg (by omega), if_neg (by omega), if_pos c]
      · rw [if_neg (by omega), if_neg (by omega), if_pos c]
    · rw [u3_s]
      split
      · exact Or.inr rfl
      · exact Or.inl rfl
  have g186 : ty = 7 ∨ ty = 8 → wpB PGm ρ (d + 21) m_Machine_ask 186 [(0, vR (C + 32)), (1, vR a), (2, vI (m0 : Int)), (3, vR (C + 53)), (4, vI ty)] [] (cc h C (askX X nm) (askY Y)) Q := fun c => by
    have it1 : askX X nm 53 f_Found_isText 0 = X 53 f_Found_isText 0 := by unfold askX; rw [u3_f (by decide), u3_f (by decide)]
    refine r_ask186 (d := d + 1) HC HX yo I (askX_a (X := X) (nm := nm)) (askY_a (Y := Y)) PL er ety ev c ka ek em hm8 hm0 oe (q1 (fun z => by omega) _ _ (fcX_a ((askX_a.u (by decide)).u (by decide)) _) (askY_a.u (by decide)) ⟨?_, fun z => by omega, fun z => by omega, fun _ => ⟨u3_s, ?_, fun i hi => ?_⟩⟩ ?_)
    · rw [fcX_o (by decide), u3_f (by decide), u3_s]
      rcases c with c | c <;> rw [c] <;> decide
    · rw [fcX_o (by decide), u3_s]
    · rw [fcX_g, if_pos hi]
    · rw [fcX_o (by decide), u3_f (by decide), u3_f (by decide), it1]; exact it
  have glow : ¬ (ty = 3 ∨ ty = 4 ∨ ty = 5 ∨ ty = 6 ∨ ty = 7 ∨ ty = 8) → Q (Sum.inl none) (cc h C (u3 (askX X nm) 53 f_Found_linker 0 (-1)) (askY Y)) := fun c => by
    have it1 : askX X nm 53 f_Found_isText 0 = X 53 f_Found_isText 0 := by unfold askX; rw [u3_f (by decide), u3_f (by decide)]
    refine q1 (fun z => by omega) _ _ (askX_a.u (by decide)) askY_a ⟨?_, fun z => by omega, fun z => by omega, fun z => by omega⟩ (by rw [u3_f (by decide), it1]; exact it)
    rw [u3_s, if_neg (by omega)]
    unfold gdL
    rw [if_neg (by omega), if_neg (by omega), if_neg (by omega), if_neg (by omega)]
  have fin : ((ty = 3 → wpB PGm ρ (d + 21) m_Machine_ask 165 [(3, vR (C + 53)), (4, vI ty)] [] (cc h C (askX X nm) (askY Y)) Q) ∧ (¬ ty = 3 → (ty = 4 → wpB PGm ρ (d + 21) m_Machine_ask 84 [(0, vR (C + 32)), (1, vR a), (2, vI (m0 : Int)), (3, vR (C + 53)), (4, vI ty)] [] (cc h C (askX X nm) (askY Y)) Q) ∧ (¬ ty = 4 → (ty = 5 → wpB PGm ρ (d + 21) m_Machine_ask 84 [(0, vR (C + 32)), (1, vR a), (2, vI (m0 : Int)), (3, vR (C + 53)), (4, vI ty)] [] (cc h C (askX X nm) (askY Y)) Q) ∧ (¬ ty = 5 → (ty = 6 → wpB PGm ρ (d + 21) m_Machine_ask 165 [(3, vR (C + 53)), (4, vI ty)] [] (cc h C (askX X nm) (askY Y)) Q) ∧ (¬ ty = 6 → (ty = 7 → wpB PGm ρ (d + 21) m_Machine_ask 186 [(0, vR (C + 32)), (1, vR a), (2, vI (m0 : Int)), (3, vR (C + 53)), (4, vI ty)] [] (cc h C (askX X nm) (askY Y)) Q) ∧ (¬ ty = 7 → (ty = 8 → wpB PGm ρ (d + 21) m_Machine_ask 186 [(0, vR (C + 32)), (1, vR a), (2, vI (m0 : Int)), (3, vR (C + 53)), (4, vI ty)] [] (cc h C (askX X nm) (askY Y)) Q) ∧ (¬ ty = 8 → Q (Sum.inl none) (cc h C (u3 (askX X nm) 53 f_Found_linker 0 (-1)) (askY Y))))))))) := ⟨fun c => g165 (Or.inl c), fun c3 => ⟨fun c => g84 (Or.inl c), fun c4 => ⟨fun c => g84 (Or.inr c), fun c5 => ⟨fun c => g165 (Or.inr c), fun c6 => ⟨fun c => g186 (Or.inl c), fun c7 => ⟨fun c => g186 (Or.inr c), fun c8 => glow (by omega)⟩⟩⟩⟩⟩⟩
  clear g84 g165 g186 glow q1 q2 q3 q4 PL V NM HC1
  unfold askX askY at fin
  refine b_Machine_ask_0 ?_
  have f1 := F.t ht
  unfold FCt at f1
  have f2 := F
  unfold FC at f2
  simp (decide := true) only [ccI, ccIo, ccR, ccRo, ccK, ccl, ccA G, ccAt G ht, cc_sI, cc_sR, KC G, KCt G ht, f1, f2, e1, tg, en, ka, Int.toNat_natCast, true_and, and_true]
  exact ⟨b1, fin⟩
end
