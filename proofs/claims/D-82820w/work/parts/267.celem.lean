/-! C: the name of an element -/
set_option maxRecDepth 20000
/-- rows that names of elements go by -/
def LNE : List Nat := [f_Md_pileType, f_Md_pileValue, f_Md_textFrom, f_Md_textLength, f_Md_textSigns, f_Md_names, f_Md_nameSize, f_Md_nameSigns]
/-- room that C's names may still take -/
def WNZ (h : ah) (C : Nat) : Nat := wpz h (hR h f_Words_from (C + 34)) (hR h f_Words_bytes (C + 34)) 240000
def WNS (h : ah) (C : Nat) : Nat := wps h (hR h f_Words_from (C + 34)) (hR h f_Words_bytes (C + 34)) 4000 240000
section
variable {ρ : Nat → Nat} {d : Nat} {Q : QT} {Γ : GH} {h h' h0 h1 h2 H : ah} {C ho T k n m f i j N M b a rr mn sn tn row e t z s s0 c o at_ r m0 : Nat} {S S' S1 S2 SX : SS} {X X' : X3} {Y Y' Y1 Y2 : Y3} {g : HG} {v p x y nm ty κ hd w La bv el now : Int} {ws : List (List Int)} {l : List Int} {F : Int → ah → Prop} {E : Nat → ah → Prop}
theorem tot_60 : ∀ n, (∀ k, k < n → (ws.getD k []).length ≤ 60) → tot ws n ≤ 60 * n
  | 0, _ => Nat.le_refl _
  | n + 1, H => by
    have := tot_60 n (fun k hk => H k (by omega))
    have h2 := H n (by omega)
    simp only [tot]; omega
theorem TXC.range (H : TXC Γ h C X S) (V : VR Γ S N x y ty v) (e : ty = 3) (em : v = (m : Int)) (tx : TTX S m l) : ∀ i, i < l.length → -128 ≤ l.getD i 0 ∧ l.getD i 0 ≤ 127 := by
  obtain ⟨mn, us, sb, mb, tm, am, ab, -, -, -, -, -, -, A⟩ := H
  have to : txO S m := by
    rcases V.2.2 with z | z | z | z | z | z
    all_goals try (exfalso; omega)
    obtain ⟨-, z1, z2⟩ := z
    rw [em, Int.toNat_natCast] at z2; exact z2
  obtain ⟨a, n, b, t1, t2, -, -, -, -, t3, -⟩ := A m to
  obtain ⟨a', -, u1, u2, -, u3⟩ := tx
  have ea : a' = a := by omega
  subst ea
  intro i hi
  have := t3 i (by omega)
  rw [u3 i hi] at this
  exact this.2
theorem c_take4 {w most mb by_ fr sz nx hd : Nat} (H : WD h w most mb ws by_ fr sz nx hd) (hk : hK h r ∈ [3, 4, 13]) (R : RW h r at_ l) (hb : at_ + l.length ≤ 1000000) (hd9 : 10 ≤ d + 1) (fu : ws.length = most) (q1 : ∀ k : Nat, k < ws.length → ws.getD k [] = l → F (k : Int) h) (q0 : l ∉ ws → F (-1) h) : wpB PGm ρ (d + 1 + 1) m_Words_take 0 [(0, vR w), (1, vR r), (2, vI (at_ : Int)), (3, vI (l.length : Int))] [] h (cI F E) := by
  obtain ⟨⟨a1, a2, a3, a4, a5, a6, a7⟩, -⟩ := id H
  refine b_Words_take_0 (d := d + 1) (by omega) ⟨a1, c_find H hk R hb (fun k h1 h2 => ⟨fun _ => q1 k h1 h2, fun c => by omega⟩) (fun h1 => ⟨fun c => by omega, fun _ => ⟨a1, fun c => absurd (by rw [a6, a4, fu]) c, fun _ => q0 h1⟩⟩)⟩
theorem NMR.exs (H : NMR h C S ws) (e : EXS [f_Md_names, f_Md_nameSize, f_Md_nameSigns] S S1) : NMR h C S1 ws := by
  obtain ⟨W, nd, a1, a2, a3⟩ := H
  refine ⟨W, nd, by rw [e _ (by decide)]; exact a1, a2, fun k hk => ?_⟩
  obtain ⟨x1, x2, x3⟩ := a3 k hk
  exact ⟨x1, by rw [e _ (by decide)]; exact x2, fun i hi => by rw [e _ (by decide)]; exact x3 i hi⟩
theorem NMR.add {by2 fr2 sz2 nx2 hd2 : Nat} (H : NMR h C S ws) (W : WD h1 (C + 34) 4000 240000 (ws ++ [l]) by2 fr2 sz2 nx2 hd2) (hn : l ∉ ws) (h4 : ws.length < 4000) (hl : l.length ≤ 60) : NMR h1 C (naS S ws.length l) (ws ++ [l]) := by
  obtain ⟨-, nd, a1, a2, a3⟩ := H
  refine ⟨⟨_, _, _, _, _, W⟩, List.nodup_append.mpr ⟨nd, by simp, fun a ha b hb c => hn (by rw [List.mem_singleton] at hb; rw [← hb, ← c]; exact ha)⟩, ?_, by simp; omega, fun k hk => ?_⟩
  · unfold naS; rw [u2_s]; simp
  · rw [List.length_append, List.length_singleton] at hk
    by_cases w : k < ws.length
    · have e : (ws ++ [l]).getD k [] = ws.getD k [] := by simp only [List.getD]; rw [List.getElem?_append_left w]
      obtain ⟨x1, x2, x3⟩ := a3 k w
      rw [e]
      refine ⟨x1, ?_, fun i hi => ?_⟩
      · unfold naS
        rw [u2_f (by decide), u2_e, if_neg (fun c => by omega), na1_o (by decide)]; exact x2
      · unfold naS
        rw [u2_f (by decide), u2_f (by decide)]
        unfold na1
        rw [if_neg (fun c => by omega)]; exact x3 i hi
    · have ek : k = ws.length := by omega
      subst ek
      have e : (ws ++ [l]).getD ws.length [] = l := by simp [List.getD]
      rw [e]
      refine ⟨hl, ?_, fun i hi => ?_⟩
      · unfold naS
        rw [u2_f (by decide), u2_s]
      · unfold naS
        rw [u2_f (by decide), u2_f (by decide)]
        unfold na1
        rw [if_pos ⟨rfl, by omega, by omega⟩]
        congr 1; omega
theorem djWP {w : Nat} : DJ LMM [] (WP w) := by
  have : DJ LMM [] (WP 0) := by unfold DJ; decide +kernel
  exact this
theorem FWI.of {k : Nat} (h1 : k < ws.length) (h2 : ws.getD k [] = l) : FWI ws l (k : Int) := Or.inl ⟨k, rfl, h1, h2⟩
/-- the name that a text at a place is -/
theorem r_elem (HC : CORE Γ h C ho X Y S N) (NM : NMR h C S ws) (I : IX h C X Y o n c) (hm : m0 + 1 < n) (V : VR Γ S N (X o f_Task_tags (m0 + 1)) (X o f_Task_words (m0 + 1)) (S f_Md_pileType (rr + 1)) (S f_Md_pileValue (rr + 1))) (es : EXS LNE S S1)
    (q1 : ∀ el, NEL S1 ws rr el S1 → (el = -1 ∨ 0 ≤ el ∧ el < (ws.length : Int)) → Q (Sum.inl (some (vI el))) (cc h C X Y))
    (q2 : ∀ l h1, NEL S1 ws rr (ws.length : Int) (naS S1 ws.length l) → NMR h1 C (naS S1 ws.length l) (ws ++ [l]) → AC h1 C → FC h1 C → Fr LCC (WP (C + 34)) 5 (3 * 4000 + 4096 + 240000) h h1 → hz h1 + WNZ h1 C ≤ hz h + WNZ h C → hs h1 + WNS h1 C ≤ hs h + WNS h C → Q (Sum.inl (some (vI (ws.length : Int)))) (cc h1 C X Y))
    (q3 : NEM S1 ws rr → Q (Sum.inr (C + 33)) (cc h C (erX X 0) Y)) : wpB PGm ρ (d + 20) m_Machine_elementName 0 [(0, vR (C + 32)), (1, vI ((m0 + 1 : Nat) : Int))] [] (cc h C X Y) Q := by
  have NM1 : NMR h C S1 ws := NM.exs (fun f hf i => es f (by
    have : [f_Md_names, f_Md_nameSize, f_Md_nameSigns].all (fun f => LNE.elem f) = true := by decide
    exact List.all_eq_true.mp this f (by simpa using hf)) i)
  have F := HC.1.2
  have G := HC.1.1
  obtain ⟨-, -, ht, ⟨e1, e2, e3⟩, hn, hc1, hc2⟩ := I
  have p1 : S1 f_Md_pileType (rr + 1) = S f_Md_pileType (rr + 1) := es _ (by decide) _
  have p2 : S1 f_Md_pileValue (rr + 1) = S f_Md_pileValue (rr + 1) := es _ (by decide) _
  have tt : ∀ {m l}, TTX S m l → TTX S1 m l := fun H => H.ex (fun f hf i => es f (by
    have : [f_Md_textFrom, f_Md_textLength, f_Md_textSigns].all (fun f => LNE.elem f) = true := by decide
    exact List.all_eq_true.mp this f (by simpa using hf)) i)
  have TX := HC.2.2.2.2.1
  have b1 : 0 ≤ ((m0 + 1 : Nat) : Int) ∧ ((m0 + 1 : Nat) : Int) < ((2001 : Nat) : Int) := by omega
  by_cases t3 : X o f_Task_tags (m0 + 1) = 3
  · have t3' : S f_Md_pileType (rr + 1) = 3 := by rw [← V.1]; exact t3
    obtain ⟨m, l, em, tx, xx, bb, y1, y2', y3, y4, y5, y6, y7, y8, y9⟩ := TX.find V t3'
    have rg := TX.range V t3' em tx
    have w3 : w32 (xx : Int) = (xx : Int) := w32_of (by omega) (by omega)
    have d1 : 0 ≤ (xx : Int) ∧ (xx : Int) < (hl h (hR h f_Texts_from (C + 46)) : Int) := ⟨Int.natCast_nonneg xx, Int.ofNat_lt.mpr y4⟩
    have d2 : 0 ≤ (xx : Int) ∧ (xx : Int) < (hl h (hR h f_Texts_size (C + 46)) : Int) := ⟨Int.natCast_nonneg xx, Int.ofNat_lt.mpr y3⟩
    have kB : hK h (hR h f_Texts_bytes (C + 46)) ∈ [3, 4, 13] := by rw [(G.2.2.2.1 (f_Texts_bytes, 46, 3) (by decide)).2]; decide
    have rw' : RW (cc h C X Y) (hR h f_Texts_bytes (C + 46)) bb l := ⟨y7, fun i hi => by rw [ccA G (by decide)]; exact y9 i hi⟩
    have uq : ∀ {m' : Nat} {l' : List Int}, S1 f_Md_pileValue (rr + 1) = (m' : Int) → TTX S1 m' l' → l'.length = l.length := fun {m' l'} h1 h2 => by
      have em' : m' = m := by rw [p2, em] at h1; omega
      subst em'
      obtain ⟨_, -, -, u1, -⟩ := h2
      obtain ⟨_, -, -, u2, -⟩ := tt tx
      omega
    have none : ¬ (1 ≤ l.length ∧ l.length ≤ 60) → Q (Sum.inl (some (vI (-1)))) (cc h C X Y) := fun ne => q1 (-1) (Or.inl ⟨fun c => by
      obtain ⟨-, m', l', h1, h2, h3, h4⟩ := c
      rw [uq h1 h2] at h3 h4
      exact ne ⟨h3, h4⟩, fun _ => ⟨m, l, by rw [p2]; exact em, tt tx⟩, rfl, rfl⟩) (Or.inl rfl)
    have nel : ∀ {v el : Int} {S' : SS}, 1 ≤ l.length → l.length ≤ 60 → FWI ws l v → ((0 ≤ v ∧ el = v ∧ S' = S1) ∨ (v < 0 ∧ ws.length < 4000 ∧ el = (ws.length : Int) ∧ S' = naS S1 ws.length l)) → NEL S1 ws rr el S' := fun {v el S'} h1 h2 h3 h4 => Or.inr ⟨by rw [p1]; exact t3', m, l, by rw [p2]; exact em, tt tx, h1, h2, rg, v, h3, h4⟩
    have gt : 1 ≤ l.length → l.length ≤ 60 → wpB PGm ρ (d + 19) m_Words_take 0 [(0, vR (C + 34)), (1, vR (hR h f_Texts_bytes (C + 46))), (2, vI (bb : Int)), (3, vI (l.length : Int))] [] (cc h C X Y) (cI (fun x26 h21 => (0 ≤ x26 → Q (Sum.inl (some (vI x26))) h21) ∧ (x26 < 0 → wpB PGm ρ (d + 20) m_Machine_elementName 91 [(0, vR (C + 32))] [] h21 Q)) (fun e24 h23 => ¬ hK h23 e24 = 0 ∧ Q (Sum.inr e24) h23)) := fun g1 g2 => by
      obtain ⟨⟨by_, fr, sz, nx, hd, W⟩, -⟩ := NMR.fr (S' := S) NM (cc_fr (X := X) (Y := Y) G) (by unfold DJ; decide) (by simp) EXS.rf
      have z46 : C + 46 < hz h := by have := G.1; omega
      have z34 : C + 34 < hz h := by have := G.1; omega
      have oT : own f_Texts_bytes := by unfold own; decide
      have oW : own f_Words_bytes := by unfold own; decide
      have rz : hR h f_Texts_bytes (C + 46) < hz h := G.2.1.1 _ _ z46 oT
      have eb : hR h f_Words_bytes (C + 34) = by_ := by have := W.2.1.1; rw [ccRo (by decide)] at this; exact this
      have bz : 0 < by_ := W.2.2.2.1.1
      have ne : hR h f_Texts_bytes (C + 46) ≠ by_ := fun c => by
        have := (G.2.1.2.1 _ _ _ _ z46 z34 oT oW (by rw [c, eb]) (by omega)).1
        exact absurd this (by decide)
      have fnd : ∀ k : Nat, k < ws.length → ws.getD k [] = l → (0 ≤ (k : Int) → Q (Sum.inl (some (vI (k : Int)))) (cc h C X Y)) ∧ ((k : Int) < 0 → wpB PGm ρ (d + 20) m_Machine_elementName 91 [(0, vR (C + 32))] [] (cc h C X Y) Q) := fun k h1 h2 => ⟨fun c => q1 (k : Int) (nel g1 g2 (FWI.of h1 h2) (Or.inl ⟨c, rfl, rfl⟩)) (Or.inr ⟨c, by omega⟩), fun c => by omega⟩
      by_cases fu : ws.length = 4000
      · refine c_take4 (d := d + 17) W kB rw' y8 (by omega) fu fnd (fun nw => ⟨fun c => absurd c (by decide), fun _ => ?_⟩)
        have g3 := q3 ⟨by rw [p1]; exact t3', m, l, by rw [p2]; exact em, tt tx, g1, g2, Or.inr ⟨rfl, nw⟩, fu⟩
        have kS : hK (cc h C (erX X 0) Y) (C + 33) ≠ 0 := by rw [ccK, F.1.2.1]; decide
        refine b_Machine_elementName_91 (d := d + 19) ⟨F.1.1, ?_⟩
        rw [ccRo (by decide), F.2.1.2.2.2.2.1]
        exact ⟨F.1.2.2.2.2.2.1, r_full (d := d + 18) G F ⟨kS, g3⟩⟩
      · have len4 := NM.2.2.2.1
        have tl := tot_60 (ws := ws) ws.length (fun k hk => (NM.2.2.2.2 k hk).1)
        refine c_take (d := d + 17) W kB rw' y8 rg ne rz (by omega) (by omega) fnd (fun _ c => absurd c fu) (fun nw hlt h1 by2 fr2 sz2 nx2 W2 fr2' pz ps => ⟨fun _ => ?_, fun c => by omega⟩)
        have ef : hR h f_Words_from (C + 34) = fr := by have := W.2.1.2.1; rw [ccRo (by decide)] at this; exact this
        have pz' : hz h1 + WNZ h1 C ≤ hz h + WNZ h C := by unfold WNZ; rw [ef, eb, W2.2.1.1, W2.2.1.2.1]; exact pz
        have ps' : hs h1 + WNS h1 C ≤ hs h + WNS h C := by unfold WNS; rw [ef, eb, W2.2.1.1, W2.2.1.2.1]; exact ps
        obtain ⟨GA, FA, ec, fr3⟩ := matP G F fr2' djWP (by intro y c; simp [WP] at c)
        have g4 := q2 l h1 (nel g1 g2 (Or.inr ⟨rfl, nw⟩) (Or.inr ⟨by decide, hlt, rfl, rfl⟩)) (NM1.add W2 nw hlt g2) GA FA (fr3.mono (fun f hf => by simpa using hf) (fun q hq => hq)) pz' ps'
        rw [ec] at g4
        exact g4
    have c0 : l.length = 0 → Q (Sum.inl (some (vI (-1)))) (cc h C X Y) := fun c => none (by omega)
    have c6 : 60 < l.length → Q (Sum.inl (some (vI (-1)))) (cc h C X Y) := fun c => none (by omega)
    have fin : (((l.length : Int) = 0 → Q (Sum.inl (some (vI (-1)))) (cc h C X Y)) ∧ (¬ (l.length : Int) = 0 → (((l.length : Int) ≤ 60 → wpB PGm ρ (d + 19) m_Words_take 0 [(0, vR (C + 34)), (1, vR (hR h f_Texts_bytes (C + 46))), (2, vI (bb : Int)), (3, vI (l.length : Int))] [] (cc h C X Y) (cI (fun x26 h21 => (0 ≤ x26 → Q (Sum.inl (some (vI x26))) h21) ∧ (x26 < 0 → wpB PGm ρ (d + 20) m_Machine_elementName 91 [(0, vR (C + 32))] [] h21 Q)) (fun e24 h23 => ¬ hK h23 e24 = 0 ∧ Q (Sum.inr e24) h23))) ∧ (60 < (l.length : Int) → Q (Sum.inl (some (vI (-1)))) (cc h C X Y))))) := ⟨fun c => c0 (by omega), fun c => ⟨fun c1 => gt (by omega) (by omega), fun c1 => c6 (by omega)⟩⟩
    clear gt c0 c6
    refine b_Machine_elementName_0 (d := d + 19) ?_
    have f1 := F.t ht
    unfold FCt at f1
    have f2 := F
    unfold FC at f2
    clear q1 q2 q3 NM NM1 nel none uq tt rg V
    simp (decide := true) (disch := first | decide | omega) only [ccI, ccR, ccIt ht, ccRo, ccK, ccl, ccA G, ccAt G ht, ccB G, ccBt G ht, cc_sI, cc_sR, cc_sIt ht, cc_sA G, cc_sAt G ht, cc_sB G, cc_sBt G ht, f1, f2, u3_f, u3_s, KCt G ht, KC G, w32_aa, w32_ss, w32_p1, w32_m1, Int.toNat_natCast, true_and, and_true, false_and, and_false, or_false, false_or, ne_eq, not_false_eq_true, forall_const, implies_true, not_true_eq_false, false_implies, e1, t3, y1, w3, y5, y6]
    exact ⟨b1, b1, d2, fin.1, fun c => ⟨d2, fun c1 => ⟨d1, d2, (fin.2 c).1 c1⟩, (fin.2 c).2⟩⟩
  · refine b_Machine_elementName_0 (d := d + 19) ?_
    have f1 := F.t ht
    unfold FCt at f1
    have f2 := F
    unfold FC at f2
    simp (decide := true) (disch := first | decide | omega) only [ccI, ccR, ccIt ht, ccRo, ccK, ccl, ccA G, ccAt G ht, ccB G, ccBt G ht, cc_sI, cc_sR, cc_sIt ht, cc_sA G, cc_sAt G ht, cc_sB G, cc_sBt G ht, f1, f2, u3_f, u3_s, KCt G ht, KC G, w32_aa, w32_ss, w32_p1, w32_m1, Int.toNat_natCast, true_and, and_true, false_and, and_false, or_false, false_or, ne_eq, not_false_eq_true, forall_const, implies_true, not_true_eq_false, false_implies, e1, t3]
    exact ⟨b1, q1 (-1) (Or.inl ⟨fun c => t3 (by rw [V.1, ← p1]; exact c.1), fun c => absurd (by rw [V.1, ← p1]; exact c) t3, rfl, rfl⟩) (Or.inl rfl)⟩
end
