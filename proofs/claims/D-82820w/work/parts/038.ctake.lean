/-! words: a row is taken -/
set_option maxRecDepth 20000
theorem app_getD {α : Type} {a b : List α} {k : Nat} {d : α} : (a ++ b).getD k d = if k < a.length then a.getD k d else b.getD (k - a.length) d := by
  simp only [List.getD, List.getElem?_append]
  split <;> rfl
theorem app_getD1 {α : Type} {a : List α} {v : α} {k : Nat} {d : α} (h : k ≤ a.length) : (a ++ [v]).getD k d = if k = a.length then v else a.getD k d := by
  rw [app_getD]
  by_cases c : k = a.length
  · rw [if_neg (by omega), if_pos c, c]; simp
  · rw [if_pos (by omega), if_neg c]
section
variable {ρ : Nat → Nat} {d : Nat} {h : ah} {F : Int → ah → Prop} {G : ah → Prop} {E : Nat → ah → Prop} {w most mb by_ fr sz nx hd : Nat} {ws : List (List Int)} {r at_ : Nat} {l : List Int}
theorem WD.add (H : WD h w most mb ws by_ fr sz nx hd) (hl1 : ws.length < hl h fr) (hl2 : tot ws ws.length + l.length ≤ hl h by_) (hn : l ∉ ws) (hm : ws.length < most) {h1 h2 h3 h4 h5 h6 h7 : ah}
    (e1 : h1 = sA h fr ws.length (tot ws ws.length : Int)) (e2 : h2 = sA h1 sz ws.length (l.length : Int)) (e3 : h3 = sA h2 nx ws.length (lastH ws (hsh l) ws.length)) (e4 : h4 = sA h3 hd (hsh l).toNat (ws.length : Int))
    (e5 : h5 = sF h4 by_ (fil h4 by_ (tot ws ws.length) l l.length)) (e6 : h6 = sI h5 f_Words_used w ((tot ws ws.length + l.length : Nat) : Int)) (e7 : h7 = sI h6 f_Words_many w ((ws.length + 1 : Nat) : Int)) : WD h7 w most mb (ws ++ [l]) by_ fr sz nx hd ∧ Fr [] (WP w) 0 0 h h7 := by
  obtain ⟨l1, l2, l3, l4, l5⟩ := H.addr
  obtain ⟨n1, n2, n3, n4, n5, n6, n7, n8, n9, n10⟩ := H.dist
  have hb := hsh_b l
  have HF : Fr [] (WP w) 0 0 h h7 := by
    obtain ⟨⟨a1, a2, a3, a4, a5, a6, a7⟩, ⟨b1, b2, b3, b4, b5⟩, -⟩ := H
    have o : ∀ f x, own f → hR h f w = x → okC [] (WP w) f w → okA [] (WP w) h x := fun f x o e k => Or.inr (Or.inr (Or.inr ⟨f, w, a2, o, e, k⟩))
    rw [e7, e6, e5, e4, e3, e2, e1]
    refine Fr.wI (by decide) (Or.inr (by simp [WP])) (Fr.wI (by decide) (Or.inr (by simp [WP])) (Fr.wF (o _ _ (own_of rfl) b1 (Or.inl (Or.inr (by simp [WP])))) (Fr.wA (o _ _ (own_of rfl) b5 (Or.inr (Or.inr (by simp [WP])))) (Fr.wA (o _ _ (own_of rfl) b4 (Or.inl (Or.inr (by simp [WP])))) (Fr.wA (o _ _ (own_of rfl) b3 (Or.inl (Or.inr (by simp [WP])))) (Fr.wA (o _ _ (own_of rfl) b2 (Or.inl (Or.inr (by simp [WP])))) Fr.r0))))))
  refine ⟨?_, HF⟩
  obtain ⟨⟨a1, a2, a3, a4, a5, a6, a7⟩, ⟨b1, b2, b3, b4, b5⟩, ⟨c1, c2, c3, c4, c5⟩, ⟨d1, d2, d3, d4, d5⟩, ⟨g1, g2, g3, g4, g5, g6, g7⟩, ⟨m1, m2, m3, m4, m5⟩, H7, H8, H9⟩ := H
  have hL : (ws ++ [l]).length = ws.length + 1 := by simp
  have hT : tot (ws ++ [l]) (ws.length + 1) = tot ws ws.length + l.length := by
    simp only [tot]
    rw [tot_app _ (Nat.le_refl _), app_getD1 (Nat.le_refl _), if_pos rfl]
  have hi : INJ h7 := HF.inj a3
  have hg : ∀ k, k ≤ ws.length → (ws ++ [l]).getD k [] = if k = ws.length then l else ws.getD k [] := fun k hk => app_getD1 hk
  have ht : ∀ k, k ≤ ws.length → tot (ws ++ [l]) k = tot ws k := fun k hk => tot_app k hk
  have hla : ∀ b k, k ≤ ws.length → lastH (ws ++ [l]) b k = lastH ws b k := fun b k hk => lastH_app b k hk
  have hls : ∀ b, lastH (ws ++ [l]) b (ws.length + 1) = if hsh l = b then (ws.length : Int) else lastH ws b ws.length := fun b => by
    simp only [lastH]
    rw [hg _ (Nat.le_refl _), if_pos rfl, hla _ _ (Nat.le_refl _)]
  have hmono : ∀ k, k < ws.length → tot ws k + (ws.getD k []).length ≤ tot ws ws.length := fun k hk => by
    have := tot_mono (ws := ws) (m := k + 1) (n := ws.length) (by omega)
    simpa only [tot] using this
  have rf : ∀ k, k ≤ ws.length → hA h7 fr k = if k = ws.length then (tot ws ws.length : Int) else hA h fr k := by
    intro k _; rw [e7, e6, e5, e4, e3, e2, e1]; simp only [g_hA_sI, g_hA_sF, g_hA_sA, n1.symm, n5, n6, n7, if_false, false_and, true_and]
  have rs : ∀ k, k ≤ ws.length → hA h7 sz k = if k = ws.length then (l.length : Int) else hA h sz k := by
    intro k _; rw [e7, e6, e5, e4, e3, e2, e1]; simp only [g_hA_sI, g_hA_sF, g_hA_sA, n2.symm, n5.symm, n8, n9, if_false, false_and, true_and]
  have rn : ∀ k, k ≤ ws.length → hA h7 nx k = if k = ws.length then lastH ws (hsh l) ws.length else hA h nx k := by
    intro k _; rw [e7, e6, e5, e4, e3, e2, e1]; simp only [g_hA_sI, g_hA_sF, g_hA_sA, n3.symm, n6.symm, n8.symm, n10, if_false, false_and, true_and]
  have rh : ∀ k, hA h7 hd k = if k = (hsh l).toNat then (ws.length : Int) else hA h hd k := by
    intro k; rw [e7, e6, e5, e4, e3, e2, e1]; simp only [g_hA_sI, g_hA_sF, g_hA_sA, n4.symm, n7.symm, n9.symm, n10.symm, if_false, false_and, true_and]
  have rb : ∀ k, hA h7 by_ k = if tot ws ws.length ≤ k ∧ k < tot ws ws.length + l.length then l.getD (k - tot ws ws.length) 0 else hA h by_ k := by
    intro k; rw [e7, e6, e5, e4, e3, e2, e1]; simp only [g_hA_sI, g_hA_sF, g_hA_sA, fil_ap, n1, n2, n3, n4, if_false, if_true, false_and, true_and]
  have L7 : ∀ x, hl h7 x = hl h x := fun x => by simp only [e7, e6, e5, e4, e3, e2, e1, g_hl_sI, g_hl_sF, g_hl_sA]
  have K7 : ∀ x, hK h7 x = hK h x := fun x => by simp only [e7, e6, e5, e4, e3, e2, e1, g_hK_sI, g_hK_sF, g_hK_sA]
  have R7 : ∀ f x, hR h7 f x = hR h f x := fun f x => by simp only [e7, e6, e5, e4, e3, e2, e1, g_hR_sI, g_hR_sF, g_hR_sA]
  have I7 : ∀ f, f ≠ f_Words_used → f ≠ f_Words_many → hI h7 f w = hI h f w := fun f n1 n2 => by rw [e7, e6, e5, e4, e3, e2, e1]; simp only [g_hI_sI, g_hI_sF, g_hI_sA, n1, n2, if_false, false_and]
  refine ⟨⟨by rw [K7]; exact a1, HF.lt a2, hi, by rw [I7 _ (by decide) (by decide)]; exact a4, by rw [I7 _ (by decide) (by decide)]; exact a5, by rw [e7, hL]; exact I_I _ _ _ _, by rw [e7, hL, hT, I_Ine (by decide), e6]; exact I_I _ _ _ _⟩, by simpa only [R7] using ⟨b1, b2, b3, b4, b5⟩, by simpa only [K7] using ⟨c1, c2, c3, c4, c5⟩, ⟨d1, d2, d3, d4, d5⟩, by simp only [L7, hL, hT]; exact ⟨g1, g2, hl1, g4, g5, hl2, hm⟩, ⟨m1, m2, m3, m4, by simpa only [L7] using m5⟩, fun k hk => ?_, fun b hb => ?_, ?_⟩
  · rw [hL] at hk
    rw [hg k (by omega), ht k (by omega), hla _ k (by omega), rf k (by omega), rs k (by omega), rn k (by omega)]
    by_cases c : k = ws.length
    · simp only [if_pos c]; subst c
      exact ⟨rfl, trivial, fun i hi => by rw [rb, if_pos (by omega), Nat.add_sub_cancel_left], rfl⟩
    · simp only [if_neg c]
      obtain ⟨q1, q2, q3, q4⟩ := H7 k (by omega)
      have := hmono k (by omega)
      exact ⟨q1, q2, fun i hi => by rw [rb, if_neg (by omega)]; exact q3 i hi, q4⟩
  · rw [hL, hls, rh, H8 b hb]
    by_cases c : hsh l = b
    · rw [if_pos c, if_pos (by omega)]
    · rw [if_neg c, if_neg (by omega)]
  · exact List.nodup_append.mpr ⟨H9, by simp, fun a ha b hb e => hn (by simp at hb; rw [← hb, ← e]; exact ha)⟩
theorem c_larger {a b : Int} (q : F (if a < 4096 ∧ 4096 < b then 4096 else b) h) : wpB PGm ρ d m_LT_larger 0 [(0, vI a), (1, vI b)] [] h (cI F E) := by
  refine b_LT_larger_0 ⟨fun z => ?_, fun z => ⟨fun y => ?_, fun y => ?_⟩⟩
  · rw [if_neg (by omega)] at q; exact q
  · rw [if_neg (by omega)] at q; exact q
  · rw [if_pos ⟨z, y⟩] at q; exact q
theorem c_take (H : WD h w most mb ws by_ fr sz nx hd) (hk : hK h r ∈ [3, 4, 13]) (R : RW h r at_ l) (hb : at_ + l.length ≤ 1000000) (hB : ∀ i, i < l.length → -128 ≤ l.getD i 0 ∧ l.getD i 0 ≤ 127) (hne : r ≠ by_) (hr : r < hz h) (room : tot ws ws.length + l.length ≤ mb) (hd9 : 10 ≤ d + 1)
    (q1 : ∀ k : Nat, k < ws.length → ws.getD k [] = l → F (k : Int) h) (q0 : l ∉ ws → ws.length = most → F (-1) h)
    (q2 : l ∉ ws → ws.length < most → ∀ h' by2 fr2 sz2 nx2, WD h' w most mb (ws ++ [l]) by2 fr2 sz2 nx2 hd → Fr [] (WP w) 5 (3 * most + 4096 + mb) h h' → hz h' + wpz h' fr2 by2 mb ≤ hz h + wpz h fr by_ mb → hs h' + wps h' fr2 by2 most mb ≤ hs h + wps h fr by_ most mb → F (ws.length : Int) h') :
    wpB PGm ρ (d + 1 + 1) m_Words_take 0 [(0, vR w), (1, vR r), (2, vI (at_ : Int)), (3, vI (l.length : Int))] [] h (cI F E) := by
  -- the end, with room in all arrays
  have fin : ∀ (h1 : ah) (by1 fr1 sz1 nx1 : Nat) (z1 s1 : Nat), WD h1 w most mb ws by1 fr1 sz1 nx1 hd → Fr [] (WP w) z1 s1 h h1 → ws.length < hl h1 fr1 → tot ws ws.length + l.length ≤ hl h1 by1 → l ∉ ws → ws.length < most → hK h1 r ∈ [3, 4, 13] → RW h1 r at_ l → r ≠ by1 → z1 ≤ 5 → s1 ≤ 3 * most + 4096 + mb → hz h1 + wpz h1 fr1 by1 mb ≤ hz h + wpz h fr by_ mb → hs h1 + wps h1 fr1 by1 most mb ≤ hs h + wps h fr by_ most mb →
      wpB PGm ρ (d + 1 + 1) m_Words_take 85 [(0, vR w), (1, vR r), (2, vI (at_ : Int)), (3, vI (l.length : Int))] [] h1 (cI F E) := by
    intro h1 by1 fr1 sz1 nx1 z1 s1 H1 F1 hl1 hl2 hn hm hk1 R1 hne1 hz1 hs1 hpz hps
    obtain ⟨⟨a1, a2, a3, a4, a5, a6, a7⟩, ⟨b1, b2, b3, b4, b5⟩, ⟨c1, c2, c3, c4, c5⟩, ⟨d1, d2, d3, d4, d5⟩, ⟨g1, g2, g3, g4, g5, g6, g7⟩, ⟨m1, m2, m3, m4, m5⟩, H7, H8, H9⟩ := id H1
    obtain ⟨n1, n2, n3, n4, n5, n6, n7, n8, n9, n10⟩ := H1.dist
    have hbb := hsh_b l
    have eu : w32 (hI h1 f_Words_used w + (l.length : Int)) = ((tot ws ws.length + l.length : Nat) : Int) := by rw [a7, w32_of (by omega) (by omega)]; omega
    refine b_Words_take_85 (by omega) ⟨a1, by rw [b1, c1]; decide, fun _ => c_hash hk1 R1 hb ?_, fun z => by rw [eu, b1] at z; clear eu; omega⟩
    rw [b2, a6, Int.toNat_natCast, a7]
    refine ⟨a1, ⟨c2, by clear eu; omega, by clear eu; omega⟩, ?_⟩
    intro h2
    refine ⟨⟨by show hK h1 (hR h1 f_Words_size w) = 1; rw [b3]; exact c3, by show 0 ≤ hI h1 f_Words_many w; omega, by show hI h1 f_Words_many w < (hl h1 (hR h1 f_Words_size w) : Int); rw [b3]; omega⟩, ?_⟩
    rw [show hR h2 f_Words_size w = sz1 from b3, show hI h2 f_Words_many w = (ws.length : Int) from a6, Int.toNat_natCast]
    intro h3
    refine ⟨⟨by show hK h1 (hR h1 f_Words_heads w) ∈ [1, 11]; rw [b5, c5]; decide, hbb.1, by show hsh l < (hl h1 (hR h1 f_Words_heads w) : Int); rw [b5]; omega⟩, ⟨by show hK h1 (hR h1 f_Words_next w) = 1; rw [b4]; exact c4, by show 0 ≤ hI h1 f_Words_many w; omega, by show hI h1 f_Words_many w < (hl h1 (hR h1 f_Words_next w) : Int); rw [b4]; omega⟩, ?_⟩
    rw [show hR h3 f_Words_next w = nx1 from b4, show hR h3 f_Words_heads w = hd from b5, show hI h3 f_Words_many w = (ws.length : Int) from a6, Int.toNat_natCast]
    have e9 : hA h3 hd (hsh l).toNat = lastH ws (hsh l) ws.length := by
      rw [show hA h3 hd (hsh l).toNat = hA h1 hd (hsh l).toNat by simp only [h3, h2, g_hA_sA, n7.symm, n9.symm, if_false, false_and], H8 _ (by omega)]
      congr 1
      omega
    rw [e9]
    intro h4
    refine b_Words_take_181 ⟨a1, ⟨by show hK h1 (hR h1 f_Words_heads w) = 1; rw [b5]; exact c5, hbb.1, by show hsh l < (hl h1 (hR h1 f_Words_heads w) : Int); rw [b5]; omega⟩, ?_⟩
    rw [show hR h4 f_Words_heads w = hd from b5, show hI h4 f_Words_many w = (ws.length : Int) from a6]
    intro h5
    have lp : ∀ m k, l.length - k < m → k ≤ l.length → wpB PGm ρ (d + 1 + 1) m_Words_take 195 [(0, vR w), (1, vR r), (2, vI (at_ : Int)), (3, vI (l.length : Int)), (6, vI (k : Int))] [] (sF h5 by1 (fil h5 by1 (tot ws ws.length) l k)) (cI F E) := by
      intro m
      induction m with
      | zero => intro k hm; omega
      | succ m ih =>
        intro k hm2 hk2
        have p1 : k < l.length → k ≤ 2000000000 ∧ l.length - (k + 1) < m ∧ k + 1 ≤ l.length ∧ (0 : Int) ≤ ((at_ + k : Nat) : Int) ∧ at_ + k < hl h1 r ∧ (0 : Int) ≤ ((tot ws ws.length + k : Nat) : Int) ∧ tot ws ws.length + k < hl h1 by1 := fun c => by have := R1.1; omega
        have ew : w32 ((at_ : Int) + (k : Int)) = ((at_ + k : Nat) : Int) := by rw [w32_of (by omega) (by omega)]; omega
        have eu2 : w32 (hI h1 f_Words_used w + (k : Int)) = ((tot ws ws.length + k : Nat) : Int) := by rw [a7, w32_of (by omega) (by omega)]; omega
        refine b_Words_take_195 ⟨fun z => ⟨a1, ?_⟩, fun z => ⟨a1, ?_⟩⟩
        · have ek : k = l.length := by omega
          subst ek
          rw [show hI (sF h5 by1 (fil h5 by1 (tot ws ws.length) l l.length)) f_Words_used w = hI h1 f_Words_used w from rfl, eu]
          intro h7
          rw [show hI h7 f_Words_many w = (ws.length : Int) from Eq.trans (I_Ine (by decide)) a6, w32_s (by omega)]
          intro h8
          rw [show hI h8 f_Words_many w = ((ws.length + 1 : Nat) : Int) from I_I _ _ _ _, w32_of (by omega) (by omega), show ((ws.length + 1 : Nat) : Int) - 1 = (ws.length : Int) by omega]
          obtain ⟨WA, FA⟩ := WD.add H1 hl1 hl2 hn hm (h1 := h2) (h2 := h3) (h3 := h4) (h4 := h5) (h5 := _) (h6 := h7) (h7 := h8) rfl rfl rfl rfl rfl rfl rfl
          have l8 : ∀ x, hl h8 x = hl h1 x := fun _ => rfl
          have z8 : hz h8 = hz h1 := rfl
          have s8 : hs h8 = hs h1 := rfl
          refine q2 hn hm h8 by1 fr1 sz1 nx1 WA ((F1.trans FA).le hz1 hs1) ?_ ?_
          · rw [z8]; unfold wpz at hpz ⊢; rw [l8, l8]; exact hpz
          · rw [s8]; unfold wps at hps ⊢; rw [l8, l8]; exact hps
        · obtain ⟨p2, p3, p4, p5, p6, p7, p8⟩ := p1 (by omega)
          have ra : hA (sF h5 by1 (fil h5 by1 (tot ws ws.length) l k)) r (at_ + k) = l.getD k 0 := by
            have kr : hK h1 fr1 = 1 := c2
            have ne : ∀ y, hK h1 y = 1 → ¬ r = y := fun y hy e => by rw [e, hy] at hk1; exact absurd hk1 (by decide)
            rw [g_hA_sF, if_neg hne1]
            simp only [h5, h4, h3, h2, g_hA_sA, ne _ c2, ne _ c3, ne _ c4, ne _ c5, if_false, false_and]
            exact R1.2 k p4
          have hbk := hB k p4
          rw [ew, show hI (sF h5 by1 (fil h5 by1 (tot ws ws.length) l k)) f_Words_used w = hI h1 f_Words_used w from rfl, eu2, Int.toNat_natCast, Int.toNat_natCast, ra, show hR (sF h5 by1 (fil h5 by1 (tot ws ws.length) l k)) f_Words_bytes w = by1 from b1, sF_s rfl, w32_s p2]
          exact ⟨⟨hk1, p5, Int.ofNat_lt.mpr p6⟩, ⟨Or.inl ⟨c1, hbk.1, hbk.2⟩, p7, Int.ofNat_lt.mpr p8⟩, ih (k + 1) p3 p4⟩
    have := lp _ 0 (Nat.lt_succ_self _) (Nat.zero_le _)
    rw [sF_0] at this
    exact this
  have gro : ∀ m (h1 : ah) (by1 fr1 sz1 nx1 : Nat) (z1 s1 : Nat), (if hl h1 by1 < 4096 then 2 else if hl h1 by1 < mb then 1 else 0) < m → WD h1 w most mb ws by1 fr1 sz1 nx1 hd → Fr [] (WP w) z1 s1 h h1 → ws.length < hl h1 fr1 → l ∉ ws → ws.length < most → hK h1 r ∈ [3, 4, 13] → RW h1 r at_ l → r ≠ by1 → z1 + (if hl h1 by1 < 4096 then 2 else if hl h1 by1 < mb then 1 else 0) ≤ 5 → s1 + (if hl h1 by1 < 4096 then 4096 + mb else if hl h1 by1 < mb then mb else 0) ≤ 3 * most + 4096 + mb → hz h1 + wpz h1 fr1 by1 mb ≤ hz h + wpz h fr by_ mb → hs h1 + wps h1 fr1 by1 most mb ≤ hs h + wps h fr by_ most mb →
      wpB PGm ρ (d + 1 + 1) m_Words_take 85 [(0, vR w), (1, vR r), (2, vI (at_ : Int)), (3, vI (l.length : Int))] [] h1 (cI F E) := by
    intro m
    induction m with
    | zero => intros; omega
    | succ m ih =>
      intro h1 by1 fr1 sz1 nx1 z1 s1 hm1 H1 F1 hl1 hn hm hk1 R1 hne1 hz1 hs1 hpz hps
      by_cases c : tot ws ws.length + l.length ≤ hl h1 by1
      · exact fin h1 by1 fr1 sz1 nx1 z1 s1 H1 F1 hl1 c hn hm hk1 R1 hne1 (by omega) (by omega) hpz hps
      · obtain ⟨⟨a1, a2, a3, a4, a5, a6, a7⟩, ⟨b1, b2, b3, b4, b5⟩, ⟨c1, c2, c3, c4, c5⟩, ⟨d1, d2, d3, d4, d5⟩, ⟨g1, g2, g3, g4, g5, g6, g7⟩, ⟨m1, m2, m3, m4, m5⟩, -⟩ := id H1
        have l5 := H1.addr
        have eu : w32 (hI h1 f_Words_used w + (l.length : Int)) = ((tot ws ws.length + l.length : Nat) : Int) := by rw [a7, w32_of (by omega) (by omega)]; omega
        refine b_Words_take_85 (by omega) ⟨a1, by rw [b1, c1]; decide, fun z => by rw [eu, b1] at z; clear eu; omega, fun _ => ⟨by rw [b1, c1]; decide, ?_⟩⟩
        rw [eu, a5, b1, if_neg (by clear eu; omega)]
        clear eu
        obtain ⟨n, en, hn4, hlt, hm2, hz2, hs2, hp1, hp2⟩ : ∃ n : Nat, (n : Int) = (if (hl h1 by1 : Int) < 4096 ∧ (4096 : Int) < mb then (4096 : Int) else (mb : Int)) ∧ (n = 4096 ∨ n = mb) ∧ hl h1 by1 < n ∧ (if n < 4096 then 2 else if n < mb then 1 else 0) < m ∧ z1 + 1 + (if n < 4096 then 2 else if n < mb then 1 else 0) ≤ 5 ∧ s1 + n + (if n < 4096 then 4096 + mb else if n < mb then mb else 0) ≤ 3 * most + 4096 + mb ∧ 1 + (if n < 4096 then 2 else if n < mb then 1 else 0) ≤ (if hl h1 by1 < 4096 then 2 else if hl h1 by1 < mb then 1 else 0) ∧ n + (if n < 4096 then 4096 + mb else if n < mb then mb else 0) ≤ (if hl h1 by1 < 4096 then 4096 + mb else if hl h1 by1 < mb then mb else 0) := by
          clear fin ih H H1 F1 R R1 hB q1 q0 q2
          by_cases c4 : hl h1 by1 < 4096
          · refine ⟨4096, by rw [if_pos (by omega)]; rfl, Or.inl rfl, c4, ?_, ?_, ?_, ?_, ?_⟩
            · rw [if_pos c4] at hm1; rw [if_neg (by omega), if_pos m4]; omega
            · rw [if_pos c4] at hz1; rw [if_neg (by omega), if_pos m4]; omega
            · rw [if_pos c4] at hs1; rw [if_neg (by omega), if_pos m4]; omega
            · rw [if_neg (by omega), if_pos m4, if_pos c4]; omega
            · rw [if_neg (by omega), if_pos m4, if_pos c4]; omega
          · have c5 : hl h1 by1 < mb := by omega
            refine ⟨mb, by rw [if_neg (by omega)], Or.inr rfl, c5, ?_, ?_, ?_, ?_, ?_⟩
            · rw [if_neg c4, if_pos c5] at hm1; rw [if_neg (by omega), if_neg (by omega)]; omega
            · rw [if_neg c4, if_pos c5] at hz1; rw [if_neg (by omega), if_neg (by omega)]; omega
            · rw [if_neg c4, if_pos c5] at hs1; rw [if_neg (by omega), if_neg (by omega)]; omega
            · rw [if_neg c4, if_pos c5, if_neg (by omega), if_neg (by omega)]; omega
            · rw [if_neg c4, if_pos c5, if_neg (by omega), if_neg (by omega)]; omega
        have hN : n ≤ 240000 := by rcases hn4 with e | e <;> rw [e] <;> first | decide | exact m3
        refine c_larger ?_
        rw [← en]
        clear en
        refine ⟨⟨c1, Int.natCast_nonneg _, Int.ofNat_le.mpr (Nat.le_trans hN (by decide))⟩, ?_⟩
        rw [Int.toNat_natCast]
        have hyz : hl (sR (hcp h1 3 by1 n) f_Words_bytes w (hz h1)) (hz h1) = n := cpln
        have hyf : hl (sR (hcp h1 3 by1 n) f_Words_bytes w (hz h1)) fr1 = hl h1 fr1 := cpl (by omega)
        have hrz : r < hz h1 := F1.lt hr
        intro h24
        refine ⟨Eq.trans (if_neg (by omega)) a1, ?_⟩
        refine ih _ (hz h1) fr1 sz1 nx1 (z1 + 1) (s1 + n) (by rw [hyz]; exact hm2) (H1.grow1 hn4 (Nat.le_of_lt hlt)) (cpF (Or.inl (Or.inr (by simp [WP]))) a3 F1) (by rw [hyf]; exact hl1) hn hm (by rw [cpK hrz]; exact hk1) ⟨by rw [cpl hrz]; exact R1.1, fun i hi => by rw [cpA hrz]; exact R1.2 i hi⟩ (by omega) (by rw [hyz]; exact hz2) (by rw [hyz]; exact hs2) ?_ ?_
        · have e1 : hz (sR (hcp h1 3 by1 n) f_Words_bytes w (hz h1)) = hz h1 + 1 := rfl
          unfold wpz at hpz ⊢
          rw [e1, hyz, hyf]
          clear fin ih
          omega
        · have e1 : hs (sR (hcp h1 3 by1 n) f_Words_bytes w (hz h1)) = hs h1 + n := rfl
          unfold wps at hps ⊢
          rw [e1, hyz, hyf]
          clear fin ih
          omega
  refine b_Words_take_0 (by omega) ⟨H.1.1, c_find H hk R hb (fun k hk ek => ⟨fun _ => q1 k hk ek, fun z => by omega⟩) (fun hn => ⟨fun z => absurd z (by decide), fun _ => ?_⟩)⟩
  obtain ⟨⟨a1, a2, a3, a4, a5, a6, a7⟩, ⟨b1, b2, b3, b4, b5⟩, ⟨c1, c2, c3, c4, c5⟩, ⟨d1, d2, d3, d4, d5⟩, ⟨g1, g2, g3, g4, g5, g6, g7⟩, ⟨m1, m2, m3, m4, m5⟩, -⟩ := id H
  refine ⟨a1, fun z => ⟨by rw [b2, c2]; decide, ?_, ?_⟩, fun z => q0 hn (by omega)⟩
  · intro z2
    rw [b2] at z2
    refine gro 3 h by_ fr sz nx 0 0 (by split <;> (try split) <;> omega) H Fr.r0 (by omega) hn (by omega) hk R hne (by split <;> (try split) <;> omega) (by split <;> (try split) <;> omega) (Nat.le_refl _) (Nat.le_refl _)
  · intro z2
    rw [b2] at z2
    have hm : ws.length < most := by omega
    have h128 : hl h fr = 128 := by omega
    rw [b2, a4, Int.toNat_natCast]
    refine ⟨⟨c2, by omega, by omega⟩, ?_⟩
    intro h23
    refine ⟨Eq.trans (if_neg (by omega)) a1, ?_⟩
    intro h24
    have ad := H.addr
    have I24 : ∀ g, hI h24 g w = hI h g w := fun g => cpI (by omega)
    have R24 : hR h24 f_Words_size w = sz := Eq.trans (cpR (by omega) (Or.inl (by decide))) b3
    rw [I24, R24, a4, Int.toNat_natCast]
    have z24 : hz h24 = hz h + 1 := rfl
    refine ⟨⟨Eq.trans (cpK (by omega)) c3, by omega, by omega⟩, ?_⟩
    intro h27
    refine ⟨Eq.trans (if_neg (by omega)) (Eq.trans (cpK (by omega)) a1), ?_⟩
    intro h28
    have I28 : ∀ g, hI h28 g w = hI h g w := fun g => Eq.trans (cpI (by omega)) (I24 g)
    have R28 : hR h28 f_Words_next w = nx := Eq.trans (cpR (by omega) (Or.inl (by decide))) (Eq.trans (cpR (by omega) (Or.inl (by decide))) b4)
    rw [I28, R28, a4, Int.toNat_natCast]
    have z28 : hz h28 = hz h + 2 := rfl
    refine ⟨⟨Eq.trans (cpK (by omega)) (Eq.trans (cpK (by omega)) c4), by omega, by omega⟩, ?_⟩
    intro h31
    refine ⟨Eq.trans (if_neg (by omega)) (Eq.trans (cpK (by omega)) (Eq.trans (cpK (by omega)) a1)), ?_⟩
    intro h32
    obtain ⟨W3, F3, l3, lb3, s3, z3⟩ := H.grow3 h128 (h1 := h24) (h2 := h28) (h3 := h32) rfl rfl rfl
    have hrK : hK h32 r = hK h r := F3.K hr
    have ne1 : ∀ y, hK h y = 1 → ¬ r = y := fun y hy e => by rw [e, hy] at hk; exact absurd hk (by decide)
    have rl : hl h32 r = hl h r := Eq.trans (cpl (by omega)) (Eq.trans (cpl (by omega)) (cpl hr))
    have rA : ∀ i, hA h32 r i = hA h r i := fun i => Eq.trans (cpA (by omega)) (Eq.trans (cpA (by omega)) (cpA hr))
    refine gro 3 h32 by_ (hz h) (hz h + 1) (hz h + 2) 3 (3 * most) (by split <;> (try split) <;> omega) W3 F3 (by omega) hn hm (by rw [hrK]; exact hk) ⟨by rw [rl]; exact R.1, fun i hi => by rw [rA]; exact R.2 i hi⟩ hne (by split <;> (try split) <;> omega) (by split <;> (try split) <;> omega) ?_ ?_
    · rw [z3]; unfold wpz; rw [lb3, l3, h128, if_neg (by omega)]; rw [if_pos rfl]; omega
    · rw [s3]; unfold wps; rw [lb3, l3, h128, if_neg (by omega)]; rw [if_pos rfl]; omega
end
