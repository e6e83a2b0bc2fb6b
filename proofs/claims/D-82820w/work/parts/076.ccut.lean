/-! words: only the first ones stay -/
set_option maxRecDepth 20000
theorem sAF {h : ah} {x k : Nat} {f : Nat → Int} {v : Int} : sA (sF h x f) x k v = sF h x (fun j => if j = k then v else f j) := by
  have e : u2 (fun b j => if b = x then f j else h.2.2.2.2.2.1 b j) x k v = fun b j => if b = x then (if j = k then v else f j) else h.2.2.2.2.2.1 b j := by
    funext b j
    rw [u2_e]
    by_cases c : b = x
    · by_cases c2 : j = k
      · simp [c, c2]
      · simp [c, c2]
    · simp [c]
  unfold sA sF
  rw [← e]
theorem sF_c {h : ah} {x : Nat} {f g : Nat → Int} (e : ∀ j, f j = g j) : sF h x f = sF h x g := by rw [show f = g from funext e]
theorem sF_id {h : ah} {x : Nat} {f : Nat → Int} (e : ∀ j, f j = hA h x j) : sF h x f = h := by
  have e2 : (fun b j => if b = x then f j else h.2.2.2.2.2.1 b j) = h.2.2.2.2.2.1 := by
    funext b j
    by_cases c : b = x
    · subst c; rw [if_pos rfl]; exact e j
    · exact if_neg c
  unfold sF
  rw [e2]
theorem sA_id {h : ah} {x i : Nat} {v : Int} (e : hA h x i = v) : sA h x i v = h := by
  have e2 : u2 h.2.2.2.2.2.1 x i v = h.2.2.2.2.2.1 := by
    funext b j
    rw [u2_e]
    by_cases c : b = x ∧ j = i
    · rw [if_pos c, c.1, c.2]; exact e.symm
    · rw [if_neg c]
  unfold sA
  rw [e2]
theorem take_getD {ws : List (List Int)} {n k : Nat} (h : k < n) : (ws.take n).getD k [] = ws.getD k [] := by
  simp only [List.getD]
  rw [List.getElem?_take_of_lt h]
theorem lastH_take {ws : List (List Int)} {n : Nat} (b : Int) : ∀ k, k ≤ n → lastH (ws.take n) b k = lastH ws b k
  | 0, _ => rfl
  | k + 1, h => by simp only [lastH]; rw [take_getD (by omega), lastH_take b k (by omega)]
theorem tot_take {ws : List (List Int)} {n : Nat} : ∀ k, k ≤ n → tot (ws.take n) k = tot ws k
  | 0, _ => rfl
  | k + 1, h => by simp only [tot]; rw [take_getD (by omega), tot_take k (by omega)]
section
variable {ρ : Nat → Nat} {d : Nat} {h : ah} {F : Int → ah → Prop} {G : ah → Prop} {E : Nat → ah → Prop} {w most mb by_ fr sz nx hd : Nat} {ws : List (List Int)} {n : Nat}
theorem c_cut (H : WD h w most mb ws by_ fr sz nx hd) (hn : n ≤ ws.length) (q : ∀ h', WD h' w most mb (ws.take n) by_ fr sz nx hd → Fr [] (WP w) 0 0 h h' → G h') : wpB PGm ρ (d + 1) m_Words_cut 0 [(0, vR w), (1, vI (n : Int))] [] h (cV G E) := by
  obtain ⟨⟨a1, a2, a3, a4, a5, a6, a7⟩, ⟨b1, b2, b3, b4, b5⟩, ⟨c1, c2, c3, c4, c5⟩, ⟨d1, d2, d3, d4, d5⟩, ⟨e1, e2, e3, e4, e5, e6, e7⟩, ⟨g1, g2, g3, g4, g5⟩, H7, H8, H9⟩ := id H
  obtain ⟨l1, l2, l3, l4, l5⟩ := H.addr
  obtain ⟨n1, n2, n3, n4, n5, n6, n7, n8, n9, n10⟩ := H.dist
  have tl : (ws.take n).length = n := by rw [List.length_take]; omega
  have tm := tot_mono (ws := ws) hn
  -- the end
  have fin : ∀ h2, h2 = sI (sI h f_Words_many w (n : Int)) f_Words_used w (tot ws n : Int) → ∀ h3, h3 = sF h2 hd (fun b => if b < 512 then lastH ws (b : Int) n else hA h2 hd b) → G h3 := by
    intro h2 eh2 h3 eh3
    have A3 : ∀ x, x ≠ hd → ∀ i, hA h3 x i = hA h x i := fun x hx i => by rw [eh3, g_hA_sF, if_neg hx, eh2]; rfl
    refine q h3 ⟨⟨by rw [eh3, eh2]; exact a1, by rw [eh3, eh2]; exact a2, by rw [eh3, eh2]; exact a3, ?_, ?_, ?_, ?_⟩, by rw [eh3, eh2]; exact ⟨b1, b2, b3, b4, b5⟩, by rw [eh3, eh2]; exact ⟨c1, c2, c3, c4, c5⟩, ⟨d1, d2, d3, d4, d5⟩, ?_, by rw [eh3, eh2]; exact ⟨g1, g2, g3, g4, g5⟩, fun k hk => ?_, fun b hb => ?_, List.Sublist.nodup (List.take_sublist _ _) H9⟩ ?_
    · rw [eh3, g_hI_sF, eh2, I_Ine (by decide), I_Ine (by decide)]; exact a4
    · rw [eh3, g_hI_sF, eh2, I_Ine (by decide), I_Ine (by decide)]; exact a5
    · rw [eh3, g_hI_sF, eh2, I_Ine (by decide), I_I, tl]
    · rw [eh3, g_hI_sF, eh2, I_I, tl, tot_take n (Nat.le_refl _)]
    · rw [tl, tot_take n (Nat.le_refl _), eh3, eh2]
      show hl h sz = hl h fr ∧ hl h nx = hl h fr ∧ n ≤ hl h fr ∧ (hl h fr = 128 ∨ hl h fr = most) ∧ hl h hd = 512 ∧ tot ws n ≤ hl h by_ ∧ n ≤ most
      exact ⟨e1, e2, by omega, e4, e5, by omega, by omega⟩
    · rw [tl] at hk
      obtain ⟨h1', h2', h3', h4'⟩ := H7 k (by omega)
      rw [A3 _ n7, A3 _ n9, A3 _ n10, take_getD hk, tot_take k (by omega), lastH_take _ k (by omega)]
      exact ⟨h1', h2', fun i hi => by rw [A3 _ n4]; exact h3' i hi, h4'⟩
    · rw [tl, lastH_take _ n (Nat.le_refl _), eh3, g_hA_sF, if_pos rfl, if_pos hb]
    · rw [eh3, eh2]
      exact Fr.wF (Or.inr (Or.inr (Or.inr ⟨f_Words_heads, w, a2, own_of rfl, b5, Or.inr (Or.inr (by simp [WP]))⟩))) (Fr.wI (by decide) (Or.inr (by simp [WP])) (Fr.wI (by decide) (Or.inr (by simp [WP])) Fr.r0))
  -- the rows are linked anew
  have lp2 : ∀ h2, h2 = sI (sI h f_Words_many w (n : Int)) f_Words_used w (tot ws n : Int) → ∀ m k, n - k < m → k ≤ n → wpB PGm ρ (d + 1) m_Words_cut 60 [(0, vR w), (1, vI (n : Int)), (2, vI (k : Int))] [] (sF h2 hd (fun b => if b < 512 then lastH ws (b : Int) k else hA h2 hd b)) (cV G E) := by
    intro h2 eh2 m
    induction m with
    | zero => intro k hm; omega
    | succ m ih =>
      intro k hm hk
      refine b_Words_cut_60 ⟨fun z => ?_, fun z => ?_⟩
      · have e : k = n := by omega
        subst e
        exact fin h2 eh2 _ rfl
      · have hkn : k < n := by omega
        obtain ⟨h1', h2', h3', h4'⟩ := H7 k (by omega)
        have k9 : k ≤ 2000000000 := by omega
        have A3 : ∀ x, x ≠ hd → ∀ i, hA (sF h2 hd (fun b => if b < 512 then lastH ws (b : Int) k else hA h2 hd b)) x i = hA h x i := fun x hx i => by rw [g_hA_sF, if_neg hx, eh2]; rfl
        have R3 : ∀ f, hR (sF h2 hd (fun b => if b < 512 then lastH ws (b : Int) k else hA h2 hd b)) f w = hR h f w := fun f => by rw [g_hR_sF, eh2]; rfl
        have K3 : ∀ x, hK (sF h2 hd (fun b => if b < 512 then lastH ws (b : Int) k else hA h2 hd b)) x = hK h x := fun x => by rw [g_hK_sF, eh2]; rfl
        have L3 : ∀ x, hl (sF h2 hd (fun b => if b < 512 then lastH ws (b : Int) k else hA h2 hd b)) x = hl h x := fun x => by rw [g_hl_sF, eh2]; rfl
        have ht : tot ws k + (ws.getD k []).length ≤ tot ws ws.length := by
          have := tot_mono (ws := ws) (m := k + 1) (n := ws.length) (by omega)
          simpa only [tot] using this
        obtain ⟨s1, s2⟩ := hsh_b (ws.getD k [])
        rw [R3, R3, R3, b1, b2, b3, Int.toNat_natCast, A3 _ n7, A3 _ n9, h1', h2', K3, K3, K3, L3, L3]
        refine ⟨a1, ⟨by rw [c2]; decide, by omega, by omega⟩, ⟨by rw [c3]; decide, by omega, by omega⟩, c_hash (by rw [K3, c1]; decide) ⟨by rw [L3]; omega, fun i hi => by rw [A3 _ n4]; exact h3' i hi⟩ (by omega) ?_⟩
        have eH : hA (sF h2 hd (fun b => if b < 512 then lastH ws (b : Int) k else hA h2 hd b)) hd (hsh (ws.getD k [])).toNat = lastH ws (hsh (ws.getD k [])) k := by
          rw [g_hA_sF, if_pos rfl, if_pos (by omega), Int.toNat_of_nonneg s1]
        rw [R3, R3, b4, b5, eH, K3, K3, K3, L3, L3, sA_id (x := nx) (by rw [A3 _ n10]; exact h4')]
        refine ⟨a1, ⟨by rw [c5]; decide, s1, by omega⟩, ⟨c4, by omega, by omega⟩, ?_⟩
        intro h15
        rw [show hR h15 f_Words_heads w = hd from (R3 _).trans b5]
        refine ⟨⟨(K3 _).trans c5, s1, by rw [show hl h15 hd = hl h hd from L3 _]; omega⟩, ?_⟩
        rw [w32_s k9, show h15 = sF h2 hd (fun b => if b < 512 then lastH ws (b : Int) k else hA h2 hd b) from rfl, sAF, sF_c (g := fun b => if b < 512 then lastH ws (b : Int) (k + 1) else hA h2 hd b)]
        · exact ih (k + 1) (by omega) (by omega)
        · intro b
          by_cases cb : b = (hsh (ws.getD k [])).toNat
          · rw [if_pos cb, if_pos (by omega), lastH, if_pos (by omega)]
          · rw [if_neg cb]
            by_cases cb2 : b < 512
            · rw [if_pos cb2, if_pos cb2, lastH, if_neg (by omega)]
            · rw [if_neg cb2, if_neg cb2]
  -- the heads are emptied
  have lp1 : ∀ h2, h2 = sI (sI h f_Words_many w (n : Int)) f_Words_used w (tot ws n : Int) → ∀ m k : Nat, 512 - k < m → k ≤ 512 → wpB PGm ρ (d + 1) m_Words_cut 36 [(0, vR w), (1, vI (n : Int)), (2, vI (k : Int))] [] (sF h2 hd (fun b => if b < k then -1 else hA h2 hd b)) (cV G E) := by
    intro h2 eh2 m
    induction m with
    | zero => intro k hm; omega
    | succ m ih =>
      intro k hm hk
      have R3 : ∀ f, hR (sF h2 hd (fun b => if b < k then -1 else hA h2 hd b)) f w = hR h f w := fun f => by rw [g_hR_sF, eh2]; rfl
      have K3 : ∀ x, hK (sF h2 hd (fun b => if b < k then -1 else hA h2 hd b)) x = hK h x := fun x => by rw [g_hK_sF, eh2]; rfl
      have L3 : ∀ x, hl (sF h2 hd (fun b => if b < k then -1 else hA h2 hd b)) x = hl h x := fun x => by rw [g_hl_sF, eh2]; rfl
      refine b_Words_cut_36 ?_
      rw [R3, b5, K3, K3, L3, e5, c5, Int.toNat_natCast]
      refine ⟨a1, by decide, fun z => ?_, fun z => ⟨⟨rfl, by omega, by omega⟩, ?_⟩⟩
      · have e : k = 512 := by omega
        subst e
        exact lp2 h2 eh2 _ 0 (Nat.lt_succ_self _) (Nat.zero_le _)
      · have hk2 : k < 512 := by omega
        rw [w32_s (by omega), sAF, sF_c (g := fun b => if b < k + 1 then -1 else hA h2 hd b)]
        · exact ih (k + 1) (by omega) (by omega)
        · intro b
          by_cases cb : b = k
          · rw [if_pos cb, if_pos (by omega)]
          · rw [if_neg cb]
            by_cases cb2 : b < k
            · rw [if_pos cb2, if_pos (by omega)]
            · rw [if_neg cb2, if_neg (by omega)]
  have st31 : wpB PGm ρ (d + 1) m_Words_cut 31 [(0, vR w), (1, vI (n : Int))] [vI (tot ws n : Int), vR w] (sI h f_Words_many w (n : Int)) (cV G E) := by
    refine b_Words_cut_31 ⟨a1, ?_⟩
    intro h2
    have := lp1 h2 rfl _ 0 (Nat.lt_succ_self _) (Nat.zero_le _)
    rw [sF_id (fun j => by simp)] at this
    exact this
  refine b_Words_cut_0 ⟨a1, ?_⟩
  intro h1
  refine ⟨fun z => ?_, fun z => ?_⟩
  · have hn1 : 1 ≤ n := by omega
    have ew : w32 ((n : Int) - 1) = ((n - 1 : Nat) : Int) := by rw [w32_of (by omega) (by omega)]; omega
    obtain ⟨h1', h2', h3', h4'⟩ := H7 (n - 1) (by omega)
    rw [ew, show hR h1 f_Words_from w = fr from b2, show hR h1 f_Words_size w = sz from b3, Int.toNat_natCast, show hA h1 fr (n - 1) = _ from h1', show hA h1 sz (n - 1) = _ from h2']
    have tt : tot ws n = tot ws (n - 1) + (ws.getD (n - 1) []).length := by
      obtain ⟨k, rfl⟩ : ∃ k, n = k + 1 := ⟨n - 1, by omega⟩
      rfl
    clear ew
    refine ⟨⟨by rw [show hK h1 fr = 1 from c2]; decide, by omega, by show ((n - 1 : Nat) : Int) < (hl h fr : Int); omega⟩, ⟨by rw [show hK h1 sz = 1 from c3]; decide, by omega, by show ((n - 1 : Nat) : Int) < (hl h sz : Int); omega⟩, ?_⟩
    rw [w32_of (by omega) (by omega), show ((tot ws (n - 1) : Nat) : Int) + (((ws.getD (n - 1) []).length : Nat) : Int) = (tot ws n : Int) by omega]
    exact st31
  · have e0 : n = 0 := by omega
    have := st31
    rw [e0] at this
    have h10 : h1 = sI h f_Words_many w ((0 : Nat) : Int) := by rw [← e0]
    rw [h10, e0]
    exact this
end
