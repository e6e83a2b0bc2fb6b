/-! C: a name of the host -/
set_option maxRecDepth 20000
/-- letters in C's row for words -/
def wdX (X : X3) (bs : List Int) : X3 := fun o f i => if o = 98 ∧ f = f_Lookup_word ∧ i < bs.length then bs.getD i 0 else X o f i
section
variable {ρ : Nat → Nat} {d : Nat} {Q : QT} {Γ : GH} {h h' h1 h2 : ah} {C ho k n m i j N M a b z s x y ca ph nw r f o : Nat} {g : HG} {v p es lo sb st c : Int} {ws hw : List (List Int)} {L ts pf bs : List Int} {S : SS} {X : X3} {Y : Y3}
theorem wdX_0 : wdX X [] = X := by
  funext o f i
  unfold wdX
  exact if_neg (fun c => absurd c.2.2 (Nat.not_lt_zero _))
theorem wdX_s {x : Int} : u3 (wdX X bs) 98 f_Lookup_word bs.length x = wdX X (bs ++ [x]) := by
  funext o f i
  rw [u3_e]
  unfold wdX
  by_cases c : o = 98 ∧ f = f_Lookup_word
  · obtain ⟨c1, c2⟩ := c
    subst c1; subst c2
    simp only [true_and, List.length_append, List.length_singleton]
    by_cases e : i = bs.length
    · rw [if_pos e, if_pos (by omega), e]
      simp [List.getD]
    · rw [if_neg e]
      by_cases l : i < bs.length
      · rw [if_pos l, if_pos (by omega)]
        simp only [List.getD]
        rw [List.getElem?_append_left l]
      · rw [if_neg l, if_neg (by omega)]
  · rw [if_neg (fun z => c ⟨z.1, z.2.1⟩), if_neg (fun z => c ⟨z.1, z.2.1⟩), if_neg (fun z => c ⟨z.1, z.2.1⟩)]
theorem wdX_g (hi : i < bs.length) : wdX X bs 98 f_Lookup_word i = bs.getD i 0 := if_pos ⟨rfl, rfl, hi⟩
theorem wdX_o (hf : f ≠ f_Lookup_word) : wdX X bs o f i = X o f i := if_neg (fun c => hf c.2.1)
theorem wdX_2 {cs : List Int} (hl : bs.length ≤ cs.length) : wdX (wdX X bs) cs = wdX X cs := by
  funext o f i
  unfold wdX
  by_cases c : o = 98 ∧ f = f_Lookup_word ∧ i < cs.length
  · rw [if_pos c, if_pos c]
  · rw [if_neg c, if_neg c, if_neg (fun z => c ⟨z.1, z.2.1, by omega⟩)]
theorem CORE.wd (HC : CORE Γ h C ho X Y S N) : CORE Γ h C ho (wdX X bs) Y S N := (HC.fzz (L := []) (Pp := []) (h' := h) (X' := wdX X bs) (Y' := Y) Fr.r0 (by unfold DJ; decide +kernel) (fun y c => by simp at c) (fun _ _ _ => rfl) (Int.le_refl _) (fun f hf o i => wdX_o (by rintro rfl; exact absurd hf (by decide +kernel))) (fun o f hf i => rfl)).1.1
/-- the host's number of a name, with letters ahead -/
theorem r_hostName (HC : CORE Γ h C ho X Y S N) (NM : NMR h C S ws) (HX : HCX ρ h ho g N M hw) (yo : Y 98 f_Lookup_host 0 = ho) (hd : 12 ≤ d) (sk : SOK h r pf) (p3 : pf.length ≤ 3) (pr : ∀ i, i < pf.length → 0 ≤ pf.getD i 0 ∧ pf.getD i 0 ≤ 127) (hk : k < ws.length) (eL : ws.getD k [] = L) (l1 : 1 ≤ L.length) (lr : ∀ i, i < L.length → 0 ≤ L.getD i 0 ∧ L.getD i 0 ≤ 127) (q : ∀ v, FWI hw (wtL pf L) v → ∀ bs, Q (Sum.inl (some (vI v))) (cc h C (wdX X bs) Y)) : wpB PGm ρ d m_Lookup_hostName 0 [(0, vR (C + 98)), (1, vR r), (2, vI (k : Int))] [] (cc h C X Y) Q := by
  have F := HC.1.2
  have G := HC.1.1
  have kl : ∀ {X' : X3}, hK (cc h C X' Y) (C + 98) = k_Lookup := F.1.2.2.2.2.2.2.2.2
  have en : ∀ {X' : X3}, hR (cc h C X' Y) f_Lookup_names (C + 98) = C + 34 := fun {X'} => by rw [ccRo (by decide)]; exact F.2.2.1.2.2.2.1
  have eh : ∀ {X' : X3}, hR (cc h C X' Y) f_Lookup_host (C + 98) = ho := fun {X'} => by rw [ccR (by decide)]; exact yo
  have ew : ∀ {X' : X3}, hR (cc h C X' Y) f_Lookup_word (C + 98) = hR h f_Lookup_word (C + 98) := fun {X'} => ccRo (by decide)
  have kw : hK h (hR h f_Lookup_word (C + 98)) = 3 := (KC G).2.2.2.2.2.2.2.2.2.2.2.2.2.2.2.1
  have lw : hl h (hR h f_Lookup_word (C + 98)) = 70 := by
    have f2 := F
    unfold FC at f2
    exact f2.2.2.2.2.2.2.1.2.2.2.1
  have L60 : L.length ≤ 60 := by rw [← eL]; exact (NM.2.2.2.2 k hk).1
  -- the names' sizes
  have nsz : ∀ {X' : X3}, (hK (cc h C X' Y) (hR (cc h C X' Y) f_Words_size (C + 34)) ∈ [1, 11] ∧ 0 ≤ (k : Int) ∧ (k : Int) < (hl (cc h C X' Y) (hR (cc h C X' Y) f_Words_size (C + 34)) : Int)) ∧ hA (cc h C X' Y) (hR (cc h C X' Y) f_Words_size (C + 34)) k = (L.length : Int) ∧ hK (cc h C X' Y) (C + 34) = k_Words := fun {X'} => by
    obtain ⟨by_, fr, sz, nx, hd', W⟩ := NM.wd (X := X') (Y := Y) G
    obtain ⟨x1, x2, x3, -⟩ := W.2.2.2.2.2.2.1 k hk
    rw [eL] at x2
    have hl1 : hl (cc h C X' Y) sz = hl (cc h C X' Y) fr := W.2.2.2.2.1.1
    have hl2 : ws.length ≤ hl (cc h C X' Y) fr := W.2.2.2.2.1.2.2.1
    rw [W.2.1.2.2.1]
    exact ⟨⟨by rw [W.2.2.1.2.2.1]; decide, by omega, by rw [hl1]; omega⟩, x2, W.1.1⟩
  -- the word is found
  have g115 : ∀ bs : List Int, bs.length = pf.length + L.length → bs = wtL pf L → wpB PGm ρ d m_Lookup_hostName 115 [(0, vR (C + 98)), (2, vI (k : Int)), (3, vI (pf.length : Int))] [] (cc h C (wdX X bs) Y) Q := fun bs lb eb => by
    have HX1 : HCX ρ (cc h C (wdX X bs) Y) ho g N M hw := HX.fr (cc_fr G) (by unfold DJ; decide) (by simp)
    obtain ⟨g', -, by_, fr, sz, nx, HC1⟩ := HX1
    have WW := HC1.2.2.2.2.2.2.2
    have z0 : pf.length + L.length ≤ 2000000000 ∧ 0 + bs.length ≤ 1000000 := by omega
    obtain ⟨n1, n2, n3⟩ := nsz (X' := wdX X bs)
    have rw' : RW (cc h C (wdX X bs) Y) (hR h f_Lookup_word (C + 98)) 0 bs := ⟨by rw [ccl, lw]; omega, fun i hi => by rw [ccA G (by decide), Nat.zero_add]; exact wdX_g hi⟩
    refine wp_d (show d - 1 + 1 = d by omega) (b_Lookup_hostName_115 (d := d - 1) ⟨kl, ?_⟩)
    rw [eh, en, ew]
    refine ⟨HC1.1.1, n3, n1, ?_⟩
    rw [HC1.1.2.2.2.2.2.1, Int.toNat_natCast, n2, w32_aa z0.1]
    refine ⟨WW.1.1, ?_⟩
    have e1 : ((pf.length + L.length : Nat) : Int) = (bs.length : Int) := by omega
    rw [e1]
    refine wp_d (show d - 2 + 1 = d - 1 by omega) (c_find (d := d - 2) (at_ := 0) WW (by rw [ccK, kw]; decide) rw' z0.2 (fun j h1 h2 => ?_) (fun h1 => ?_))
    · exact q (j : Int) (Or.inl ⟨j, rfl, h1, by rw [h2, eb]⟩) bs
    · exact q (-1) (Or.inr ⟨rfl, by rw [← eb]; exact h1⟩) bs
  -- the name's letters
  have lp2 : ∀ mm j, j + mm = L.length → wpB PGm ρ d m_Lookup_hostName 37 [(0, vR (C + 98)), (2, vI (k : Int)), (3, vI (pf.length : Int)), (4, vI (j : Int))] [] (cc h C (wdX X (pf ++ L.take j)) Y) Q := fun mm => by
    induction mm with
    | zero =>
      intro j hj
      have ej : j = L.length := by omega
      subst ej
      rw [List.take_length]
      obtain ⟨n1, n2, n3⟩ := nsz (X' := wdX X (pf ++ L))
      refine wp_d (show d - 1 + 1 = d by omega) (b_Lookup_hostName_37 (d := d - 1) ⟨kl, ?_⟩)
      rw [en, ew, Int.toNat_natCast, n2]
      have z1 : ¬ (L.length : Int) < (L.length : Int) := by omega
      refine ⟨n3, n1, fun _ => ⟨fun p0 => ?_, fun p0 => ?_⟩, fun c => absurd c z1⟩
      · have pe : pf = [] := List.eq_nil_of_length_eq_zero (by omega)
        refine wp_d (show d = d - 1 + 1 by omega) (g115 (pf ++ L) (by simp) ?_)
        unfold wtL
        rw [if_pos pe, pe, List.nil_append]
      · match L, l1, eL, L60, lr with
        | [], l1, _, _, _ => exact absurd l1 (by decide)
        | c :: t, _, _, _, lr =>
          have pne : ¬ pf = [] := fun z => by rw [z] at p0; exact absurd p0 (by decide)
          have c0 := lr 0 (by simp)
          have c0' : 0 ≤ c ∧ c ≤ 127 := by simpa using c0
          have rd : hA (cc h C (wdX X (pf ++ c :: t)) Y) (hR h f_Lookup_word (C + 98)) ((pf.length : Nat) : Int).toNat = c := by
            rw [ccA G (by decide), Int.toNat_natCast, wdX_g (by simp)]
            simp [List.getD]
          have bw : 0 ≤ (pf.length : Int) ∧ (pf.length : Int) < ((70 : Nat) : Int) := by omega
          have ok : hK (cc h C (wdX X (pf ++ c :: t)) Y) (hR h f_Lookup_word (C + 98)) ∈ [3, 4, 13] ∧ 0 ≤ (pf.length : Int) ∧ (pf.length : Int) < (hl (cc h C (wdX X (pf ++ c :: t)) Y) (hR h f_Lookup_word (C + 98)) : Int) := ⟨by rw [ccK, kw]; decide, bw.1, by rw [ccl, lw]; exact bw.2⟩
          have same : ¬ (97 ≤ c ∧ c ≤ 122) → wpB PGm ρ (d - 1 + 1) m_Lookup_hostName 115 [(0, vR (C + 98)), (2, vI (k : Int)), (3, vI (pf.length : Int))] [] (cc h C (wdX X (pf ++ c :: t)) Y) Q := fun z => wp_d (show d = d - 1 + 1 by omega) (g115 (pf ++ c :: t) (by simp) (by
            unfold wtL
            rw [if_neg pne]
            show pf ++ c :: t = pf ++ (if 97 ≤ c ∧ c ≤ 122 then c - 32 else c) :: t
            rw [if_neg z]))
          refine ⟨ok, ?_⟩
          rw [rd]
          refine ⟨fun z => same (by omega), fun z => ⟨ok, fun z2 => same (by omega), fun z2 => ⟨ok, ?_⟩⟩⟩
          have z3 : -2147483648 ≤ c - 32 ∧ c - 32 < 2147483648 ∧ -128 ≤ c - 32 ∧ c - 32 < 128 ∧ c - 32 ≤ 127 := by omega
          rw [w32_of z3.1 z3.2.1, w8_of z3.2.2.1 z3.2.2.2.1]
          refine ⟨⟨Or.inl ⟨kw, z3.2.2.1, z3.2.2.2.2⟩, bw.1, by rw [ccl, lw]; exact bw.2⟩, ?_⟩
          rw [Int.toNat_natCast, cc_sA G (by decide)]
          have eX : u3 (wdX X (pf ++ c :: t)) 98 f_Lookup_word pf.length (c - 32) = wdX X (pf ++ (c - 32) :: t) := by
            funext o f i
            rw [u3_e]
            unfold wdX
            by_cases w : o = 98 ∧ f = f_Lookup_word
            · obtain ⟨w1, w2⟩ := w
              subst w1; subst w2
              simp only [true_and, List.length_append, List.length_cons]
              by_cases e : i = pf.length
              · rw [if_pos e, if_pos (by omega), e]
                simp [List.getD]
              · rw [if_neg e]
                by_cases l : i < pf.length + (t.length + 1)
                · rw [if_pos l, if_pos l]
                  simp only [List.getD]
                  by_cases l2 : i < pf.length
                  · rw [List.getElem?_append_left l2, List.getElem?_append_left l2]
                  · rw [List.getElem?_append_right (by omega), List.getElem?_append_right (by omega)]
                    obtain ⟨i', ei⟩ : ∃ i', i - pf.length = i' + 1 := ⟨i - pf.length - 1, by omega⟩
                    rw [ei, List.getElem?_cons_succ, List.getElem?_cons_succ]
                · rw [if_neg l, if_neg l]
            · rw [if_neg (fun z => w ⟨z.1, z.2.1⟩), if_neg (fun z => w ⟨z.1, z.2.1⟩), if_neg (fun z => w ⟨z.1, z.2.1⟩)]
          rw [eX]
          refine wp_d (show d = d - 1 + 1 by omega) (g115 (pf ++ (c - 32) :: t) (by simp) ?_)
          unfold wtL
          rw [if_neg pne]
          show pf ++ (c - 32) :: t = pf ++ (if 97 ≤ c ∧ c ≤ 122 then c - 32 else c) :: t
          rw [if_pos ⟨z, z2⟩]
    | succ mm ih =>
      intro j hj
      have jl : j < L.length := by omega
      obtain ⟨n1, n2, n3⟩ := nsz (X' := wdX X (pf ++ L.take j))
      obtain ⟨by_, fr, sz, nx, hd', W⟩ := NM.wd (X := wdX X (pf ++ L.take j)) (Y := Y) G
      have lj := lr j jl
      have z1 : ¬ (L.length : Int) ≤ (j : Int) ∧ pf.length + j ≤ 2000000000 ∧ j ≤ 2000000000 ∧ 0 ≤ ((pf.length + j : Nat) : Int) ∧ ((pf.length + j : Nat) : Int) < ((70 : Nat) : Int) := by omega
      have ll : (pf ++ L.take j).length = pf.length + j := by rw [List.length_append, List.length_take]; omega
      have es : u3 (wdX X (pf ++ L.take j)) 98 f_Lookup_word (pf.length + j) (L.getD j 0) = wdX X (pf ++ L.take (j + 1)) := by
        rw [← ll, wdX_s, List.append_assoc, ← take_s jl]
      refine wp_d (show d - 1 + 1 = d by omega) (b_Lookup_hostName_37 (d := d - 1) ⟨kl, ?_⟩)
      rw [en, ew, Int.toNat_natCast, n2]
      refine ⟨n3, n1, fun c => absurd c z1.1, fun _ => c_byteAt W hk (by rw [eL]; exact jl) ?_⟩
      rw [eL]
      have w8e : w8 (L.getD j 0) = L.getD j 0 := w8_of (by omega) (by omega)
      have lj2 : -128 ≤ L.getD j 0 ∧ L.getD j 0 ≤ 127 := by omega
      show (((hK (cc h C (wdX X (pf ++ L.take j)) Y) (hR h f_Lookup_word (C + 98)) = 3 ∧ -128 ≤ w8 (L.getD j 0) ∧ w8 (L.getD j 0) ≤ 127) ∨ _) ∧ _) ∧ _
      rw [w8e, w32_aa z1.2.1, w32_p1 z1.2.2.1]
      refine ⟨⟨Or.inl ⟨kw, lj2.1, lj2.2⟩, z1.2.2.2.1, by rw [ccl, lw]; exact z1.2.2.2.2⟩, ?_⟩
      rw [Int.toNat_natCast, cc_sA G (by decide), es]
      exact wp_d (show d = d - 1 + 1 by omega) (ih (j + 1) (by omega))
  -- the letters ahead
  have lp1 : ∀ mm j, j + mm = pf.length → wpB PGm ρ d m_Lookup_hostName 8 [(0, vR (C + 98)), (1, vR r), (2, vI (k : Int)), (3, vI (pf.length : Int)), (4, vI (j : Int))] [] (cc h C (wdX X (pf.take j)) Y) Q := fun mm => by
    induction mm with
    | zero =>
      intro j hj
      have ej : j = pf.length := by omega
      subst ej
      have z1 : ¬ (pf.length : Int) < (pf.length : Int) := by omega
      rw [List.take_length]
      have := lp2 L.length 0 (by omega)
      rw [List.take_zero, List.append_nil] at this
      exact b_Lookup_hostName_8 (by omega) ⟨fun _ => this, fun c => absurd c z1⟩
    | succ mm ih =>
      intro j hj
      have jl : j < pf.length := by omega
      obtain ⟨s1, s2, s3⟩ := sk.cc (X := wdX X (pf.take j)) (Y := Y) G
      have pj := pr j jl
      have z1 : ¬ (pf.length : Int) ≤ (j : Int) ∧ j ≤ 2000000000 ∧ 0 ≤ (j : Int) ∧ (j : Int) < ((70 : Nat) : Int) ∧ (j : Int) < (pf.length : Int) := by omega
      have ll : (pf.take j).length = j := by rw [List.length_take]; omega
      have es : u3 (wdX X (pf.take j)) 98 f_Lookup_word j (pf.getD j 0) = wdX X (pf.take (j + 1)) := by
        have := wdX_s (X := X) (bs := pf.take j) (x := pf.getD j 0)
        rw [ll, ← take_s jl] at this
        exact this
      have w8e : w8 (pf.getD j 0) = pf.getD j 0 := w8_of (by omega) (by omega)
      have pj2 : -128 ≤ pf.getD j 0 ∧ pf.getD j 0 ≤ 127 := by omega
      refine b_Lookup_hostName_8 (by omega) ⟨fun c => absurd c z1.1, fun _ => ⟨kl, s1, ⟨s1, z1.2.2.1, by rw [s2]; exact z1.2.2.2.2⟩, ?_⟩⟩
      rw [ew, Int.toNat_natCast, s3 j jl, w8e, w32_p1 z1.2.1]
      refine ⟨⟨Or.inl ⟨kw, pj2.1, pj2.2⟩, z1.2.2.1, by rw [ccl, lw]; exact z1.2.2.2.1⟩, ?_⟩
      rw [cc_sA G (by decide), es]
      exact ih (j + 1) (by omega)
  obtain ⟨s1, s2, s3⟩ := sk.cc (X := X) (Y := Y) G
  refine b_Lookup_hostName_0 (by omega) ⟨s1, s1, ?_⟩
  rw [s2]
  have := lp1 pf.length 0 (by omega)
  rw [List.take_zero, wdX_0] at this
  exact this
end
