/-! rows of bytes that are known by numbers -/
set_option maxRecDepth 20000
/-- a stretch of an array, as a list -/
def RW (h : ah) (r at_ : Nat) (l : List Int) : Prop := at_ + l.length ≤ hl h r ∧ ∀ i, i < l.length → hA h r (at_ + i) = l.getD i 0
theorem leq {a b : List Int} (h1 : a.length = b.length) (h2 : ∀ i, i < a.length → a.getD i 0 = b.getD i 0) : a = b := by
  apply List.ext_getElem h1
  intro i hi hj
  have := h2 i hi
  simpa [List.getD, List.getElem?_eq_getElem hi, List.getElem?_eq_getElem hj] using this
theorem take_s {l : List Int} {k : Nat} (h : k < l.length) : l.take (k + 1) = l.take k ++ [l.getD k 0] := by
  rw [List.take_succ]
  simp [List.getD, List.getElem?_eq_getElem h]
def hst (l : List Int) (h0 : Int) : Int := l.foldl (fun h c => w32 (w32 (h * 31) + c)) h0
def hsh (l : List Int) : Int := o32 (· &&& ·) (o32 (· ^^^ ·) (hst l (l.length : Int)) (o32 (fun a b => (a.toUInt32 >>> (b.toUInt32 &&& Int32.toUInt32 31)).toInt32) (hst l (l.length : Int)) 9)) 511
theorem and511 (x : Int) : 0 ≤ o32 (· &&& ·) x 511 ∧ o32 (· &&& ·) x 511 < 512 := by
  unfold o32
  show 0 ≤ (Int32.ofInt x &&& 511).toInt ∧ (Int32.ofInt x &&& 511).toInt < 512
  generalize Int32.ofInt x = a
  have e : (a &&& 511).toInt = (a &&& 511).toBitVec.toInt := rfl
  have e2 : (a &&& 511).toBitVec = a.toBitVec &&& 511#32 := rfl
  have hn : (a.toBitVec &&& 511#32).toNat ≤ 511 := by
    rw [BitVec.toNat_and]
    exact Nat.and_le_right
  rw [e, e2, BitVec.toInt_eq_toNat_of_lt (by omega)]
  omega
theorem hsh_b (l : List Int) : 0 ≤ hsh l ∧ hsh l < 512 := and511 _
def lastH (ws : List (List Int)) (b : Int) : Nat → Int
  | 0 => -1
  | n + 1 => if hsh (ws.getD n []) = b then (n : Int) else lastH ws b n
theorem lastH_s (ws : List (List Int)) (b : Int) : ∀ n, (lastH ws b n = -1 ∧ ∀ k, k < n → ¬ hsh (ws.getD k []) = b) ∨ ∃ w : Nat, w < n ∧ lastH ws b n = (w : Int) ∧ hsh (ws.getD w []) = b ∧ ∀ k, w < k → k < n → ¬ hsh (ws.getD k []) = b
  | 0 => Or.inl ⟨rfl, fun k hk => by omega⟩
  | n + 1 => by
    by_cases c : hsh (ws.getD n []) = b
    · exact Or.inr ⟨n, by omega, by simp only [lastH]; rw [if_pos c], c, fun k k1 k2 => by omega⟩
    · have e : lastH ws b (n + 1) = lastH ws b n := by simp only [lastH]; rw [if_neg c]
      rcases lastH_s ws b n with ⟨h1, h2⟩ | ⟨w, h1, h2, h3, h4⟩
      · exact Or.inl ⟨by rw [e]; exact h1, fun k hk => by
          by_cases ek : k = n
          · rw [ek]; exact c
          · exact h2 k (by omega)⟩
      · exact Or.inr ⟨w, by omega, by rw [e]; exact h2, h3, fun k k1 k2 => by
          by_cases ek : k = n
          · rw [ek]; exact c
          · exact h4 k k1 (by omega)⟩
theorem lastH_app {ws : List (List Int)} {v : List (List Int)} (b : Int) : ∀ n, n ≤ ws.length → lastH (ws ++ v) b n = lastH ws b n
  | 0, _ => rfl
  | n + 1, h => by
    have e : (ws ++ v).getD n [] = ws.getD n [] := by
      simp only [List.getD]
      rw [List.getElem?_append_left (by omega)]
    simp only [lastH]
    rw [e, lastH_app b n (by omega)]
def tot (ws : List (List Int)) : Nat → Nat
  | 0 => 0
  | n + 1 => tot ws n + (ws.getD n []).length
theorem tot_app {ws v : List (List Int)} : ∀ n, n ≤ ws.length → tot (ws ++ v) n = tot ws n
  | 0, _ => rfl
  | n + 1, h => by
    have e : (ws ++ v).getD n [] = ws.getD n [] := by
      simp only [List.getD]
      rw [List.getElem?_append_left (by omega)]
    simp only [tot]
    rw [e, tot_app n (by omega)]
theorem tot_mono {ws : List (List Int)} : ∀ {m n : Nat}, m ≤ n → tot ws m ≤ tot ws n
  | m, 0, h => by have : m = 0 := by omega
                  subst this; exact Nat.le_refl _
  | m, n + 1, h => by
    by_cases e : m = n + 1
    · subst e; exact Nat.le_refl _
    · have := tot_mono (ws := ws) (m := m) (n := n) (by omega)
      simp only [tot]; omega
/-- C's words -/
def WD (h : ah) (w most mb : Nat) (ws : List (List Int)) (by_ fr sz nx hd : Nat) : Prop :=
  (hK h w = k_Words ∧ w < hz h ∧ INJ h ∧ hI h f_Words_most w = (most : Int) ∧ hI h f_Words_mostBytes w = (mb : Int) ∧ hI h f_Words_many w = (ws.length : Int) ∧ hI h f_Words_used w = (tot ws ws.length : Int)) ∧
  (hR h f_Words_bytes w = by_ ∧ hR h f_Words_from w = fr ∧ hR h f_Words_size w = sz ∧ hR h f_Words_next w = nx ∧ hR h f_Words_heads w = hd) ∧
  (hK h by_ = 3 ∧ hK h fr = 1 ∧ hK h sz = 1 ∧ hK h nx = 1 ∧ hK h hd = 1) ∧ (0 < by_ ∧ 0 < fr ∧ 0 < sz ∧ 0 < nx ∧ 0 < hd) ∧
  (hl h sz = hl h fr ∧ hl h nx = hl h fr ∧ ws.length ≤ hl h fr ∧ (hl h fr = 128 ∨ hl h fr = most) ∧ hl h hd = 512 ∧ tot ws ws.length ≤ hl h by_ ∧ ws.length ≤ most) ∧
  (most ≤ 4000 ∧ 128 < most ∧ mb ≤ 240000 ∧ 4096 < mb ∧ (hl h by_ = 1024 ∨ hl h by_ = 4096 ∨ hl h by_ = mb)) ∧
  (∀ k, k < ws.length → hA h fr k = (tot ws k : Int) ∧ hA h sz k = ((ws.getD k []).length : Int) ∧ (∀ i, i < (ws.getD k []).length → hA h by_ (tot ws k + i) = (ws.getD k []).getD i 0) ∧ hA h nx k = lastH ws (hsh (ws.getD k [])) k) ∧
  (∀ b, b < 512 → hA h hd b = lastH ws (b : Int) ws.length) ∧ ws.Nodup
section
variable {ρ : Nat → Nat} {d : Nat} {h : ah} {F : Int → ah → Prop} {E : Nat → ah → Prop} {w most mb by_ fr sz nx hd : Nat} {ws : List (List Int)} {r at_ : Nat} {l : List Int}
theorem c_hash (hk : hK h r ∈ [3, 4, 13]) (H : RW h r at_ l) (hb : at_ + l.length ≤ 1000000) (q : F (hsh l) h) : wpB PGm ρ d m_Words_hash 0 [(0, vR r), (1, vI (at_ : Int)), (2, vI (l.length : Int))] [] h (cI F E) := by
  have lp : ∀ m k, l.length - k < m → k ≤ l.length → wpB PGm ρ d m_Words_hash 5 [(0, vR r), (1, vI (at_ : Int)), (2, vI (l.length : Int)), (3, vI (hst (l.take k) (l.length : Int))), (4, vI (k : Int))] [] h (cI F E) := by
    intro m
    induction m with
    | zero => intro k hm; omega
    | succ m ih =>
      intro k hm hk2
      have ew : w32 ((at_ : Int) + (k : Int)) = ((at_ + k : Nat) : Int) := by rw [w32_of (by omega) (by omega)]; omega
      refine b_Words_hash_5 ⟨fun z => ?_, fun z => ⟨⟨hk, by rw [ew]; omega, by rw [ew]; have := H.1; omega⟩, ?_⟩⟩
      · rw [List.take_of_length_le (by omega)]; exact q
      · rw [ew, w32_s (by omega), Int.toNat_natCast, H.2 k (by omega)]
        have e : w32 (w32 (hst (l.take k) (l.length : Int) * 31) + l.getD k 0) = hst (l.take (k + 1)) (l.length : Int) := by
          rw [take_s (by omega)]
          unfold hst
          rw [List.foldl_append]
          rfl
        rw [e]
        exact ih (k + 1) (by omega) (by omega)
  exact b_Words_hash_0 (lp _ 0 (Nat.lt_succ_self _) (Nat.zero_le _))
theorem c_is (H : WD h w most mb ws by_ fr sz nx hd) (hk : hK h r ∈ [3, 4, 13]) (R : RW h r at_ l) (hb : at_ + l.length ≤ 1000000) {k : Nat} (hkw : k < ws.length) (q1 : ws.getD k [] = l → F 1 h) (q0 : ¬ ws.getD k [] = l → F 0 h) : wpB PGm ρ d m_Words_is 0 [(0, vR w), (1, vI (k : Int)), (2, vR r), (3, vI (at_ : Int)), (4, vI (l.length : Int))] [] h (cI F E) := by
  obtain ⟨⟨a1, a2, a3, a4, a5, a6, a7⟩, ⟨b1, b2, b3, b4, b5⟩, ⟨c1, c2, c3, c4, c5⟩, -, ⟨e1, e2, e3, e4, e5, e6, e7⟩, ⟨g1, g2, g3, g4, g5⟩, H7, -, -⟩ := H
  obtain ⟨h1, h2, h3, -⟩ := H7 k hkw
  have ht : tot ws k + (ws.getD k []).length ≤ tot ws ws.length := by
    have := tot_mono (ws := ws) (m := k + 1) (n := ws.length) (by omega)
    simpa only [tot] using this
  have no : ∀ i : Int, ¬ ws.getD k [] = l → wpB PGm ρ d m_Words_is 21 [(0, vR w), (1, vI (k : Int)), (2, vR r), (3, vI (at_ : Int)), (4, vI (l.length : Int)), (5, vI 0), (6, vI i)] [] h (cI F E) := fun i hn => b_Words_is_21 ⟨fun _ => ⟨Or.inl rfl, q0 hn⟩, fun _ => ⟨fun _ => ⟨Or.inl rfl, q0 hn⟩, fun z => absurd rfl z⟩⟩
  have lp : ∀ m i, l.length - i < m → i ≤ l.length → (ws.getD k []).length = l.length → (∀ j, j < i → (ws.getD k []).getD j 0 = l.getD j 0) → wpB PGm ρ d m_Words_is 21 [(0, vR w), (1, vI (k : Int)), (2, vR r), (3, vI (at_ : Int)), (4, vI (l.length : Int)), (5, vI 1), (6, vI (i : Int))] [] h (cI F E) := by
    intro m
    induction m with
    | zero => intro i hm; omega
    | succ m ih =>
      intro i hm hi hlen hpre
      refine b_Words_is_21 ⟨fun z => ⟨Or.inr rfl, q1 (leq hlen (fun j hj => hpre j (by omega)))⟩, fun z => ⟨fun y => absurd y (by decide), fun _ => ?_⟩⟩
      have R1 := R.1
      have o4 : i ≤ 2000000000 := by omega
      have o1 : k < hl h fr := by omega
      have o2 : tot ws k + i < hl h by_ := by omega
      have o3 : at_ + i < hl h r := by omega
      have ew : w32 ((at_ : Int) + (i : Int)) = ((at_ + i : Nat) : Int) := by rw [w32_of (by omega) (by omega)]; omega
      have ev : w32 ((tot ws k : Int) + (i : Int)) = ((tot ws k + i : Nat) : Int) := by rw [w32_of (by omega) (by omega)]; omega
      rw [b2, b1, Int.toNat_natCast, h1, ew, ev, Int.toNat_natCast, Int.toNat_natCast, h3 i (by omega), R.2 i (by omega)]
      refine ⟨a1, ⟨by rw [c2]; decide, Int.natCast_nonneg _, Int.ofNat_lt.mpr o1⟩, ⟨by rw [c1]; decide, Int.natCast_nonneg _, Int.ofNat_lt.mpr o2⟩, ⟨hk, Int.natCast_nonneg _, Int.ofNat_lt.mpr o3⟩, fun y => ?_, fun y => ?_⟩
      · refine b_Words_is_61 ?_
        exact no _ (fun e => y (by rw [e]))
      · refine b_Words_is_61 ?_
        rw [w32_s o4]
        exact ih (i + 1) (by omega) (by omega) hlen (fun j hj => by
          by_cases ej : j = i
          · rw [ej]; exact y
          · exact hpre j (by omega))
  refine b_Words_is_0 ⟨a1, ⟨by rw [b3, c3]; decide, by omega, by rw [b3]; omega⟩, fun z => b_Words_is_16 ?_, fun z => b_Words_is_16 ?_⟩
  · rw [b3, Int.toNat_natCast, h2] at z
    exact no _ (fun e => z (by rw [e]))
  · rw [b3, Int.toNat_natCast, h2] at z
    exact lp _ 0 (Nat.lt_succ_self _) (Nat.zero_le _) (by omega) (fun j hj => by omega)
theorem getD_mem {ws : List (List Int)} {k : Nat} (h : k < ws.length) : ws.getD k [] ∈ ws := by
  simp only [List.getD, List.getElem?_eq_getElem h, Option.getD_some]
  exact List.getElem_mem h
theorem mem_getD {ws : List (List Int)} {l : List Int} (h : l ∈ ws) : ∃ k, k < ws.length ∧ ws.getD k [] = l := by
  obtain ⟨k, hk, e⟩ := List.getElem_of_mem h
  exact ⟨k, hk, by simp only [List.getD, List.getElem?_eq_getElem hk, Option.getD_some]; exact e⟩
theorem c_find (H : WD h w most mb ws by_ fr sz nx hd) (hk : hK h r ∈ [3, 4, 13]) (R : RW h r at_ l) (hb : at_ + l.length ≤ 1000000) (q1 : ∀ k : Nat, k < ws.length → ws.getD k [] = l → F (k : Int) h) (q0 : l ∉ ws → F (-1) h) : wpB PGm ρ (d + 1) m_Words_find 0 [(0, vR w), (1, vR r), (2, vI (at_ : Int)), (3, vI (l.length : Int))] [] h (cI F E) := by
  obtain ⟨⟨a1, a2, a3, a4, a5, a6, a7⟩, ⟨b1, b2, b3, b4, b5⟩, ⟨c1, c2, c3, c4, c5⟩, -, ⟨e1, e2, e3, e4, e5, e6, e7⟩, -, H7, H8, -⟩ := id H
  obtain ⟨g1, g2⟩ := hsh_b l
  have lp : ∀ j, j ≤ ws.length → (∀ k, j ≤ k → k < ws.length → ¬ ws.getD k [] = l) → wpB PGm ρ (d + 1) m_Words_find 13 [(0, vR w), (1, vR r), (2, vI (at_ : Int)), (3, vI (l.length : Int)), (4, vI (lastH ws (hsh l) j))] [] h (cI F E) := by
    intro j
    induction j using Nat.strongRecOn with
    | ind j ih =>
      intro hj hno
      rcases lastH_s ws (hsh l) j with ⟨z1, z2⟩ | ⟨v, z1, z2, z3, z4⟩
      · rw [z1]
        refine b_Words_find_13 ⟨fun _ => q0 (fun hm => ?_), fun z => by omega⟩
        obtain ⟨k, k1, k2⟩ := mem_getD hm
        by_cases c : k < j
        · exact z2 k c (by rw [k2])
        · exact hno k (by omega) k1 k2
      · rw [z2]
        have hv : v < ws.length := by omega
        refine b_Words_find_13 ⟨fun z => by omega, fun _ => ⟨a1, c_is H hk R hb hv (fun y => ⟨fun _ => q1 v hv y, fun z => absurd z (by decide)⟩) (fun y => ⟨fun z => absurd rfl z, fun _ => ⟨a1, ?_⟩⟩)⟩⟩
        rw [b4, Int.toNat_natCast, (H7 v hv).2.2.2, z3]
        refine ⟨⟨by rw [c4]; decide, by omega, by omega⟩, ih v z1 (by omega) (fun k k1 k2 k3 => ?_)⟩
        by_cases c : k = v
        · rw [c] at k3; exact y k3
        · by_cases c2 : k < j
          · exact z4 k (by omega) c2 (by rw [k3])
          · exact hno k (by omega) k2 k3
  refine b_Words_find_0 ⟨a1, c_hash hk R hb ?_⟩
  rw [b5]
  refine ⟨⟨by rw [c5]; decide, g1, by rw [e5]; omega⟩, ?_⟩
  have e9 : hA h hd (hsh l).toNat = lastH ws (hsh l) ws.length := by
    rw [H8 _ (by omega)]
    congr 1
    omega
  rw [e9]
  exact lp ws.length (Nat.le_refl _) (fun k k1 k2 => by omega)
/-- the same words, with other arrays -/
theorem WD.move (H : WD h w most mb ws by_ fr sz nx hd) {h' : ah} {by2 fr2 sz2 nx2 hd2 : Nat} (k1 : hK h' w = k_Words ∧ w < hz h' ∧ INJ h') (k2 : ∀ f, f ∈ [f_Words_most, f_Words_mostBytes, f_Words_many, f_Words_used] → hI h' f w = hI h f w)
    (k3 : hR h' f_Words_bytes w = by2 ∧ hR h' f_Words_from w = fr2 ∧ hR h' f_Words_size w = sz2 ∧ hR h' f_Words_next w = nx2 ∧ hR h' f_Words_heads w = hd2) (k4 : hK h' by2 = 3 ∧ hK h' fr2 = 1 ∧ hK h' sz2 = 1 ∧ hK h' nx2 = 1 ∧ hK h' hd2 = 1) (k5 : 0 < by2 ∧ 0 < fr2 ∧ 0 < sz2 ∧ 0 < nx2 ∧ 0 < hd2)
    (k6 : hl h' sz2 = hl h' fr2 ∧ hl h' nx2 = hl h' fr2 ∧ ws.length ≤ hl h' fr2 ∧ (hl h' fr2 = 128 ∨ hl h' fr2 = most) ∧ hl h' hd2 = 512 ∧ tot ws ws.length ≤ hl h' by2) (k7 : hl h' by2 = 1024 ∨ hl h' by2 = 4096 ∨ hl h' by2 = mb)
    (k8 : ∀ k, k < ws.length → hA h' fr2 k = hA h fr k ∧ hA h' sz2 k = hA h sz k ∧ hA h' nx2 k = hA h nx k) (k9 : ∀ i, i < tot ws ws.length → hA h' by2 i = hA h by_ i) (k10 : ∀ b, b < 512 → hA h' hd2 b = hA h hd b) : WD h' w most mb ws by2 fr2 sz2 nx2 hd2 := by
  obtain ⟨⟨a1, a2, a3, a4, a5, a6, a7⟩, -, -, -, ⟨e1, e2, e3, e4, e5, e6, e7⟩, ⟨g1, g2, g3, g4, g5⟩, H7, H8, H9⟩ := H
  refine ⟨⟨k1.1, k1.2.1, k1.2.2, by rw [k2 _ (by simp)]; exact a4, by rw [k2 _ (by simp)]; exact a5, by rw [k2 _ (by simp)]; exact a6, by rw [k2 _ (by simp)]; exact a7⟩, k3, k4, k5, ⟨k6.1, k6.2.1, k6.2.2.1, k6.2.2.2.1, k6.2.2.2.2.1, k6.2.2.2.2.2, e7⟩, ⟨g1, g2, g3, g4, k7⟩, fun k hk => ?_, fun b hb => by rw [k10 b hb]; exact H8 b hb, H9⟩
  obtain ⟨m1, m2, m3, m4⟩ := H7 k hk
  obtain ⟨n1, n2, n3⟩ := k8 k hk
  refine ⟨by rw [n1]; exact m1, by rw [n2]; exact m2, fun i hi => ?_, by rw [n3]; exact m4⟩
  have ht : tot ws k + (ws.getD k []).length ≤ tot ws ws.length := by
    have := tot_mono (ws := ws) (m := k + 1) (n := ws.length) (by omega)
    simpa only [tot] using this
  rw [k9 _ (by omega)]; exact m3 i hi
/-- the words are not touched -/
theorem WD.frm {L : List Nat} {P : List (Nat × Nat)} {z1 s1 : Nat} (H : WD h w most mb ws by_ fr sz nx hd) {h' : ah} (hf : Fr L P z1 s1 h h') (hM : ∀ f, f ∈ [f_Words_most, f_Words_mostBytes, f_Words_many, f_Words_used, f_Words_bytes, f_Words_from, f_Words_size, f_Words_next, f_Words_heads] → ¬ okC L P f w) (hP : (0, by_) ∉ P ∧ (0, fr) ∉ P ∧ (0, sz) ∉ P ∧ (0, nx) ∉ P ∧ (0, hd) ∉ P) : WD h' w most mb ws by_ fr sz nx hd := by
  obtain ⟨⟨a1, a2, a3, a4, a5, a6, a7⟩, ⟨b1, b2, b3, b4, b5⟩, ⟨c1, c2, c3, c4, c5⟩, ⟨d1, d2, d3, d4, d5⟩, ⟨e1, e2, e3, e4, e5, e6, e7⟩, ⟨g1, g2, g3, g4, g5⟩, H7, H8, H9⟩ := id H
  have hW : ∀ f, f ∈ [f_Words_most, f_Words_mostBytes, f_Words_many, f_Words_used, f_Words_bytes, f_Words_from, f_Words_size, f_Words_next, f_Words_heads] → ¬ okW L P f w := fun f hm k => hM f hm (Or.inl k)
  have s1 := hf.ar a3 (own_of rfl) a2 b1 (by omega) (hM _ (by simp)) hP.1
  have s2 := hf.ar a3 (own_of rfl) a2 b2 (by omega) (hM _ (by simp)) hP.2.1
  have s3 := hf.ar a3 (own_of rfl) a2 b3 (by omega) (hM _ (by simp)) hP.2.2.1
  have s4 := hf.ar a3 (own_of rfl) a2 b4 (by omega) (hM _ (by simp)) hP.2.2.2.1
  have s5 := hf.ar a3 (own_of rfl) a2 b5 (by omega) (hM _ (by simp)) hP.2.2.2.2
  have l1 : by_ < hz h := by rw [← b1]; exact a3.1 _ _ a2 (own_of rfl)
  have l2 : fr < hz h := by rw [← b2]; exact a3.1 _ _ a2 (own_of rfl)
  have l3 : sz < hz h := by rw [← b3]; exact a3.1 _ _ a2 (own_of rfl)
  have l4 : nx < hz h := by rw [← b4]; exact a3.1 _ _ a2 (own_of rfl)
  have l5 : hd < hz h := by rw [← b5]; exact a3.1 _ _ a2 (own_of rfl)
  refine H.move ⟨by rw [hf.K a2]; exact a1, hf.lt a2, hf.inj a3⟩ (fun f hm => hf.I a2 ?_ (hW f (show f ∈ [f_Words_most, f_Words_mostBytes, f_Words_many, f_Words_used] ++ [f_Words_bytes, f_Words_from, f_Words_size, f_Words_next, f_Words_heads] from List.mem_append_left _ hm))) ⟨by rw [hf.R a2 (by decide) (hW _ (by simp))]; exact b1, by rw [hf.R a2 (by decide) (hW _ (by simp))]; exact b2, by rw [hf.R a2 (by decide) (hW _ (by simp))]; exact b3, by rw [hf.R a2 (by decide) (hW _ (by simp))]; exact b4, by rw [hf.R a2 (by decide) (hW _ (by simp))]; exact b5⟩ ⟨by rw [hf.K l1]; exact c1, by rw [hf.K l2]; exact c2, by rw [hf.K l3]; exact c3, by rw [hf.K l4]; exact c4, by rw [hf.K l5]; exact c5⟩ ⟨d1, d2, d3, d4, d5⟩ ⟨by rw [s3.1, s2.1]; exact e1, by rw [s4.1, s2.1]; exact e2, by rw [s2.1]; exact e3, by rw [s2.1]; exact e4, by rw [s5.1]; exact e5, by rw [s1.1]; exact e6⟩ (by rw [s1.1]; exact g5) (fun k hk => ⟨s2.2.1 k, s3.2.1 k, s4.2.1 k⟩) (fun i hi => s1.2.1 i) (fun b hb => s5.2.1 b)
  simp only [List.mem_cons, List.not_mem_nil, or_false] at hm
  rcases hm with rfl | rfl | rfl | rfl <;> decide
end
