/-! a token and a word -/
set_option maxRecDepth 20000
/-- the bytes from p up to q -/
def byt (a : Nat → Int) (p q : Nat) : List Int := (List.range (q - p)).map (fun i => a (p + i))
theorem byt_len {a : Nat → Int} {p q : Nat} : (byt a p q).length = q - p := by simp [byt]
theorem byt_get {a : Nat → Int} {p q i : Nat} (h : i < q - p) : (byt a p q).getD i 0 = a (p + i) := by
  simp [byt, List.getD, List.getElem?_map, List.getElem?_range h]
/-- a text that stands in the program -/
def STR (h : ah) (r : Nat) (w : List Int) : Prop := hK h r = 191 ∧ hl h r = w.length ∧ w.length ≤ 1000 ∧ ∀ i, i < w.length → hA h r i = w.getD i 0
section
variable {ρ : Nat → Nat} {d : Nat} {h : ah} {F : Int → ah → Prop} {G : ah → Prop} {E : Nat → ah → Prop} {C s x n fa he T tx r : Nat} {q to : Nat} {k num : Int} {held w : List Int}
theorem c_isw (H : SC h C s x n fa he) (K : CTK h s he q k to num held) (hq : q ≤ to) (hto : to ≤ n) (S : STR h r w) (hd : 10 ≤ d) (q1 : k = 1 → byt (hA h x) q to = w → F 1 h) (q0 : ¬ (k = 1 ∧ byt (hA h x) q to = w) → F 0 h) : wpB PGm ρ d m_Scanner_is 0 [(0, vR s), (1, vR r)] [] h (cI F E) := by
  obtain ⟨⟨a1, a2, a3, a4, a5, a6⟩, -⟩ := H
  obtain ⟨k1, k2, k3, -⟩ := K
  obtain ⟨s1, s2, s3, s4⟩ := S
  have no : ∀ i, ¬ (k = 1 ∧ byt (hA h x) q to = w) → wpB PGm ρ d m_Scanner_is 32 [(0, vR s), (1, vR r), (2, vI 0), (3, vI i)] [] h (cI F E) := fun i ne => b_Scanner_is_32 hd ⟨s1, s1, fun _ => ⟨Or.inl rfl, q0 ne⟩, fun _ => ⟨fun _ => ⟨Or.inl rfl, q0 ne⟩, fun z => absurd rfl z⟩⟩
  have e1 : w32 (hI h f_Scanner_to s - hI h f_Scanner_from s) = ((to - q : Nat) : Int) := by rw [k2, k3, w32_of (by omega) (by omega)]; omega
  refine b_Scanner_is_0 hd ⟨a1, fun z => b_Scanner_is_29 (no _ (fun c => z (by rw [k1]; exact c.1))), fun z => ⟨s1, s1, fun y => b_Scanner_is_29 (no _ (fun c => ?_)), fun y => b_Scanner_is_29 ?_⟩⟩
  · rw [e1, s2, ← c.2, byt_len] at y; exact y rfl
  · rw [e1, s2] at y
    have el : to - q = w.length := by omega
    have lp : ∀ m i, w.length - i < m → i ≤ w.length → (∀ j, j < i → hA h x (q + j) = w.getD j 0) → wpB PGm ρ d m_Scanner_is 32 [(0, vR s), (1, vR r), (2, vI 1), (3, vI (i : Int))] [] h (cI F E) := by
      intro m
      induction m with
      | zero => intro i hm; omega
      | succ m ih =>
        intro i hm hi he
        refine b_Scanner_is_32 hd ⟨s1, s1, fun z => ⟨Or.inr rfl, q1 (by rw [← k1]; assumption) (leq (by rw [byt_len]; exact el) (fun j hj => ?_))⟩, fun z => ⟨fun z => absurd z (by decide), fun _ => ⟨a1, ?_⟩⟩⟩
        · rw [byt_len] at hj; rw [byt_get hj]; exact he j (by omega)
        · have hi2 : i < w.length := by omega
          rw [k2, a2, w32_n (by omega), Int.toNat_natCast, Int.toNat_natCast, s4 i hi2]
          refine ⟨⟨by rw [a4]; decide, by omega, by omega⟩, s1, ⟨s1, by omega, by omega⟩, fun ne => b_Scanner_is_68 (no _ (fun c => ne ?_)), fun e => b_Scanner_is_68 ?_⟩
          · rw [← c.2, byt_get (by omega)]
          · rw [w32_s (by omega)]
            exact ih (i + 1) (by omega) (by omega) (fun j hj => by
              by_cases c : j = i
              · rw [c]; exact e
              · exact he j (by omega))
    exact lp _ 0 (Nat.lt_succ_self _) (Nat.zero_le _) (fun j hj => by omega)
theorem TKC_1 {k tok sg : Int} (K : TKC k tok sg) : tok = 1 ↔ k = 1 := by
  unfold TKC at K
  constructor
  · intro e; rcases K with K | K | K | K | K | K | K <;> omega
  · intro e; subst e; rcases K with K | K | K | K | K | K | K <;> first | omega | (obtain ⟨-, c, -⟩ := K; exact absurd c (by unfold sgc; decide))
theorem t_isw (H : TS h T x n tx) (K : TTK h T tx q k to num held) (hq : q ≤ to) (hto : to ≤ n) (S : STR h r w) (hd : 10 ≤ d) (q1 : k = 1 → byt (hA h x) q to = w → F 1 h) (q0 : ¬ (k = 1 ∧ byt (hA h x) q to = w) → F 0 h) : wpB PGm ρ d m_Md_isWord 0 [(0, vR T), (1, vR r)] [] h (cI F E) := by
  obtain ⟨a1, a2, a3, a4, a5, a6, -⟩ := H
  obtain ⟨k2, k3, k1, -⟩ := K
  obtain ⟨s1, s2, s3, s4⟩ := S
  have k1 := TKC_1 k1
  have no : ∀ i, ¬ (k = 1 ∧ byt (hA h x) q to = w) → wpB PGm ρ d m_Md_isWord 32 [(0, vR T), (1, vR r), (2, vI 0), (3, vI i)] [] h (cI F E) := fun i ne => b_Md_isWord_32 hd ⟨s1, s1, fun _ => ⟨Or.inl rfl, q0 ne⟩, fun _ => ⟨fun _ => ⟨Or.inl rfl, q0 ne⟩, fun z => absurd rfl z⟩⟩
  refine b_Md_isWord_0 hd ⟨a1, fun z => b_Md_isWord_29 (no _ (fun c => z (k1.mpr c.1))), fun z => ?_⟩
  have k4 := k1.mp z
  have e1 : w32 (hI h f_Md_to T - hI h f_Md_from T) = ((to - q : Nat) : Int) := by rw [k2, k3 (by omega), w32_of (by omega) (by omega)]; omega
  refine ⟨s1, s1, fun y => b_Md_isWord_29 (no _ (fun c => ?_)), fun y => b_Md_isWord_29 ?_⟩
  · rw [e1, s2, ← c.2, byt_len] at y; exact y rfl
  · rw [e1, s2] at y
    have el : to - q = w.length := by omega
    have lp : ∀ m i, w.length - i < m → i ≤ w.length → (∀ j, j < i → hA h x (q + j) = w.getD j 0) → wpB PGm ρ d m_Md_isWord 32 [(0, vR T), (1, vR r), (2, vI 1), (3, vI (i : Int))] [] h (cI F E) := by
      intro m
      induction m with
      | zero => intro i hm; omega
      | succ m ih =>
        intro i hm hi he
        refine b_Md_isWord_32 hd ⟨s1, s1, fun z => ⟨Or.inr rfl, q1 k4 (leq (by rw [byt_len]; exact el) (fun j hj => ?_))⟩, fun z => ⟨fun z => absurd z (by decide), fun _ => ⟨a1, ?_⟩⟩⟩
        · rw [byt_len] at hj; rw [byt_get hj]; exact he j (by omega)
        · have hi2 : i < w.length := by omega
          rw [k2, a2, w32_n (by omega), Int.toNat_natCast, Int.toNat_natCast, s4 i hi2]
          refine ⟨⟨by rw [a4]; decide, by omega, by omega⟩, s1, ⟨s1, by omega, by omega⟩, fun ne => b_Md_isWord_68 (no _ (fun c => ne ?_)), fun e => b_Md_isWord_68 ?_⟩
          · rw [← c.2, byt_get (by omega)]
          · rw [w32_s (by omega)]
            exact ih (i + 1) (by omega) (by omega) (fun j hj => by
              by_cases c : j = i
              · rw [c]; exact e
              · exact he j (by omega))
    exact lp _ 0 (Nat.lt_succ_self _) (Nat.zero_le _) (fun j hj => by omega)
/-- a row of texts -/
def STRS (h : ah) (r : Nat) (W : List (List Int)) : Prop := 20 ≤ hK h r ∧ hK h r < 100 ∧ hl h r = W.length ∧ W.length ≤ 100 ∧ ∀ i, i < W.length → STR h (hB h r i) (W.getD i [])
/-- the first place of a word, or -1 -/
def plc (W : List (List Int)) (v : List Int) : Int := match W.idxOf? v with
  | some i => (i : Int)
  | none => -1
theorem plc_at {W : List (List Int)} {v : List Int} {i : Nat} (hi : i < W.length) (e : W.getD i [] = v) (no : ∀ j, j < i → W.getD j [] ≠ v) : plc W v = (i : Int) := by
  have : W.idxOf? v = some i := by
    rw [List.idxOf?, List.findIdx?_eq_some_iff_getElem]
    refine ⟨hi, ?_, fun j hj => ?_⟩
    · simp [List.getD, List.getElem?_eq_getElem hi] at e; simp [e]
    · have := no j hj; simp [List.getD, List.getElem?_eq_getElem (Nat.lt_trans hj hi)] at this; simp [this]
  rw [plc, this]
theorem plc_no {W : List (List Int)} {v : List Int} (no : ∀ j, j < W.length → W.getD j [] ≠ v) : plc W v = -1 := by
  have : W.idxOf? v = none := by
    rw [List.idxOf?, List.findIdx?_eq_none_iff]
    intro y hy
    obtain ⟨j, hj, e⟩ := mem_getD hy
    have := no j hj
    rw [e] at this
    simpa using this
  rw [plc, this]
theorem c_plain {o : Nat} {W : List (List Int)} (H : SC h C s x n fa he) (K : CTK h s he q k to num held) (hq : q ≤ to) (hto : to ≤ n) (ho : hK h o = k_Host) (S : STRS h (hR h f_Host_plainWords o) W) (hd : 10 ≤ d) (q1 : k = 1 → F (plc W (byt (hA h x) q to)) h) (q0 : ¬ k = 1 → F (-1) h) : wpB PGm ρ (d + 1) m_Host_plain 0 [(0, vR o), (1, vR s)] [] h (cI F E) := by
  obtain ⟨s1, s2, s3, s4, s5⟩ := S
  have lp : ∀ m i, W.length - i < m → i ≤ W.length → (∀ j, j < i → ¬ (k = 1 ∧ byt (hA h x) q to = W.getD j [])) → wpB PGm ρ (d + 1) m_Host_plain 2 [(0, vR o), (1, vR s), (2, vI (i : Int))] [] h (cI F E) := by
    intro m
    induction m with
    | zero => intro i hm; omega
    | succ m ih =>
      intro i hm hi no
      refine b_Host_plain_2 ⟨ho, ⟨by omega, s2⟩, fun z => b_Host_plain_30 ⟨ho, ⟨by omega, s2⟩, fun _ => ?_, fun z => by omega⟩, fun z => ⟨⟨s1, s2, by omega, z⟩, H.1.1, ?_⟩⟩
      · by_cases c : k = 1
        · have := q1 c
          rw [plc_no (fun j hj e => no j (by omega) ⟨c, e.symm⟩)] at this
          exact this
        · exact q0 c
      · rw [Int.toNat_natCast]
        refine c_isw H K hq hto (s5 i (by omega)) hd (fun e1 e2 => ⟨fun _ => b_Host_plain_30 ⟨ho, ⟨by omega, s2⟩, fun z => by omega, fun _ => ?_⟩, fun z => absurd z (by decide)⟩) (fun ne => ⟨fun z => absurd rfl z, fun _ => ?_⟩)
        · have := q1 e1
          rw [plc_at (by omega) e2.symm (fun j hj e => no j hj ⟨e1, e.symm⟩)] at this
          exact this
        · rw [w32_s (by omega)]
          exact ih (i + 1) (by omega) (by omega) (fun j hj => by
            by_cases c : j = i
            · rw [c]; exact ne
            · exact no j (by omega))
  exact b_Host_plain_0 (lp _ 0 (Nat.lt_succ_self _) (Nat.zero_le _) (fun j hj => by omega))
theorem c_among {o : Nat} {W : List (List Int)} (H : SC h C s x n fa he) (K : CTK h s he q k to num held) (hq : q ≤ to) (hto : to ≤ n) (S : STRS h o W) (hd : 10 ≤ d) (q1 : k = 1 → F (plc W (byt (hA h x) q to)) h) (q0 : ¬ k = 1 → F (-1) h) : wpB PGm ρ (d + 1) m_Parser_among 0 [(0, vR o), (1, vR s)] [] h (cI F E) := by
  obtain ⟨s1, s2, s3, s4, s5⟩ := S
  have lp : ∀ m i, W.length - i < m → i ≤ W.length → (∀ j, j < i → ¬ (k = 1 ∧ byt (hA h x) q to = W.getD j [])) → wpB PGm ρ (d + 1) m_Parser_among 2 [(0, vR o), (1, vR s), (2, vI (i : Int))] [] h (cI F E) := by
    intro m
    induction m with
    | zero => intro i hm; omega
    | succ m ih =>
      intro i hm hi no
      refine b_Parser_among_2 ⟨⟨by omega, s2⟩, fun z => b_Parser_among_24 ⟨⟨by omega, s2⟩, fun _ => ?_, fun z => by omega⟩, fun z => ⟨⟨s1, s2, by omega, z⟩, H.1.1, ?_⟩⟩
      · by_cases c : k = 1
        · have := q1 c
          rw [plc_no (fun j hj e => no j (by omega) ⟨c, e.symm⟩)] at this
          exact this
        · exact q0 c
      · rw [Int.toNat_natCast]
        refine c_isw H K hq hto (s5 i (by omega)) hd (fun e1 e2 => ⟨fun _ => b_Parser_among_24 ⟨⟨by omega, s2⟩, fun z => by omega, fun _ => ?_⟩, fun z => absurd z (by decide)⟩) (fun ne => ⟨fun z => absurd rfl z, fun _ => ?_⟩)
        · have := q1 e1
          rw [plc_at (by omega) e2.symm (fun j hj e => no j hj ⟨e1, e.symm⟩)] at this
          exact this
        · rw [w32_s (by omega)]
          exact ih (i + 1) (by omega) (by omega) (fun j hj => by
            by_cases c : j = i
            · rw [c]; exact ne
            · exact no j (by omega))
  exact b_Parser_among_0 (lp _ 0 (Nat.lt_succ_self _) (Nat.zero_le _) (fun j hj => by omega))
end
