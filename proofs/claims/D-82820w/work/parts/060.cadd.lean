/-! C: a member more -/
set_option maxRecDepth 20000
def fOK (g : HG) (n m : Nat) : Prop := ∀ i, i < n → 0 ≤ g.1 3 i ∧ 0 ≤ g.1 4 i ∧ g.1 3 i + g.1 4 i ≤ (m : Int)
theorem gMem_1 {g : HG} {c m : Nat} {so st ty va : Int} {ps nm : List Int} {k i : Nat} (h : ¬ (i = m ∧ 5 ≤ k ∧ k ≤ 9) ∧ ¬ (k = 4 ∧ i = c)) : (gMem g c m so st ty va ps nm).1 k i = g.1 k i := by
  show (if i = m then _ else _) = _
  by_cases e : i = m
  · rw [if_pos e, if_neg (by omega), if_neg (by omega), if_neg (by omega), if_neg (by omega), if_neg (by omega), if_neg h.2]
  · rw [if_neg e, if_neg h.2]
theorem gMem_4 {g : HG} {c m : Nat} {so st ty va : Int} {ps nm : List Int} : (gMem g c m so st ty va ps nm).1 4 c = g.1 4 c + 1 := by
  show (if c = m then _ else _) = _
  by_cases e : c = m
  · rw [if_pos e, if_neg (by omega), if_neg (by omega), if_neg (by omega), if_neg (by omega), if_neg (by omega), if_pos ⟨rfl, rfl⟩]
  · rw [if_neg e, if_pos ⟨rfl, rfl⟩]
theorem gMem_m {g : HG} {c m : Nat} {so st ty va : Int} {ps nm : List Int} : (gMem g c m so st ty va ps nm).1 5 m = (c : Int) ∧ (gMem g c m so st ty va ps nm).1 6 m = so ∧ (gMem g c m so st ty va ps nm).1 7 m = st ∧ (gMem g c m so st ty va ps nm).1 8 m = ty ∧ (gMem g c m so st ty va ps nm).1 9 m = va ∧ (gMem g c m so st ty va ps nm).2 2 m = ps ∧ (gMem g c m so st ty va ps nm).2 3 m = nm := by
  refine ⟨?_, ?_, ?_, ?_, ?_, ?_, ?_⟩ <;> simp [gMem]
theorem gMem_2 {g : HG} {c m : Nat} {so st ty va : Int} {ps nm : List Int} {k i : Nat} (h : ¬ (i = m ∧ (k = 2 ∨ k = 3))) : (gMem g c m so st ty va ps nm).2 k i = g.2 k i := by
  show (if i = m ∧ k = 2 then _ else if i = m ∧ k = 3 then _ else _) = _
  rw [if_neg (by omega), if_neg (by omega)]
def PM (aT ho : Nat) : List (Nat × Nat) := [(f_HostType_members + 1, aT), (f_Host_members + 1, ho)]
theorem PM_n {aT ho f b : Nat} (h : f ∈ ftyp) (h2 : f = f_HostType_members → b ≠ aT) : ¬ okC [] (PM aT ho) f b := by
  have hf : f ≠ f_HostType_members + 1 ∧ f ≠ f_Host_members + 1 ∧ f ≠ f_Host_members := by
    simp only [ftyp, List.mem_cons, List.not_mem_nil, or_false] at h
    rcases h with e | e | e | e | e | e | e | e | e | e <;> subst e <;> decide
  rintro ((k | k) | (k | k))
  · cases k
  · simp only [PM, List.mem_cons, Prod.mk.injEq, List.not_mem_nil, or_false] at k
    rcases k with k | k
    · exact hf.1 k.1
    · exact hf.2.1 k.1
  · cases k
  · simp only [PM, List.mem_cons, Prod.mk.injEq, List.not_mem_nil, or_false] at k
    rcases k with k | k
    · exact h2 (by omega) k.2
    · exact hf.2.2 (by omega)
section
variable {ρ : Nat → Nat} {d : Nat} {h h' h0 : ah} {F : Int → ah → Prop} {FR : Nat → ah → Prop} {G : ah → Prop} {E : Nat → ah → Prop} {Q : QT} {C ho a : Nat} {tp : List Int} {t t' : TKN} {g : HG} {n m c : Nat} {ws : List (List Int)} {by_ fr sz nx_ : Nat} {so st ty va : Int} {ps nm : List Int}
theorem c_hasTypes {j aM r : Nat} (M : MEO h ho g ws n j aM) (kr : hK h r ∈ [1, 11]) (lr : ps.length ≤ hl h r) (l8 : ps.length ≤ 8) (cr : ∀ i, i < ps.length → hA h r i = ps.getD i 0) (q1 : g.2 2 j = ps → F 1 h) (q0 : ¬ g.2 2 j = ps → F 0 h) : wpB PGm ρ d m_Member_hasTypes 0 [(0, vR aM), (1, vR r), (2, vI (ps.length : Int))] [] h (cI F E) := by
  obtain ⟨⟨a1, a2, a3⟩, -, -, -, -, -, -, -, -, -, -, -, ⟨d1, d2, d3, d4, d5, d6, d7⟩⟩ := M
  have no : ∀ i, ¬ g.2 2 j = ps → wpB PGm ρ d m_Member_hasTypes 18 [(0, vR aM), (1, vR r), (2, vI (ps.length : Int)), (3, vI 0), (4, vI i)] [] h (cI F E) := fun i ne => b_Member_hasTypes_18 ⟨fun _ => ⟨Or.inl rfl, q0 ne⟩, fun _ => ⟨fun _ => ⟨Or.inl rfl, q0 ne⟩, fun z => absurd rfl z⟩⟩
  refine b_Member_hasTypes_0 ⟨a1, by rw [d4]; decide, fun z => b_Member_hasTypes_14 (no _ (fun e => z (by rw [d5, e]))), fun z => b_Member_hasTypes_14 ?_⟩
  rw [d5] at z
  have el : (g.2 2 j).length = ps.length := by omega
  have lp : ∀ mm i, ps.length - i < mm → i ≤ ps.length → (∀ l, l < i → (g.2 2 j).getD l 0 = ps.getD l 0) → wpB PGm ρ d m_Member_hasTypes 18 [(0, vR aM), (1, vR r), (2, vI (ps.length : Int)), (3, vI 1), (4, vI (i : Int))] [] h (cI F E) := by
    intro mm
    induction mm with
    | zero => intro i hm; omega
    | succ mm ih =>
      intro i hm hi he
      refine b_Member_hasTypes_18 ⟨fun z => ⟨Or.inr rfl, q1 (leq el (fun l hl => he l (by omega)))⟩, fun z => ⟨fun z => absurd z (by decide), fun _ => ⟨a1, ?_⟩⟩⟩
      have hi2 : i < ps.length := by omega
      have i9 : i ≤ 2000000000 := by omega
      rw [Int.toNat_natCast, cr i hi2, d7 i (by omega)]
      refine ⟨⟨by rw [d4]; decide, by omega, by omega⟩, ⟨kr, by omega, by omega⟩, fun ne => b_Member_hasTypes_47 (no _ (fun e => ne (by rw [e]))), fun e => b_Member_hasTypes_47 ?_⟩
      rw [w32_s i9]
      exact ih (i + 1) (by omega) (by omega) (fun l hl => by
        by_cases c : l = i
        · rw [c]; exact e
        · exact he l (by omega))
  exact lp _ 0 (Nat.lt_succ_self _) (Nat.zero_le _) (fun l hl => by omega)
theorem NMO.iff2 {l l2 : List Int} {v w : Int} (hd : ws.Nodup) (H : NMO ws l v) (H2 : NMO ws l2 w) : v = w ↔ l = l2 := by
  obtain ⟨k, a, b, c⟩ := H2
  rw [c]
  exact H.iff hd a b
theorem MEO.nam {j aM : Nat} (M : MEO h ho g ws n j aM) (hd : ws.Nodup) {v : Int} (H : NMO ws nm v) : hI h f_Member_name aM = v ↔ (¬ g.1 6 j = 2 ∧ g.2 3 j = nm) := by
  obtain ⟨-, -, b2, -, -, -, -, -, -, c3, -⟩ := M
  rcases c3 with ⟨x1, x2, x3⟩ | ⟨x1, x2⟩
  · rw [x3]
    obtain ⟨w, hw, e, ev⟩ := H
    constructor
    · intro y; omega
    · intro y; exact absurd x1 y.1
  · rw [x2.iff2 hd H]
    exact ⟨fun y => ⟨x1, y⟩, fun y => y.2⟩
/-- where the members of a class stand -/
theorem TYO.mb {i : Nat} (H : TYO h ho g ws i a) (hf : fOK g n m) (hi : i < n) : LSt h (hR h f_HostType_members a) ∧ hl h (hR h f_HostType_members a) = (g.1 4 i).toNat ∧ (∀ k, k < (g.1 4 i).toNat → hB h (hR h f_HostType_members a) k = hB h (ho + 3) ((g.1 3 i).toNat + k)) ∧ (g.1 3 i).toNat + (g.1 4 i).toNat ≤ m := by
  obtain ⟨-, -, -, -, -, -, -, -, -, ⟨d1, d2, d3⟩, -⟩ := H
  have := hf i hi
  refine ⟨d1, by omega, fun k hk => d3 k (by omega), by omega⟩
theorem c_field {i : Nat} {v : Int} (H : HC ρ h ho g n m ws by_ fr sz nx_) (hf : fOK g n m) (hi : i < n) (hN : NMO ws nm v) (hd : 10 ≤ d) (q1 : ∀ j, (g.1 3 i).toNat ≤ j → j < (g.1 3 i).toNat + (g.1 4 i).toNat → g.1 6 j = 0 → g.2 3 j = nm → FR (hB h (ho + 3) j) h) (q0 : (∀ j, (g.1 3 i).toNat ≤ j → j < (g.1 3 i).toNat + (g.1 4 i).toNat → ¬ (g.1 6 j = 0 ∧ g.2 3 j = nm)) → FR 0 h) : wpB PGm ρ d m_HostType_field 0 [(0, vR (hB h (ho + 2) i)), (1, vI v)] [] h (cR FR E) := by
  have T := H.2.2.2.2.2.1 i hi
  obtain ⟨d1, d2, d3, d4⟩ := T.mb hf hi
  have hm4 := H.2.2.2.2.1
  have nd := H.2.2.2.2.2.2.2.2.2.2.2.2.2.2.2
  have lp : ∀ mm j, (g.1 4 i).toNat - j < mm → j ≤ (g.1 4 i).toNat → (∀ l, l < j → ¬ (g.1 6 ((g.1 3 i).toNat + l) = 0 ∧ g.2 3 ((g.1 3 i).toNat + l) = nm)) → wpB PGm ρ d m_HostType_field 2 [(0, vR (hB h (ho + 2) i)), (1, vI v), (2, vI (j : Int))] [] h (cR FR E) := by
    intro mm
    induction mm with
    | zero => intro j hm; omega
    | succ mm ih =>
      intro j hm hj no
      refine b_HostType_field_2 hd ⟨T.1.1, d1.1.1, d1.1, fun z => ?_, fun z => ⟨d1.1.1, ⟨d1.1, by omega, z⟩, ?_⟩⟩
      · rw [d2] at z
        refine q0 (fun l h1 h2 => ?_)
        have := no (l - (g.1 3 i).toNat) (by omega)
        rw [show (g.1 3 i).toNat + (l - (g.1 3 i).toNat) = l by omega] at this
        exact this
      · rw [d2] at z
        have hj2 : j < (g.1 4 i).toNat := by omega
        have j9 : j ≤ 2000000000 := by omega
        have M := H.2.2.2.2.2.2.1 ((g.1 3 i).toNat + j) (by omega)
        have nmi := M.nam nd hN
        rw [Int.toNat_natCast, d3 j hj2]
        have go : ¬ (g.1 6 ((g.1 3 i).toNat + j) = 0 ∧ g.2 3 ((g.1 3 i).toNat + j) = nm) → wpB PGm ρ d m_HostType_field 2 [(0, vR (hB h (ho + 2) i)), (1, vI v), (2, vI (w32 ((j : Int) + 1)))] [] h (cR FR E) := fun ne => by
          rw [w32_s j9]
          exact ih (j + 1) (by omega) (by omega) (fun l hl => by
            by_cases c : l = j
            · rw [c]; exact ne
            · exact no l (by omega))
        rw [M.2.2.1]
        refine ⟨Or.inr (by rw [M.1.1]; decide), M.1.1, fun z => go (fun c => z c.1), fun z => ⟨fun y => go (fun c => y (nmi.mpr ⟨by rw [z]; decide, c.2⟩)), fun y => q1 _ (by omega) (by omega) z (nmi.mp y).2⟩⟩
  exact b_HostType_field_0 (lp _ 0 (Nat.lt_succ_self _) (Nat.zero_le _) (fun l hl => by omega))
theorem FX.ofadd {P : List (Nat × Nat)} {z s : Nat} {h h1 : ah} {f o l x : Nat} (b : Fr [] P z s h h1) (hP : (f + 1, o) ∈ P) (ho : own f) (hlt : o < hz h) (e : hR h f o = l) (hk : 100 ≤ hK h l) : Fr [] P (z + 1) (s + (2 * hl h1 l + 10)) h (ladd h1 l x) := Fr.lad (Or.inr (Or.inr (Or.inr ⟨f, o, hlt, ho, e, Or.inr (Or.inr hP)⟩))) (Or.inr hk) b
theorem c_add {pa : Nat} {v : Int} (H : RC ρ h0 h C ho tp g n m ws t) (hf : fOK g n m) (hc : c < n) (hm : (g.1 3 c).toNat + (g.1 4 c).toNat = m) (hm4 : m < 400) (h10 : g.1 10 c = 0) (hso : so = 0 ∨ so = 1 ∨ so = 2) (hst : st = 0 ∨ st = 1) (hva : va = 0 ∨ va = 1) (hty : 0 ≤ ty ∧ ty < 9 + (n : Int)) (hnm : (so = 2 ∧ nm = [] ∧ v = -1) ∨ (¬ so = 2 ∧ NMO ws nm v)) (hpa : pa ≠ 0 ∧ pa < hz h ∧ UNO h pa ∧ hK h pa = 1 ∧ hl h pa = ps.length ∧ ps.length ≤ 8 ∧ ∀ k, k < ps.length → hA h pa k = ps.getD k 0) (hd : 10 ≤ d) (ha0 : hz h0 ≤ hB h (ho + 2) c)
    (q : ∀ h', (∃ by_ fr sz nx, HC ρ h' ho (gMem g c m so st ty va ps nm) n (m + 1) ws by_ fr sz nx) → FX LH (PH ho) h0 h' → Fr [] (PM (hB h (ho + 2) c) ho) 3 1700 h h' → HZ h' ho ≤ HZ h ho + 3 → HSl h' ho ≤ HSl h ho + 1700 → hB h' (ho + 2) c = hB h (ho + 2) c → G h') :
    wpB PGm ρ (d + 1) m_Host_add 0 [(0, vR ho), (1, vR (hB h (ho + 2) c)), (2, vI so), (3, vI ty), (4, vI st), (5, vI v), (6, vR pa), (7, vI va)] [] h (cV G E) := by
  obtain ⟨⟨by_, fr, sz, nx0, H1⟩, K, S1, H4, H5, H6, H6', -⟩ := id H
  obtain ⟨b0, b1, b2, b3, b4, b5, b6, b7⟩ := id H1
  have hi := b0.2.2.1
  have lho := b0.2.1
  have T := b5 c hc
  obtain ⟨d1, d2, d3, d4⟩ := T.mb hf hc
  have lt2 : ho + 2 < hz h := b0.2.2.2.2.2.2.1.2.2
  have lt3 : ho + 3 < hz h := b0.2.2.2.2.2.2.2.1.2.2
  have aT := T.1.2.1
  have kT := T.1.1
  have mT := d1.2.2
  have n3 : hR h f_HostType_members (hB h (ho + 2) c) ≠ ho + 3 := fun e => absurd (hi.2.1 f_HostType_members _ f_Host_members ho aT lho (own_of rfl) (own_of rfl) (by rw [e, b0.2.2.2.2.1]) d1.2.1).1 (by decide)
  have n2 : hR h f_HostType_members (hB h (ho + 2) c) ≠ ho + 2 := fun e => absurd (hi.2.1 f_HostType_members _ f_Host_types ho aT lho (own_of rfl) (own_of rfl) (by rw [e, b0.2.2.2.1]) d1.2.1).1 (by decide)
  refine b_Host_add_0 (by omega) ?_
  intro h1
  have K1 : ∀ y, y < hz h → hK h1 y = hK h y := fun y hy => if_neg (by omega)
  have R1 : ∀ f y, y < hz h → hR h1 f y = hR h f y := fun f y hy => if_neg (by omega)
  have I1 : ∀ f y, y < hz h → hI h1 f y = hI h f y := fun f y hy => if_neg (by omega)
  have L1 : ∀ y, y < hz h → hl h1 y = hl h y := fun y hy => if_neg (by omega)
  have KM : hK h1 (hz h) = k_Member := if_pos rfl
  refine ⟨by rw [K1 _ lho]; exact b0.1, by rw [R1 _ _ lho, b0.2.2.2.2.1, K1 _ lt3]; exact b0.2.2.2.2.2.2.2.1.1.1, by rw [R1 _ _ lho, b0.2.2.2.2.1]; exact ⟨by rw [K1 _ lt3]; exact b0.2.2.2.2.2.2.2.1.1.1, by rw [I1 _ _ lt3]; exact b0.2.2.2.2.2.2.2.1.1.2⟩, ?_⟩
  rw [R1 _ _ lho, b0.2.2.2.2.1, L1 _ lt3, b2]
  refine b_Member_init_0 (by omega) ⟨by rw [KM]; decide, KM, ?_⟩
  intro e1 e4 e5 e6
  refine ⟨hst, ?_⟩
  intro e7 e9 e10
  refine ⟨hva, ?_⟩
  intro h6
  -- what h6 is
  have F6 : Fr [] (PM (hB h (ho + 2) c) ho) 1 11 h h6 := Fr.nI (Nat.le_refl _) (Fr.nR (Nat.le_refl _) (fun c => absurd (show ownF.elem f_Member_parameters = true from c) (by decide)) (Fr.nI (Nat.le_refl _) (Fr.nI (Nat.le_refl _) (Fr.nR (Nat.le_refl _) (fun c => absurd (show ownF.elem f_Member_owner = true from c) (by decide)) (Fr.nI (Nat.le_refl _) (Fr.nI (Nat.le_refl _) (Fr.nI (Nat.le_refl _) ((Fr.r0 (h := h)).new (k := k_Member) (n := 11) (m := 0)))))))))
  have K6 : ∀ y, y < hz h → hK h6 y = hK h y := fun y hy => F6.K hy
  have R6 : ∀ f y, 5 ≤ f → y < hz h → (f ∉ [f_HostType_members + 1, f_Host_members + 1]) → hR h6 f y = hR h f y := fun f y h5 hy hn => F6.R hy h5 (fun c => c.elim (fun c => by cases c) (fun c => by simp [PM] at c; simp at hn; omega))
  have I6 : ∀ f y, 5 ≤ f → y < hz h → (f ∉ [f_HostType_members + 1, f_Host_members + 1]) → hI h6 f y = hI h f y := fun f y h5 hy hn => F6.I hy h5 (fun c => c.elim (fun c => by cases c) (fun c => by simp [PM] at c; simp at hn; omega))
  have L6 : ∀ y, y < hz h → hl h6 y = hl h y := fun y hy => L1 y hy
  have B6 : ∀ y i, y < hz h → hB h6 y i = hB h y i := fun y i hy => if_neg (by omega)
  have A6 : ∀ y i, y < hz h → hA h6 y i = hA h y i := fun y i hy => if_neg (by omega)
  have z6 : hz h6 = hz h + 1 := rfl
  have KM6 : hK h6 (hz h) = k_Member := KM
  have rT : hR h6 f_HostType_members (hB h (ho + 2) c) = hR h f_HostType_members (hB h (ho + 2) c) := R6 _ _ (by decide) aT (by decide)
  have d1' := d1.fr F6
  refine ⟨by rw [K6 _ aT]; exact kT, by rw [rT]; exact d1'.1.1, by rw [rT]; exact ⟨d1'.1, by rw [L6 _ mT]; omega, Or.inr (by rw [KM6]; decide)⟩, ?_⟩
  rw [rT]
  intro h15
  have F15 : Fr [] (PM (hB h (ho + 2) c) ho) 2 (11 + (2 * hl h6 (hR h f_HostType_members (hB h (ho + 2) c)) + 10)) h h15 := FX.ofadd F6 (by simp [PM]) (own_of rfl) aT rfl (by rw [d1.1.1]; decide)
  have z15 : hz h6 ≤ hz h15 ∧ hz h15 ≤ hz h6 + 1 := z_ladd
  have mT6 : hR h f_HostType_members (hB h (ho + 2) c) < hz h6 := by omega
  have r3 : hR h15 f_Host_members ho = ho + 3 := by
    rw [show hR h15 f_Host_members ho = hR h6 f_Host_members ho from R_ladd (by decide) (by omega), R6 _ _ (by decide) lho (by decide)]; exact b0.2.2.2.2.1
  have s3 := (b0.2.2.2.2.2.2.2.1.fr F6).add (a := hR h f_HostType_members (hB h (ho + 2) c)) (x := hz h)
  have L15 : ∀ y, y < hz h → hl h15 y = if y = hR h f_HostType_members (hB h (ho + 2) c) then (g.1 4 c).toNat + 1 else hl h y := fun y hy => by
    rw [show hl h15 y = _ from l_ladd mT6 (by omega), L6 _ hy, L6 _ mT, d2]
  have B15 : ∀ y i, y < hz h → hB h15 y i = if y = hR h f_HostType_members (hB h (ho + 2) c) ∧ i = (g.1 4 c).toNat then hz h else hB h y i := fun y i hy => by
    rw [show hB h15 y i = _ from B_ladd mT6 (by omega), B6 _ _ hy, L6 _ mT, d2]
  refine ⟨by rw [F15.K lho]; exact b0.1, by rw [r3]; exact s3.1.1, by rw [r3]; exact ⟨s3.1, by rw [L15 _ lt3, if_neg (fun e => n3 e.symm), b2]; omega, Or.inr (by rw [show hK h15 (hz h) = hK h6 (hz h) from K_ladd (by omega), KM6]; decide)⟩, ?_⟩
  rw [r3]
  intro h20
  have l15 : hl h15 (ho + 3) = m := by rw [L15 _ lt3, if_neg (fun e => n3 e.symm)]; exact b2
  have F20 := FX.ofadd (x := hz h) (f := f_Host_members) (o := ho) (l := ho + 3) F15 (by simp [PM]) (own_of rfl) lho b0.2.2.2.2.1 (by rw [b0.2.2.2.2.2.2.2.1.1.1]; decide)
  have FF : Fr [] (PM (hB h (ho + 2) c) ho) 3 1700 h h20 := F20.le (by omega) (by rw [l15, L6 _ mT]; omega)
  have lt315 : ho + 3 < hz h15 := by omega
  have L20 : ∀ y, y < hz h → hl h20 y = if y = ho + 3 then m + 1 else if y = hR h f_HostType_members (hB h (ho + 2) c) then (g.1 4 c).toNat + 1 else hl h y := fun y hy => by
    rw [show hl h20 y = _ from l_ladd lt315 (by omega), l15, L15 _ hy]
  have B20 : ∀ y i, y < hz h → hB h20 y i = if y = ho + 3 ∧ i = m then hz h else if y = hR h f_HostType_members (hB h (ho + 2) c) ∧ i = (g.1 4 c).toNat then hz h else hB h y i := fun y i hy => by
    rw [show hB h20 y i = _ from B_ladd lt315 (by omega), l15, B15 _ _ hy]
  have t2 : ∀ k, hB h20 (ho + 2) k = hB h (ho + 2) k := fun k => by rw [B20 _ _ lt2, if_neg (by omega), if_neg (fun x => n2 x.1.symm)]
  have t3 : ∀ k, k < m → hB h20 (ho + 3) k = hB h (ho + 3) k := fun k hk => by rw [B20 _ _ lt3, if_neg (by omega), if_neg (fun x => n3 x.1.symm)]
  have nP : ∀ y, (0, y) ∉ PM (hB h (ho + 2) c) ho := nP0 rfl
  have W' := b7.frm FF (fun f hm => nokAll (L := []) (P := PM (hB h (ho + 2) c) ho) (fs := [f_Words_most, f_Words_mostBytes, f_Words_many, f_Words_used, f_Words_bytes, f_Words_from, f_Words_size, f_Words_next, f_Words_heads]) rfl f hm _) ⟨nP _, nP _, nP _, nP _, nP _⟩
  have zz := HZ_frm b7 W' FF
  refine q h20 ⟨by_, fr, sz, nx0, b0.frm FF (fun f hm c => by
      simp only [fhos, List.mem_cons, List.not_mem_nil, or_false] at hm
      rcases hm with e | e | e | e | e | e | e <;> subst e <;> exact nokW rfl rfl c) (nP _), by rw [L20 _ lt2, if_neg (by omega), if_neg (fun x => n2 x.symm)]; exact b1, by rw [L20 _ lt3, if_pos rfl], b3, by omega, fun i hi2 => ?_, fun j hj => ?_, W'⟩ (H5.into ⟨_, _, FF⟩ (fun f c => by cases c) (fun q hq => by
      simp only [PM, List.mem_cons, List.not_mem_nil, or_false] at hq
      rcases hq with e | e
      · subst e; exact Or.inr (Or.inr ⟨Nat.le_of_ble_eq_true rfl, ha0⟩)
      · subst e; exact Or.inl (by simp [PH]))) FF (by omega) (by omega) (t2 c)
  · -- the classes
    rw [t2]
    by_cases ci : i = c
    · subst ci
      obtain ⟨x0, x1, x2, x3, x4, x5, x6, x7, x8, x9, x10, x11⟩ := b5 i hi2
      have hW : ∀ f, f ∈ ftyp → ¬ okW [] (PM (hB h (ho + 2) i) ho) f (hB h (ho + 2) i) := fun f hm c => by
        simp only [ftyp, List.mem_cons, List.not_mem_nil, or_false] at hm
        rcases hm with e | e | e | e | e | e | e | e | e | e <;> subst e <;> exact nokW rfl rfl c
      have II : ∀ f, f ∈ ftyp → 5 ≤ f → hI h20 f (hB h (ho + 2) i) = hI h f (hB h (ho + 2) i) := fun f hm h5 => FF.I aT h5 (hW f hm)
      have RR : ∀ f, f ∈ ftyp → 5 ≤ f → hR h20 f (hB h (ho + 2) i) = hR h f (hB h (ho + 2) i) := fun f hm h5 => FF.R aT h5 (hW f hm)
      have ss := FF.ar hi (own_of (f := f_HostType_supers) rfl) aT rfl x8.1.2.1 (PM_n (by simp [ftyp]) (fun e => absurd e (by decide))) (nP _)
      have so' := FF.ar hi (own_of (f := f_HostType_over) rfl) aT rfl x10.1 (PM_n (by simp [ftyp]) (fun e => absurd e (by decide))) (nP _)
      have lo := hi.1 _ _ aT (own_of (f := f_HostType_over) rfl)
      have g1 : ∀ {k j : Nat}, (¬ (j = m ∧ 5 ≤ k ∧ k ≤ 9) ∧ ¬ (k = 4 ∧ j = i)) → (gMem g i m so st ty va ps nm).1 k j = g.1 k j := fun h => gMem_1 h
      have g2 : ∀ {k j : Nat}, ¬ (j = m ∧ (k = 2 ∨ k = 3)) → (gMem g i m so st ty va ps nm).2 k j = g.2 k j := fun h => gMem_2 h
      refine ⟨⟨by rw [FF.K aT]; exact x0.1, FF.lt aT, x0.2.2⟩, by rw [II _ (by simp [ftyp]) (by decide)]; exact x1, by rw [II _ (by simp [ftyp]) (by decide), g2 (by omega)]; exact x2, by rw [II _ (by simp [ftyp]) (by decide), g1 (by omega)]; exact x3, by rw [g1 (by omega)]; exact x4, by rw [II _ (by simp [ftyp]) (by decide), g1 (by omega)]; exact x5, by rw [g1 (by omega)]; exact x6, ?_, ?_, ?_, ?_, ?_⟩
      · rw [RR _ (by simp [ftyp]) (by decide), g1 (by omega), t2]; exact x7
      · rw [RR _ (by simp [ftyp]) (by decide), g2 (by omega)]
        exact ⟨x8.1.fr FF, by rw [ss.1]; exact x8.2.1, fun k hk => by rw [ss.2.2, t2]; exact x8.2.2 k hk⟩
      · have fo := hf i hi2
        rw [RR _ (by simp [ftyp]) (by decide), gMem_4, g1 (by omega)]
        have ll : hl h20 (hR h f_HostType_members (hB h (ho + 2) i)) = (g.1 4 i).toNat + 1 := by rw [L20 _ mT, if_neg n3, if_pos rfl]
        refine ⟨d1.fr FF, by rw [ll]; omega, fun k hk => ?_⟩
        rw [ll] at hk
        rw [B20 _ _ mT, if_neg (fun x => n3 x.1)]
        by_cases ck : k = (g.1 4 i).toNat
        · rw [if_pos ⟨rfl, ck⟩, B20 _ _ lt3, if_pos ⟨rfl, by omega⟩]
        · rw [if_neg (fun x => ck x.2), t3 _ (by omega)]; exact d3 k (by omega)
      · rw [RR _ (by simp [ftyp]) (by decide)]
        exact ⟨x10.1, by rw [FF.K lo]; exact x10.2.1, by rw [so'.1]; exact x10.2.2.1, fun j hj => by rw [so'.2.1, g1 (by omega)]; exact x10.2.2.2 j hj⟩
      · rw [RR _ (by simp [ftyp]) (by decide), RR _ (by simp [ftyp]) (by decide)]
        rcases x11 with x11 | x11
        · exact Or.inl ⟨by rw [g1 (by omega)]; exact x11.1, x11.2⟩
        · rw [h10] at x11; exact absurd x11.1 (by decide)
    · have ne : hB h (ho + 2) i ≠ hB h (ho + 2) c := fun e => by have x := (b5 i hi2).2.1; rw [e, T.2.1] at x; omega
      have fo := hf i hi2
      have := (b5 i hi2).frm hi FF (fun f hm => PM_n hm (fun _ => ne)) nP (fun k _ => t2 k) (fun k hk => t3 _ (by omega))
      obtain ⟨x0, x1, x2, x3, x4, x5, x6, x7, x8, x9, x10, x11⟩ := this
      have g1 : ∀ {k j : Nat}, (¬ (j = m ∧ 5 ≤ k ∧ k ≤ 9) ∧ ¬ (k = 4 ∧ j = c)) → (gMem g c m so st ty va ps nm).1 k j = g.1 k j := fun h => gMem_1 h
      have g2 : ∀ {k j : Nat}, ¬ (j = m ∧ (k = 2 ∨ k = 3)) → (gMem g c m so st ty va ps nm).2 k j = g.2 k j := fun h => gMem_2 h
      exact ⟨x0, x1, by rw [g2 (by omega)]; exact x2, by rw [g1 (by omega)]; exact x3, by rw [g1 (by omega)]; exact x4, by rw [g1 (by omega)]; exact x5, by rw [g1 (by omega)]; exact x6, by rw [g1 (by omega)]; exact x7, by rw [g2 (by omega)]; exact x8, by rw [g1 (by omega), g1 (by omega)]; exact x9, ⟨x10.1, x10.2.1, x10.2.2.1, fun j hj => by rw [g1 (by omega)]; exact x10.2.2.2 j hj⟩, by
        unfold SVA at x11 ⊢
        rw [g1 (by omega), g1 (by omega), g1 (by omega)]
        exact x11.imp id (fun ⟨y1, y2, y3, y4, y5, y6, y7, y8⟩ => ⟨y1, y2, y3, y4, y5, y6, y7, fun k hk => by rw [g1 (by omega), g1 (by omega)]; exact y8 k hk⟩)⟩
  · -- the members
    by_cases cj : j = m
    · subst cj
      have eM : hB h20 (ho + 3) j = hz h := by rw [B20 _ _ lt3, if_pos ⟨rfl, rfl⟩]
      rw [eM]
      obtain ⟨m5, m6, m7, m8, m9, l2, l3⟩ := gMem_m (g := g) (c := c) (m := j) (so := so) (st := st) (ty := ty) (va := va) (ps := ps) (nm := nm)
      have zl : hz h < hz h6 := by omega
      have zl15 : hz h < hz h15 := by omega
      have MI : ∀ f, 5 ≤ f → hI h20 f (hz h) = hI h6 f (hz h) := fun f h5 => by rw [show hI h20 f (hz h) = _ from I_ladd h5 zl15, show hI h15 f (hz h) = _ from I_ladd h5 zl]
      have MR : ∀ f, 5 ≤ f → hR h20 f (hz h) = hR h6 f (hz h) := fun f h5 => by rw [show hR h20 f (hz h) = _ from R_ladd h5 zl15, show hR h15 f (hz h) = _ from R_ladd h5 zl]
      have MK : hK h20 (hz h) = k_Member := by rw [show hK h20 (hz h) = _ from K_ladd zl15, show hK h15 (hz h) = _ from K_ladd zl]; exact KM6
      have ra : hR h6 f_Member_parameters (hz h) = pa := R_R e9 _ _ _
      have ro : hR h6 f_Member_owner (hz h) = hB h (ho + 2) c := Eq.trans (R_Rne (by decide)) (R_R e5 _ _ _)
      have v1 : hI h6 f_Member_number (hz h) = (j : Int) := by
        show hI (sI (sI (sI (sI (sI (sI h1 f_Member_number (hz h) (j : Int)) f_Member_kind (hz h) so) f_Member_type (hz h) ty) f_Member_isStatic (hz h) st) f_Member_name (hz h) v) f_Member_variable (hz h) va) f_Member_number (hz h) = _
        rw [I_Ine (by decide), I_Ine (by decide), I_Ine (by decide), I_Ine (by decide), I_Ine (by decide)]; exact I_I _ _ _ _
      have v2 : hI h6 f_Member_kind (hz h) = so := by
        show hI (sI (sI (sI (sI (sI (sI h1 f_Member_number (hz h) (j : Int)) f_Member_kind (hz h) so) f_Member_type (hz h) ty) f_Member_isStatic (hz h) st) f_Member_name (hz h) v) f_Member_variable (hz h) va) f_Member_kind (hz h) = _
        rw [I_Ine (by decide), I_Ine (by decide), I_Ine (by decide), I_Ine (by decide)]; exact I_I _ _ _ _
      have v3 : hI h6 f_Member_type (hz h) = ty := by
        show hI (sI (sI (sI (sI (sI (sI h1 f_Member_number (hz h) (j : Int)) f_Member_kind (hz h) so) f_Member_type (hz h) ty) f_Member_isStatic (hz h) st) f_Member_name (hz h) v) f_Member_variable (hz h) va) f_Member_type (hz h) = _
        rw [I_Ine (by decide), I_Ine (by decide), I_Ine (by decide)]; exact I_I _ _ _ _
      have v4 : hI h6 f_Member_isStatic (hz h) = st := by
        show hI (sI (sI (sI (sI (sI (sI h1 f_Member_number (hz h) (j : Int)) f_Member_kind (hz h) so) f_Member_type (hz h) ty) f_Member_isStatic (hz h) st) f_Member_name (hz h) v) f_Member_variable (hz h) va) f_Member_isStatic (hz h) = _
        rw [I_Ine (by decide), I_Ine (by decide)]; exact I_I _ _ _ _
      have v5 : hI h6 f_Member_name (hz h) = v := by
        show hI (sI (sI (sI (sI (sI (sI h1 f_Member_number (hz h) (j : Int)) f_Member_kind (hz h) so) f_Member_type (hz h) ty) f_Member_isStatic (hz h) st) f_Member_name (hz h) v) f_Member_variable (hz h) va) f_Member_name (hz h) = _
        rw [I_Ine (by decide)]; exact I_I _ _ _ _
      have v6 : hI h6 f_Member_variable (hz h) = va := I_I _ _ _ _
      have sp := FF.ar0 hpa.2.1 hpa.1 (nP _) hpa.2.2.1
      unfold MEO
      rw [m5, m6, m7, m8, m9, l2, l3, MI _ (by decide), MI _ (by decide), MI _ (by decide), MI _ (by decide), MI _ (by decide), MI _ (by decide), MR _ (by decide), MR _ (by decide), ra, ro, v1, v2, v3, v4, v5, v6, t2, Int.toNat_natCast]
      refine ⟨⟨MK, by have : hz h15 ≤ hz h20 := z_ladd.1; omega, by omega⟩, rfl, rfl, hso, rfl, hty, ⟨by omega, by omega, rfl⟩, rfl, hst, ?_, rfl, hva, ⟨hpa.1, FF.lt hpa.2.1, hpa.2.2.1.fr hpa.2.1 hpa.1 FF, by rw [FF.K hpa.2.1]; exact hpa.2.2.2.1, by rw [sp.1]; exact hpa.2.2.2.2.1, hpa.2.2.2.2.2.1, fun k hk => by rw [sp.2.1]; exact hpa.2.2.2.2.2.2 k hk⟩⟩
      exact hnm
    · have hj2 : j < m := by omega
      rw [t3 j hj2]
      have := (b6 j hj2).frm FF (fun f hm x => nokAll (L := []) (P := PM (hB h (ho + 2) c) ho) rfl f hm _ (Or.inl x)) nP (fun k _ => t2 k)
      have g1 : ∀ {k j : Nat}, (¬ (j = m ∧ 5 ≤ k ∧ k ≤ 9) ∧ ¬ (k = 4 ∧ j = c)) → (gMem g c m so st ty va ps nm).1 k j = g.1 k j := fun h => gMem_1 h
      have g2 : ∀ {k j : Nat}, ¬ (j = m ∧ (k = 2 ∨ k = 3)) → (gMem g c m so st ty va ps nm).2 k j = g.2 k j := fun h => gMem_2 h
      unfold MEO at this ⊢
      rw [g1 (by omega), g1 (by omega), g1 (by omega), g1 (by omega), g1 (by omega), g2 (by omega), g2 (by omega)]
      exact this
end
