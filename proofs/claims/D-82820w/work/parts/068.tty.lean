/-! T: types, and whether members are alike -/
set_option maxRecDepth 20000
def hfs : List Nat := [f_MdHost_isInterface, f_MdHost_above, f_MdHost_supers, f_MdHost_superOf, f_MdHost_first, f_MdHost_many, f_MdHost_nameFrom, f_MdHost_nameTo, f_MdHost_all]
def mfs : List Nat := [f_MdHost_itsClass, f_MdHost_sort, f_MdHost_isStatic, f_MdHost_type, f_MdHost_variable, f_MdHost_parameters, f_MdHost_memberFrom, f_MdHost_memberTo]
theorem HGS.cong {g : HG} {n m : Nat} {tp : List Int} {S S' : Nat → Nat → Int} (H : HGS g n m tp S) (e : ∀ f, f ∈ hfs → ∀ i, S' f i = S f i) : HGS g n m tp S' := by
  intro i hi
  obtain ⟨a1, a2, a3, a4, a5, a6, a7, a8, a9, a10, ⟨x, y, b1, b2, b3⟩, a12⟩ := H i hi
  exact ⟨by rw [e _ (by simp [hfs])]; exact a1, a2, by rw [e _ (by simp [hfs])]; exact a3, a4, a5, by rw [e _ (by simp [hfs])]; exact a6, a7, fun k hk => by rw [e _ (by simp [hfs])]; exact a8 k hk, by rw [e _ (by simp [hfs])]; exact a9, by rw [e _ (by simp [hfs])]; exact a10, ⟨x, y, by rw [e _ (by simp [hfs])]; exact b1, by rw [e _ (by simp [hfs])]; exact b2, b3⟩, fun j hj => by rw [e _ (by simp [hfs])]; exact a12 j hj⟩
theorem MGS.cong {g : HG} {m : Nat} {tp : List Int} {S S' : Nat → Nat → Int} (H : MGS g m tp S) (e : ∀ f, f ∈ mfs → ∀ i, i < m → S' f i = S f i) (e2 : ∀ i, i < 8 * m → S' f_MdHost_parameter i = S f_MdHost_parameter i) : MGS g m tp S' := by
  intro j hj
  obtain ⟨a1, a2, a3, a4, a5, a6, a7, a8, ⟨x, y, b1, b2, b3⟩⟩ := H j hj
  exact ⟨by rw [e _ (by simp [mfs]) j hj]; exact a1, by rw [e _ (by simp [mfs]) j hj]; exact a2, by rw [e _ (by simp [mfs]) j hj]; exact a3, by rw [e _ (by simp [mfs]) j hj]; exact a4, by rw [e _ (by simp [mfs]) j hj]; exact a5, by rw [e _ (by simp [mfs]) j hj]; exact a6, a7, fun k hk => by rw [e2 _ (by omega)]; exact a8 k hk, ⟨x, y, by rw [e _ (by simp [mfs]) j hj]; exact b1, by rw [e _ (by simp [mfs]) j hj]; exact b2, b3⟩⟩
section
variable {ρ : Nat → Nat} {d : Nat} {h h' h0 k0 : ah} {F : Int → ah → Prop} {G : ah → Prop} {E : Nat → ah → Prop} {Q : QT} {C T ho a k : Nat} {tp : List Int} {t t' t1 t2 : TKN} {g g' : HG} {n m N c : Nat} {ws : List (List Int)} {S : Nat → Nat → Int} {b : Int}
/-- what T's steps go by -/
theorem TQ.kn (H : TQ ρ h T k tp S n m t) : hK h T = k_Md ∧ hK h (hR h f_Md_halt T) = k_MdHalt ∧ hR h f_Md_halt T < hz h ∧ (hI h f_Md_token T = 1 ↔ t.2.1 = 1) ∧ hI h f_Md_from T = (t.1 : Int) ∧ hR h f_Md_making T = k ∧ hK h k = k_MdHost := by
  obtain ⟨a1, a2, a3, a4, a5, a6, a7, a8, a9, -⟩ := H
  exact ⟨a9.1.1, a9.2.2.2.2.2.2.2.1, a9.2.2.2.2.2.2.2.2.1, TKC_1 a9.2.2.2.1.2.2.1, a9.2.2.2.1.1, a3, a2⟩
theorem TQ.hk (H : TQ ρ h T k tp S n m t) {w p : Int} (a : HF T h h' w p) : hK h' (hR h f_Md_halt T) ≠ 0 := by
  obtain ⟨-, k2, k3, -⟩ := H.kn
  rw [a.1.K k3, k2]; decide
/-- a demand that is met or not -/
theorem t_mustQ (H : TQ ρ h T k tp S n m t) {v w : Int} (q1 : ¬ v = 0 → G h) (q0 : v = 0 → ∀ h', HF T h h' w (t.1 : Int) → E (hR h f_Md_halt T) h') : wpB PGm ρ (d + 1) m_Md_must 0 [(0, vR T), (1, vI v), (2, vI w)] [] h (cV G (fun e h' => hK h' e ≠ 0 ∧ E e h')) := by
  obtain ⟨k1, k2, k3, k4, k5, -⟩ := H.kn
  exact t_must k1 k2 q1 (fun z h' a => ⟨H.hk a, q0 z h' (by rw [← k5]; exact a)⟩)
theorem t_tw {r : Nat} {w : List Int} (H : TQ ρ h T k tp S n m t) (s : STR h r w) (hd : 10 ≤ d) (hb : t.2.1 = -1 → ¬ False) (q1 : t.2.1 = 1 → tkB tp t = w → F 1 h) (q0 : ¬ (t.2.1 = 1 ∧ tkB tp t = w) → F 0 h) : wpB PGm ρ d m_Md_isWord 0 [(0, vR T), (1, vR r)] [] h (cI F E) := by
  obtain ⟨-, -, -, -, -, -, -, -, a9, -⟩ := H
  by_cases c : t.2.1 = -1
  · -- a bad token is no word
    have k1 := TKC_1 a9.2.2.2.1.2.2.1
    refine b_Md_isWord_0 hd ⟨a9.1.1, fun z => b_Md_isWord_29 (b_Md_isWord_32 hd ⟨s.1, s.1, fun _ => ⟨Or.inl rfl, q0 (by rw [c]; intro x; exact absurd x.1 (by decide))⟩, fun _ => ⟨fun _ => ⟨Or.inl rfl, q0 (by rw [c]; intro x; exact absurd x.1 (by decide))⟩, fun z => absurd rfl z⟩⟩), fun z => ?_⟩
    have := k1.mp z
    omega
  · have b := a9.2.2.2.2.2.1 c
    have bt : byt (hA h (hR h f_Md_tape T)) t.1 t.2.2.1 = tkB tp t := by
      refine leq (by rw [tkB, byt_len, byt_len]) (fun i hi => ?_)
      rw [byt_len] at hi
      rw [byt_get hi, tkB, byt_get hi]
      exact a9.2.1 _ (by omega)
    exact t_isw a9.1 a9.2.2.2.1 b.1 b.2 s hd (fun e x => q1 e (by rw [← bt]; exact x)) (fun x => q0 fun y => x ⟨y.1, by rw [bt]; exact y.2⟩)
theorem tyV_0 {l : List Int} (h : tyV g n l = some 0) : plc plainW l = 0 := by
  unfold tyV at h
  split at h
  · exact Option.some.inj h
  · split at h
    · have := Option.some.inj h; omega
    · cases h
theorem t_ty (H : TQ ρ h T k tp S n m t) (hg : HGS g n m tp S) (df : difN g n) (hd : 10 ≤ d)
    (q1 : ∀ v, t.2.1 = 1 → tyV g n (tkB tp t) = some v → ¬ (v = 0 ∧ b = 0) → ∀ h', Fr TSM [] 0 0 h h' → TQ ρ h' T k tp S n m (nx tp 1 t) → Q (Sum.inl (some (vI v))) h')
    (qf : ∀ w h', ((¬ t.2.1 = 1 ∧ w = 1) ∨ (t.2.1 = 1 ∧ w = 3 ∧ (tyV g n (tkB tp t) = none ∨ (tyV g n (tkB tp t) = some 0 ∧ b = 0)))) → HF T h h' w (t.1 : Int) → Q (Sum.inr (hR h f_Md_halt T)) h') : wpB PGm ρ (d + 4) m_Md_readsType 0 [(0, vR T), (1, vI b)] [] h Q := by
  obtain ⟨c1, c2, c3, c4, c5, c6, c7⟩ := H.kn
  obtain ⟨a1, a2, a3, a4, a5, a6, a7, a8, a9, s31', s32', -⟩ := id H
  have fin : ∀ v, t.2.1 = 1 → tyV g n (tkB tp t) = some v → ¬ (v = 0 ∧ b = 0) → wpB PGm ρ (d + 4) m_Md_readsType 72 [(0, vR T), (2, vI v)] [] h Q := fun v e1 e2 e3 => b_Md_readsType_72 ⟨c1, t_hnx H (by rw [e1]; decide) nx_ok (fun h' f' Q' => q1 v e1 e2 e3 h' f' Q')⟩
  refine b_Md_readsType_0 ⟨c1, fun z => b_Md_readsType_14 ⟨c1, t_mustQ H (fun y => absurd rfl y) (fun _ h' a => qf 1 h' (Or.inl ⟨fun x => z (c4.mpr x), rfl⟩) a)⟩, fun z => b_Md_readsType_14 ⟨c1, t_mustQ H (fun _ => ⟨c1, ?_⟩) (fun y => absurd y (by decide))⟩⟩
  have e1 := c4.mp z
  refine t_place a9 s32' spl32 (by omega) (fun _ => ?_) (fun x => absurd e1 x)
  have p9 := plc9 (l := tkB tp t)
  have st40 : ∀ v : Int, v = plc plainW (tkB tp t) → ¬ (v = 0 ∧ b = 0) → wpB PGm ρ (d + 4) m_Md_readsType 40 [(0, vR T), (2, vI v)] [vI 1, vR T] h Q := fun v ev nv => by
    refine b_Md_readsType_40 ⟨c1, t_mustQ H (fun _ => ⟨fun y => fin v e1 (by unfold tyV; rw [if_pos (by omega), ev]) nv, fun y => ⟨c1, ?_⟩⟩) (fun y => absurd y (by decide))⟩
    refine t_classHere H hg (fun i hi _ e => ⟨fun x => by omega, fun _ => b_Md_readsType_63 ⟨c1, t_mustQ H (fun _ => ?_) (fun y => absurd y (by decide))⟩⟩) (fun no => ⟨fun _ => b_Md_readsType_63 ⟨c1, t_mustQ H (fun y => absurd rfl y) (fun _ h' a => qf 3 h' (Or.inr ⟨e1, rfl, Or.inl ?_⟩) a)⟩, fun x => absurd x (by decide)⟩)
    · rw [w32_of (by omega) (by omega)]
      exact fin _ e1 (by unfold tyV; rw [if_neg (by omega), idxN_e df hi e]) (by omega)
    · unfold tyV; rw [if_neg (by omega), idxN_0 (fun i hi e => no ⟨e1, i, hi, e⟩)]
  refine ⟨fun y => st40 _ rfl (fun x => y x.1), fun y => ⟨fun w => ?_, fun w => st40 _ rfl (fun x => w x.2)⟩⟩
  refine b_Md_readsType_40 ⟨c1, t_mustQ H (fun x => absurd rfl x) (fun _ h' a => qf 3 h' (Or.inr ⟨e1, rfl, Or.inr ⟨?_, w⟩⟩) a)⟩
  unfold tyV; rw [if_pos (by omega), y]
/-- the bytes of a member's name -/
def mnm (tp : List Int) (S : Nat → Nat → Int) (j : Nat) (l : List Int) : Prop := ∃ a b : Nat, S f_MdHost_memberFrom j = (a : Int) ∧ S f_MdHost_memberTo j = (b : Int) ∧ a ≤ b ∧ b ≤ tp.length ∧ byt (ch tp) a b = l
theorem t_same {i j : Nat} {l1 l2 : List Int} (H : TQ ρ h T k tp S n m t) (hi : i < 400) (hj : j < 400) (m1 : mnm tp S i l1) (m2 : mnm tp S j l2) (q1 : l1 = l2 → F 1 h) (q0 : ¬ l1 = l2 → F 0 h) : wpB PGm ρ d m_Md_sameOnTape 0 [(0, vR T), (1, vI (i : Int)), (2, vI (j : Int))] [] h (cI F E) := by
  obtain ⟨c1, c2, c3, c4, c5, c6, c7⟩ := H.kn
  obtain ⟨a1, a2, a3, a4, a5, a6, a7, a8, a9, -⟩ := id H
  obtain ⟨x, y, e1, e2, e3, e4, e5⟩ := m1
  obtain ⟨x', y', e1', e2', e3', e4', e5'⟩ := m2
  have htp := a9.2.2.2.2.2.2.1.1
  have H2 := a9.2.1
  have k4 := a9.1.2.2.2.1
  have l5 := a9.1.2.2.2.2.1
  have E1 : hA h (hR h f_MdHost_memberFrom k) i = (x : Int) := (a4.g rfl i).trans e1
  have E2 : hA h (hR h f_MdHost_memberTo k) i = (y : Int) := (a4.g rfl i).trans e2
  have E1' : hA h (hR h f_MdHost_memberFrom k) j = (x' : Int) := (a4.g rfl j).trans e1'
  have E2' : hA h (hR h f_MdHost_memberTo k) j = (y' : Int) := (a4.g rfl j).trans e2'
  have gi : (0 : Int) ≤ (i : Int) ∧ (i : Int) < ((400 : Nat) : Int) := by omega
  have gj : (0 : Int) ≤ (j : Int) ∧ (j : Int) < ((400 : Nat) : Int) := by omega
  have w1 : w32 ((y : Int) - (x : Int)) = ((y - x : Nat) : Int) := by rw [w32_of (by omega) (by omega)]; omega
  have w2 : w32 ((y' : Int) - (x' : Int)) = ((y' - x' : Nat) : Int) := by clear w1; rw [w32_of (by omega) (by omega)]; omega
  refine b_Md_sameOnTape_0 ⟨c1, by rw [c6]; exact c7, ?_⟩
  rw [c6, Int.toNat_natCast, Int.toNat_natCast, E1, E2, E1', E2', w1, w2]
  clear w1 w2
  have no : ∀ v, ¬ l1 = l2 → wpB PGm ρ d m_Md_sameOnTape 53 [(0, vR T), (1, vI (i : Int)), (2, vI (j : Int)), (3, vI ((y - x : Nat) : Int)), (4, vI 0), (5, vI v)] [] h (cI F E) := fun v ne => b_Md_sameOnTape_53 ⟨fun _ => ⟨Or.inl rfl, q0 ne⟩, fun _ => ⟨fun _ => ⟨Or.inl rfl, q0 ne⟩, fun z => absurd rfl z⟩⟩
  refine ⟨a1.ri rfl gi, a1.ri rfl gi, a1.ri rfl gj, a1.ri rfl gj, fun z => b_Md_sameOnTape_48 (no _ (fun e => z ?_)), fun z => b_Md_sameOnTape_48 ?_⟩
  · have := congrArg List.length e
    rw [← e5, ← e5', byt_len, byt_len] at this
    rw [this]
  · have el : y - x = y' - x' := by omega
    have lp : ∀ mm s, y - x - s < mm → s ≤ y - x → (∀ l, l < s → ch tp (x + l) = ch tp (x' + l)) → wpB PGm ρ d m_Md_sameOnTape 53 [(0, vR T), (1, vI (i : Int)), (2, vI (j : Int)), (3, vI ((y - x : Nat) : Int)), (4, vI 1), (5, vI (s : Int))] [] h (cI F E) := by
      intro mm
      induction mm with
      | zero => intro s hm; omega
      | succ mm ih =>
        intro s hm hs he
        refine b_Md_sameOnTape_53 ⟨fun z => ⟨Or.inr rfl, q1 ?_⟩, fun z => ⟨fun z => absurd z (by decide), fun _ => ⟨c1, by rw [c6]; exact c7, ?_⟩⟩⟩
        · rw [← e5, ← e5']
          exact leq (by rw [byt_len, byt_len]; exact el) (fun l hl => by rw [byt_len] at hl; rw [byt_get hl, byt_get (by omega)]; exact he l (by omega))
        · have hs2 : s < y - x := by omega
          have g1 : (0 : Int) ≤ ((x + s : Nat) : Int) ∧ ((x + s : Nat) : Int) < (hl h (hR h f_Md_tape T) : Int) := by omega
          have g2 : (0 : Int) ≤ ((x' + s : Nat) : Int) ∧ ((x' + s : Nat) : Int) < (hl h (hR h f_Md_tape T) : Int) := by omega
          have v1 : hA h (hR h f_Md_tape T) (x + s) = ch tp (x + s) := H2 _ (by omega)
          have v2 : hA h (hR h f_Md_tape T) (x' + s) = ch tp (x' + s) := H2 _ (by omega)
          rw [c6, Int.toNat_natCast, Int.toNat_natCast, E1, E1', w32_n (by omega), w32_n (by omega), Int.toNat_natCast, Int.toNat_natCast, v1, v2]
          refine ⟨a1.ri rfl gi, ⟨by rw [k4]; decide, g1⟩, a1.ri rfl gj, ⟨by rw [k4]; decide, g2⟩, fun ne => b_Md_sameOnTape_106 (no _ (fun e => ne ?_)), fun e => b_Md_sameOnTape_106 ?_⟩
          · have : l1.getD s 0 = l2.getD s 0 := by rw [e]
            rw [← e5, ← e5', byt_get hs2, byt_get (by omega)] at this
            exact this
          · rw [w32_s (by omega)]
            exact ih (s + 1) (by omega) hs2 (fun l hl => by
              by_cases c : l = s
              · rw [c]; exact e
              · exact he l (by omega))
    exact lp _ 0 (Nat.lt_succ_self _) (Nat.zero_le _) (fun l hl => by omega)
def mpr (S : Nat → Nat → Int) (j : Nat) (l : List Int) : Prop := S f_MdHost_parameters j = (l.length : Int) ∧ l.length ≤ 8 ∧ ∀ i, i < l.length → S f_MdHost_parameter (8 * j + i) = l.getD i 0
theorem w32_8 {k i : Nat} (h : k ≤ 4000) (h2 : i ≤ 60) : w32 (w32 (8 * (k : Int)) + (i : Int)) = ((8 * k + i : Nat) : Int) := by
  rw [w32_of (x := 8 * (k : Int)) (by omega) (by omega), w32_of (by omega) (by omega)]; omega
theorem t_stypes {i j : Nat} {l1 l2 : List Int} (H : TQ ρ h T k tp S n m t) (hi : i < 400) (hj : j < 400) (m1 : mpr S i l1) (m2 : mpr S j l2) (q1 : l1 = l2 → F 1 h) (q0 : ¬ l1 = l2 → F 0 h) : wpB PGm ρ d m_MdHost_haveSameTypes 0 [(0, vR k), (1, vI (i : Int)), (2, vI (j : Int))] [] h (cI F E) := by
  obtain ⟨a1, a2, a3, a4, -⟩ := id H
  obtain ⟨p1, p2, p3⟩ := m1
  obtain ⟨r1, r2, r3⟩ := m2
  have E1 : hA h (hR h f_MdHost_parameters k) i = (l1.length : Int) := (a4.g rfl i).trans p1
  have E2 : hA h (hR h f_MdHost_parameters k) j = (l2.length : Int) := (a4.g rfl j).trans r1
  have gi : (0 : Int) ≤ (i : Int) ∧ (i : Int) < ((400 : Nat) : Int) := by omega
  have gj : (0 : Int) ≤ (j : Int) ∧ (j : Int) < ((400 : Nat) : Int) := by omega
  have no : ∀ v, ¬ l1 = l2 → wpB PGm ρ d m_MdHost_haveSameTypes 24 [(0, vR k), (1, vI (i : Int)), (2, vI (j : Int)), (3, vI 0), (4, vI v)] [] h (cI F E) := fun v ne => b_MdHost_haveSameTypes_24 ⟨a2, a1.ri rfl gi, fun _ => ⟨Or.inl rfl, q0 ne⟩, fun _ => ⟨fun _ => ⟨Or.inl rfl, q0 ne⟩, fun z => absurd rfl z⟩⟩
  refine b_MdHost_haveSameTypes_0 ⟨a2, ?_⟩
  rw [Int.toNat_natCast, Int.toNat_natCast, E1, E2]
  refine ⟨a1.ri rfl gi, a1.ri rfl gj, fun z => b_MdHost_haveSameTypes_20 (no _ (fun e => z (by rw [e]))), fun z => b_MdHost_haveSameTypes_20 ?_⟩
  have el : l1.length = l2.length := by omega
  have lp : ∀ mm s, l1.length - s < mm → s ≤ l1.length → (∀ l, l < s → l1.getD l 0 = l2.getD l 0) → wpB PGm ρ d m_MdHost_haveSameTypes 24 [(0, vR k), (1, vI (i : Int)), (2, vI (j : Int)), (3, vI 1), (4, vI (s : Int))] [] h (cI F E) := by
    intro mm
    induction mm with
    | zero => intro s hm; omega
    | succ mm ih =>
      intro s hm hs he
      refine b_MdHost_haveSameTypes_24 ⟨a2, a1.ri rfl gi, fun z => ⟨Or.inr rfl, q1 (leq el (fun l hl => he l ?_))⟩, fun z => ⟨fun z => absurd z (by decide), fun _ => ?_⟩⟩
      · rw [Int.toNat_natCast, E1] at z; omega
      · rw [Int.toNat_natCast, E1] at z
        have hs2 : s < l1.length := by omega
        have g1 : (0 : Int) ≤ ((8 * i + s : Nat) : Int) ∧ ((8 * i + s : Nat) : Int) < ((3200 : Nat) : Int) := by omega
        have g2 : (0 : Int) ≤ ((8 * j + s : Nat) : Int) ∧ ((8 * j + s : Nat) : Int) < ((3200 : Nat) : Int) := by omega
        have v1 : hA h (hR h f_MdHost_parameter k) (8 * i + s) = l1.getD s 0 := (a4.g rfl _).trans (p3 s hs2)
        have v2 : hA h (hR h f_MdHost_parameter k) (8 * j + s) = l2.getD s 0 := (a4.g rfl _).trans (r3 s (by omega))
        rw [w32_8 (by omega) (by omega), w32_8 (by omega) (by omega), Int.toNat_natCast, Int.toNat_natCast, v1, v2]
        refine ⟨a1.ri rfl g1, a1.ri rfl g2, fun ne => b_MdHost_haveSameTypes_71 (no _ (fun e => ne (by rw [e]))), fun e => b_MdHost_haveSameTypes_71 ?_⟩
        rw [w32_s (by omega)]
        exact ih (s + 1) (by omega) hs2 (fun l hl => by
          by_cases c : l = s
          · rw [c]; exact e
          · exact he l (by omega))
  exact lp _ 0 (Nat.lt_succ_self _) (Nat.zero_le _) (fun l hl => by omega)
end
