/-! T's host: its rows as a function of field and place -/
set_option maxRecDepth 20000
def AV2 (tab : List (Nat × Nat × Nat)) (h : ah) (k : Nat) (S : Nat → Nat → Int) : Prop := ∀ f, (lkA tab f).isSome = true → ∀ i, hA h (hR h f k) i = S f i
section
variable {tab : List (Nat × Nat × Nat)} {h h' : ah} {k f a n i : Nat} {v : Int} {S : Nat → Nat → Int}
theorem AV2.g (H : AV2 tab h k S) (e : lkA tab f = some (a, n)) (i : Nat) : hA h (hR h f k) i = S f i := H f (by rw [e]; rfl) i
theorem AV2.w (H : AV2 tab h k S) (R : AR tab h k) (e : lkA tab f = some (a, n)) : AV2 tab (sA h (hR h f k) i v) k (u2 S f i v) := by
  intro g hg j
  obtain ⟨p, hp⟩ := Option.isSome_iff_exists.mp hg
  have := R.aA (i := i) (j := j) (v := v) e (g := g) (k2 := p.1) (n2 := p.2) hp
  show hA (sA h (hR h f k) i v) (hR h g k) j = _
  rw [this, u2_e, H g hg j]
theorem AV2.frm {L : List Nat} {P : List (Nat × Nat)} {z s : Nat} (H : AV2 tab h k S) (R : AR tab h k) (hf : Fr L P z s h h') (hn : ∀ q, q ∈ tab → ¬ okC L P q.1 k) (h5 : tab.all (fun q => Nat.ble 5 q.1) = true) (hP : ∀ y, (0, y) ∉ P) : AV2 tab h' k S := by
  intro g hg i
  obtain ⟨p, hp⟩ := Option.isSome_iff_exists.mp hg
  have hm := lkA_mem hp
  obtain ⟨a1, a2, a3, a4⟩ := R.2.2 _ hm
  have e := hf.R R.1 (Nat.le_of_ble_eq_true (List.all_eq_true.mp h5 _ hm)) (fun c => hn _ hm (Or.inl c))
  have s := hf.ar R.2.1 a4 R.1 rfl a1 (hn _ hm) (hP _)
  simp only at e s
  rw [e, s.2.1]
  exact H g hg i
end
theorem nokT2 {tab : List (Nat × Nat × Nat)} {T : Nat} {L : List Nat} (h1 : tab.all (fun q => !(L.elem q.1) && !(L.elem (q.1 + 1))) = true) : ∀ q, q ∈ tab → ¬ okC L [] q.1 T := by
  intro q hq
  have := List.all_eq_true.mp h1 q hq
  simp only [Bool.and_eq_true, Bool.not_eq_true'] at this
  exact nok this.1 this.2 rfl rfl
/-- what the rows say -/
def HGS (g : HG) (n m : Nat) (tp : List Int) (S : Nat → Nat → Int) : Prop :=
  (∀ i, i < n → S f_MdHost_isInterface i = g.1 1 i ∧ (g.1 1 i = 0 ∨ g.1 1 i = 1) ∧ S f_MdHost_above i = g.1 2 i ∧ -1 ≤ g.1 2 i ∧ g.1 2 i < (i : Int) ∧ S f_MdHost_supers i = ((g.2 1 i).length : Int) ∧ (g.2 1 i).length ≤ i ∧ (∀ k, k < (g.2 1 i).length → S f_MdHost_superOf (60 * i + k) = (g.2 1 i).getD k 0) ∧ S f_MdHost_first i = g.1 3 i ∧ S f_MdHost_many i = g.1 4 i ∧
    (∃ a b : Nat, S f_MdHost_nameFrom i = (a : Int) ∧ S f_MdHost_nameTo i = (b : Int) ∧ a ≤ b ∧ b ≤ tp.length ∧ byt (ch tp) a b = g.2 0 i) ∧ (∀ j : Nat, j < 60 → o64 (· &&& ·) (((Int64.ofInt (S f_MdHost_all i)).toUInt64 >>> ((Int32.ofInt (j : Int)).toInt64.toUInt64 &&& Int64.toUInt64 63)).toInt64.toInt) 1 = g.1 (100 + i) j))
def MGS (g : HG) (m : Nat) (tp : List Int) (S : Nat → Nat → Int) : Prop :=
  ∀ j, j < m → S f_MdHost_itsClass j = g.1 5 j ∧ S f_MdHost_sort j = g.1 6 j ∧ S f_MdHost_isStatic j = g.1 7 j ∧ S f_MdHost_type j = g.1 8 j ∧ S f_MdHost_variable j = g.1 9 j ∧ S f_MdHost_parameters j = ((g.2 2 j).length : Int) ∧ (g.2 2 j).length ≤ 8 ∧ (∀ k, k < (g.2 2 j).length → S f_MdHost_parameter (8 * j + k) = (g.2 2 j).getD k 0) ∧
    (∃ a b : Nat, S f_MdHost_memberFrom j = (a : Int) ∧ S f_MdHost_memberTo j = (b : Int) ∧ a ≤ b ∧ b ≤ tp.length ∧ byt (ch tp) a b = g.2 3 j)
def s31 : List Int := [32, 118, 111, 105, 100, 32, 105, 110, 116, 32, 108, 111, 110, 103, 32, 98, 111, 111, 108, 32, 73, 110, 116, 32, 76, 111, 110, 103, 32, 66, 111, 111, 108, 32, 84, 101, 120, 116, 32, 65, 110, 121, 32, 99, 108, 97, 115, 115, 32, 105, 110, 116, 101, 114, 102, 97, 99, 101, 32, 115, 116, 97, 116, 105, 99, 32, 110, 101, 119, 32]
def s32 : List Int := [32, 118, 111, 105, 100, 32, 105, 110, 116, 32, 108, 111, 110, 103, 32, 98, 111, 111, 108, 32, 73, 110, 116, 32, 76, 111, 110, 103, 32, 66, 111, 111, 108, 32, 84, 101, 120, 116, 32, 65, 110, 121, 32]
def resW : List (List Int) := plainW ++ ownW
theorem spl31 : SPL s31 resW := by unfold SPL; decide
theorem spl32 : SPL s32 plainW := by unfold SPL; decide
/-- T while it reads a host -/
def TQ (ρ : Nat → Nat) (h : ah) (T k : Nat) (tp : List Int) (S : Nat → Nat → Int) (n m : Nat) (t : TKN) : Prop :=
  TH h k ∧ hK h k = k_MdHost ∧ hR h f_Md_making T = k ∧ AV2 tabH h k S ∧ hI h f_MdHost_classes k = (n : Int) ∧ hI h f_MdHost_members k = (m : Int) ∧ n ≤ 60 ∧ m ≤ 400 ∧ TK h T tp 1 t ∧ STR h (ρ 31) s31 ∧ STR h (ρ 32) s32 ∧ SHO ρ h ∧ (∀ i, i ≤ 12 ∨ i = 31 ∨ i = 32 → ρ i < hz h ∧ ρ i ≠ 0 ∧ UNO h (ρ i)) ∧ T ≠ k
section
variable {ρ : Nat → Nat} {d : Nat} {h h' : ah} {F : Int → ah → Prop} {G : ah → Prop} {E : Nat → ah → Prop} {Q : QT} {T k : Nat} {tp : List Int} {t t' : TKN} {S : Nat → Nat → Int} {g : HG} {n m : Nat}
theorem STR.frm {L : List Nat} {P : List (Nat × Nat)} {z s r : Nat} {w : List Int} (H : STR h r w) (hf : Fr L P z s h h') (hP : ∀ y, (0, y) ∉ P) (hr : r < hz h ∧ r ≠ 0 ∧ UNO h r) : STR h' r w := by
  have sm := hf.ar0 hr.1 hr.2.1 (hP _) hr.2.2
  exact ⟨by rw [hf.K hr.1]; exact H.1, by rw [sm.1]; exact H.2.1, H.2.2.1, fun k hk => by rw [sm.2.1]; exact H.2.2.2 k hk⟩
/-- all but the token stays -/
theorem TQ.frm {L : List Nat} {z s : Nat} (H : TQ ρ h T k tp S n m t) (hf : Fr L [] z s h h') (h1 : tabH.all (fun q => !(L.elem q.1) && !(L.elem (q.1 + 1))) = true) (h2 : (!(L.elem f_Md_making) && (!(L.elem f_MdHost_classes) && !(L.elem f_MdHost_members))) = true) (K : TK h' T tp 1 t') : TQ ρ h' T k tp S n m t' := by
  obtain ⟨a1, a2, a3, a4, a5, a6, a7, a8, a9, b1, b2, b3, b4, b5⟩ := H
  simp only [Bool.and_eq_true, Bool.not_eq_true'] at h2
  have nP : ∀ y, (0, y) ∉ ([] : List (Nat × Nat)) := fun y c => by cases c
  have hk : k < hz h := a1.1
  have hT : T < hz h := a9.1.2.2.2.2.2.2.2.2.2.1.1
  have kc := nokT2 (T := k) h1
  refine ⟨a1.frm hf (fun q hq c => kc q hq (Or.inl c)) (by decide) (by decide), by rw [hf.K hk]; exact a2, by rw [hf.R hT (by decide) (nokW h2.1 rfl)]; exact a3, a4.frm a1 hf kc (by decide) nP, by rw [hf.I hk (by decide) (nokW h2.2.1 rfl)]; exact a5, by rw [hf.I hk (by decide) (nokW h2.2.2 rfl)]; exact a6, a7, a8, K, b1.frm hf nP (b4 31 (by omega)), b2.frm hf nP (b4 32 (by omega)), b3.frm ⟨_, _, hf⟩ nP (fun i hi => b4 i (by omega)), fun i hi => ?_, b5⟩
  obtain ⟨r1, r2, r3⟩ := b4 i hi
  exact ⟨hf.lt r1, r2, r3.fr r1 r2 hf⟩
theorem t_hnx (H : TQ ρ h T k tp S n m t) (hk : ¬ t.2.1 = -1) (hn : nxT tp 1 t t') (q : ∀ h', Fr TSM [] 0 0 h h' → TQ ρ h' T k tp S n m t' → Q (Sum.inl none) h') : wpB PGm ρ (d + 3) m_Md_next 0 [(0, vR T)] [] h Q :=
  t_nx H.2.2.2.2.2.2.2.2.1 hk hn (fun h' a b => q h' a (H.frm a (by decide) (by decide) b))
theorem t_classHere (H : TQ ρ h T k tp S n m t) (hg : HGS g n m tp S) (q1 : ∀ i, i < n → t.2.1 = 1 → g.2 0 i = tkB tp t → F (i : Int) h) (q0 : ¬ (t.2.1 = 1 ∧ ∃ i, i < n ∧ g.2 0 i = tkB tp t) → F (-1) h) : wpB PGm ρ d m_Md_classHere 0 [(0, vR T)] [] h (cI F E) := by
  obtain ⟨a1, a2, a3, a4, a5, a6, a7, a8, a9, -⟩ := H
  obtain ⟨⟨c1, c2, c3, c4, c5, c6, -⟩, H2, H3, ⟨k2, k3, k1, -⟩, H5, H6, H7, -⟩ := a9
  have k1 := TKC_1 k1
  have htp := H7.1
  have lp : ∀ mm j, n - j < mm → j ≤ n → (t.2.1 = 1 → ∀ i, i < j → g.2 0 i ≠ tkB tp t) → wpB PGm ρ d m_Md_classHere 2 [(0, vR T), (1, vI (j : Int))] [] h (cI F E) := by
    intro mm
    induction mm with
    | zero => intro j hm; omega
    | succ mm ih =>
      intro j hm hj no
      refine b_Md_classHere_2 ⟨c1, by rw [a3]; exact a2, fun z => ?_, fun z => ?_⟩
      · rw [a3, a5] at z
        exact q0 (fun c => by obtain ⟨i, hi, e⟩ := c.2; exact no c.1 i (by omega) e)
      · rw [a3, a5] at z
        have hj2 : j < n := by omega
        obtain ⟨x, y, e1, e2, e3, e4, e5⟩ := (hg j hj2).2.2.2.2.2.2.2.2.2.2.1
        have nx : ¬ (t.2.1 = 1 ∧ g.2 0 j = tkB tp t) → wpB PGm ρ d m_Md_classHere 117 [(0, vR T), (1, vI (j : Int)), (3, vI 0)] [] h (cI F E) := fun ne => by
          refine b_Md_classHere_117 ⟨fun _ => ?_, fun z => absurd rfl z⟩
          rw [w32_s (by omega)]
          exact ih (j + 1) (by omega) (by omega) (fun c i hi => by
            by_cases e : i = j
            · rw [e]; exact fun x => ne ⟨c, x⟩
            · exact no c i (by omega))
        have no2 : ∀ v i, ¬ (t.2.1 = 1 ∧ g.2 0 j = tkB tp t) → wpB PGm ρ d m_Md_classHere 63 [(0, vR T), (1, vI (j : Int)), (2, vI v), (3, vI 0), (4, vI i)] [] h (cI F E) := fun v i ne => b_Md_classHere_63 ⟨fun _ => nx ne, fun _ => ⟨fun _ => nx ne, fun z => absurd rfl z⟩⟩
        have E1 : hA h (hR h f_MdHost_nameFrom k) j = (x : Int) := (a4.g rfl j).trans e1
        have E2 : hA h (hR h f_MdHost_nameTo k) j = (y : Int) := (a4.g rfl j).trans e2
        have ew : w32 ((y : Int) - (x : Int)) = ((y - x : Nat) : Int) := by rw [w32_of (by omega) (by omega)]; omega
        rw [a3, Int.toNat_natCast, E1, E2, ew]
        have gj : (0 : Int) ≤ (j : Int) ∧ (j : Int) < ((60 : Nat) : Int) := by omega
        refine ⟨a1.ri rfl gj, a1.ri rfl gj, fun z => b_Md_classHere_59 (no2 _ _ (fun c => z (k1.mpr c.1))), fun z => ?_⟩
        have k4 := k1.mp z
        have b3 := H6 (by rw [k4]; decide)
        have e9 : w32 (hI h f_Md_to T - hI h f_Md_from T) = ((t.2.2.1 - t.1 : Nat) : Int) := by rw [k2, k3 (by rw [k4]; decide)]; clear ew; rw [w32_of (by omega) (by omega)]; omega
        rw [e9]
        clear ew e9
        refine ⟨fun z => b_Md_classHere_59 (no2 _ _ (fun c => z ?_)), fun z => b_Md_classHere_59 ?_⟩
        · have := congrArg List.length c.2
          rw [← e5, tkB, byt_len, byt_len] at this
          rw [this]
        · have el : y - x = t.2.2.1 - t.1 := by omega
          have cmp : ∀ mm i, y - x - i < mm → i ≤ y - x → (∀ l, l < i → ch tp (x + l) = ch tp (t.1 + l)) → wpB PGm ρ d m_Md_classHere 63 [(0, vR T), (1, vI (j : Int)), (2, vI ((y - x : Nat) : Int)), (3, vI 1), (4, vI (i : Int))] [] h (cI F E) := by
            intro mm
            induction mm with
            | zero => intro i hm; omega
            | succ mm ih3 =>
              intro i hm3 hi3 he
              refine b_Md_classHere_63 ⟨fun z => b_Md_classHere_117 ⟨fun z => absurd z (by decide), fun _ => ?_⟩, fun z => ⟨fun z => absurd z (by decide), fun _ => ⟨c1, by rw [a3]; exact a2, ?_⟩⟩⟩
              · refine q1 j hj2 k4 ?_
                rw [← e5]
                exact leq (by rw [tkB, byt_len, byt_len]; exact el) (fun l hl => by rw [byt_len] at hl; rw [tkB, byt_get hl, byt_get (by omega)]; exact he l (by omega))
              · have hi4 : i < y - x := by omega
                have g1 : (0 : Int) ≤ ((x + i : Nat) : Int) ∧ ((x + i : Nat) : Int) < (hl h (hR h f_Md_tape T) : Int) := by omega
                have g2 : (0 : Int) ≤ ((t.1 + i : Nat) : Int) ∧ ((t.1 + i : Nat) : Int) < (hl h (hR h f_Md_tape T) : Int) := by omega
                have w1 : hA h (hR h f_Md_tape T) (x + i) = ch tp (x + i) := H2 _ (by omega)
                have w2 : hA h (hR h f_Md_tape T) (t.1 + i) = ch tp (t.1 + i) := H2 _ (by omega)
                rw [a3, Int.toNat_natCast, E1, k2, w32_n (by omega), w32_n (by omega), Int.toNat_natCast, Int.toNat_natCast, w1, w2]
                refine ⟨a1.ri rfl gj, ⟨by rw [c4]; decide, g1⟩, ⟨by rw [c4]; decide, g2⟩, fun ne => b_Md_classHere_110 (no2 _ _ (fun c => ne ?_)), fun e => b_Md_classHere_110 ?_⟩
                · have : (g.2 0 j).getD i 0 = (tkB tp t).getD i 0 := by rw [c.2]
                  rw [← e5, tkB, byt_get hi4, byt_get (by omega)] at this
                  exact this
                · rw [w32_s (by omega)]
                  exact ih3 (i + 1) (by omega) hi4 (fun l hl => by
                    by_cases c : l = i
                    · rw [c]; exact e
                    · exact he l (by omega))
          exact cmp _ 0 (Nat.lt_succ_self _) (Nat.zero_le _) (fun l hl => by omega)
  exact b_Md_classHere_0 (lp _ 0 (Nat.lt_succ_self _) (Nat.zero_le _) (fun _ j hj => by omega))
end
