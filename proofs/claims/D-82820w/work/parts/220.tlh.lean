/-! T looks at hosts -/
set_option maxRecDepth 20000
/-- members that one is chosen of -/
def hkC (g : HG) (κ st : Int) (c : Nat) (L : List Int) : List Nat := if κ = 1 then colG g (wtB g st (wtL xSET L) 1) (ordG g c) else if κ = 5 then colG g (wtB g st L (-1)) (ordG g c) else mkrG g c
/-- what is found: a member, or an error below 0 -/
def hkG (g : HG) (κ st : Int) (c : Nat) (L : List Int) (ts : List Int) : Int := if κ = 0 then (if gtG g st c L < 0 then -4 else gtG g st c L) else if κ = 1 then (if hkC g κ st c L = [] then (if oN (fldG g st L 61 (c : Int)) < 0 then -4 else oN (fldG g st L 61 (c : Int))) else sglG g ts (hkC g κ st c L)) else if κ = 5 then (if hkC g κ st c L = [] then -4 else sglG g ts (hkC g κ st c L)) else if κ = 6 ∧ st = 1 then (if hkC g κ st c L = [] then -4 else sglG g ts (hkC g κ st c L)) else -5
/-- whether one is chosen by types -/
def hkB (g : HG) (κ st : Int) (c : Nat) (L : List Int) : Bool := decide (κ = 1 ∨ κ = 5 ∨ (κ = 6 ∧ st = 1)) && !(hkC g κ st c L).isEmpty
def hkD (κ st : Int) : Int := if κ = 1 then st + 4 else if κ = 5 then st else 2
def hkN (g : HG) (κ st : Int) (c : Nat) (L : List Int) (n : Int) : Int := if κ = 1 then ((hkC g κ st c L).getD 0 0 : Int) else if κ = 5 then n else -1
/-- how a choice comes out -/
def CHE (g : HG) (ts : List Int) (cs : List Nat) (S : SS) (c md nm v : Int) (S' : SS) : Prop := (∃ k kn : Nat, k < kn ∧ kn ≤ 2000 ∧ S f_Md_choices 0 = (kn : Int) ∧ CHM S k c md nm ts ∧ (∀ j, j < k → ¬ CHM S j c md nm ts) ∧ v = S f_Md_choiceFound k ∧ S' = S) ∨ (∃ kn ac : Nat, kn ≤ ac ∧ ac ≤ 2000 ∧ S f_Md_choices 0 = (kn : Int) ∧ S f_Md_allChoices 0 = (ac : Int) ∧ (∀ j, j < kn → ¬ CHM S j c md nm ts) ∧ v = sglG g ts cs ∧ S' = if ac < 2000 then chS S kn ac c md nm ts v else u2 S f_Md_workedOut 0 (w32 (S f_Md_workedOut 0 + 1)))
def LHK : List Nat := LGT ++ LTY ++ [f_Md_foundWhich, f_Md_foundGuard]
section
variable {ρ : Nat → Nat} {P : ah → Nat → Prop} {d : Nat} {Q : QT} {h h0 : ah} {T k n m f i j N M b r a ph kn ac c rr s mn : Nat} {S S' S1 S2 SX : SS} {g : HG} {tp l o bs pf L ts : List Int} {v st p x y md nm ty cnt κ cc_ : Int} {ls cs ch : List Nat} {w : Nat → Bool}
theorem chS_e (e : EXS LCH3 S S1) : EXS LCH3 (chS S k ac cc_ md nm ts v) (chS S1 k ac cc_ md nm ts v) := fun f hf i => by
  have ef := e f hf
  have ew := e f_Md_workedOut (by decide) 0
  unfold chS ct1 chA
  simp only [u2_e, ew, ef]
theorem CHM.e (e : EXS LCH3 S S1) : CHM S1 k cc_ md nm ts ↔ CHM S k cc_ md nm ts := by
  unfold CHM
  rw [e _ (by decide), e _ (by decide), e _ (by decide), e _ (by decide)]
  constructor
  · exact fun h => ⟨h.1, h.2.1, h.2.2.1, h.2.2.2.1, fun i hi => by rw [← e f_Md_choiceTypes (by decide)]; exact h.2.2.2.2 i hi⟩
  · exact fun h => ⟨h.1, h.2.1, h.2.2.1, h.2.2.2.1, fun i hi => by rw [e f_Md_choiceTypes (by decide)]; exact h.2.2.2.2 i hi⟩
/-- the same choice behind other changes -/
theorem CHE.e (H : CHE g ts cs S cc_ md nm v S') (e : EXS LCH3 S S1) : ∃ S2, CHE g ts cs S1 cc_ md nm v S2 ∧ EXS LCH3 S' S2 ∧ OFF LCH3 S1 S2 := by
  rcases H with ⟨k, kn, h1, h2, h3, h4, h5, h6, h7⟩ | ⟨kn, ac, h1, h2, h3, h4, h5, h6, h7⟩
  · exact ⟨S1, Or.inl ⟨k, kn, h1, h2, by rw [e _ (by decide)]; exact h3, (CHM.e e).mpr h4, fun j hj c => h5 j hj ((CHM.e e).mp c), by rw [e _ (by decide)]; exact h6, rfl⟩, by rw [h7]; exact e, OFF.rf⟩
  · refine ⟨_, Or.inr ⟨kn, ac, h1, h2, by rw [e _ (by decide)]; exact h3, by rw [e _ (by decide)]; exact h4, fun j hj c => h5 j hj ((CHM.e e).mp c), h6, rfl⟩, ?_, ?_⟩
    · rw [h7]
      split
      · exact chS_e e
      · intro f hf i
        have ew := e f_Md_workedOut (by decide) 0
        have ef := e f hf
        simp only [u2_e, ew, ef]
    · split
      · exact fun f i hf => chS_o hf
      · exact OFF.rf.u (by decide)
theorem s_chosenE (K : PTO ρ g N M h0 T) (W : HWF g N M) (Y : TYS S N ts) (C1 : CND S cs) (O : OKL M cs) (E : CHE g ts cs S cc_ md nm v S') (q : Q (Sum.inl (some (vI v))) (cn h0 T S')) : wpB PGm ρ (d + 15) m_Md_chosen 0 [(0, vR T), (1, vI cc_), (2, vI md), (3, vI nm)] [] (cn h0 T S) Q := by
  rcases E with ⟨k, kn, h1, h2, h3, h4, h5, h6, h7⟩ | ⟨kn, ac, h1, h2, h3, h4, h5, h6, h7⟩
  · exact s_chosen_hit (d := d + 14) K.1.1 Y h1 h2 h3 h4 h5 (by rw [← h6, ← h7]; exact q)
  · refine s_chosen_new K W.2.2.1 Y C1 O h1 h2 h3 h4 h5 (fun z => ?_) (fun z => ?_)
    · rw [if_pos z] at h7; rw [← h6, ← h7]; exact q
    · rw [if_neg z] at h7; rw [← h6, ← h7]; exact q
/-- one is chosen, with or without what is kept -/
def CH2 (g : HG) (ts : List Int) (cs : List Nat) (S : SS) (c md nm cnt v : Int) (S' : SS) : Prop := (cnt = 0 ∧ v = sglG g ts cs ∧ S' = S) ∨ (cnt = 1 ∧ CHE g ts cs S c md nm v S')
theorem CH2.e (H : CH2 g ts cs S cc_ md nm cnt v S') (e : EXS LCH3 S S1) : ∃ S2, CH2 g ts cs S1 cc_ md nm cnt v S2 ∧ EXS LCH3 S' S2 ∧ OFF LCH3 S1 S2 := by
  rcases H with ⟨h1, h2, h3⟩ | ⟨h1, h2⟩
  · exact ⟨S1, Or.inl ⟨h1, h2, rfl⟩, by rw [h3]; exact e, OFF.rf⟩
  · obtain ⟨S2, a, b, c⟩ := h2.e e
    exact ⟨S2, Or.inr ⟨h1, a⟩, b, c⟩
theorem s_chooses (K : PTO ρ g N M h0 T) (W : HWF g N M) (Y : TYS S N ts) (C1 : CND S cs) (O : OKL M cs) (E : CH2 g ts cs S cc_ md nm cnt v S') (hv : -9 ≤ v ∧ v ≤ 400) (q1 : 0 ≤ v → Q (Sum.inl none) (cn h0 T (u2 S' f_Md_foundWhich 0 v))) (q0 : v < 0 → Q (Sum.inr (hR h0 f_Md_halt T)) (cn h0 T (erS S' (-v)))) : wpB PGm ρ (d + 16) m_Md_chooses 0 [(0, vR T), (1, vI cc_), (2, vI md), (3, vI nm), (4, vI cnt)] [] (cn h0 T S) Q := by
  have kT := K.1.1.1
  have kH : hK h0 (hR h0 f_Md_halt T) ≠ 0 := by rw [K.1.1.2.2]; decide
  have g19 : wpB PGm ρ (d + 16) m_Md_chooses 19 [(0, vR T)] [vI v] (cn h0 T S') Q := by
    refine b_Md_chooses_19 ⟨fun z => ⟨kT, ?_⟩, fun z => ⟨kT, ?_⟩⟩
    · show Q (Sum.inl none) (sI (cn h0 T S') f_Md_foundWhich T v)
      rw [cn_sI (by decide)]; exact q1 z
    · rw [w32_of (by omega) (by omega)]
      exact s_error (d := d + 14) K.1.1 ⟨kH, q0 z⟩
  rcases E with ⟨h1, h2, h3⟩ | ⟨h1, h2⟩
  · refine b_Md_chooses_0 ⟨fun _ => ⟨kT, s_single (d := d + 1) K W.2.2.1 Y C1 O ?_⟩, fun z => absurd h1 z⟩
    rw [← h2, ← h3]; exact g19
  · exact b_Md_chooses_0 ⟨fun z => absurd (z.symm.trans h1) (by decide), fun _ => ⟨kT, s_chosenE K W Y C1 O h2 g19⟩⟩
theorem sglG_b (O : OKL M cs) (hM : M ≤ 400) : -9 ≤ sglG g ts cs ∧ sglG g ts cs ≤ 400 ∧ (0 ≤ sglG g ts cs → (sglG g ts cs).toNat ∈ cs) := by
  have ph : ∀ ph v, phG g ts cs ph = some v → -8 ≤ v ∧ v ≤ 400 ∧ (0 ≤ v → v.toNat ∈ cs) := fun ph v e => by
    unfold phG at e
    split at e
    · injection e with e
      split at e
      · rename_i h1 h2
        generalize eF : cs.filter (mstB g ph ts cs) = F at e h2
        cases F with
        | nil => simp at h2
        | cons x r =>
          have hr : r = [] := by simpa using h2
          subst hr
          have hx : x ∈ cs.filter (mstB g ph ts cs) := by rw [eF]; exact List.mem_cons_self ..
          have := O.2 x (List.mem_filter.mp hx).1
          simp at e
          subst e
          exact ⟨by omega, by omega, fun _ => by simpa using (List.mem_filter.mp hx).1⟩
      · subst e; exact ⟨by omega, by omega, fun z => absurd z (by decide)⟩
    · cases e
  unfold sglG
  cases e1 : phG g ts cs 1 with
  | some v => have := ph 1 v e1; exact ⟨by simp; omega, by simp; omega, by simpa using this.2.2⟩
  | none =>
    cases e2 : phG g ts cs 2 with
    | some v => have := ph 2 v e2; exact ⟨by simp; omega, by simp; omega, by simpa using this.2.2⟩
    | none =>
      cases e3 : phG g ts cs 3 with
      | some v => have := ph 3 v e3; exact ⟨by simp; omega, by simp; omega, by simpa using this.2.2⟩
      | none => exact ⟨by simp, by simp, fun z => by simp at z⟩
theorem mkr_ok (W2 : HMW g N M) (hc : c < N) : OKL M (mkrG g c) := by
  unfold mkrG
  have nm : (memG g c).Nodup := by
    unfold memG
    exact List.pairwise_map.mpr (List.Pairwise.imp (fun h e => h (by omega)) List.nodup_range)
  exact ⟨nm.filter _, fun x hx => memG_lt W2 hc x (List.mem_filter.mp hx).1⟩
/-- T at a host: the site, the class, the values behind -/
def LHQ (S : SS) (N s rr mn c : Nat) (κ st : Int) (L : List Int) : Prop := s < 4000 ∧ S f_Md_siteMany s = (mn : Int) ∧ mn ≤ 8 ∧ PVS S N rr (if κ = 1 then 1 else mn) ∧ c < N ∧ (st = 0 ∨ st = 1) ∧ (κ = 0 ∨ κ = 1 ∨ κ = 5 → ∃ n : Nat, S f_Md_siteName s = (n : Int) ∧ NMT S n L) ∧ (S f_Md_goesType 0 = if st = 1 then 8 else 7) ∧ (0 ≤ S f_Md_goesValue 0 ∧ S f_Md_goesValue 0 < 8000) ∧ (if st = 1 then S f_Md_goesValue 0 = (c : Int) else S f_Md_thingClass (S f_Md_goesValue 0).toNat = (c : Int))
/-- how T stands behind a look at a host -/
def LHR (g : HG) (S SX S' : SS) (κ st : Int) (c : Nat) (L ts : List Int) : Prop := OFF (LHK ++ LCH3) S S' ∧ EXS LCH3 SX S' ∧ S' f_Md_foundGuard 0 = (c : Int) ∧ (0 ≤ hkG g κ st c L ts → S' f_Md_foundWhich 0 = hkG g κ st c L ts ∧ S' f_Md_foundMany 0 = (if hkB g κ st c L = true then (ts.length : Int) else S f_Md_foundMany 0))
def LH51 (ρ : Nat → Nat) (g : HG) (N M : Nat) (S S' : SS) (s c : Nat) (κ st cnt v : Int) : Prop := ∀ (d : Nat) (h0 : ah) (T : Nat) (Q : QT), PTO ρ g N M h0 T → (0 ≤ v → Q (Sum.inl none) (cn h0 T S')) → (v < 0 → Q (Sum.inr (hR h0 f_Md_halt T)) (cn h0 T (erS S' (-v)))) → wpB PGm ρ (d + 128) m_Md_looksAtHost 51 [(0, vR T), (1, vI (s : Int)), (2, vI κ), (3, vI cnt), (4, vI st), (5, vI (c : Int))] [vI st] (cn h0 T S) Q
theorem TOK.kh (O : TOK h0 T) : hK h0 (hR h0 f_Md_halt T) ≠ 0 := by rw [O.2.2]; decide
theorem s_lh0 (W : HWF g N M) (H : LHQ S N s rr mn c 0 st L) : ∃ S', LHR g S S S' 0 st c L ts ∧ LH51 ρ g N M S S' s c 0 st cnt (hkG g 0 st c L ts) := by
  obtain ⟨h1, h2, h3, h4, h5, h6, h7, -⟩ := H
  obtain ⟨n, en, nt⟩ := h7 (Or.inl rfl)
  have f0 : OFF [f_Md_foundGuard] S (u2 S f_Md_foundGuard 0 (c : Int)) := OFF.rf.u (by decide)
  have nt1 := nt.ex (f0.ex (L' := [f_Md_nameSize, f_Md_nameSigns]) (by decide))
  obtain ⟨S2, f2, t2⟩ := s_getter (ρ := ρ) W h6 h5 nt1
  have ek : hkG g 0 st c L ts = if gtG g st c L < 0 then -4 else gtG g st c L := by unfold hkG; rw [if_pos rfl]
  have eb : hkB g 0 st c L = false := by unfold hkB; rw [decide_eq_false (by omega)]; rfl
  rw [ek]
  refine ⟨u2 S2 f_Md_foundWhich 0 (gtG g st c L), ⟨(f0.le (by decide)).tr ((f2.le (by decide)).u (by decide)), fun f hf i => ?_, ?_, fun z => ?_⟩, fun d h0 T Q K q1 q0 => ?_⟩
  · rw [u2_f (by rintro rfl; exact absurd hf (by decide)), f2.ex (L' := LCH3) (by decide) f hf, u2_f (by rintro rfl; exact absurd hf (by decide))]
  · rw [u2_f (by decide), f2 _ _ (by decide), u2_s]
  · rw [ek, eb]
    rw [ek] at z
    have : ¬ gtG g st c L < 0 := fun c => by rw [if_pos c] at z; exact absurd z (by decide)
    rw [if_neg this, if_neg (by decide)]
    exact ⟨u2_s, by rw [u2_f (by decide), f2 _ _ (by decide), u2_f (by decide)]⟩
  · have O := K.1.1
    have kT := O.1
    have G := O.2.1
    have b1 : 0 ≤ (s : Int) ∧ (s : Int) < ((4000 : Nat) : Int) := by omega
    have g1 : wpB PGm ρ (d + 127) m_Md_getter 0 [(0, vR T), (1, vI (c : Int)), (2, vI st), (3, vI (n : Int))] [] (cn h0 T (u2 S f_Md_foundGuard 0 (c : Int))) (cI (fun x143 h138 => hK h138 T = k_Md ∧ ((0 ≤ hI (sI h138 f_Md_foundWhich T x143) f_Md_foundWhich T → Q (Sum.inl none) (sI h138 f_Md_foundWhich T x143)) ∧ (hI (sI h138 f_Md_foundWhich T x143) f_Md_foundWhich T < 0 → wpB PGm ρ (d + 127) m_Md_error 0 [(0, vR T), (1, vI 4)] [] (sI h138 f_Md_foundWhich T x143) (cV (fun h153 => Q (Sum.inl none) h153) (fun e156 h155 => hK h155 e156 ≠ 0 ∧ Q (Sum.inr e156) h155))))) (fun e141 h140 => hK h140 e141 ≠ 0 ∧ Q (Sum.inr e141) h140)) := by
      refine t2 (d + 1) h0 T _ K ⟨kT, ?_⟩
      rw [cn_sI (by decide), cnI (by decide), u2_s]
      refine ⟨fun z => ?_, fun z => s_error (d := d + 126) O ⟨O.kh, ?_⟩⟩
      · rw [if_neg (by omega)] at q1; exact q1 z
      · rw [if_pos z] at q0; exact q0 (by decide)
    have es : u2 S f_Md_foundGuard 0 (c : Int) f_Md_siteName s = (n : Int) := by rw [u2_f (by decide)]; exact en
    refine b_Md_looksAtHost_51 ?_
    clear q1 q0 t2 f2 f0 W h4 ek eb
    simp (decide := true) (disch := first | decide | omega) only [cnI, cnR, cnK, cnl, cnA' G, cn_sI, kT, KN G, LN G, es, Int.toNat_natCast, true_and, and_true, false_implies, forall_const, not_true_eq_false]
    exact ⟨b1, g1⟩
/-- values are looked at, one is chosen -/
theorem s_pick (W : HWF g N M) (H : PVS S N rr n) (hn : n ≤ 8) (C1 : CND S cs) (O : OKL M cs) (et : ts = tsT S rr n) (E : CH2 g ts cs S cc_ md nm cnt (sglG g ts cs) SX) : ∃ S1 S', OFF LTY S S1 ∧ OFF (LTY ++ LCH3 ++ [f_Md_foundWhich]) S S' ∧ EXS LCH3 SX S' ∧ (0 ≤ sglG g ts cs → S' f_Md_foundWhich 0 = sglG g ts cs) ∧ S' f_Md_foundMany 0 = (n : Int) ∧ TC ρ TOK 1 m_Md_typesOfEs 0 [(1, vI (n : Int))] [] S (some none) S1 ∧ ∀ (d : Nat) (h0 : ah) (T : Nat) (Q : QT), PTO ρ g N M h0 T → (0 ≤ sglG g ts cs → Q (Sum.inl none) (cn h0 T S')) → (sglG g ts cs < 0 → Q (Sum.inr (hR h0 f_Md_halt T)) (cn h0 T (erS S' (-(sglG g ts cs))))) → wpB PGm ρ (d + 16) m_Md_chooses 0 [(0, vR T), (1, vI cc_), (2, vI md), (3, vI nm), (4, vI cnt)] [] (cn h0 T S1) Q := by
  obtain ⟨S1, f1, y1, m1, t1⟩ := s_types (ρ := ρ) H hn W.2.2.2.2.1
  rw [← et] at y1
  have c1 := C1.ex (f1.ex (by decide))
  obtain ⟨S2, e2, x2, o2⟩ := E.e (f1.ex (by decide))
  have sb := sglG_b (g := g) (ts := ts) O W.2.2.2.2.2
  by_cases w : 0 ≤ sglG g ts cs
  · refine ⟨S1, u2 S2 f_Md_foundWhich 0 (sglG g ts cs), f1, (f1.le (by decide)).tr ((o2.le (by decide)).u (by decide)), fun f hf i => ?_, fun _ => u2_s, ?_, t1, fun d h0 T Q K q1 q0 => s_chooses K W y1 c1 O e2 ⟨sb.1, sb.2.1⟩ q1 (fun z => absurd z (by omega))⟩
    · rw [u2_f (by rintro rfl; exact absurd hf (by decide))]; exact x2 f hf i
    · rw [u2_f (by decide), o2 _ _ (by decide)]; exact m1
  · refine ⟨S1, S2, f1, (f1.le (by decide)).tr (o2.le (by decide)), x2, fun z => absurd z w, ?_, t1, fun d h0 T Q K q1 q0 => s_chooses K W y1 c1 O e2 ⟨sb.1, sb.2.1⟩ (fun z => absurd z w) q0⟩
    rw [o2 _ _ (by decide)]; exact m1
end
