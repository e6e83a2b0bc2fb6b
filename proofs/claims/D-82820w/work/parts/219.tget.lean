/-! T: getters, types of values -/
set_option maxRecDepth 20000
def HWF (g : HG) (N M : Nat) : Prop := HGW g N ∧ HMW g N M ∧ HPW g N M ∧ HMC g N ∧ N ≤ 60 ∧ M ≤ 400
def xGET : List Int := [103, 101, 116]
def xIS : List Int := [105, 115]
def xSET : List Int := [115, 101, 116]
/-- the method get.., or is.., or the field that is read by a name -/
def gtG (g : HG) (st : Int) (c : Nat) (L : List Int) : Int := match colG g (wtB g st (wtL xGET L) 0) (ordG g c) with
  | m :: _ => (m : Int)
  | [] => match colG g (wtB g st (wtL xIS L) 0) (ordG g c) with
    | m :: _ => if g.1 8 m = 3 then (m : Int) else oN (fldG g st L 61 (c : Int))
    | [] => oN (fldG g st L 61 (c : Int))
def LGT : List Nat := LWN ++ LCO
/-- the type of a value -/
def tyT (S : SS) (ty v : Int) : Int := if ty = 0 then 0 else if ty = 1 then 6 else if ty = 2 then (if v = w32 v then 4 else 5) else if ty = 3 then 7 else if ty = 7 then 9 + S f_Md_thingClass v.toNat else 8
def tsT (S : SS) (rr n : Nat) : List Int := (List.range n).map (fun k => tyT S (S f_Md_pileType (rr + 1 + k)) (S f_Md_pileValue (rr + 1 + k)))
def LTY : List Nat := [f_Md_many, f_Md_types, f_Md_foundMany]
section
variable {ρ : Nat → Nat} {P : ah → Nat → Prop} {d : Nat} {Q : QT} {h h0 : ah} {T k n m f i j N M b r a ph kn ac c rr : Nat} {S S' S1 S2 : SS} {g : HG} {tp l o bs pf L ts : List Int} {v st p x y md nm ty : Int} {ls cs ch : List Nat} {w : Nat → Bool}
theorem NMT.ex (H : NMT S n L) (e : EXS [f_Md_nameSize, f_Md_nameSigns] S S1) : NMT S1 n L := ⟨H.1, by rw [e _ (by decide)]; exact H.2.1, H.2.2.1, fun i hi => by rw [e _ (by decide)]; exact H.2.2.2.1 i hi, H.2.2.2.2⟩
theorem PTO.tx (K : PTO ρ g N M h0 T) {q : Nat × List Int} (hq : q ∈ txM) : SOK h0 (ρ q.1) q.2 := K.1.2.1 q hq
theorem s_wcol (W : HWF g N M) (hst : st = 0 ∨ st = 1) (hp : -1 ≤ p) (hc : c < N) (nt : NMT S n L) (hpf : pf.length ≤ 3) : ∃ S', OFF LGT S S' ∧ CND S' (colG g (wtB g st (wtL pf L) p) (ordG g c)) ∧ OKL M (colG g (wtB g st (wtL pf L) p) (ordG g c)) ∧ NMT S' n L ∧ WNT S' (wtL pf L) ∧ TC ρ (PTO ρ g N M) 123 m_Md_collects 0 [(1, vI (c : Int)), (2, vI st), (3, vI p)] [] (wnS S (wtL pf L)) (some none) S' := by
  obtain ⟨w1, w2, -, -, w5, w6⟩ := W
  have hw := wnS_w (S := S) (wtL_len (L := L) hpf nt.2.2.1).2
  obtain ⟨S', f1, c1, o1, t1⟩ := s_collects (ρ := ρ) (p := p) w1 w2 w6 w5 hst hp hc hw
  have f0 := wnS_off (S := S) (bs := wtL pf L)
  exact ⟨S', (f0.le (by decide)).tr (f1.le (by decide)), c1, o1, (nt.ex (f0.ex (by decide))).ex (f1.ex (by decide)), hw.ex (f1.ex (by decide)), t1⟩
theorem s_getter (W : HWF g N M) (hst : st = 0 ∨ st = 1) (hc : c < N) (nt : NMT S n L) : ∃ S', OFF LGT S S' ∧ TC ρ (PTO ρ g N M) 126 m_Md_getter 0 [(1, vI (c : Int)), (2, vI st), (3, vI (n : Int))] [] S (some (some (vI (gtG g st c L)))) S' := by
  obtain ⟨S1, f1, c1, o1, n1, -, t1⟩ := s_wcol (ρ := ρ) (p := 0) (pf := xGET) W hst (by decide) hc nt (by decide)
  obtain ⟨S2, f2, c2, o2, n2, -, t2⟩ := s_wcol (ρ := ρ) (p := 0) (pf := xIS) W hst (by decide) hc n1 (by decide)
  have n3 : NMT (wnS S2 L) n L := n2.ex (wnS_off.ex (by decide))
  have w3 : WNT (wnS S2 L) L := wnS_w (by have := nt.2.2.1; omega)
  have eL : wtL [] L = L := rfl
  have st3 : st = -1 ∨ st = 0 ∨ st = 1 := Or.inr hst
  -- the first question
  have q1 : ∀ (d : Nat) (h0 : ah) (T : Nat) (Q : QT), PTO ρ g N M h0 T → (∀ m r, colG g (wtB g st (wtL xGET L) 0) (ordG g c) = m :: r → Q (Sum.inl (some (vI (m : Int)))) (cn h0 T S1)) → (colG g (wtB g st (wtL xGET L) 0) (ordG g c) = [] → ∀ m r, colG g (wtB g st (wtL xIS L) 0) (ordG g c) = m :: r → g.1 8 m = 3 → Q (Sum.inl (some (vI (m : Int)))) (cn h0 T S2)) → (colG g (wtB g st (wtL xGET L) 0) (ordG g c) = [] → (∀ m r, colG g (wtB g st (wtL xIS L) 0) (ordG g c) = m :: r → ¬ g.1 8 m = 3) → Q (Sum.inl (some (vI (oN (fldG g st L 61 (c : Int)))))) (cn h0 T (wnS S2 L))) → wpB PGm ρ (d + 126) m_Md_getter 0 [(0, vR T), (1, vI (c : Int)), (2, vI st), (3, vI (n : Int))] [] (cn h0 T S) Q := by
    intro d h0 T Q K g1 g2 g3
    have O := K.1.1
    have kT := O.1
    have G := O.2.1
    have R := K.pth.2
    have ⟨a1, a2, a3, a4, a5, a6, a7, a8⟩ := R
    have kk := a2.2
    have w95 : ∀ s0 : Int, s0 = st → wpB PGm ρ (d + 126) m_Md_getter 95 [] [vI s0, vI (c : Int), vR T] (cn h0 T (wnS S2 L)) Q → wpB PGm ρ (d + 126) m_Md_getter 95 [] [vI s0, vI (c : Int), vR T] (cn h0 T (wnS S2 L)) Q := fun _ _ z => z
    have g76 : Q (Sum.inl (some (vI (oN (fldG g st L 61 (c : Int)))))) (cn h0 T (wnS S2 L)) → wpB PGm ρ (d + 126) m_Md_getter 76 [(0, vR T), (1, vI (c : Int)), (2, vI st), (3, vI (n : Int))] [] (cn h0 T S2) Q := fun z => by
      refine b_Md_getter_76 ⟨kT, s_wants (d := d + 113) K.1 (K.tx (q := (30, [])) (by decide)) (by decide) (fun i hi => absurd hi (by simp)) n2 ?_⟩
      have F := fun s0 (e : s0 = st) => b_Md_getter_95 (ρ := ρ) (d := d + 125) (Q := Q) (h := cn h0 T (wnS S2 L)) (s0 := s0) (s1 := (c : Int)) (s2 := T) ⟨kT, by subst e; exact s_field (d := d + 124) K W.1 W.2.1 hc w3 st3 z⟩
      exact ⟨fun e => F 0 e.symm, fun e => F 1 (by omega)⟩
    refine b_Md_getter_0 ⟨kT, s_wants (d := d + 113) K.1 (K.tx (q := (19, xGET)) (by decide)) (by decide) (by decide) nt ⟨kT, t1 (d + 2) h0 T _ K ⟨kT, ?_⟩⟩⟩
    rw [cnI (by decide), c1.1]
    refine ⟨fun z => s_wants (d := d + 113) K.1 (K.tx (q := (20, xIS)) (by decide)) (by decide) (by decide) n1 ⟨kT, t2 (d + 2) h0 T _ K ⟨kT, ?_⟩⟩, fun z => ?_⟩
    · have e1 : colG g (wtB g st (wtL xGET L) 0) (ordG g c) = [] := List.length_eq_zero_iff.mp (by omega)
      rw [cnI (by decide), c2.1]
      refine ⟨fun z2 => g76 (g3 e1 (fun m r e => ?_)), fun z2 => ?_⟩
      · rw [e] at z2; simp at z2; omega
      · cases e2 : colG g (wtB g st (wtL xIS L) 0) (ordG g c) with
        | nil => rw [e2] at z2; simp at z2
        | cons m r =>
          have er : S2 f_Md_candidate 0 = (m : Int) := by have := c2.2 0 (by omega); rw [e2] at this; exact this
          have hm : m < M := o2.2 m (by rw [e2]; exact List.mem_cons_self ..)
          obtain ⟨-, -, -, u4, -⟩ := a8 m hm
          have tA := tAH (S := S2) O a2
          have tK := tKH a2.1
          have tL := tLH a2.1
          have m4 : 0 ≤ (m : Int) ∧ (m : Int) < ((400 : Nat) : Int) := by omega
          have x1 : ¬ g.1 8 m = 3 → wpB PGm ρ (d + 126) m_Md_getter 76 [(0, vR T), (1, vI (c : Int)), (2, vI st), (3, vI (n : Int))] [] (cn h0 T S2) Q := fun ne => g76 (g3 e1 (fun m' r' e => by rw [e2] at e; injection e with e3 _; rw [← e3]; exact ne))
          have x2 : g.1 8 m = 3 → Q (Sum.inl (some (vI (m : Int)))) (cn h0 T S2) := fun e => g2 e1 m r e2 e
          clear g1 g2 g3 g76 a7 a8 R t1 t2 w95 W
          simp (decide := true) (disch := first | decide | omega) only [cnI, cnR, cnK, cnl, cnA' G, kT, KN G, LN G, kk, tA, tK, tL, er, u4, Int.toNat_natCast, true_and, and_true]
          exact ⟨m4, x1, x2⟩
    · cases e2 : colG g (wtB g st (wtL xGET L) 0) (ordG g c) with
      | nil => rw [e2] at z; simp at z
      | cons m r =>
        have er : S1 f_Md_candidate 0 = (m : Int) := by have := c1.2 0 (by omega); rw [e2] at this; exact this
        have x2 := g1 m r e2
        clear g1 g2 g3 g76 a7 a8 R t1 t2 w95 W
        simp (decide := true) (disch := first | decide | omega) only [cnI, cnR, cnK, cnl, cnA' G, kT, KN G, LN G, er, true_and, and_true]
        exact x2
  cases e1 : colG g (wtB g st (wtL xGET L) 0) (ordG g c) with
  | cons m r =>
    refine ⟨S1, f1, fun d h0 T Q K q => q1 d h0 T Q K (fun m' r' e => ?_) (fun e => by rw [e1] at e; cases e) (fun e => by rw [e1] at e; cases e)⟩
    rw [e1] at e; injection e with e3 _
    unfold gtG at q
    rw [e1] at q
    rw [← e3]; exact q
  | nil =>
    by_cases w : ∃ m r, colG g (wtB g st (wtL xIS L) 0) (ordG g c) = m :: r ∧ g.1 8 m = 3
    · obtain ⟨m, r, e2, e3⟩ := w
      refine ⟨S2, f1.tr f2, fun d h0 T Q K q => q1 d h0 T Q K (fun m' r' e => by rw [e1] at e; cases e) (fun _ m' r' e e4 => ?_) (fun _ z => absurd e3 (z m r e2))⟩
      rw [e2] at e; injection e with e5 _
      unfold gtG at q
      rw [e1] at q
      simp only [e2] at q
      rw [if_pos e3] at q
      rw [← e5]; exact q
    · refine ⟨wnS S2 L, f1.tr (f2.tr (wnS_off.le (by decide))), fun d h0 T Q K q => q1 d h0 T Q K (fun m' r' e => by rw [e1] at e; cases e) (fun _ m' r' e e4 => absurd ⟨m', r', e, e4⟩ w) (fun _ z => ?_)⟩
      unfold gtG at q
      rw [e1] at q
      cases e2 : colG g (wtB g st (wtL xIS L) 0) (ordG g c) with
      | nil => simp only [e2] at q; exact q
      | cons m r => simp only [e2] at q; rw [if_neg (z m r e2)] at q; exact q
theorem tyT_b (V : VO S N ty v) (hc : ty = 7 → 0 ≤ S f_Md_thingClass v.toNat ∧ S f_Md_thingClass v.toNat < (N : Int)) : 0 ≤ tyT S ty v ∧ tyT S ty v < 9 + (N : Int) := by
  unfold tyT
  by_cases e : ty = 7
  · have := hc e
    subst e
    simp only [show ¬ (7 : Int) = 0 by decide, show ¬ (7 : Int) = 1 by decide, show ¬ (7 : Int) = 2 by decide, show ¬ (7 : Int) = 3 by decide, if_false, if_true]
    omega
  · rw [if_neg e]
    split
    · omega
    · split
      · omega
      · split
        · split <;> omega
        · split <;> omega
theorem s_typeOf (O : TOK h0 T) (V : VO S N ty v) (ht : S f_Md_things 0 ≤ 8000) (hc : ty = 7 → 0 ≤ S f_Md_thingClass v.toNat ∧ S f_Md_thingClass v.toNat < (N : Int)) (hN : N ≤ 60) (q : Q (Sum.inl (some (vI (tyT S ty v)))) (cn h0 T S)) : wpB PGm ρ d m_Md_typeOf 0 [(0, vR T), (1, vI ty), (2, vL v)] [] (cn h0 T S) Q := by
  have kT := O.1
  have G := O.2.1
  unfold tyT at q
  refine b_Md_typeOf_0 ⟨fun e => by rw [if_pos e] at q; exact q, fun e0 => ⟨fun e => by rw [if_neg e0, if_pos e] at q; exact q, fun e1 => ⟨fun e => ?_, fun e2 => ⟨fun e => by rw [if_neg e0, if_neg e1, if_neg e2, if_pos e] at q; exact q, fun e3 => ?_⟩⟩⟩⟩
  · rw [if_neg e0, if_neg e1, if_pos e] at q
    by_cases w : v = w32 v
    · rw [if_pos w] at q
      exact ⟨fun z => absurd (by rw [if_neg (by omega), if_pos w]) z, fun _ => q⟩
    · rw [if_neg w] at q
      exact ⟨fun _ => q, fun z => by
        by_cases w2 : v < w32 v
        · rw [if_pos w2] at z; exact absurd z (by decide)
        · rw [if_neg w2, if_neg w] at z; exact absurd z (by decide)⟩
  · rw [if_neg e0, if_neg e1, if_neg e2, if_neg e3] at q
    by_cases e7 : ty = 7
    · have hc' := hc e7
      rw [if_pos e7] at q
      have vv : 0 ≤ v ∧ v < 8000 := by
        unfold VO at V
        omega
      have w1 : w32 v = v := w32_of (by omega) (by omega)
      have w2 : w32 (9 + S f_Md_thingClass v.toNat) = 9 + S f_Md_thingClass v.toNat := w32_of (by omega) (by omega)
      have b1 : 0 ≤ v ∧ v < ((8000 : Nat) : Int) := by omega
      refine ⟨fun e => absurd e (by omega), fun _ => ⟨fun e => absurd e (by omega), fun _ => ⟨fun e => absurd e (by omega), fun _ => ⟨fun _ => ?_, fun z => absurd e7 z⟩⟩⟩⟩
      rw [w1]
      clear V hc hc' ht w1
      simp (decide := true) (disch := first | decide | omega) only [cnI, cnR, cnK, cnl, cnA' G, kT, KN G, LN G, w2, true_and, and_true]
      exact ⟨b1, q⟩
    · rw [if_neg e7] at q
      exact ⟨fun _ => q, fun _ => ⟨fun _ => q, fun _ => ⟨fun _ => q, fun _ => ⟨fun z => absurd z e7, fun _ => q⟩⟩⟩⟩
/-- values behind a place of the pile -/
def PVS (S : SS) (N rr n : Nat) : Prop := S f_Md_r 0 = (rr : Int) ∧ rr + 1 + n ≤ 4200 ∧ S f_Md_things 0 ≤ 8000 ∧ ∀ k, k < n → VO S N (S f_Md_pileType (rr + 1 + k)) (S f_Md_pileValue (rr + 1 + k)) ∧ (S f_Md_pileType (rr + 1 + k) = 7 → 0 ≤ S f_Md_thingClass (S f_Md_pileValue (rr + 1 + k)).toNat ∧ S f_Md_thingClass (S f_Md_pileValue (rr + 1 + k)).toNat < (N : Int))
def LPV : List Nat := [f_Md_r, f_Md_things, f_Md_pileType, f_Md_pileValue, f_Md_thingClass, f_Md_thingKind, f_Md_sourceTexts, f_Md_madeTexts]
theorem tsT_e (e : EXS LPV S S1) : tsT S1 rr n = tsT S rr n := by
  unfold tsT tyT
  have e1 := e f_Md_pileType (by decide)
  have e2 := e f_Md_pileValue (by decide)
  have e3 := e f_Md_thingClass (by decide)
  congr 1
  funext k
  rw [e1, e2, e3]
theorem PVS.ex (H : PVS S N rr n) (e : EXS LPV S S1) : PVS S1 N rr n := by
  obtain ⟨h1, h2, h3, h4⟩ := H
  refine ⟨by rw [e _ (by decide)]; exact h1, h2, by rw [e _ (by decide)]; exact h3, fun k hk => ?_⟩
  rw [e f_Md_pileType (by decide), e f_Md_pileValue (by decide), e f_Md_thingClass (by decide)]
  exact ⟨(h4 k hk).1.ext (e _ (by decide) _) (e _ (by decide) _) (e _ (by decide) _) (fun i => e _ (by decide) i), (h4 k hk).2⟩
theorem s_types (H : PVS S N rr n) (hn : n ≤ 8) (hN : N ≤ 60) : ∃ S', OFF LTY S S' ∧ TYS S' N (tsT S rr n) ∧ S' f_Md_foundMany 0 = (n : Int) ∧ TC ρ TOK 1 m_Md_typesOfEs 0 [(1, vI (n : Int))] [] S (some none) S' := by
  have ln : (tsT S rr n).length = n := by unfold tsT; simp
  have gd : ∀ j, j < n → (tsT S rr n).getD j 0 = tyT S (S f_Md_pileType (rr + 1 + j)) (S f_Md_pileValue (rr + 1 + j)) := fun j hj => by
    unfold tsT; rw [List.getD_eq_getElem?_getD]; simp [hj]
  have lp : ∀ mm j, j + mm = n → ∀ S1, OFF LTY S S1 → S1 f_Md_many 0 = (n : Int) → (∀ i, i < j → S1 f_Md_types i = (tsT S rr n).getD i 0) → ∃ S', OFF LTY S S' ∧ TYS S' N (tsT S rr n) ∧ S' f_Md_foundMany 0 = (n : Int) ∧ TC ρ TOK 1 m_Md_typesOfEs 7 [(1, vI (n : Int)), (2, vI (j : Int))] [] S1 (some none) S' := fun mm => by
    induction mm with
    | zero =>
      intro j hj S1 f1 e1 e2
      have f2 : OFF [f_Md_foundMany] S1 (u2 S1 f_Md_foundMany 0 (n : Int)) := OFF.rf.u (by decide)
      refine ⟨u2 S1 f_Md_foundMany 0 (n : Int), f1.u (by decide), ⟨by rw [u2_f (by decide), e1, ln], by omega, fun i hi => ?_⟩, u2_s, fun d h0 T Q O q => b_Md_typesOfEs_7 ⟨fun _ => ⟨O.1, ?_⟩, fun z => absurd z (by omega)⟩⟩
      · rw [ln] at hi
        refine ⟨by rw [u2_f (by decide)]; exact e2 i (by omega), ?_⟩
        rw [gd i hi]
        exact tyT_b (H.2.2.2 i hi).1 (H.2.2.2 i hi).2
      · show Q (Sum.inl none) (sI (cn h0 T S1) f_Md_foundMany T (n : Int))
        rw [cn_sI (by decide)]; exact q
    | succ mm ih =>
      intro j hj S1 f1 e1 e2
      have H1 := H.ex (f1.ex (by decide))
      have x1 := f1.ex (L' := LPV) (by decide)
      have e3 : tyT S1 (S1 f_Md_pileType (rr + 1 + j)) (S1 f_Md_pileValue (rr + 1 + j)) = (tsT S rr n).getD j 0 := by
        rw [gd j (by omega)]; unfold tyT; rw [x1 f_Md_pileType (by decide), x1 f_Md_pileValue (by decide), x1 f_Md_thingClass (by decide)]
      obtain ⟨S', f2, t2, m2, r2⟩ := ih (j + 1) (by omega) (u2 S1 f_Md_types j ((tsT S rr n).getD j 0)) (f1.u (by decide)) (by rw [u2_f (by decide)]; exact e1) (fun i hi => by
        by_cases w : i = j
        · rw [w, u2_s]
        · rw [u2_e, if_neg (fun c => w c.2)]; exact e2 i (by omega))
      refine ⟨S', f2, t2, m2, fun d h0 T Q O q => b_Md_typesOfEs_7 ⟨fun z => absurd z (by omega), fun _ => ?_⟩⟩
      have kT := O.1
      have G := O.2.1
      have g1 := r2 d h0 T Q O q
      obtain ⟨h1, h2, h3, h4⟩ := H1
      have er := h1
      have b1 : 0 ≤ ((rr + 1 + j : Nat) : Int) ∧ ((rr + 1 + j : Nat) : Int) < ((4200 : Nat) : Int) := by omega
      have b2 : 0 ≤ (j : Int) ∧ (j : Int) < ((8 : Nat) : Int) := by omega
      have m1 : rr ≤ 2000000000 := by omega
      have m3 : rr + 1 + j ≤ 2000000000 := by omega
      have m4 : j ≤ 2000000000 := by omega
      have gt : wpB PGm ρ d m_Md_typeOf 0 [(0, vR T), (1, vI (S1 f_Md_pileType (rr + 1 + j))), (2, vL (S1 f_Md_pileValue (rr + 1 + j)))] [] (cn h0 T S1) (cI (fun x17 h12 => (hK h12 (hR h0 f_Md_types T) = 1 ∧ 0 ≤ (j : Int) ∧ (j : Int) < (hl h12 (hR h0 f_Md_types T) : Int)) ∧ wpB PGm ρ (d + 1) m_Md_typesOfEs 7 [(0, vR T), (1, vI (n : Int)), (2, vI ((j + 1 : Nat) : Int))] [] (sA h12 (hR h0 f_Md_types T) j x17) Q) (fun e15 h14 => hK h14 e15 ≠ 0 ∧ Q (Sum.inr e15) h14)) := by
        refine s_typeOf O (h4 j (by omega)).1 h3 (h4 j (by omega)).2 hN ?_
        rw [e3]
        show (hK (cn h0 T S1) (hR h0 f_Md_types T) = 1 ∧ 0 ≤ (j : Int) ∧ (j : Int) < (hl (cn h0 T S1) (hR h0 f_Md_types T) : Int)) ∧ wpB PGm ρ (d + 1) m_Md_typesOfEs 7 [(0, vR T), (1, vI (n : Int)), (2, vI ((j + 1 : Nat) : Int))] [] (sA (cn h0 T S1) (hR h0 f_Md_types T) j ((tsT S rr n).getD j 0)) Q
        rw [cn_sA' G (by decide)]
        refine ⟨?_, g1⟩
        clear h4 e2 ih gd
        simp (decide := true) (disch := first | decide | omega) only [cnK, cnl, KN G, LN G, true_and]
        exact b2
      have y1 : w32 ((rr : Int) + 1) = ((rr + 1 : Nat) : Int) := w32_p1 m1
      have y2 : w32 (((rr + 1 : Nat) : Int) + (j : Int)) = ((rr + 1 + j : Nat) : Int) := w32_aa m3
      have y3 : w32 ((j : Int) + 1) = ((j + 1 : Nat) : Int) := w32_p1 m4
      clear h4 e2 ih gd g1 r2 H t2 x1 e3
      simp (decide := true) (disch := first | decide | omega) only [cnI, cnR, cnK, cnl, cnA' G, kT, KN G, LN G, er, y1, y2, y3, Int.toNat_natCast, true_and, and_true]
      exact ⟨b1, b1, gt⟩
  obtain ⟨S', f2, t2, m2, r2⟩ := lp n 0 (by omega) (u2 S f_Md_many 0 (n : Int)) (OFF.rf.u (by decide)) u2_s (fun i hi => absurd hi (by omega))
  refine ⟨S', f2, t2, m2, fun d h0 T Q O q => b_Md_typesOfEs_0 ⟨O.1, ?_⟩⟩
  show wpB PGm ρ (d + 1) m_Md_typesOfEs 7 [(0, vR T), (1, vI (n : Int)), (2, vI 0)] [] (sI (cn h0 T S) f_Md_many T (n : Int)) Q
  rw [cn_sI (by decide)]
  exact r2 d h0 T Q O q
end
