/-! T: an instance is made, the run -/
set_option maxRecDepth 20000
def tyL (g : HG) (c : Nat) : Nat → Int := fun i => g.1 8 ((layG g c).getD i 0)
/-- the state with the new instance and its first values -/
def inS (g : HG) (S : SS) (c tn mk sk rk w m E : Nat) : SS := lsvS (u2 (nthS (trS S w (m : Int) (E : Int)) tn mk 7) f_Md_thingClass tn (c : Int)) tn sk rk (fun i => firT (tyL g c i)) (fun _ => 0) (layG g c).length
def mkS (g : HG) (S : SS) (c tn mk sk rk w m E rr : Nat) : SS := isS (flS (inS g S c tn mk sk rk w m E) (layG g c).length sk rr (mkA (layG g c).length (tyL g c) (parG g m) E)) 7 (tn : Int)
/-- what is known when a maker is called -/
def MKQ (g : HG) (S : SS) (N M c tn mk sk rk w m E rr : Nat) : Prop := m < M ∧ g.1 5 m = (c : Int) ∧ c < N ∧ S f_Md_things 0 = (tn : Int) ∧ S f_Md_allMade 0 = (mk : Int) ∧ tn ≤ mk ∧ mk ≤ 8000 ∧ S f_Md_slots 0 = (sk : Int) ∧ S f_Md_allSlots 0 = (rk : Int) ∧ sk ≤ rk ∧ rk ≤ 60000 ∧ S f_Md_es 0 = (E : Int) ∧ E ≤ 8 ∧ S f_Md_r 0 = (rr : Int) ∧ rr + 1 + E ≤ 4200 ∧ S f_Md_traced 0 = (w : Int) ∧ w + 2 ≤ 100000 ∧ (0 < E → 1 ≤ (g.2 2 m).length)
section
variable {ρ : Nat → Nat} {P : ah → Nat → Prop} {d : Nat} {Q : QT} {h h0 : ah} {T k n m f i j N M r a s rr mn sn tn row c t E pp x sz tm mb am ab sk rk y0 w l mk : Nat} {S S' S1 S2 SX X : SS} {g : HG} {v p y nm ty : Int} {vt vv : Nat → Int} {A : Nat → Option Nat} {tys want : Nat → Int} {e : Option (Option AV)}
theorem s_first (q : Q (Sum.inl (some (vI (firT v)))) h) : wpB PGm ρ d m_Md_firstType 0 [(0, vI v)] [] h Q := by
  unfold firT at q
  refine b_Md_firstType_0 ⟨fun c => ?_, fun c => ⟨fun c2 => ⟨fun c3 => ?_, fun c3 => ?_⟩, fun c2 => ?_⟩⟩
  · rw [if_pos (Or.inl c)] at q; exact q
  · rw [if_neg (fun z => z.elim c c2), if_neg c3] at q; exact q
  · rw [if_neg (fun z => z.elim c c2), if_pos c3] at q; exact q
  · rw [if_pos (Or.inr c2)] at q; exact q
def LMK : List Nat := LNT ++ LAS ++ [f_Md_trace, f_Md_traced, f_Md_thingClass]
theorem nthS_off {kd : Int} : OFF LNT S (nthS S tn mk kd) := by
  unfold nthS
  exact (((((((((((OFF.rf.u (by decide)).u (by decide)).u (by decide)).u (by decide)).u (by decide)).u (by decide)).u (by decide)).u (by decide)).u (by decide)).u (by decide)).u (by decide)).u (by decide)
theorem lsvS_off : OFF LAS S (lsvS S l sk rk vt vv j) := fun f i hf => lsvS_o hf j
theorem inS_off {m : Nat} : OFF LMK S (inS g S c tn mk sk rk w m E) := by
  unfold inS trS
  exact (((((OFF.rf.u (by decide)).u (by decide)).u (by decide)).tr (nthS_off.le (by decide))).u (by decide)).tr (lsvS_off.le (by decide))
theorem s_makes (W : HWF g N M) (Z : MKQ g S N M c tn mk sk rk w m E rr) : ∃ S1, OFF LFD S S1 ∧ FLD S1 (layG g c) ∧ (¬ (mk + 1 ≤ 8000 ∧ rk + (layG g c).length ≤ 60000) → TC ρ (PTO ρ g N M) 4 m_Md_makes 0 [(1, vI (m : Int))] [] S none (erS S1 99)) ∧ (mk + 1 ≤ 8000 ∧ rk + (layG g c).length ≤ 60000 → TC ρ (PTO ρ g N M) 4 m_Md_makes 0 [(1, vI (m : Int))] [] S (some none) (mkS g S1 c tn mk sk rk w m E rr)) := by
  obtain ⟨hm, ec, hc, e1, e2, h1, h2, e3, e4, h3, h4, e5, h5, e6, h6, e7, h7, hp⟩ := Z
  obtain ⟨w1, w2, w3, w4, w5, w6⟩ := id W
  obtain ⟨S1, f1, fl, t1⟩ := s_lists (ρ := ρ) (S := S) w1 w2 w4 w6 w5 hc
  have lok : OKL M (layG g c) := lay_ok w1 w2 w4 _ ⟨nodup_rev (chnG_ok w1 61 (c : Int) (by omega)).1.1, fun x hx => (chnG_ok w1 61 (c : Int) (by omega)).1.2 x (List.mem_reverse.mp hx)⟩
  have x0 : ∀ f i, LFD.elem f = false → S1 f i = S f i := f1
  generalize en : (layG g c).length = n at *
  have nM : n ≤ 400 := by rw [← en]; exact Nat.le_trans (OKL.len lok) w6
  -- to the room
  have room : ∀ (d : Nat) (h0 : ah) (T : Nat) (Q : QT), PTO ρ g N M h0 T → (¬ (mk + 1 ≤ 8000 ∧ rk + n ≤ 60000) → wpB PGm ρ (d + 4) m_Md_makes 45 [(0, vR T), (1, vI (m : Int)), (2, vI (c : Int)), (3, vI (n : Int))] [vI 0, vR T] (cn h0 T S1) Q) → (mk + 1 ≤ 8000 ∧ rk + n ≤ 60000 → wpB PGm ρ (d + 4) m_Md_makes 45 [(0, vR T), (1, vI (m : Int)), (2, vI (c : Int)), (3, vI (n : Int))] [vI 1, vR T] (cn h0 T S1) Q) → wpB PGm ρ (d + 4) m_Md_makes 0 [(0, vR T), (1, vI (m : Int))] [] (cn h0 T S) Q := fun d h0 T Q K q0 q1 => by
    have O := K.1.1
    have kT := O.1
    have G := O.2.1
    obtain ⟨⟨a1, a2, -⟩, ⟨r5, -⟩, m4⟩ := K.mem hm
    have tA := tAH (S := S) O a2
    have tK := tKH a2.1
    have tL := tLH a2.1
    have kk := a2.2
    rw [ec] at r5
    have s2 : S1 f_Md_allMade 0 = (mk : Int) := by rw [x0 _ _ (by decide)]; exact e2
    have s4 : S1 f_Md_allSlots 0 = (rk : Int) := by rw [x0 _ _ (by decide)]; exact e4
    have s5 : S1 f_Md_fields 0 = (n : Int) := by rw [fl.1, en]
    have z1 : 8000 < ((mk + 1 : Nat) : Int) → ¬ (mk + 1 ≤ 8000 ∧ rk + n ≤ 60000) := fun z => by omega
    have z2 : 60000 < ((rk + n : Nat) : Int) → ¬ (mk + 1 ≤ 8000 ∧ rk + n ≤ 60000) := fun z => by omega
    have z3 : ((mk + 1 : Nat) : Int) ≤ 8000 → ((rk + n : Nat) : Int) ≤ 60000 → (mk + 1 ≤ 8000 ∧ rk + n ≤ 60000) := fun z z' => by omega
    have m1 : mk ≤ 2000000000 := by omega
    have m2 : rk + n ≤ 2000000000 := by omega
    have y1 : w32 ((mk : Int) + 1) = ((mk + 1 : Nat) : Int) := w32_p1 m1
    have y2 : w32 ((rk : Int) + (n : Int)) = ((rk + n : Nat) : Int) := w32_aa m2
    have tl := t1 (d + 3) h0 T (cV (fun h7 => hK h7 T = k_Md ∧ wpB PGm ρ (d + 3) m_Md_hasRoomFor 0 [(0, vR T), (1, vI 1)] [] h7 (cI (fun x21 h16 => ((x21 = 0 → wpB PGm ρ (d + 4) m_Md_makes 45 [(0, vR T), (1, vI (m : Int)), (2, vI (c : Int)), (3, vI (hI h7 f_Md_fields T))] [vI 0, vR T] h16 Q) ∧ (¬ x21 = 0 → hK h16 T = k_Md ∧ ((60000 < (w32 ((hI h16 f_Md_allSlots T) + (hI h7 f_Md_fields T))) → wpB PGm ρ (d + 4) m_Md_makes 45 [(0, vR T), (1, vI (m : Int)), (2, vI (c : Int)), (3, vI (hI h7 f_Md_fields T))] [vI 0, vR T] h16 Q) ∧ ((w32 ((hI h16 f_Md_allSlots T) + (hI h7 f_Md_fields T))) ≤ 60000 → wpB PGm ρ (d + 4) m_Md_makes 45 [(0, vR T), (1, vI (m : Int)), (2, vI (c : Int)), (3, vI (hI h7 f_Md_fields T))] [vI 1, vR T] h16 Q))))) (fun e19 h18 => hK h18 e19 ≠ 0 ∧ Q (Sum.inr e19) h18))) (fun e10 h9 => hK h9 e10 ≠ 0 ∧ Q (Sum.inr e10) h9)) K ⟨kT, by
      refine b_Md_hasRoomFor_0 ⟨kT, ?_⟩
      clear t1 fl x0 f1
      simp (decide := true) (disch := first | decide | omega) only [cnI, cI, kT, s2, s4, s5, y1, y2, true_and, and_true, not_true_eq_false, not_false_eq_true, false_implies, forall_const]
      exact ⟨fun z => q0 (z1 z), fun z => ⟨kT, fun z' => q0 (z2 z'), fun z' => q1 (z3 z z')⟩⟩⟩
    refine b_Md_makes_0 ?_
    clear t1 fl x0 f1 q0 q1
    simp (decide := true) (disch := first | decide | omega) only [cnI, cnR, cnK, cnl, kT, kk, tA, tK, tL, r5, Int.toNat_natCast, true_and, and_true]
    exact ⟨m4, tl⟩
  refine ⟨S1, f1, fl, fun nr d h0 T Q K q => room d h0 T Q K (fun _ => b_Md_makes_45 ⟨K.1.1.1, s_room (d := d + 2) K.1.1 (fun c => absurd rfl c) (fun _ => ⟨K.1.1.kh, q⟩)⟩) (fun c => absurd c nr), fun yr d h0 T Q K q => room d h0 T Q K (fun c => absurd yr c) (fun _ => ?_)⟩
  have O := K.1.1
  have kT := O.1
  have G := O.2.1
  have a2 := K.pth.2.2.1
  have tK := tKH a2.1
  have tL := tLH a2.1
  have kk := a2.2
  have tn8 : tn < 8000 := by omega
  -- the state with a new thing
  generalize eN : u2 (nthS (trS S1 w (m : Int) (E : Int)) tn mk 7) f_Md_thingClass tn (c : Int) = SN at *
  have oN : OFF (LNT ++ [f_Md_trace, f_Md_traced, f_Md_thingClass]) S1 SN := by
    rw [← eN]; unfold trS
    exact ((((OFF.rf.u (by decide)).u (by decide)).u (by decide)).tr (nthS_off.le (by decide))).u (by decide)
  have n1 : SN f_Md_slots 0 = (sk : Int) := by rw [oN _ _ (by decide), x0 _ _ (by decide)]; exact e3
  have n2 : SN f_Md_allSlots 0 = (rk : Int) := by rw [oN _ _ (by decide), x0 _ _ (by decide)]; exact e4
  have n3 : SN f_Md_thingCount tn = 0 := by rw [← eN, u2_f (by decide)]; unfold nthS; simp (decide := true) only [u2_f, u2_s, ne_eq, not_false_eq_true]
  have L1 := lsvS_1 (l := tn) (vt := fun i => firT (tyL g c i)) (vv := fun _ => 0) n1 n2 n3
  have eI : inS g S1 c tn mk sk rk w m E = lsvS SN tn sk rk (fun i => firT (tyL g c i)) (fun _ => 0) n := by unfold inS; rw [eN, en]
  have fo : ∀ i, i < n → S1 f_Md_fieldOf i = ((layG g c).getD i 0 : Int) ∧ (layG g c).getD i 0 < M := fun i hi => ⟨fl.2 i (by omega), lok.2 _ (by
    rw [List.getD_eq_getElem?_getD, List.getElem?_eq_getElem (by omega)]; exact List.getElem_mem _)⟩
  -- the last loop
  have lp140 : ∀ mm k, k + mm = E → wpB PGm ρ (d + 4) m_Md_makes 140 [(0, vR T), (1, vI (m : Int)), (3, vI (n : Int)), (4, vI (tn : Int)), (5, vR (hR h0 f_Md_used1 T)), (6, vI (k : Int))] [] (cn h0 T (flS (inS g S1 c tn mk sk rk w m E) n sk rr (mkA n (tyL g c) (parG g m) k))) Q := fun mm => by
    have oI := inS_off (g := g) (S := S1) (c := c) (tn := tn) (mk := mk) (sk := sk) (rk := rk) (w := w) (m := m) (E := E)
    have oF : ∀ A f i, (LMK ++ LFL).elem f = false → flS (inS g S1 c tn mk sk rk w m E) n sk rr A f i = S1 f i := fun A f i hf => ((oI.le (by decide)).tr (flS_off.le (by decide))) f i hf
    have LG : ∀ A, SLG (flS (inS g S1 c tn mk sk rk w m E) n sk rr A) tn n ∧ ∀ i, i < n → slS (flS (inS g S1 c tn mk sk rk w m E) n sk rr A) tn i = sk + i := fun A => by
      obtain ⟨b1, b2, b3, b4, b5, b6, b7, b8, b9⟩ := L1 n
      have se := slS_off (k := tn) (flS_off (S := inS g S1 c tn mk sk rk w m E) (n := n) (sk := sk) (rr := rr) (A := A)) (by decide) (by decide)
      have s0 : ∀ i, i < n → slS (inS g S1 c tn mk sk rk w m E) tn i = sk + i := fun i hi => by rw [eI]; exact b5 i hi
      have LI : SLG (inS g S1 c tn mk sk rk w m E) tn n := ⟨tn8, by omega, by rw [eI]; exact b3, fun z => by rw [eI, b8 (by omega)]; omega, fun i hi => by rw [s0 i hi]; omega, fun i hi => by rw [s0 i (by omega), eI, b9 i hi]; omega⟩
      exact ⟨LI.off flS_off (by decide) (by decide) (by decide), fun i hi => by rw [se, s0 i hi]⟩
    induction mm with
    | zero =>
      intro k hk
      have ek : k = E := by omega
      subst ek
      have z5 := oF (mkA n (tyL g c) (parG g m) k) f_Md_es 0 (by decide)
      rw [x0 _ _ (by decide), e5] at z5
      unfold mkS at q
      rw [en] at q
      have n2' : ¬ (k : Int) < (k : Int) := by omega
      refine b_Md_makes_140 ⟨kT, ?_⟩
      rw [cnI (by decide), z5]
      exact ⟨fun _ => s_is O q, fun c => absurd c n2'⟩
    | succ mm ih =>
      intro k hk
      have kE : k < E := by omega
      have g1 := ih (k + 1) (by omega)
      generalize eA : mkA n (tyL g c) (parG g m) k = A at *
      have z5 := oF A f_Md_es 0 (by decide)
      rw [x0 _ _ (by decide), e5] at z5
      have z6 := oF A f_Md_r 0 (by decide)
      rw [x0 _ _ (by decide), e6] at z6
      obtain ⟨LGA, slA⟩ := LG A
      have zf : ∀ i, flS (inS g S1 c tn mk sk rk w m E) n sk rr A f_Md_fieldOf i = S1 f_Md_fieldOf i := fun i => oF A _ _ (by decide)
      have zu : ∀ i, i < n → flS (inS g S1 c tn mk sk rk w m E) n sk rr A f_Md_used1 i = if (A i).isNone = true then 0 else 1 := fun i hi => flS_us hi
      have zp : ∀ i, flS (inS g S1 c tn mk sk rk w m E) n sk rr A f_Md_pileType i = inS g S1 c tn mk sk rk w m E f_Md_pileType i := fun i => flS_off _ _ (by decide)
      have zv : ∀ i, flS (inS g S1 c tn mk sk rk w m E) n sk rr A f_Md_pileValue i = inS g S1 c tn mk sk rk w m E f_Md_pileValue i := fun i => flS_off _ _ (by decide)
      have mkK : mkA n (tyL g c) (parG g m) (k + 1) = match (List.range n).find? (fun f => (A f).isNone && decide (tyL g c f = parG g m k)) with | some f => fun x => if x = f then some k else A x | none => A := by
        rw [← eA]; rfl
      have m3 : k ≤ 2000000000 := by omega
      -- none fits
      have endN : (∀ i, i < n → ¬ ((A i).isNone = true ∧ tyL g c i = parG g m k)) → wpB PGm ρ (d + 4) m_Md_makes 201 [(0, vR T), (1, vI (m : Int)), (3, vI (n : Int)), (4, vI (tn : Int)), (5, vR (hR h0 f_Md_used1 T)), (6, vI (k : Int)), (8, vI (n : Int))] [] (cn h0 T (flS (inS g S1 c tn mk sk rk w m E) n sk rr A)) Q := fun no => by
        have : (List.range n).find? (fun f => (A f).isNone && decide (tyL g c f = parG g m k)) = none := by
          rw [List.find?_eq_none]
          intro i hi
          rw [List.mem_range] at hi
          have := no i hi
          simpa using this
        rw [mkK, this] at g1
        refine b_Md_makes_201 ⟨fun _ => ?_, fun c => absurd c (by omega)⟩
        rw [w32_p1 m3]; exact g1
      -- one fits
      have endS : ∀ x, x < n → (A x).isNone = true → tyL g c x = parG g m k → (∀ i, i < x → ¬ ((A i).isNone = true ∧ tyL g c i = parG g m k)) → wpB PGm ρ (d + 4) m_Md_makes 201 [(0, vR T), (1, vI (m : Int)), (3, vI (n : Int)), (4, vI (tn : Int)), (5, vR (hR h0 f_Md_used1 T)), (6, vI (k : Int)), (8, vI (x : Int))] [] (cn h0 T (flS (inS g S1 c tn mk sk rk w m E) n sk rr A)) Q := fun x hx an tx no => by
        have fnd : (List.range n).find? (fun f => (A f).isNone && decide (tyL g c f = parG g m k)) = some x := by
          rw [List.find?_range_eq_some]
          exact ⟨by simp [an, tx], by rw [List.mem_range]; exact hx, fun i hi => by
            have := no i hi
            cases hA : A i with
            | none => simp [hA] at this ⊢; exact this
            | some _ => simp⟩
        rw [mkK, fnd] at g1
        have u := flS_u (S := inS g S1 c tn mk sk rk w m E) (n := n) (sk := sk) (rr := rr) (A := A) (k := k) hx
        have L2 : SLG (u2 (flS (inS g S1 c tn mk sk rk w m E) n sk rr A) f_Md_used1 x 1) tn n := LGA.off (OFF.rf.u (L := [f_Md_used1]) (by decide)) (by decide) (by decide) (by decide)
        have s2 : slS (u2 (flS (inS g S1 c tn mk sk rk w m E) n sk rr A) f_Md_used1 x 1) tn x = sk + x := by rw [slS_off (OFF.rf.u (L := [f_Md_used1]) (by decide)) (by decide) (by decide)]; exact slA x hx
        have lt : ¬ (n : Int) ≤ (x : Int) := by omega
        have b1 : 0 ≤ (x : Int) ∧ (x : Int) < ((400 : Nat) : Int) := by omega
        have b2 : 0 ≤ ((rr + 1 + k : Nat) : Int) ∧ ((rr + 1 + k : Nat) : Int) < ((4200 : Nat) : Int) := by omega
        have b3 : 0 ≤ ((sk + x : Nat) : Int) ∧ ((sk + x : Nat) : Int) < ((60000 : Nat) : Int) := by omega
        have m1 : rr ≤ 2000000000 := by omega
        have m2 : rr + 1 + k ≤ 2000000000 := by omega
        have p1 := zp (rr + 1 + k)
        have p2 := zv (rr + 1 + k)
        generalize flS (inS g S1 c tn mk sk rk w m E) n sk rr A = S4 at *
        generalize inS g S1 c tn mk sk rk w m E = S5 at *
        have y1 : w32 ((rr : Int) + 1) = ((rr + 1 : Nat) : Int) := w32_p1 m1
        have y2 : w32 (((rr + 1 : Nat) : Int) + (k : Int)) = ((rr + 1 + k : Nat) : Int) := w32_aa m2
        have y3 : w32 ((k : Int) + 1) = ((k + 1 : Nat) : Int) := w32_p1 m3
        have ku : hK h0 (hR h0 f_Md_used1 T) = 4 := by simp (decide := true) (disch := first | decide | omega) only [KN G]
        have lu : hl h0 (hR h0 f_Md_used1 T) = 400 := by simp (decide := true) (disch := first | decide | omega) only [LN G]
        have eu : sA (cn h0 T S4) (hR h0 f_Md_used1 T) x 1 = cn h0 T (u2 S4 f_Md_used1 x 1) := cn_sA' G (by decide)
        refine b_Md_makes_201 ⟨fun c => absurd c lt, fun _ => ⟨⟨Or.inr ⟨ku, Or.inr rfl⟩, b1.1, by show (x : Int) < (hl h0 (hR h0 f_Md_used1 T) : Int); rw [lu]; exact b1.2⟩, ?_⟩⟩
        rw [Int.toNat_natCast, eu]
        refine ⟨kT, s_slotAt O L2 hx ⟨kT, ?_⟩⟩
        rw [s2]
        clear endN ih LG oF oI zf zu zp zv L2 LGA slA mkK fo L1 lok fl x0 f1 q t1 room no fnd
        simp (decide := true) (disch := first | decide | omega) only [cnI, cnR, cnK, cnl, cnA' G, cn_sA' G, kT, KN G, LN G, u2_f, z6, y1, y2, y3, p1, p2, u, Int.toNat_natCast, true_and, and_true]
        exact ⟨b2, b3, b2, b3, g1⟩
      -- the search
      have lp161 : ∀ m2 x, x + m2 = n → (∀ i, i < x → ¬ ((A i).isNone = true ∧ tyL g c i = parG g m k)) → wpB PGm ρ (d + 4) m_Md_makes 161 [(0, vR T), (1, vI (m : Int)), (3, vI (n : Int)), (4, vI (tn : Int)), (5, vR (hR h0 f_Md_used1 T)), (6, vI (k : Int)), (7, vI (parG g m k)), (8, vI (x : Int))] [] (cn h0 T (flS (inS g S1 c tn mk sk rk w m E) n sk rr A)) Q := fun m2 => by
        induction m2 with
        | zero =>
          intro x hx no
          have ex : x = n := by omega
          subst ex
          exact b_Md_makes_161 ⟨fun _ => endN no, fun c => absurd c (by omega)⟩
        | succ m2 ih2 =>
          intro x hx no
          have xn : x < n := by omega
          have g2 : ¬ ((A x).isNone = true ∧ tyL g c x = parG g m k) → wpB PGm ρ (d + 4) m_Md_makes 161 [(0, vR T), (1, vI (m : Int)), (3, vI (n : Int)), (4, vI (tn : Int)), (5, vR (hR h0 f_Md_used1 T)), (6, vI (k : Int)), (7, vI (parG g m k)), (8, vI ((x + 1 : Nat) : Int))] [] (cn h0 T (flS (inS g S1 c tn mk sk rk w m E) n sk rr A)) Q := fun z => ih2 (x + 1) (by omega) (fun i hi => by
            by_cases w : i = x
            · rw [w]; exact z
            · exact no i (by omega))
          have g3 := fun a1 a2 => endS x xn a1 a2 no
          obtain ⟨o1, o2⟩ := fo x xn
          obtain ⟨-, ⟨-, -, -, u8, -⟩, f4⟩ := K.mem o2
          have tA := tAH (S := flS (inS g S1 c tn mk sk rk w m E) n sk rr A) O a2
          have zx := zu x xn
          have zfx := zf x
          rw [o1] at zfx
          have t8 : tyL g c x = g.1 8 ((layG g c).getD x 0) := rfl
          rw [t8] at g2 g3
          generalize g.1 8 ((layG g c).getD x 0) = tv at *
          generalize (layG g c).getD x 0 = fx at *
          have lt : ¬ (n : Int) ≤ (x : Int) := by omega
          have b1 : 0 ≤ (x : Int) ∧ (x : Int) < ((400 : Nat) : Int) := by omega
          have m4 : x ≤ 2000000000 := by omega
          have z0 : ¬ flS (inS g S1 c tn mk sk rk w m E) n sk rr A f_Md_used1 x = 0 → ¬ (A x).isNone = true := fun z c => z (by rw [zx, if_pos c])
          have z1 : flS (inS g S1 c tn mk sk rk w m E) n sk rr A f_Md_used1 x = 0 → (A x).isNone = true := fun z => by
            by_cases c : (A x).isNone = true
            · exact c
            · rw [zx, if_neg c] at z; exact absurd z (by decide)
          have y1 : w32 ((x : Int) + 1) = ((x + 1 : Nat) : Int) := w32_p1 m4
          refine b_Md_makes_161 ⟨fun c => absurd c lt, fun _ => ?_⟩
          clear endN endS ih ih2 LG oF oI zf zu zp zv LGA slA mkK fo L1 lok fl x0 f1 q t1 room no g1 zx
          generalize flS (inS g S1 c tn mk sk rk w m E) n sk rr A = S4 at *
          simp (decide := true) (disch := first | decide | omega) only [cnI, cnR, cnK, cnl, cnA' G, kT, kk, KN G, LN G, tA, tK, tL, zfx, u8, y1, Int.toNat_natCast, true_and, and_true]
          exact ⟨b1, fun z => g2 (fun c => z0 z c.1), fun z => ⟨b1, f4, fun z2 => g3 (z1 z) z2, fun z2 => g2 (fun c => z2 c.2)⟩⟩
      have gl := lp161 n 0 (by omega) (fun i hi => absurd hi (by omega))
      have n1' : ¬ (E : Int) ≤ (k : Int) := by omega
      refine b_Md_makes_140 ⟨kT, ?_⟩
      rw [cnI (by decide), z5]
      exact ⟨fun c => absurd c n1', fun _ => s_parAt K hm (hp (by omega)) (by omega) gl⟩
  -- marks away
  have lp119 : ∀ mm j, j + mm = n → wpB PGm ρ (d + 4) m_Md_makes 119 [(0, vR T), (1, vI (m : Int)), (3, vI (n : Int)), (4, vI (tn : Int)), (5, vR (hR h0 f_Md_used1 T)), (6, vI (j : Int))] [] (cn h0 T (uzS (inS g S1 c tn mk sk rk w m E) j)) Q := fun mm => by
    induction mm with
    | zero =>
      intro j hj
      have ej : j = n := by omega
      subst ej
      rw [uzS_fl (sk := sk) (rr := rr)]
      exact b_Md_makes_119 ⟨fun _ => lp140 E 0 (by omega), fun c => absurd c (by omega)⟩
    | succ mm ih =>
      intro j hj
      have g1 := ih (j + 1) (by omega)
      have u := uzS_u (S := inS g S1 c tn mk sk rk w m E) (j := j)
      have lt : ¬ (n : Int) ≤ (j : Int) := by omega
      have b1 : 0 ≤ (j : Int) ∧ (j : Int) < ((400 : Nat) : Int) := by omega
      have m1 : j ≤ 2000000000 := by omega
      have ku : hK h0 (hR h0 f_Md_used1 T) = 4 := by simp (decide := true) (disch := first | decide | omega) only [KN G]
      have lu : hl h0 (hR h0 f_Md_used1 T) = 400 := by simp (decide := true) (disch := first | decide | omega) only [LN G]
      have eu : sA (cn h0 T (uzS (inS g S1 c tn mk sk rk w m E) j)) (hR h0 f_Md_used1 T) j 0 = cn h0 T (u2 (uzS (inS g S1 c tn mk sk rk w m E) j) f_Md_used1 j 0) := cn_sA' G (by decide)
      refine b_Md_makes_119 ⟨fun c => absurd c lt, fun _ => ⟨⟨Or.inr ⟨ku, Or.inl rfl⟩, b1.1, by show (j : Int) < (hl h0 (hR h0 f_Md_used1 T) : Int); rw [lu]; exact b1.2⟩, ?_⟩⟩
      rw [Int.toNat_natCast, eu, u, w32_p1 m1]
      exact g1
  -- first values
  have lp72 : ∀ mm j, j + mm = n → wpB PGm ρ (d + 4) m_Md_makes 72 [(0, vR T), (1, vI (m : Int)), (3, vI (n : Int)), (4, vI (tn : Int)), (5, vI (j : Int))] [] (cn h0 T (lsvS SN tn sk rk (fun i => firT (tyL g c i)) (fun _ => 0) j)) Q := fun mm => by
    induction mm with
    | zero =>
      intro j hj
      have ej : j = n := by omega
      rw [ej, ← eI]
      have g1 := lp119 n 0 (by omega)
      rw [uzS_0] at g1
      exact b_Md_makes_72 ⟨fun _ => ⟨kT, g1⟩, fun c => absurd c (by omega)⟩
    | succ mm ih =>
      intro j hj
      have jn : j < n := by omega
      have g1 := ih (j + 1) (by omega)
      obtain ⟨b1, b2, b3, b4, -⟩ := L1 j
      obtain ⟨o1, o2⟩ := fo j jn
      obtain ⟨-, ⟨-, -, -, u8, -⟩, f4⟩ := K.mem o2
      have tA := tAH (S := lsvS SN tn sk rk (fun i => firT (tyL g c i)) (fun _ => 0) j) O a2
      have zf : lsvS SN tn sk rk (fun i => firT (tyL g c i)) (fun _ => 0) j f_Md_fieldOf j = ((layG g c).getD j 0 : Int) := by rw [lsvS_off _ _ (by decide), oN _ _ (by decide)]; exact o1
      have lt : ¬ (n : Int) ≤ (j : Int) := by omega
      have b5 : 0 ≤ (j : Int) ∧ (j : Int) < ((400 : Nat) : Int) := by omega
      have m1 : j ≤ 2000000000 := by omega
      have gfa : wpB PGm ρ (d + 3) m_Md_firstType 0 [(0, vI (g.1 8 ((layG g c).getD j 0)))] [] (cn h0 T (lsvS SN tn sk rk (fun i => firT (tyL g c i)) (fun _ => 0) j)) (cI (fun x16 h11 => hK h11 T = k_Md ∧ wpB PGm ρ (d + 3) m_Md_addSlot 0 [(0, vR T), (1, vI (tn : Int)), (2, vI (-1)), (3, vI x16), (4, vL 0)] [] h11 (cV (fun h19 => wpB PGm ρ (d + 4) m_Md_makes 72 [(0, vR T), (1, vI (m : Int)), (3, vI (n : Int)), (4, vI (tn : Int)), (5, vI (w32 ((j : Int) + 1)))] [] h19 Q) (fun e22 h21 => hK h21 e22 ≠ 0 ∧ Q (Sum.inr e22) h21))) (fun e14 h13 => hK h13 e14 ≠ 0 ∧ Q (Sum.inr e14) h13)) := by
        refine s_first ⟨kT, s_addSlot (x := sk + (j - 1)) O b1 (by omega) b2 (by omega) tn8 b3 (by omega) (fun z => ⟨b4 z, by omega⟩) ?_⟩
        show wpB PGm ρ (d + 4) m_Md_makes 72 [(0, vR T), (1, vI (m : Int)), (3, vI (n : Int)), (4, vI (tn : Int)), (5, vI (w32 ((j : Int) + 1)))] [] (cn h0 T (lsvS SN tn sk rk (fun i => firT (tyL g c i)) (fun _ => 0) (j + 1))) Q
        rw [w32_p1 m1]; exact g1
      refine b_Md_makes_72 ⟨fun c => absurd c lt, fun _ => ?_⟩
      clear lp119 lp140 ih fo L1 lok fl x0 f1 q t1 room g1
      generalize g.1 8 ((layG g c).getD j 0) = tv at *
      generalize (layG g c).getD j 0 = fx at *
      generalize lsvS SN tn sk rk (fun i => firT (tyL g c i)) (fun _ => 0) j = S4 at *
      simp (decide := true) (disch := first | decide | omega) only [cnI, cnR, cnK, cnl, cnA' G, kT, kk, KN G, LN G, tA, tK, tL, zf, u8, Int.toNat_natCast, true_and, and_true]
      exact ⟨b5, f4, gfa⟩
  have g72 := lp72 n 0 (by omega)
  have g72' : wpB PGm ρ (d + 4) m_Md_makes 72 [(0, vR T), (1, vI (m : Int)), (3, vI (n : Int)), (4, vI (tn : Int)), (5, vI 0)] [] (cn h0 T SN) Q := g72
  have b1 : 0 ≤ (tn : Int) ∧ (tn : Int) < ((8000 : Nat) : Int) := by omega
  have kt : hK h0 (hR h0 f_Md_thingClass T) = 1 := by simp (decide := true) (disch := first | decide | omega) only [KN G]
  have lt : hl h0 (hR h0 f_Md_thingClass T) = 8000 := by simp (decide := true) (disch := first | decide | omega) only [LN G]
  have ee : sA (cn h0 T (nthS (trS S1 w (m : Int) (E : Int)) tn mk 7)) (hR h0 f_Md_thingClass T) tn (c : Int) = cn h0 T SN := by rw [← eN]; exact cn_sA' G (by decide)
  have oT' : OFF [f_Md_trace, f_Md_traced] S1 (trS S1 w (m : Int) (E : Int)) := by unfold trS; exact ((OFF.rf.u (by decide)).u (by decide)).u (by decide)
  refine b_Md_makes_45 ⟨kT, s_room (d := d + 2) O (fun _ => ⟨kT, s_traces (y := (E : Int)) O (by rw [x0 _ _ (by decide)]; exact e7) h7 (by rw [x0 _ _ (by decide)]; exact e5) ⟨kT, s_newThing (tn := tn) (mk := mk) O (by rw [oT' _ _ (by decide), x0 _ _ (by decide)]; exact e1) tn8 (by rw [oT' _ _ (by decide), x0 _ _ (by decide)]; exact e2) h2 ⟨kT, ⟨kt, b1.1, by show (tn : Int) < (hl h0 (hR h0 f_Md_thingClass T) : Int); rw [lt]; exact b1.2⟩, ?_⟩⟩⟩) (fun c => absurd c (by decide))⟩
  rw [Int.toNat_natCast]
  show wpB PGm ρ (d + 4) m_Md_makes 72 [(0, vR T), (1, vI (m : Int)), (3, vI (n : Int)), (4, vI (tn : Int)), (5, vI 0)] [] (sA (cn h0 T (nthS (trS S1 w (m : Int) (E : Int)) tn mk 7)) (hR h0 f_Md_thingClass T) tn (c : Int)) Q
  rw [ee]; exact g72'
end
