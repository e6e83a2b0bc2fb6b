/-! perform: an element of a list is set -/
set_option maxRecDepth 20000
section
variable {ρ : Nat → Nat} {d : Nat} {Q : QT} {Γ Γ' : GH} {h h' h1 h2 H : ah} {C ho k i j N M a z s r f o c t n mn m0 rr sk rk l cd nv np E va ma mk ck jm vs fm po fn pp tn wi sz pl l2 : Nat} {g : HG} {v w hd ty κ nm x y x1 nw ac p u ar lm l3 : Int} {S S' S1 : SS} {X X' X1 X2 : X3} {Y Y' Y1 Y2 : Y3} {b : Bool} {tg wd : Nat → Int} {L : List Nat} {fi ca m q : Int} {ws : List (List Int)} {l1 : List Int}
theorem r_row408 (I : IX h C X Y o n c) (hm : m0 + 2 < n) (hv : -128 ≤ X o f_Task_tags (m0 + 2) ∧ X o f_Task_tags (m0 + 2) ≤ 127) (q : pK Q (Sum.inl none) (cc h C (ansX X o m0 c (X o f_Task_tags (m0 + 2)) (X o f_Task_words (m0 + 2))) Y)) : wpB PGm ρ (d + 20) m_Machine_row 408 [(0, vR (C + 32)), (1, vI (m0 : Int))] [] (cc h C X Y) Q := by
  have G := I.1
  have F := I.2.1
  have ht := I.2.2.1
  have e1 : Y 32 f_Machine_t 0 = C + o := I.2.2.2.1.1
  have hn := I.2.2.2.2.1
  have r2 : hR (cc h C X Y) f_Machine_t (C + 32) = C + o := by rw [ccR (by decide)]; exact e1
  have t1 : hA (cc h C X Y) (hR (cc h C X Y) f_Task_tags (C + o)) (m0 + 2) = X o f_Task_tags (m0 + 2) := by rw [ccRo (by decide), ccAt G ht (by decide)]
  have t2 : hA (cc h C X Y) (hR (cc h C X Y) f_Task_words (C + o)) (m0 + 2) = X o f_Task_words (m0 + 2) := by rw [ccRo (by decide), ccAt G ht (by decide)]
  have ft := F.t ht
  unfold FCt at ft
  have b1 : 0 ≤ ((m0 + 2 : Nat) : Int) ∧ ((m0 + 2 : Nat) : Int) < ((2001 : Nat) : Int) := by omega
  have b3 : m0 + 2 ≤ 2000000000 := by omega
  have ga := r_answer (ρ := ρ) (d := d + 18) (Q := pK Q) G F ht e1 I.2.2.2.1.2.2 (n := m0) (by omega) ⟨I.2.2.2.2.2.1, I.2.2.2.2.2.2⟩ hv q
  have w1 : w32 ((m0 : Int) + 2) = ((m0 + 2 : Nat) : Int) := w32_aa b3
  refine b_Machine_row_408 (d := d + 19) ⟨F.1.1, ?_⟩
  rw [r2, w1, Int.toNat_natCast, t1, t2]
  refine ⟨ft.1, ⟨?_, b1.1, ?_⟩, ⟨?_, b1.1, ?_⟩, ga⟩
  · simp (decide := true) only [ccRo, ccK, KCt G ht]
  · rw [ccRo (by decide), ccl, ft.2.2.1]; exact b1.2
  · simp (decide := true) only [ccRo, ccK, KCt G ht]
  · rw [ccRo (by decide), ccl, ft.2.1]; exact b1.2
theorem pf_put (P : PFX Γ h C ho X Y S N t o n c r s a κ mn m0 rr) (hκ : κ = 3) (ea : X 53 f_Found_action 0 = 13) (f3 : S f_Md_foundLinker 0 = 3) (gt : S f_Md_pileType rr = 6) (gv : S f_Md_pileValue rr = (k : Int)) (ec : S f_Md_thingCount k = (sz : Int)) (hc : S f_Md_changes 0 + 1 ≤ 1000000) (q : PFR ρ g N M Γ h C ho X Y S s Q) : wpB PGm ρ (d + 20) m_Machine_row 0 [(0, vR (C + 32)), (1, vI (m0 : Int))] [] (cc h C X Y) (pK Q) := by
  have HC := P.1
  have G := HC.1.1
  have F := HC.1.2
  have I := P.2.1.ix
  have ht := I.2.2.1
  have e1 : Y 32 f_Machine_t 0 = C + o := I.2.2.2.1.1
  have hn := I.2.2.2.2.1
  have hm : m0 < n := P.2.2.1.2.2.2.2.1
  obtain ⟨tn, sn, sm', d1, d2, d5, d6', d3, d4, d6, d7, d8, U, m1, m2, m3, m4⟩ := HC.shp
  obtain ⟨o1, o2, o3, o4, o5, o6, o7, o8⟩ := P.lst gt gv
  have TH := (d7 k (by omega)).p
  have tbl := TH.2.1.2.2.2.2.1
  have tb2 := TH.2.1.2.1
  have sz6 : sz ≤ 60000 := by omega
  have eE : esK κ mn = 2 := by unfold esK; rw [if_neg (by omega), if_pos (by omega)]
  have hmn2 := P.2.2.2.2.1
  rw [eE] at hmn2
  have Z := P.rwq f3 gv (Or.inl ⟨gt, o2, ec⟩) (by omega)
  obtain ⟨cnt, Lg, ecg⟩ := SLG.co HC o1
  have ecn : cnt = sz := by omega
  subst ecn
  have V1 := P.pl (i := 1) (by rw [eE]; omega)
  have V2 := P.pl (i := 2) (by rw [eE]; omega)
  obtain ⟨n1, n2⟩ := V1.n2
  obtain ⟨mk, rk, -, -, -, sk, vk, -, gk, ⟨p1, p2, p3⟩, ⟨p4, p5, p6⟩, -, -, ⟨s1, -, s3⟩, -⟩ := HC.2.2.2.2.2.2.2.2.1
  have el : cnt ≠ 0 → S f_Md_thingLast k = (slS S k (cnt - 1) : Int) ∧ slS S k (cnt - 1) < 60000 := fun n0 => by
    have := (tbl (by omega)).2
    rw [ec, Int.toNat_natCast] at this
    exact ⟨this, Lg.2.2.2.2.1 (cnt - 1) (by omega)⟩
  have r0 : hR (cc h C X Y) f_Machine_found (C + 32) = C + 53 := by rw [ccRo (by decide)]; exact F.2.1.2.2.2.2.2.1
  have r1 : hI (cc h C X Y) f_Found_action (C + 53) = 13 := by rw [ccI (by decide)]; exact ea
  have r3 : hR (cc h C X Y) f_Machine_heap (C + 32) = C + 50 := by rw [ccRo (by decide)]; exact F.2.1.2.2.2.2.1
  have ra : hI (cc h C X Y) f_Heap_room (C + 50) = (rk : Int) := by rw [ccI (by decide)]; exact p4
  have e31 : sI (cc h C X Y) f_Heap_room (C + 50) ((rk + 1 : Nat) : Int) = cc h C (u3 X 50 f_Heap_room 0 ((rk + 1 : Nat) : Int)) Y := cc_sI (by decide)
  have r2 : ∀ {X : X3}, hR (cc h C X Y) f_Machine_t (C + 32) = C + o := by intro X; rw [ccR (by decide)]; exact e1
  have t1 : ∀ {X : X3} {i : Nat}, hA (cc h C X Y) (hR (cc h C X Y) f_Task_tags (C + o)) i = X o f_Task_tags i := by intro X i; rw [ccRo (by decide), ccAt G ht (by decide)]
  have t2 : ∀ {X : X3} {i : Nat}, hA (cc h C X Y) (hR (cc h C X Y) f_Task_words (C + o)) i = X o f_Task_words i := by intro X i; rw [ccRo (by decide), ccAt G ht (by decide)]
  have ft := F.t ht
  unfold FCt at ft
  have b1 : 0 ≤ ((m0 + 2 : Nat) : Int) ∧ ((m0 + 2 : Nat) : Int) < ((2001 : Nat) : Int) := by omega
  have bt : ∀ {X : X3}, (hK (cc h C X Y) (hR (cc h C X Y) f_Task_tags (C + o)) ∈ [3, 4, 13] ∧ 0 ≤ ((m0 + 2 : Nat) : Int) ∧ ((m0 + 2 : Nat) : Int) < (hl (cc h C X Y) (hR (cc h C X Y) f_Task_tags (C + o)) : Int)) ∧ (hK (cc h C X Y) (hR (cc h C X Y) f_Task_words (C + o)) ∈ [2] ∧ 0 ≤ ((m0 + 2 : Nat) : Int) ∧ ((m0 + 2 : Nat) : Int) < (hl (cc h C X Y) (hR (cc h C X Y) f_Task_words (C + o)) : Int)) := by
    intro X
    refine ⟨⟨?_, b1.1, ?_⟩, ⟨?_, b1.1, ?_⟩⟩
    · simp (decide := true) only [ccRo, ccK, KCt G ht]
    · rw [ccRo (by decide), ccl, ft.2.2.1]; exact b1.2
    · simp (decide := true) only [ccRo, ccK, KCt G ht]
    · rw [ccRo (by decide), ccl, ft.2.1]; exact b1.2
  have b3 : m0 ≤ 2000000000 := by omega
  have b6 : m0 + 2 ≤ 2000000000 := by omega
  have b5 : rk ≤ 2000000000 := by omega
  have bad : ¬ (X o f_Task_tags (m0 + 1) = 2 ∧ 0 ≤ X o f_Task_words (m0 + 1) ∧ X o f_Task_words (m0 + 1) ≤ (cnt : Int)) → hK (cc h C (erX X 6) Y) (C + 33) ≠ 0 ∧ pK Q (Sum.inr (C + 33)) (cc h C (erX X 6) Y) := fun w => by
    have T := TAC.put6 (ρ := ρ) (g := g) (N := N) (M := M) Z hκ eE gt (fun z => w ⟨n1.mpr z.1, by rw [n2 (n1.mpr z.1)]; omega, by rw [n2 (n1.mpr z.1)]; omega⟩)
    exact ⟨kSg F, (q.pk) (some 6) _ h _ Y T (P.err (by decide))⟩
  -- an element that is there
  have set : X o f_Task_tags (m0 + 1) = 2 → 0 ≤ X o f_Task_words (m0 + 1) → X o f_Task_words (m0 + 1) < (cnt : Int) → wpB PGm ρ (d + 19) m_Thing_set 0 [(0, vR (hB h (C + 51) k)), (1, vI (X o f_Task_words (m0 + 1))), (2, vI (X o f_Task_tags (m0 + 2))), (3, vL (X o f_Task_words (m0 + 2)))] [] (cc h C X Y) (cV (fun h110 => wpB PGm ρ (d + 20) m_Machine_row 408 [(0, vR (C + 32)), (1, vI (m0 : Int))] [] h110 (pK Q)) (fun e113 h112 => hK h112 e113 ≠ 0 ∧ pK Q (Sum.inr e113) h112)) := fun y1 y2 y3 => by
    obtain ⟨i, ei⟩ : ∃ i : Nat, X o f_Task_words (m0 + 1) = (i : Int) := ⟨(X o f_Task_words (m0 + 1)).toNat, by omega⟩
    rw [ei]
    have hi : (i : Int) < S f_Md_thingCount k := by omega
    refine r_slw HC o1 hi V2.tg ?_
    obtain ⟨⟨M1, K1⟩, g1, bd, fr⟩ := HC.slw (i := i) o1 hi V2
    have e0 : ∀ f i', [f_Md_slotType, f_Md_slotValue].elem f = false → slwS S k i (S f_Md_pileType (rr + 2)) (S f_Md_pileValue (rr + 2)) f i' = S f i' := fun f i' hf => slwS_o (by rintro rfl; exact absurd hf (by decide)) (by rintro rfl; exact absurd hf (by decide))
    have od : OFF [f_Md_slotType, f_Md_slotValue] S (slwS S k i (S f_Md_pileType (rr + 2)) (S f_Md_pileValue (rr + 2))) := e0
    have CT1 := K1 P.2.1.2.2.1
    have RL := P.ach M1 CT1 g1 (exs_of e0 (by decide)) (od.le (by decide)) (fun _ _ _ _ => rfl) fr (bd.le (by decide) (by decide)) (g1.vr V2)
    have T := TAC.putS (ρ := ρ) (g := g) (N := N) (M := M) Z hκ eE gt (n1.mp y1) (by rw [← n2 y1]; exact ei) (by omega) Lg P.2.2.1
    have gq := (q.pk) none _ _ _ Y T RL
    exact r_row408 (d := d) (P.2.1.mv M1 CT1 (exs_of e0 (by decide))).ix (by omega) V2.tg gq
  -- one more
  have full : X o f_Task_tags (m0 + 1) = 2 → X o f_Task_words (m0 + 1) = (cnt : Int) → ¬ (mk + 0 ≤ 8000 ∧ rk + 1 ≤ 60000) → hK (cc h C (erX X 0) Y) (C + 33) ≠ 0 ∧ pK Q (Sum.inr (C + 33)) (cc h C (erX X 0) Y) := fun y1 y2 w => ⟨kSg F, (q.pk) (some 0) _ h _ Y (TAC.putF (ρ := ρ) (g := g) (N := N) (M := M) Z hκ eE gt (n1.mp y1) (by rw [← n2 y1]; exact y2) p5 (by omega)) P.full⟩
  have add : X o f_Task_tags (m0 + 1) = 2 → X o f_Task_words (m0 + 1) = (cnt : Int) → rk + 1 ≤ 60000 → wpB PGm ρ (d + 19) m_Thing_add 0 [(0, vR (hB h (C + 51) k)), (1, vI (X o f_Task_tags (m0 + 2))), (2, vL (X o f_Task_words (m0 + 2)))] [] (cc h C (u3 X 50 f_Heap_room 0 ((rk + 1 : Nat) : Int)) Y) (cV (fun h7 => wpB PGm ρ (d + 20) m_Machine_row 408 [(0, vR (C + 32)), (1, vI (m0 : Int))] [] h7 (pK Q)) (fun e10 h9 => hK h9 e10 ≠ 0 ∧ pK Q (Sum.inr e10) h9)) := fun y1 y2 z => by
    refine r_addr (d := d + 9) HC o1 o3 ec s1 p5 (by omega) hc V2 (fun h3 z9 s9 A => ?_)
    have T := TAC.putA (ρ := ρ) (g := g) (N := N) (M := M) Z hκ eE gt (n1.mp y1) (by rw [← n2 y1]; exact y2) p5 (by omega) s1 (by omega) sz6 el P.2.2.1
    have xt : u3 X 50 f_Heap_room 0 ((rk + 1 : Nat) : Int) o f_Task_tags (m0 + 2) = X o f_Task_tags (m0 + 2) := u3_f (by decide)
    have xw : u3 X 50 f_Heap_room 0 ((rk + 1 : Nat) : Int) o f_Task_words (m0 + 2) = X o f_Task_words (m0 + 2) := u3_f (by decide)
    obtain ⟨RL, I1⟩ := P.adl A (A.2.1.vr V2)
    have gq := (q.pk) none _ _ _ Y T RL
    refine r_row408 (d := d) I1 (by omega) (by rw [xt]; exact V2.tg) ?_
    rw [xt, xw]
    exact gq
  have hp : m0 + 1 < n := by omega
  have lm : (cnt : Int) < 2147483648 := by omega
  have lt3 : ∀ {u : Int}, u ≤ (cnt : Int) → ¬ u = (cnt : Int) → u < (cnt : Int) := fun h1 h2 => by omega
  have w1 : w32 ((m0 : Int) + 1) = ((m0 + 1 : Nat) : Int) := w32_p1 b3
  have w4 : w32 ((m0 : Int) + 2) = ((m0 + 2 : Nat) : Int) := w32_aa b6
  have w2 : w32 ((rk : Int) + 1) = ((rk + 1 : Nat) : Int) := w32_p1 b5
  refine r_rowL (d := d) P gt gv ec (b_Machine_row_81 (d := d + 19) ⟨F.1.1, ?_⟩)
  rw [r0, r1, w1]
  refine ⟨F.1.2.2.2.2.2.2.1, fun z => absurd z (by decide), fun _ => ⟨fun z => absurd z (by decide), fun _ => ⟨fun z => absurd z (by decide), fun _ => ⟨fun z => absurd z (by decide), fun _ => ⟨fun _ => ?_, fun z => absurd rfl z⟩⟩⟩⟩⟩
  refine r_idx (d := d + 18) G F I hp lm (fun y1 y2 y3 => ?_) bad
  refine ⟨fun z => ⟨F.1.1, ?_⟩, fun z => ⟨F.1.1, ?_⟩⟩
  · rw [r2, w4, Int.toNat_natCast, t1, t2]
    exact ⟨ft.1, bt.1, bt.2, o6, set y1 y2 (lt3 y3 z)⟩
  · rw [r3]
    refine ⟨F.1.2.2.2.2.2.1, r_want (d := d + 17) (a := 0) (b := 1) (mk := mk) (rm := rk) G F p1 p4 p3 p6 (by decide) (by decide) (fun _ zz => ⟨F.1.1, ?_⟩) (full y1 z)⟩
    rw [r3, ra, w2]
    refine ⟨F.1.2.2.2.2.2.1, ?_⟩
    show wpB PGm ρ (d + 20) m_Machine_row 351 _ [] (sI (cc h C X Y) f_Heap_room (C + 50) ((rk + 1 : Nat) : Int)) _
    rw [e31]
    refine b_Machine_row_351 (d := d + 19) ⟨F.1.1, ?_⟩
    rw [r2, w4, Int.toNat_natCast, t1, t2, u3_f (show f_Task_tags ≠ f_Heap_room by decide), u3_f (show f_Task_words ≠ f_Heap_room by decide)]
    exact ⟨ft.1, bt.1, bt.2, o6, add y1 z zz⟩
end
