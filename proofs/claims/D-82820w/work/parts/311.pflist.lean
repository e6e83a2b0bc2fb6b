/-! perform: at, push, pop of lists -/
set_option maxRecDepth 20000
section
variable {ρ : Nat → Nat} {d : Nat} {Q : QT} {Γ Γ' : GH} {h h' h1 h2 H : ah} {C ho k i j N M a z s r f o c t n mn m0 rr sk rk l cd nv np E va ma mk ck jm vs fm po fn pp tn wi sz pl l2 : Nat} {g : HG} {v w hd ty κ nm x y x1 nw ac p u ar lm l3 : Int} {S S' S1 : SS} {X X' X1 X2 : X3} {Y Y' Y1 Y2 : Y3} {b : Bool} {tg wd : Nat → Int} {L : List Nat} {fi ca m q : Int} {ws : List (List Int)} {l1 : List Int}
/-- a number on the pile, for both -/
theorem VR.n2 (V : VR Γ S N x y ty v) : (x = 2 ↔ ty = 2) ∧ (x = 2 → y = v) := by
  refine ⟨by rw [V.1], fun e => ?_⟩
  rw [V.2.1]; unfold cw; rw [if_neg (by rw [← V.1, e]; decide)]
theorem pf_atL (P : PFX Γ h C ho X Y S N t o n c r s a κ mn m0 rr) (hκ : κ = 2) (ea : X 53 f_Found_action 0 = 12) (f3 : S f_Md_foundLinker 0 = 3) (gt : S f_Md_pileType rr = 6) (gv : S f_Md_pileValue rr = (k : Int)) (ec : S f_Md_thingCount k = (sz : Int)) (q : PFR ρ g N M Γ h C ho X Y S s Q) : wpB PGm ρ (d + 20) m_Machine_row 0 [(0, vR (C + 32)), (1, vI (m0 : Int))] [] (cc h C X Y) (pK Q) := by
  have HC := P.1
  have G := HC.1.1
  have F := HC.1.2
  have I := P.2.1.ix
  have hn := I.2.2.2.2.1
  have hm : m0 < n := P.2.2.1.2.2.2.2.1
  obtain ⟨tn, sn, sm', d1, d2, d5, d6', d3, d4, d6, d7, d8, U, m1, m2, m3, m4⟩ := HC.shp
  obtain ⟨o1, o2, o3, o4, o5, o6, o7, o8⟩ := P.lst gt gv
  have TH := (d7 k (by omega)).p
  obtain ⟨tb1, tb2, ⟨tb3, tb4, tb5, tb6, tb7, tb8, tb9⟩, tb10, -⟩ := TH.2.1
  have sz6 : sz ≤ 60000 := by omega
  have eE : esK κ mn = 1 := by unfold esK; rw [if_neg (by omega), if_neg (by omega), if_pos (by omega)]
  have hmn := P.2.2.2.2.1
  rw [eE] at hmn
  have Z := P.rwq f3 gv (Or.inl ⟨gt, o2, ec⟩) (by omega)
  have V1 := P.pl (i := 1) (by rw [eE]; omega)
  obtain ⟨n1, n2⟩ := V1.n2
  obtain ⟨cnt, Lg, ecg⟩ := SLG.co HC o1
  have ecn : cnt = sz := by omega
  subst ecn
  have r0 : hR (cc h C X Y) f_Machine_found (C + 32) = C + 53 := by rw [ccRo (by decide)]; exact F.2.1.2.2.2.2.2.1
  have r1 : hI (cc h C X Y) f_Found_action (C + 53) = 12 := by rw [ccI (by decide)]; exact ea
  have b3 : m0 ≤ 2000000000 := by omega
  have lm : (cnt : Int) - 1 < 2147483648 := by omega
  have hp : m0 + 1 < n := by omega
  have k4 : hK h (hB h (C + 51) k) ∈ [244, 245, 246, 249] := by rw [o6]; decide
  have x1 : hR (cc h C X Y) f_Thing_tags (hB h (C + 51) k) = hR h f_Thing_tags (hB h (C + 51) k) := ccRo (by decide)
  have x2 : hR (cc h C X Y) f_Thing_words (hB h (C + 51) k) = hR h f_Thing_words (hB h (C + 51) k) := ccRo (by decide)
  have good : X o f_Task_tags (m0 + 1) = 2 → 0 ≤ X o f_Task_words (m0 + 1) → X o f_Task_words (m0 + 1) ≤ (cnt : Int) - 1 → (hK (cc h C X Y) (hB h (C + 51) k) ∈ [244, 245, 246, 249] ∧ (hK (cc h C X Y) (hR (cc h C X Y) f_Thing_tags (hB h (C + 51) k)) ∈ [3, 4, 13] ∧ 0 ≤ X o f_Task_words (m0 + 1) ∧ X o f_Task_words (m0 + 1) < (hl (cc h C X Y) (hR (cc h C X Y) f_Thing_tags (hB h (C + 51) k)) : Int)) ∧ (hK (cc h C X Y) (hR (cc h C X Y) f_Thing_words (hB h (C + 51) k)) ∈ [2] ∧ 0 ≤ X o f_Task_words (m0 + 1) ∧ X o f_Task_words (m0 + 1) < (hl (cc h C X Y) (hR (cc h C X Y) f_Thing_words (hB h (C + 51) k)) : Int)) ∧ hK (cc h C X Y) (C + 32) = k_Machine ∧ wpB PGm ρ (d + 19) m_Machine_answer 0 [(0, vR (C + 32)), (1, vI (m0 : Int)), (2, vI (hA (cc h C X Y) (hR (cc h C X Y) f_Thing_tags (hB h (C + 51) k)) (X o f_Task_words (m0 + 1)).toNat)), (3, vL (hA (cc h C X Y) (hR (cc h C X Y) f_Thing_words (hB h (C + 51) k)) (X o f_Task_words (m0 + 1)).toNat))] [] (cc h C X Y) (cV (fun h83 => pK Q (Sum.inl none) h83) (fun e86 h85 => hK h85 e86 ≠ 0 ∧ pK Q (Sum.inr e86) h85))) := fun y1 y2 y3 => by
    obtain ⟨i, ei⟩ : ∃ i : Nat, X o f_Task_words (m0 + 1) = (i : Int) := ⟨(X o f_Task_words (m0 + 1)).toNat, by omega⟩
    have hi : i < cnt := by omega
    have VV := (tb10 i (by omega)).2
    have a1 : hA (cc h C X Y) (hR h f_Thing_tags (hB h (C + 51) k)) i = hA h (hR h f_Thing_tags (hB h (C + 51) k)) i := ccAo G (by decide) o8
    have a2 : hA (cc h C X Y) (hR h f_Thing_words (hB h (C + 51) k)) i = hA h (hR h f_Thing_words (hB h (C + 51) k)) i := ccAo G (by decide) o8
    have T := TAC.atL (ρ := ρ) (g := g) (N := N) (M := M) Z hκ eE gt (n1.mp y1) (by rw [← n2 y1]; exact ei) hi Lg P.2.2.1
    have g1 := (q.pk) none _ h _ Y T (P.ans VV)
    rw [x1, x2, ei, Int.toNat_natCast, a1, a2]
    refine ⟨k4, ⟨by rw [ccK, tb6]; decide, by omega, by rw [ccl, tb7]; omega⟩, ⟨by rw [ccK, tb4]; decide, by omega, by rw [ccl]; omega⟩, F.1.1, ?_⟩
    exact r_answer (d := d + 18) G F I.2.2.1 I.2.2.2.1.1 I.2.2.2.1.2.2 (n := m0) (by omega) ⟨I.2.2.2.2.2.1, I.2.2.2.2.2.2⟩ VV.tg g1
  have bad : ¬ (X o f_Task_tags (m0 + 1) = 2 ∧ 0 ≤ X o f_Task_words (m0 + 1) ∧ X o f_Task_words (m0 + 1) ≤ (cnt : Int) - 1) → hK (cc h C (erX X 6) Y) (C + 33) ≠ 0 ∧ pK Q (Sum.inr (C + 33)) (cc h C (erX X 6) Y) := fun w => by
    have T := TAC.at6 (ρ := ρ) (g := g) (N := N) (M := M) Z hκ eE (fun z => w ⟨n1.mpr z.1, by rw [n2 (n1.mpr z.1)]; omega, by rw [n2 (n1.mpr z.1)]; omega⟩)
    exact ⟨kSg F, (q.pk) (some 6) _ h _ Y T (P.err (by decide))⟩
  have w1 : w32 ((m0 : Int) + 1) = ((m0 + 1 : Nat) : Int) := w32_p1 b3
  have w2 : w32 ((cnt : Int) - 1) = (cnt : Int) - 1 := w32_of (by omega) (by omega)
  refine r_rowL (d := d) P gt gv ec (b_Machine_row_81 (d := d + 19) ⟨F.1.1, ?_⟩)
  rw [r0, r1, w1, w2]
  refine ⟨F.1.2.2.2.2.2.2.1, fun z => absurd z (by decide), fun _ => ⟨fun z => absurd z (by decide), fun _ => ⟨fun z => absurd z (by decide), fun _ => ⟨fun _ => ?_, fun z => absurd rfl z⟩⟩⟩⟩
  refine r_idx (d := d + 18) G F I hp lm (fun y1 y2 y3 => ?_) bad
  exact ⟨fun z => absurd z o7, fun _ => good y1 y2 y3⟩
theorem pf_pop (P : PFX Γ h C ho X Y S N t o n c r s a κ mn m0 rr) (hκ : κ = 5) (hmn : ¬ mn = 1) (ea : X 53 f_Found_action 0 = 11) (f3 : S f_Md_foundLinker 0 = 3) (gt : S f_Md_pileType rr = 6) (gv : S f_Md_pileValue rr = (k : Int)) (ec : S f_Md_thingCount k = (sz : Int)) (q : PFR ρ g N M Γ h C ho X Y S s Q) : wpB PGm ρ (d + 20) m_Machine_row 0 [(0, vR (C + 32)), (1, vI (m0 : Int))] [] (cc h C X Y) (pK Q) := by
  have HC := P.1
  have G := HC.1.1
  have F := HC.1.2
  have I := P.2.1.ix
  have hn := I.2.2.2.2.1
  have hm : m0 < n := P.2.2.1.2.2.2.2.1
  obtain ⟨tn, sn, sm', d1, d2, d5, d6', d3, d4, d6, d7, d8, U, m1, m2, m3, m4⟩ := HC.shp
  obtain ⟨o1, o2, o3, o4, o5, o6, o7, o8⟩ := P.lst gt gv
  have TH := (d7 k (by omega)).p
  obtain ⟨tb1, tb2, ⟨tb3, tb4, tb5, tb6, tb7, tb8, tb9⟩, tb10, -⟩ := TH.2.1
  have sz6 : sz ≤ 60000 := by omega
  have Z := P.rwq f3 gv (Or.inl ⟨gt, o2, ec⟩) (by omega)
  obtain ⟨cnt, Lg, ecg⟩ := SLG.co HC o1
  have ecn : cnt = sz := by omega
  subst ecn
  have un : ∀ a b, a < cnt → b < cnt → slS S k a = slS S k b → a = b := by
    obtain ⟨tn9, sn9, z1, z2, z3, z4, z5, z6, z7, z8, z9, z10, z11⟩ := HC.2.2.2.2.2.2.2.2.2.1
    exact fun a b ha hb e => (z10 k a k b (by omega) (by omega) (by omega) (by omega) e).2
  have r0 : hR (cc h C X Y) f_Machine_found (C + 32) = C + 53 := by rw [ccRo (by decide)]; exact F.2.1.2.2.2.2.2.1
  have r1 : hI (cc h C X Y) f_Found_action (C + 53) = 11 := by rw [ccI (by decide)]; exact ea
  have k4 : hK h (hB h (C + 51) k) ∈ [244, 245, 246, 249] := by rw [o6]; decide
  have lo : ((cnt : Int) ≤ 0 → wpB PGm ρ (d + 20) m_Machine_row 213 [(0, vR (C + 32)), (1, vI (m0 : Int)), (2, vR (hB h (C + 51) k)), (4, vI (cnt : Int))] [] (cc h C X Y) (pK Q)) := fun z => by
    have c0 : cnt = 0 := by omega
    have z0 : (cnt : Int) = 0 := by omega
    have T := TAC.pop0 (ρ := ρ) (g := g) (N := N) (M := M) Z hκ gt hmn c0 P.2.2.1
    have g1 := (q.pk) none _ h _ Y T (P.ans (VR.nil trivial))
    refine b_Machine_row_213 ⟨fun w => absurd z0 w, fun _ => b_Machine_row_233 ⟨fun w => absurd z0 w, fun _ => b_Machine_row_251 (d := d + 19) ⟨F.1.1, ?_⟩⟩⟩
    exact r_answer (d := d + 18) G F I.2.2.1 I.2.2.2.1.1 I.2.2.2.1.2.2 (n := m0) (by omega) ⟨I.2.2.2.2.2.1, I.2.2.2.2.2.2⟩ (by decide) g1
  have hi' : (0 < (cnt : Int) → wpB PGm ρ (d + 20) m_Machine_row 203 [(0, vR (C + 32)), (1, vI (m0 : Int)), (2, vR (hB h (C + 51) k)), (4, vI (cnt : Int))] [] (cc h C X Y) (pK Q)) := fun z => by
    have c0 : 0 < cnt := by omega
    have z0 : ¬ (cnt : Int) = 0 := by omega
    obtain ⟨⟨M1, K1⟩, g1, bd, fr⟩ := HC.pop o1 o3 ec c0
    have T := TAC.pop (ρ := ρ) (g := g) (N := N) (M := M) Z hκ gt hmn c0 Lg un P.2.2.1
    have od : OFF [f_Md_thingFirst, f_Md_slotNext, f_Md_thingCount, f_Md_thingLast] S (drS S k (cnt - 1) cnt) := fun f i hf => drS_o hf
    have VV := (tb10 (cnt - 1) (by omega)).2
    have e0 := od.ex (L' := LTK ++ [f_Md_t, f_Md_p0, f_Md_f0, f_Md_top, f_Md_after, f_Md_codeSize]) (by decide)
    have CT1 := K1 P.2.1.2.2.1
    have RL := P.ach M1 CT1 g1 e0 (od.le (by decide)) (fun _ _ _ _ => rfl) fr (bd.le (by decide) (by decide)) (g1.vr VV)
    have gq := (q.pk) none _ _ _ Y T RL
    have I1 := (P.2.1.mv M1 CT1 e0).ix
    have G1 := M1.1.1
    have F1 := M1.1.2
    have ga := r_answer (ρ := ρ) (d := d + 18) (Q := pK (pK Q)) G1 F1 I1.2.2.1 I1.2.2.2.1.1 I1.2.2.2.1.2.2 (n := m0) (by omega) ⟨I1.2.2.2.2.2.1, I1.2.2.2.2.2.2⟩ VV.tg gq
    have o8' : hB h (C + 51) k < hz (sI h f_Thing_size (hB h (C + 51) k) ((cnt - 1 : Nat) : Int)) := o8
    have x1 : hR (cc (sI h f_Thing_size (hB h (C + 51) k) ((cnt - 1 : Nat) : Int)) C X Y) f_Thing_tags (hB h (C + 51) k) = hR h f_Thing_tags (hB h (C + 51) k) := ccRo (by decide)
    have x2 : hR (cc (sI h f_Thing_size (hB h (C + 51) k) ((cnt - 1 : Nat) : Int)) C X Y) f_Thing_words (hB h (C + 51) k) = hR h f_Thing_words (hB h (C + 51) k) := ccRo (by decide)
    have a1 : hA (cc (sI h f_Thing_size (hB h (C + 51) k) ((cnt - 1 : Nat) : Int)) C X Y) (hR h f_Thing_tags (hB h (C + 51) k)) (cnt - 1) = hA h (hR h f_Thing_tags (hB h (C + 51) k)) (cnt - 1) := ccAo (h := sI h f_Thing_size (hB h (C + 51) k) ((cnt - 1 : Nat) : Int)) G1 (by decide) o8'
    have a2 : hA (cc (sI h f_Thing_size (hB h (C + 51) k) ((cnt - 1 : Nat) : Int)) C X Y) (hR h f_Thing_words (hB h (C + 51) k)) (cnt - 1) = hA h (hR h f_Thing_words (hB h (C + 51) k)) (cnt - 1) := ccAo (h := sI h f_Thing_size (hB h (C + 51) k) ((cnt - 1 : Nat) : Int)) G1 (by decide) o8'
    have xs : hI (cc h C X Y) f_Thing_size (hB h (C + 51) k) = (cnt : Int) := by rw [ccIo (by decide), tb1]; exact ec
    have es : ∀ {u : Int}, sI (cc h C X Y) f_Thing_size (hB h (C + 51) k) u = cc (sI h f_Thing_size (hB h (C + 51) k) u) C X Y := cc_sIo (by decide)
    have b2 : 0 ≤ ((cnt - 1 : Nat) : Int) ∧ ((cnt - 1 : Nat) : Int) < (hl h (hR h f_Thing_words (hB h (C + 51) k)) : Int) := by omega
    have b1 : 1 ≤ cnt ∧ cnt ≤ 2000000000 := by omega
    have w2 : w32 ((cnt : Int) - 1) = ((cnt - 1 : Nat) : Int) := w32_m1 b1
    refine b_Machine_row_203 ⟨k4, ?_⟩
    rw [xs, w2, es]
    refine b_Machine_row_213 ⟨fun _ => ⟨k4, ?_⟩, fun w => absurd w z0⟩
    rw [w2, x1, Int.toNat_natCast, a1]
    refine ⟨⟨by show hK h _ ∈ _; rw [tb6]; decide, b2.1, by show _ < (hl h _ : Int); rw [tb7]; exact b2.2⟩, b_Machine_row_233 ⟨fun _ => ⟨k4, ?_⟩, fun w => absurd w z0⟩⟩
    rw [w2, x2, Int.toNat_natCast, a2]
    exact ⟨⟨by show hK h _ ∈ _; rw [tb4]; decide, b2.1, b2.2⟩, b_Machine_row_251 (d := d + 19) ⟨F1.1.1, ga⟩⟩
  refine r_rowL (d := d) P gt gv ec (b_Machine_row_81 (d := d + 19) ⟨F.1.1, ?_⟩)
  rw [r0, r1]
  exact ⟨F.1.2.2.2.2.2.2.1, fun z => absurd z (by decide), fun _ => ⟨fun z => absurd z (by decide), fun _ => ⟨fun _ => ⟨lo, hi'⟩, fun z => absurd rfl z⟩⟩⟩
/-- what a value that joins a list brings about -/
theorem PFX.adl (P : PFX Γ h C ho X Y S N t o n c r s a κ mn m0 rr) (A : (CORE Γ h1 C ho (u3 X 50 f_Heap_room 0 ((rk + 1 : Nat) : Int)) Y (adsS S k sk rk sz (-1) ty v) N ∧ ∀ {t o n' c r' : Nat}, CT Γ h C X Y S N t o n' c r' → CT Γ h1 C (u3 X 50 f_Heap_room 0 ((rk + 1 : Nat) : Int)) Y (adsS S k sk rk sz (-1) ty v) N t o n' c r') ∧ GRO Γ Γ h h1 C S (adsS S k sk rk sz (-1) ty v) ∧ BND h C S h1 (adsS S k sk rk sz (-1) ty v) 1 0 ∧ Fr LHc [] z j h h1) (V : VR Γ (adsS S k sk rk sz (-1) ty v) N x y x1 w) : RLC Γ h C ho X Y S N none (gvS (adsS S k sk rk sz (-1) ty v) t m0 c (psS S t (c - 1)) x1 w) h1 (ansX (u3 X 50 f_Heap_room 0 ((rk + 1 : Nat) : Int)) o m0 c x y) Y ∧ IX h1 C (u3 X 50 f_Heap_room 0 ((rk + 1 : Nat) : Int)) Y o n c := by
  obtain ⟨⟨M1, K1⟩, g1, bd, fr⟩ := A
  have od : OFF LAS S (adsS S k sk rk sz (-1) ty v) := adsS_off'
  have e0 := od.ex (L' := LTK ++ [f_Md_t, f_Md_p0, f_Md_f0, f_Md_top, f_Md_after, f_Md_codeSize]) (by decide)
  have CT1 := K1 P.2.1.2.2.1
  exact ⟨P.ach M1 CT1 g1 e0 (od.le (by decide)) (fun o f i hf => u3_f (by rintro rfl; exact absurd hf (by decide))) fr (bd.le (by decide) (by decide)) V, (P.2.1.mv M1 CT1 e0).ix⟩
theorem pf_push (P : PFX Γ h C ho X Y S N t o n c r s a κ mn m0 rr) (hκ : κ = 5) (hmn : mn = 1) (ea : X 53 f_Found_action 0 = 10) (f3 : S f_Md_foundLinker 0 = 3) (gt : S f_Md_pileType rr = 6) (gv : S f_Md_pileValue rr = (k : Int)) (ec : S f_Md_thingCount k = (sz : Int)) (hc : S f_Md_changes 0 + 1 ≤ 1000000) (q : PFR ρ g N M Γ h C ho X Y S s Q) : wpB PGm ρ (d + 20) m_Machine_row 0 [(0, vR (C + 32)), (1, vI (m0 : Int))] [] (cc h C X Y) (pK Q) := by
  have HC := P.1
  have G := HC.1.1
  have F := HC.1.2
  have I := P.2.1.ix
  have ht := I.2.2.1
  have e1 : Y 32 f_Machine_t 0 = C + o := I.2.2.2.1.1
  have hn := I.2.2.2.2.1
  have hm : m0 < n := P.2.2.1.2.2.2.2.1
  obtain ⟨tn, sn, sm', d1, d2, d5, d6', d3, d4, d6, d7, d8, U, m1, m2, m3, m4⟩ := HC.shp
  obtain ⟨o1, o2, o3, o4, o5, o6, o7, o8⟩ := P.lst gt gv
  have TH := (d7 k (by omega)).p
  have tbl := TH.2.1.2.2.2.2.1
  have tb2 := TH.2.1.2.1
  have sz6 : sz ≤ 60000 := by omega
  have eE : esK κ mn = 1 := by unfold esK; rw [if_neg (by omega), if_neg (by omega), if_neg (by omega)]; exact hmn
  have hmn2 := P.2.2.2.2.1
  rw [eE] at hmn2
  have Z := P.rwq f3 gv (Or.inl ⟨gt, o2, ec⟩) (by omega)
  obtain ⟨cnt, Lg, ecg⟩ := SLG.co HC o1
  have ecn : cnt = sz := by omega
  subst ecn
  have V1 := P.pl (i := 1) (by rw [eE]; omega)
  obtain ⟨mk, rk, -, -, -, sk, vk, -, gk, ⟨p1, p2, p3⟩, ⟨p4, p5, p6⟩, -, -, ⟨s1, -, s3⟩, -⟩ := HC.2.2.2.2.2.2.2.2.1
  have el : cnt ≠ 0 → S f_Md_thingLast k = (slS S k (cnt - 1) : Int) ∧ slS S k (cnt - 1) < 60000 := fun n0 => by
    have := (tbl (by omega)).2
    rw [ec, Int.toNat_natCast] at this
    exact ⟨this, Lg.2.2.2.2.1 (cnt - 1) (by omega)⟩
  have r0 : hR (cc h C X Y) f_Machine_found (C + 32) = C + 53 := by rw [ccRo (by decide)]; exact F.2.1.2.2.2.2.2.1
  have r1 : hI (cc h C X Y) f_Found_action (C + 53) = 10 := by rw [ccI (by decide)]; exact ea
  have r3 : hR (cc h C X Y) f_Machine_heap (C + 32) = C + 50 := by rw [ccRo (by decide)]; exact F.2.1.2.2.2.2.1
  have ra : hI (cc h C X Y) f_Heap_room (C + 50) = (rk : Int) := by rw [ccI (by decide)]; exact p4
  have e31 : sI (cc h C X Y) f_Heap_room (C + 50) ((rk + 1 : Nat) : Int) = cc h C (u3 X 50 f_Heap_room 0 ((rk + 1 : Nat) : Int)) Y := cc_sI (by decide)
  have r2 : ∀ {X : X3}, hR (cc h C X Y) f_Machine_t (C + 32) = C + o := by intro X; rw [ccR (by decide)]; exact e1
  have t1 : hA (cc h C (u3 X 50 f_Heap_room 0 ((rk + 1 : Nat) : Int)) Y) (hR (cc h C (u3 X 50 f_Heap_room 0 ((rk + 1 : Nat) : Int)) Y) f_Task_tags (C + o)) (m0 + 1) = X o f_Task_tags (m0 + 1) := by rw [ccRo (by decide), ccAt G ht (by decide), u3_f (by decide)]
  have t2 : hA (cc h C (u3 X 50 f_Heap_room 0 ((rk + 1 : Nat) : Int)) Y) (hR (cc h C (u3 X 50 f_Heap_room 0 ((rk + 1 : Nat) : Int)) Y) f_Task_words (C + o)) (m0 + 1) = X o f_Task_words (m0 + 1) := by rw [ccRo (by decide), ccAt G ht (by decide), u3_f (by decide)]
  have ft := F.t ht
  unfold FCt at ft
  have b1 : 0 ≤ ((m0 + 1 : Nat) : Int) ∧ ((m0 + 1 : Nat) : Int) < ((2001 : Nat) : Int) := by omega
  have b3 : m0 ≤ 2000000000 := by omega
  have b4 : cnt ≤ 2000000000 := by omega
  have b5 : rk ≤ 2000000000 := by omega
  have full : ¬ (mk + 0 ≤ 8000 ∧ rk + 1 ≤ 60000) → hK (cc h C (erX X 0) Y) (C + 33) ≠ 0 ∧ pK Q (Sum.inr (C + 33)) (cc h C (erX X 0) Y) := fun w => ⟨kSg F, (q.pk) (some 0) _ h _ Y (TAC.pushF (ρ := ρ) (g := g) (N := N) (M := M) Z hκ gt hmn p5 (by omega)) P.full⟩
  have w3 : w32 ((cnt : Int) + 1) = ((cnt + 1 : Nat) : Int) := w32_p1 b4
  have add : rk + 1 ≤ 60000 → wpB PGm ρ (d + 19) m_Thing_add 0 [(0, vR (hB h (C + 51) k)), (1, vI (X o f_Task_tags (m0 + 1))), (2, vL (X o f_Task_words (m0 + 1)))] [] (cc h C (u3 X 50 f_Heap_room 0 ((rk + 1 : Nat) : Int)) Y) (cV (fun h36 => hK h36 (C + 32) = k_Machine ∧ wpB PGm ρ (d + 19) m_Machine_answer 0 [(0, vR (C + 32)), (1, vI (m0 : Int)), (2, vI 2), (3, vL (w32 ((cnt : Int) + 1)))] [] h36 (cV (fun h43 => pK Q (Sum.inl none) h43) (fun e46 h45 => hK h45 e46 ≠ 0 ∧ pK Q (Sum.inr e46) h45))) (fun e39 h38 => hK h38 e39 ≠ 0 ∧ pK Q (Sum.inr e39) h38)) := fun z => by
    rw [w3]
    clear w3
    refine r_addr (d := d + 9) HC o1 o3 ec s1 p5 (by omega) hc V1 (fun h3 z9 s9 A => ?_)
    have T := TAC.pushA (ρ := ρ) (g := g) (N := N) (M := M) Z hκ gt hmn eE p5 (by omega) s1 (by omega) sz6 el P.2.2.1
    obtain ⟨RL, I1⟩ := P.adl A (VR.two (v := ((cnt + 1 : Nat) : Int)) (by omega) (by omega))
    have gq := (q.pk) none _ _ _ Y T RL
    exact ⟨I1.2.1.1.1, r_answer (d := d + 18) I1.1 I1.2.1 I1.2.2.1 I1.2.2.2.1.1 I1.2.2.2.1.2.2 (n := m0) (by omega) ⟨I1.2.2.2.2.2.1, I1.2.2.2.2.2.2⟩ (by decide) gq⟩
  have w1 : w32 ((m0 : Int) + 1) = ((m0 + 1 : Nat) : Int) := w32_p1 b3
  have w2 : w32 ((rk : Int) + 1) = ((rk + 1 : Nat) : Int) := w32_p1 b5
  refine r_rowL (d := d) P gt gv ec (b_Machine_row_81 (d := d + 19) ⟨F.1.1, ?_⟩)
  rw [r0, r1, r3]
  refine ⟨F.1.2.2.2.2.2.2.1, fun z => absurd z (by decide), fun _ => ⟨fun _ => ⟨F.1.2.2.2.2.2.1, ?_⟩, fun z => absurd rfl z⟩⟩
  refine r_want (d := d + 17) (a := 0) (b := 1) (mk := mk) (rm := rk) G F p1 p4 p3 p6 (by decide) (by decide) (fun _ z => ⟨F.1.1, ?_⟩) full
  rw [r3, ra, w2]
  refine ⟨F.1.2.2.2.2.2.1, ?_⟩
  show hK (sI (cc h C X Y) f_Heap_room (C + 50) ((rk + 1 : Nat) : Int)) _ = _ ∧ _
  rw [e31, r2, w1, Int.toNat_natCast, t1, t2]
  refine ⟨ft.1, ⟨?_, b1.1, ?_⟩, ⟨?_, b1.1, ?_⟩, o6, add z⟩
  · simp (decide := true) only [ccRo, ccK, KCt G ht]
  · rw [ccRo (by decide), ccl, ft.2.2.1]; exact b1.2
  · simp (decide := true) only [ccRo, ccK, KCt G ht]
  · rw [ccRo (by decide), ccl, ft.2.1]; exact b1.2
end
