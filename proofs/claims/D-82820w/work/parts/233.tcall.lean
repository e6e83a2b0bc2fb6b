/-! T: a fun is called -/
set_option maxRecDepth 20000
/-- a new call with its variables, j of them so far -/
def ncS (S : SS) (ck mk vs rk : Nat) (ar : Int) (fm n np j : Nat) : SS := fun f i =>
  if f = f_Md_variableTypes ∧ vs ≤ i ∧ i < vs + j then (if i - vs < np ∧ i - vs < n then S f_Md_pileType (fm + (i - vs)) else 0)
  else if f = f_Md_variableValue ∧ vs ≤ i ∧ i < vs + j then (if i - vs < np ∧ i - vs < n then S f_Md_pileValue (fm + (i - vs)) else 0)
  else if f = f_Md_variables ∧ i = 0 then ((vs + j : Nat) : Int)
  else if f = f_Md_allSlots ∧ i = 0 then ((rk + j : Nat) : Int)
  else u2 (u2 (u2 (u2 S f_Md_calls 0 ((ck + 1 : Nat) : Int)) f_Md_allMade 0 ((mk + 1 : Nat) : Int)) f_Md_around ck ar) f_Md_variablesFrom ck (vs : Int) f i
def LNC : List Nat := [f_Md_variableTypes, f_Md_variableValue, f_Md_variables, f_Md_allSlots, f_Md_calls, f_Md_allMade, f_Md_around, f_Md_variablesFrom]
/-- T enters a call -/
def enS (S : SS) (t c : Nat) (fn ca ty v nw m q : Int) : SS := u2 (u2 (u2 (u2 (u2 (u2 (u2 (u2 (u2 (u2 S f_Md_top 0 ((200 * t + c : Nat) : Int)) f_Md_frames t ((c + 1 : Nat) : Int)) f_Md_frameFunction (200 * t + c) fn) f_Md_frameAt (200 * t + c) 0) f_Md_frameAround (200 * t + c) ca) f_Md_thisType (200 * t + c) ty) f_Md_thisValue (200 * t + c) v) f_Md_frameNew (200 * t + c) nw) f_Md_frameBase (200 * t + c) m) f_Md_frameTries (200 * t + c) q
def LEN : List Nat := [f_Md_top, f_Md_frames, f_Md_frameFunction, f_Md_frameAt, f_Md_frameAround, f_Md_thisType, f_Md_thisValue, f_Md_frameNew, f_Md_frameBase, f_Md_frameTries]
/-- a fun is called -/
def clS (S : SS) (t c m pp : Nat) (fn : Int) (ck mk vs rk : Nat) (ar : Int) (rr E np nv : Nat) (ty v q : Int) : SS := enS (u2 (ncS (atS S t c ((pp + 1 : Nat) : Int)) ck mk vs rk ar (rr + 1) E np nv) f_Md_height t (m : Int)) t c fn (ck : Int) ty v (-1) (m : Int) q
section
variable {ρ : Nat → Nat} {P : ah → Nat → Prop} {d : Nat} {Q : QT} {Γ : GH} {h h0 : ah} {C ho T k n m f i j N M b r a s rr mn sn tn row c t E pp fn ck mk vs rk np nv fm : Nat} {S S' S1 S2 SX : SS} {X : X3} {Y : Y3} {g : HG} {l L bs ts : List Int} {ws : List (List Int)} {v p x y nm ty cnt κ hd w La bv el st LL bb ar ca nw q q0 : Int} {ls l2 : List ENT} {e : Option (Option AV)}
theorem ncS_off : OFF LNC S (ncS S ck mk vs rk ar fm n np j) := fun f i hf => by
  have ne : ∀ x, LNC.elem x = true → f ≠ x := fun x hx e => by subst e; rw [hx] at hf; cases hf
  unfold ncS
  rw [if_neg (fun c => ne _ (by decide) c.1), if_neg (fun c => ne _ (by decide) c.1), if_neg (fun c => ne _ (by decide) c.1), if_neg (fun c => ne _ (by decide) c.1), u2_f (ne _ (by decide)), u2_f (ne _ (by decide)), u2_f (ne _ (by decide)), u2_f (ne _ (by decide))]
theorem ncS_v : ncS S ck mk vs rk ar fm n np j f_Md_variables 0 = ((vs + j : Nat) : Int) := by
  unfold ncS; rw [if_neg (fun c => absurd c.1 (by decide)), if_neg (fun c => absurd c.1 (by decide)), if_pos ⟨rfl, rfl⟩]
theorem ncS_s : ncS S ck mk vs rk ar fm n np j f_Md_allSlots 0 = ((rk + j : Nat) : Int) := by
  unfold ncS; rw [if_neg (fun c => absurd c.1 (by decide)), if_neg (fun c => absurd c.1 (by decide)), if_neg (fun c => absurd c.1 (by decide)), if_pos ⟨rfl, rfl⟩]
theorem ncS_0 (e1 : S f_Md_variables 0 = (vs : Int)) (e2 : S f_Md_allSlots 0 = (rk : Int)) : ncS S ck mk vs rk ar fm n np 0 = u2 (u2 (u2 (u2 S f_Md_calls 0 ((ck + 1 : Nat) : Int)) f_Md_allMade 0 ((mk + 1 : Nat) : Int)) f_Md_around ck ar) f_Md_variablesFrom ck (vs : Int) := by
  funext f i
  unfold ncS
  rw [if_neg (fun c => by omega), if_neg (fun c => by omega)]
  by_cases w1 : f = f_Md_variables ∧ i = 0
  · rw [if_pos w1, w1.1, w1.2, u2_f (by decide), u2_f (by decide), u2_f (by decide), u2_f (by decide), e1]; rfl
  · rw [if_neg w1]
    by_cases w2 : f = f_Md_allSlots ∧ i = 0
    · rw [if_pos w2, w2.1, w2.2, u2_f (by decide), u2_f (by decide), u2_f (by decide), u2_f (by decide), e2]; rfl
    · rw [if_neg w2]
theorem ncS_u : u2 (u2 (u2 (u2 (ncS S ck mk vs rk ar fm n np j) f_Md_variableTypes (vs + j) (if j < np ∧ j < n then S f_Md_pileType (fm + j) else 0)) f_Md_variableValue (vs + j) (if j < np ∧ j < n then S f_Md_pileValue (fm + j) else 0)) f_Md_variables 0 ((vs + (j + 1) : Nat) : Int)) f_Md_allSlots 0 ((rk + (j + 1) : Nat) : Int) = ncS S ck mk vs rk ar fm n np (j + 1) := by
  have ej : vs + j - vs = j := by omega
  funext f i
  have k1 : i < vs + (j + 1) ↔ i = vs + j ∨ i < vs + j := by omega
  by_cases w1 : f = f_Md_variableTypes
  · subst w1
    simp (decide := true) only [u2_e, ncS, false_and, if_false, true_and]
    by_cases w6 : i = vs + j
    · subst w6
      rw [if_pos rfl, if_pos (show vs ≤ vs + j ∧ vs + j < vs + (j + 1) by omega), ej]
    · rw [if_neg w6]
      by_cases w5 : vs ≤ i ∧ i < vs + j
      · rw [if_pos w5, if_pos (show vs ≤ i ∧ i < vs + (j + 1) by omega)]
      · rw [if_neg w5, if_neg (show ¬ (vs ≤ i ∧ i < vs + (j + 1)) by omega)]
  by_cases w2 : f = f_Md_variableValue
  · subst w2
    simp (decide := true) only [u2_e, ncS, false_and, if_false, true_and]
    by_cases w6 : i = vs + j
    · subst w6
      rw [if_pos rfl, if_pos (show vs ≤ vs + j ∧ vs + j < vs + (j + 1) by omega), ej]
    · rw [if_neg w6]
      by_cases w5 : vs ≤ i ∧ i < vs + j
      · rw [if_pos w5, if_pos (show vs ≤ i ∧ i < vs + (j + 1) by omega)]
      · rw [if_neg w5, if_neg (show ¬ (vs ≤ i ∧ i < vs + (j + 1)) by omega)]
  by_cases w3 : f = f_Md_allSlots ∧ i = 0
  · obtain ⟨rfl, rfl⟩ := w3
    simp (decide := true) only [u2_e, ncS, false_and, if_false, true_and, if_true]
  by_cases w4 : f = f_Md_variables ∧ i = 0
  · obtain ⟨rfl, rfl⟩ := w4
    simp (decide := true) only [u2_e, ncS, false_and, if_false, true_and, if_true]
  rw [u2_e, if_neg w3, u2_e, if_neg w4, u2_e, if_neg (fun c => w2 c.1), u2_e, if_neg (fun c => w1 c.1)]
  unfold ncS
  rw [if_neg (fun c => w1 c.1), if_neg (fun c => w2 c.1), if_neg w4, if_neg w3, if_neg (fun c => w1 c.1), if_neg (fun c => w2 c.1), if_neg w4, if_neg w3]
theorem s_newCall (O : TOK h0 T) (hf : f < 400) (e1 : S f_Md_calls 0 = (ck : Int)) (e2 : S f_Md_allMade 0 = (mk : Int)) (e3 : S f_Md_variables 0 = (vs : Int)) (e4 : S f_Md_allSlots 0 = (rk : Int)) (b1 : ck < 8000 ∧ mk < 8000 ∧ vs + nv ≤ 60000 ∧ rk + nv ≤ 60000) (ev : S f_Md_variablesOf f = (nv : Int)) (ep : S f_Md_parametersOf f = (np : Int)) (hp : fm + n ≤ 4200) (q : Q (Sum.inl (some (vI (ck : Int)))) (cn h0 T (ncS S ck mk vs rk ar fm n np nv))) : wpB PGm ρ (d + 1) m_Md_newCall 0 [(0, vR T), (1, vI (f : Int)), (2, vI ar), (3, vI (fm : Int)), (4, vI (n : Int))] [] (cn h0 T S) Q := by
  have kT := O.1
  have G := O.2.1
  have c1 : 0 ≤ (f : Int) ∧ (f : Int) < ((400 : Nat) : Int) := by omega
  have c2 : 0 ≤ (ck : Int) ∧ (ck : Int) < ((8000 : Nat) : Int) := by omega
  have lp : ∀ mm j, j + mm = nv → wpB PGm ρ (d + 1) m_Md_newCall 48 [(0, vR T), (1, vI (f : Int)), (3, vI (fm : Int)), (4, vI (n : Int)), (5, vI (ck : Int)), (6, vI (j : Int))] [] (cn h0 T (ncS S ck mk vs rk ar fm n np j)) Q := fun mm => by
    induction mm with
    | zero =>
      intro j hj
      have ej : j = nv := by omega
      subst ej
      have x1 : ncS S ck mk vs rk ar fm n np j f_Md_variablesOf f = (j : Int) := by rw [ncS_off _ _ (by decide)]; exact ev
      refine b_Md_newCall_48 ?_
      generalize ncS S ck mk vs rk ar fm n np j = S3 at *
      have n2 : ¬ (j : Int) < (j : Int) := by omega
      simp (decide := true) (disch := first | decide | omega) only [cnI, cnR, cnK, cnl, cnA' G, kT, KN G, LN G, x1, n2, Int.le_refl, Int.toNat_natCast, true_and, and_true, false_implies, forall_const]
      exact ⟨c1, q⟩
    | succ mm ih =>
      intro j hj
      have g1 := ih (j + 1) (by omega)
      have x1 : ncS S ck mk vs rk ar fm n np j f_Md_variablesOf f = (nv : Int) := by rw [ncS_off _ _ (by decide)]; exact ev
      have x2 : ncS S ck mk vs rk ar fm n np j f_Md_parametersOf f = (np : Int) := by rw [ncS_off _ _ (by decide)]; exact ep
      have x3 : ncS S ck mk vs rk ar fm n np j f_Md_pileType (fm + j) = S f_Md_pileType (fm + j) := ncS_off _ _ (by decide)
      have x4 : ncS S ck mk vs rk ar fm n np j f_Md_pileValue (fm + j) = S f_Md_pileValue (fm + j) := ncS_off _ _ (by decide)
      have x5 := ncS_v (S := S) (ck := ck) (mk := mk) (vs := vs) (rk := rk) (ar := ar) (fm := fm) (n := n) (np := np) (j := j)
      have x6 := ncS_s (S := S) (ck := ck) (mk := mk) (vs := vs) (rk := rk) (ar := ar) (fm := fm) (n := n) (np := np) (j := j)
      have x7 := ncS_u (S := S) (ck := ck) (mk := mk) (vs := vs) (rk := rk) (ar := ar) (fm := fm) (n := n) (np := np) (j := j)
      rw [← x7] at g1
      generalize ncS S ck mk vs rk ar fm n np j = S3 at *
      have n1 : ¬ (nv : Int) ≤ (j : Int) := by omega
      have n2 : (j : Int) < (nv : Int) := by omega
      have c3 : 0 ≤ ((vs + j : Nat) : Int) ∧ ((vs + j : Nat) : Int) < ((60000 : Nat) : Int) := by omega
      have z1 : (np : Int) ≤ (j : Int) → ¬ (j < np ∧ j < n) := fun z => by omega
      have z2 : (n : Int) ≤ (j : Int) → ¬ (j < np ∧ j < n) := fun z => by omega
      have z3 : (j : Int) < (np : Int) → (j : Int) < (n : Int) → (j < np ∧ j < n) := fun z z' => by omega
      have c4' : (j < np ∧ j < n) → 0 ≤ ((fm + j : Nat) : Int) ∧ ((fm + j : Nat) : Int) < ((4200 : Nat) : Int) := fun z => by omega
      have m4' : (j < np ∧ j < n) → fm + j ≤ 2000000000 := fun z => by omega
      have m1 : vs + j ≤ 2000000000 := by omega
      have m2 : rk + j ≤ 2000000000 := by omega
      have m3 : j ≤ 2000000000 := by omega
      have y1 : w32 (((vs + j : Nat) : Int) + 1) = ((vs + (j + 1) : Nat) : Int) := w32_p1 m1
      have y2 : w32 (((rk + j : Nat) : Int) + 1) = ((rk + (j + 1) : Nat) : Int) := w32_p1 m2
      have y3 : w32 ((j : Int) + 1) = ((j + 1 : Nat) : Int) := w32_p1 m3
      clear ih x7 q
      have g125 : ∀ tv vv : Int, tv = (if j < np ∧ j < n then S f_Md_pileType (fm + j) else 0) → vv = (if j < np ∧ j < n then S f_Md_pileValue (fm + j) else 0) → wpB PGm ρ (d + 1) m_Md_newCall 125 [(0, vR T), (1, vI (f : Int)), (3, vI (fm : Int)), (4, vI (n : Int)), (5, vI (ck : Int)), (6, vI (j : Int))] [vL vv, vI tv, vI ((vs + j : Nat) : Int), vR T] (cn h0 T S3) Q := fun tv vv e7 e8 => by
        rw [← e7, ← e8] at g1
        refine b_Md_newCall_125 ⟨kT, b_Md_setsVariable_0 ?_⟩
        clear c4' m4' z1 z2 z3
        simp (decide := true) (disch := first | decide | omega) only [cnI, cnR, cnK, cnl, cnA' G, cn_sA' G, cn_sI, cV, kT, KN G, LN G, u2_f, x5, x6, y1, y2, y3, Int.toNat_natCast, true_and, and_true]
        exact ⟨c3, c3, g1⟩
      have g82 : ¬ (j < np ∧ j < n) → wpB PGm ρ (d + 1) m_Md_newCall 82 [(0, vR T), (1, vI (f : Int)), (3, vI (fm : Int)), (4, vI (n : Int)), (5, vI (ck : Int)), (6, vI (j : Int))] [vI 0] (cn h0 T S3) Q := fun z => by
        refine b_Md_newCall_82 ⟨kT, fun _ => ?_, fun c => absurd rfl c⟩
        rw [cnI (by decide), x5]
        exact b_Md_newCall_107 ⟨fun _ => g125 0 0 (by rw [if_neg z]) (by rw [if_neg z]), fun c => absurd rfl c⟩
      have g82' : (j < np ∧ j < n) → wpB PGm ρ (d + 1) m_Md_newCall 82 [(0, vR T), (1, vI (f : Int)), (3, vI (fm : Int)), (4, vI (n : Int)), (5, vI (ck : Int)), (6, vI (j : Int))] [vI 1] (cn h0 T S3) Q := fun z => by
        have c4 := c4' z
        have m4 := m4' z
        have g3 := g125 (S f_Md_pileType (fm + j)) (S f_Md_pileValue (fm + j)) (by rw [if_pos z]) (by rw [if_pos z])
        have y4 : w32 ((fm : Int) + (j : Int)) = ((fm + j : Nat) : Int) := w32_aa m4
        have g107 : wpB PGm ρ (d + 1) m_Md_newCall 107 [(0, vR T), (1, vI (f : Int)), (3, vI (fm : Int)), (4, vI (n : Int)), (5, vI (ck : Int)), (6, vI (j : Int)), (7, vI 1)] [vI (S f_Md_pileType (fm + j)), vI ((vs + j : Nat) : Int), vR T] (cn h0 T S3) Q := by
          refine b_Md_newCall_107 ⟨fun c => absurd c (by decide), fun _ => ?_⟩
          clear g125 g82 g1 c4' m4' z1 z2 z3
          simp (decide := true) (disch := first | decide | omega) only [cnI, cnR, cnK, cnl, cnA' G, kT, KN G, LN G, x4, y4, Int.toNat_natCast, true_and, and_true]
          exact ⟨c4, g3⟩
        refine b_Md_newCall_82 ⟨kT, fun c => absurd c (by decide), fun _ => ?_⟩
        clear g125 g82 g1 g3 c4' m4' z1 z2 z3
        simp (decide := true) (disch := first | decide | omega) only [cnI, cnR, cnK, cnl, cnA' G, kT, KN G, LN G, x3, x5, y4, Int.toNat_natCast, true_and, and_true]
        exact ⟨c4, g107⟩
      refine b_Md_newCall_48 ?_
      clear g125 g1
      simp (decide := true) (disch := first | decide | omega) only [cnI, cnR, cnK, cnl, cnA' G, kT, KN G, LN G, x1, x2, n1, n2, Int.toNat_natCast, true_and, and_true, false_implies, forall_const]
      exact ⟨c1, c1, fun z => g82 (z1 z), fun z => ⟨fun z' => g82 (z2 z'), fun z' => g82' (z3 z z')⟩⟩
  have g0 := lp nv 0 (by omega)
  rw [ncS_0 e3 e4] at g0
  have m1 : ck ≤ 2000000000 := by omega
  have m2 : mk ≤ 2000000000 := by omega
  have y1 : w32 ((ck : Int) + 1) = ((ck + 1 : Nat) : Int) := w32_p1 m1
  have y2 : w32 ((mk : Int) + 1) = ((mk + 1 : Nat) : Int) := w32_p1 m2
  refine b_Md_newCall_0 ?_
  clear lp q
  simp (decide := true) (disch := first | decide | omega) only [cnI, cnR, cnK, cnl, cnA' G, cn_sA' G, cn_sI, kT, KN G, LN G, u2_f, e1, e2, e3, y1, y2, Int.toNat_natCast, true_and, and_true]
  exact ⟨c2, c2, g0⟩
theorem s_enters (O : TOK h0 T) (F : TF S t m c) (ht : t ≤ 1) (hc : c < 200) (hm : m ≤ 2000) (eq : S f_Md_tries t = q0) (q : Q (Sum.inl none) (cn h0 T (enS S t c x ca ty v nw (m : Int) q0))) : wpB PGm ρ d m_Md_enters 0 [(0, vR T), (1, vI x), (2, vI ca), (3, vI ty), (4, vL v), (6, vI nw)] [] (cn h0 T S) Q := by
  have kT := O.1
  have G := O.2.1
  obtain ⟨f1, f2, f3, f4, f5⟩ := F
  have b1 : 0 ≤ (t : Int) ∧ (t : Int) < ((2 : Nat) : Int) := by omega
  have b2 : 0 ≤ ((200 * t + c : Nat) : Int) ∧ ((200 * t + c : Nat) : Int) < ((400 : Nat) : Int) := by omega
  have m1 : 200 * t + c ≤ 2000000000 := by omega
  have m2 : c ≤ 2000000000 := by omega
  have y1 : w32 (((200 * t : Nat) : Int) + (c : Int)) = ((200 * t + c : Nat) : Int) := w32_aa m1
  have y2 : w32 ((c : Int) + 1) = ((c + 1 : Nat) : Int) := w32_p1 m2
  unfold enS at q
  refine b_Md_enters_0 ?_
  simp (decide := true) (disch := first | decide | omega) only [cnI, cnR, cnK, cnl, cnA' G, cn_sA' G, cn_sI, kT, KN G, LN G, u2_f, u2_s, f1, f3, f5, y1, y2, Int.toNat_natCast, true_and, and_true]
  refine ⟨b1, b1, b1, b2, b2, b2, b2, b2, b2, b_Md_enters_93 ?_⟩
  simp (decide := true) (disch := first | decide | omega) only [cnI, cnR, cnK, cnl, cnA' G, cn_sA' G, cn_sI, kT, KN G, LN G, u2_f, u2_s, f1, f4, eq, Int.toNat_natCast, true_and, and_true]
  exact ⟨b1, b2, b1, b2, q⟩
/-- what is known of a fun that is called -/
def FNQ (S : SS) (k fn ck mk vs rk np nv : Nat) (ar : Int) : Prop := k < 8000 ∧ S f_Md_thingFunction k = (fn : Int) ∧ fn < 400 ∧ S f_Md_thingAround k = ar ∧ S f_Md_calls 0 = (ck : Int) ∧ S f_Md_allMade 0 = (mk : Int) ∧ S f_Md_variables 0 = (vs : Int) ∧ S f_Md_allSlots 0 = (rk : Int) ∧ (ck ≤ mk ∧ mk ≤ 8000 ∧ vs ≤ rk ∧ rk ≤ 60000) ∧ S f_Md_variablesOf fn = (nv : Int) ∧ nv ≤ 60 ∧ S f_Md_parametersOf fn = (np : Int)
theorem s_roomc (O : TOK h0 T) (Z : FNQ S k fn ck mk vs rk np nv ar) (hb : b ≤ 10) (q1 : mk + 1 + b ≤ 8000 ∧ rk + nv ≤ 60000 → Q (Sum.inl (some (vI 1))) (cn h0 T S)) (q0 : ¬ (mk + 1 + b ≤ 8000 ∧ rk + nv ≤ 60000) → Q (Sum.inl (some (vI 0))) (cn h0 T S)) : wpB PGm ρ (d + 1) m_Md_hasRoomForCall 0 [(0, vR T), (1, vI (fn : Int)), (2, vI (b : Int))] [] (cn h0 T S) Q := by
  have kT := O.1
  have G := O.2.1
  obtain ⟨z1, z2, z3, z4, z5, z6, z7, z8, ⟨z9, z9', z9'', z10'⟩, z10, z11, z12⟩ := Z
  have c1 : 0 ≤ (fn : Int) ∧ (fn : Int) < ((400 : Nat) : Int) := by omega
  have x1 : 8000 < ((mk + (1 + b) : Nat) : Int) → Q (Sum.inl (some (vI 0))) (cn h0 T S) := fun c => q0 (fun z => by omega)
  have x2 : ((mk + (1 + b) : Nat) : Int) ≤ 8000 → 60000 < ((rk + nv : Nat) : Int) → Q (Sum.inl (some (vI 0))) (cn h0 T S) := fun _ c => q0 (fun z => by omega)
  have x3 : ((mk + (1 + b) : Nat) : Int) ≤ 8000 → ((rk + nv : Nat) : Int) ≤ 60000 → Q (Sum.inl (some (vI 1))) (cn h0 T S) := fun c c2 => q1 ⟨by omega, by omega⟩
  have m1 : mk + (1 + b) ≤ 2000000000 := by omega
  have m2 : rk + nv ≤ 2000000000 := by omega
  clear q1 q0
  have y1 : w32 (1 + (b : Int)) = ((1 + b : Nat) : Int) := by rw [w32_of (by omega) (by omega)]; omega
  have y2 : w32 ((mk : Int) + ((1 + b : Nat) : Int)) = ((mk + (1 + b) : Nat) : Int) := w32_aa m1
  have y3 : w32 ((rk : Int) + (nv : Int)) = ((rk + nv : Nat) : Int) := w32_aa m2
  refine b_Md_hasRoomForCall_0 ⟨kT, b_Md_hasRoomFor_0 ⟨kT, ?_⟩⟩
  simp (decide := true) (disch := first | decide | omega) only [cnI, cnR, cnK, cnl, cnA' G, kT, KN G, LN G, cI, z6, z8, z10, y1, y2, y3, Int.toNat_natCast, true_and, and_true, not_true_eq_false, not_false_eq_true, false_implies, forall_const]
  exact ⟨x1, fun c => ⟨c1, x2 c, x3 c⟩⟩
theorem TCL.full (H : GFR S t n c rr m pp) (hc : c = 200) : TCL ρ g N M x ty v y S none (erS S 11) := fun d h0 T Q K q => by
  have O := K.1.1
  have kT := O.1
  have G := O.2.1
  have h1 := H.2.1
  have b1 : 0 ≤ (t : Int) ∧ (t : Int) < ((2 : Nat) : Int) := by omega
  have e1 := H.1.1
  have e2 : S f_Md_frames t = 200 := by rw [H.1.2.2.2.2, hc]; rfl
  have g1 := s_error (ρ := ρ) (d := d + 188) (v := 11) (Q := cV (fun h9 => wpB PGm ρ (d + 190) m_Md_callsFun 21 [(0, vR T), (1, vI x), (2, vI ty), (3, vL v), (5, vI y)] [] h9 Q) (fun e12 h11 => hK h11 e12 ≠ 0 ∧ Q (Sum.inr e12) h11)) O ⟨O.kh, q⟩
  refine b_Md_callsFun_0 ?_
  clear q H
  simp (decide := true) (disch := first | decide | omega) only [cnI, cnR, cnK, cnl, cnA' G, kT, KN G, LN G, e1, e2, Int.toNat_natCast, true_and, and_true, not_true_eq_false, not_false_eq_true, false_implies, forall_const]
  exact ⟨b1, g1⟩
theorem s_cf21 (O : TOK h0 T) (H : GFR S t n c rr m pp) (hc : c < 200) (q : wpB PGm ρ (d + 1) m_Md_callsFun 21 [(0, vR T), (1, vI x), (2, vI ty), (3, vL v), (5, vI y)] [] (cn h0 T S) Q) : wpB PGm ρ (d + 1) m_Md_callsFun 0 [(0, vR T), (1, vI x), (2, vI ty), (3, vL v), (5, vI y)] [] (cn h0 T S) Q := by
  have kT := O.1
  have G := O.2.1
  have h1 := H.2.1
  have b1 : 0 ≤ (t : Int) ∧ (t : Int) < ((2 : Nat) : Int) := by omega
  have e1 := H.1.1
  have e2 := H.1.2.2.2.2
  have n1 : ¬ (c : Int) = 200 := by omega
  refine b_Md_callsFun_0 ?_
  clear H
  simp (decide := true) (disch := first | decide | omega) only [cnI, cnR, cnK, cnl, cnA' G, kT, KN G, LN G, e1, e2, n1, Int.toNat_natCast, true_and, and_true, not_true_eq_false, not_false_eq_true, false_implies, forall_const]
  exact ⟨b1, q⟩
theorem TCL.nomem (H : GFR S t n c rr m pp) (hc : c < 200) (Z : FNQ S k fn ck mk vs rk np nv ar) (nr : ¬ (mk + 1 ≤ 8000 ∧ rk + nv ≤ 60000)) : TCL ρ g N M (k : Int) ty v y S none (erS S 99) := fun d h0 T Q K q => by
  have O := K.1.1
  have kT := O.1
  have G := O.2.1
  have z2 := Z.2.1
  have b1 : 0 ≤ (k : Int) ∧ (k : Int) < ((8000 : Nat) : Int) := by have := Z.1; omega
  refine s_cf21 (d := d + 189) O H hc (b_Md_callsFun_21 ?_)
  have g1 := s_roomc (ρ := ρ) (d := d + 188) (b := 0) (Q := cI (fun x10 h5 => hK h5 T = k_Md ∧ wpB PGm ρ (d + 189) m_Md_room 0 [(0, vR T), (1, vI x10)] [] h5 (cV (fun h13 => hK h13 T = k_Md ∧ (hK h13 (hR h13 f_Md_frameAt T) = 1 ∧ 0 ≤ (hI h13 f_Md_top T) ∧ (hI h13 f_Md_top T) < (hl h13 (hR h13 f_Md_frameAt T) : Int)) ∧ let h20 := sA h13 (hR h13 f_Md_frameAt T) (hI h13 f_Md_top T).toNat (hI h13 f_Md_after T)
(hK h20 (hR h20 f_Md_thingAround T) ∈ [1, 11] ∧ 0 ≤ (k : Int) ∧ (k : Int) < (hl h20 (hR h20 f_Md_thingAround T) : Int)) ∧ wpB PGm ρ (d + 189) m_Md_newCall 0 [(0, vR T), (1, vI (fn : Int)), (2, vI (hA h20 (hR h20 f_Md_thingAround T) k)), (3, vI (w32 ((hI h20 f_Md_r T) + 1))), (4, vI y)] [] h20 (cI (fun x28 h23 => hK h23 T = k_Md ∧ (hK h23 (hR h23 f_Md_height T) = 1 ∧ 0 ≤ (hI h23 f_Md_t T) ∧ (hI h23 f_Md_t T) < (hl h23 (hR h23 f_Md_height T) : Int)) ∧ let h31 := sA h23 (hR h23 f_Md_height T) (hI h23 f_Md_t T).toNat (w32 ((hI h23 f_Md_r T) - (hI h23 f_Md_p0 T)))
wpB PGm ρ (d + 189) m_Md_enters 0 [(0, vR T), (1, vI (fn : Int)), (2, vI x28), (3, vI ty), (4, vL v), (6, vI (-1))] [] h31 (cV (fun h34 => Q (Sum.inl none) h34) (fun e37 h36 => hK h36 e37 ≠ 0 ∧ Q (Sum.inr e37) h36))) (fun e26 h25 => hK h25 e26 ≠ 0 ∧ Q (Sum.inr e26) h25))) (fun e16 h15 => hK h15 e16 ≠ 0 ∧ Q (Sum.inr e16) h15))) (fun e8 h7 => hK h7 e8 ≠ 0 ∧ Q (Sum.inr e8) h7)) O Z (by decide) (fun z => absurd z nr) (fun _ => ⟨kT, s_room (d := d + 188) O (fun c => absurd rfl c) (fun _ => ⟨O.kh, q⟩)⟩)
  clear q H Z
  simp (decide := true) (disch := first | decide | omega) only [cnI, cnR, cnK, cnl, cnA' G, kT, KN G, LN G, z2, Int.toNat_natCast, true_and, and_true]
  exact ⟨b1, g1⟩
theorem TCL.ok (H : GFR S t n c rr m pp) (hc : c < 200) (Z : FNQ S k fn ck mk vs rk np nv ar) (nr : mk + 1 ≤ 8000 ∧ rk + nv ≤ 60000) (hE : rr + 1 + E ≤ 4200) (eq : S f_Md_tries t = q0) : TCL ρ g N M (k : Int) ty v (E : Int) S (some none) (clS S t c m pp (fn : Int) ck mk vs rk ar rr E np nv ty v q0) := fun d h0 T Q K q => by
  have O := K.1.1
  have kT := O.1
  have G := O.2.1
  obtain ⟨z1, z2, z3, z4, z5, z6, z7, z8, ⟨z9, z9', z9'', z10'⟩, z10, z11, z12⟩ := id Z
  have b1 : 0 ≤ (k : Int) ∧ (k : Int) < ((8000 : Nat) : Int) := by omega
  obtain ⟨F, a1, a2, a3, a4, a5, a6, a7, a8, a9⟩ := id H
  have b2 : 0 ≤ ((200 * t + (c - 1) : Nat) : Int) ∧ ((200 * t + (c - 1) : Nat) : Int) < ((400 : Nat) : Int) := by omega
  have b3 : 0 ≤ (t : Int) ∧ (t : Int) < ((2 : Nat) : Int) := by omega
  have oA : OFF [f_Md_frameAt] S (atS S t c ((pp + 1 : Nat) : Int)) := OFF.rf.u (by decide)
  have oN : OFF (f_Md_frameAt :: LNC) S (ncS (atS S t c ((pp + 1 : Nat) : Int)) ck mk vs rk ar (rr + 1) E np nv) := (oA.le (by decide)).tr (ncS_off.le (by decide))
  have gA : ∀ f i, [f_Md_frameAt].elem f = false → atS S t c ((pp + 1 : Nat) : Int) f i = S f i := fun f i hf => oA f i hf
  have gN : ∀ f i, (f_Md_frameAt :: LNC).elem f = false → ncS (atS S t c ((pp + 1 : Nat) : Int)) ck mk vs rk ar (rr + 1) E np nv f i = S f i := fun f i hf => oN f i hf
  have F3 : TF (u2 (ncS (atS S t c ((pp + 1 : Nat) : Int)) ck mk vs rk ar (rr + 1) E np nv) f_Md_height t (m : Int)) t m c := ⟨by rw [u2_f (by decide), gN _ _ (by decide)]; exact F.1, by rw [u2_f (by decide), gN _ _ (by decide)]; exact F.2.1, by rw [u2_f (by decide), gN _ _ (by decide)]; exact F.2.2.1, u2_s, by rw [u2_f (by decide), gN _ _ (by decide)]; exact F.2.2.2.2⟩
  have ge := s_enters (ρ := ρ) (d := d + 189) (x := (fn : Int)) (ca := (ck : Int)) (ty := ty) (v := v) (nw := -1) (q0 := q0) (Q := cV (fun h34 => Q (Sum.inl none) h34) (fun e37 h36 => hK h36 e37 ≠ 0 ∧ Q (Sum.inr e37) h36)) O F3 a1 hc (by omega) (by rw [u2_f (by decide), gN _ _ (by decide)]; exact eq) q
  have m1 : 2100 * t ≤ rr ∧ rr ≤ 2000000000 := by omega
  have m2 : rr - 2100 * t = m := by omega
  have m3 : rr ≤ 2000000000 := by omega
  have bb4 : ck < 8000 ∧ mk < 8000 ∧ vs + nv ≤ 60000 ∧ rk + nv ≤ 60000 := by omega
  have x1 : ncS (atS S t c ((pp + 1 : Nat) : Int)) ck mk vs rk ar (rr + 1) E np nv f_Md_t 0 = (t : Int) := by rw [gN _ _ (by decide)]; exact F.1
  have x2 : ncS (atS S t c ((pp + 1 : Nat) : Int)) ck mk vs rk ar (rr + 1) E np nv f_Md_r 0 = (rr : Int) := by rw [gN _ _ (by decide)]; exact a2
  have x3 : ncS (atS S t c ((pp + 1 : Nat) : Int)) ck mk vs rk ar (rr + 1) E np nv f_Md_p0 0 = ((2100 * t : Nat) : Int) := by rw [gN _ _ (by decide)]; exact F.2.1
  have y1 : w32 ((rr : Int) - ((2100 * t : Nat) : Int)) = (m : Int) := by rw [w32_ss m1, m2]
  have y2 : w32 ((rr : Int) + 1) = ((rr + 1 : Nat) : Int) := w32_p1 m3
  have gn : wpB PGm ρ (d + 189) m_Md_newCall 0 [(0, vR T), (1, vI (fn : Int)), (2, vI ar), (3, vI ((rr + 1 : Nat) : Int)), (4, vI (E : Int))] [] (cn h0 T (atS S t c ((pp + 1 : Nat) : Int))) (cI (fun x28 h23 => hK h23 T = k_Md ∧ (hK h23 (hR h23 f_Md_height T) = 1 ∧ 0 ≤ (hI h23 f_Md_t T) ∧ (hI h23 f_Md_t T) < (hl h23 (hR h23 f_Md_height T) : Int)) ∧ wpB PGm ρ (d + 189) m_Md_enters 0 [(0, vR T), (1, vI (fn : Int)), (2, vI x28), (3, vI ty), (4, vL v), (6, vI (-1))] [] (sA h23 (hR h23 f_Md_height T) (hI h23 f_Md_t T).toNat (w32 ((hI h23 f_Md_r T) - (hI h23 f_Md_p0 T)))) (cV (fun h34 => Q (Sum.inl none) h34) (fun e37 h36 => hK h36 e37 ≠ 0 ∧ Q (Sum.inr e37) h36))) (fun e26 h25 => hK h25 e26 ≠ 0 ∧ Q (Sum.inr e26) h25)) := by
    refine s_newCall (d := d + 188) O z3 (by rw [gA _ _ (by decide)]; exact z5) (by rw [gA _ _ (by decide)]; exact z6) (by rw [gA _ _ (by decide)]; exact z7) (by rw [gA _ _ (by decide)]; exact z8) bb4 (by rw [gA _ _ (by decide)]; exact z10) (by rw [gA _ _ (by decide)]; exact z12) hE ⟨kT, ?_⟩
    clear oA oN gA gN F3 q Z H F
    generalize ncS (atS S t c ((pp + 1 : Nat) : Int)) ck mk vs rk ar (rr + 1) E np nv = S3 at *
    simp (decide := true) (disch := first | decide | omega) only [cnI, cnR, cnK, cnl, cnA' G, cn_sA' G, kT, KN G, LN G, x1, x2, x3, y1, Int.toNat_natCast, true_and, and_true]
    exact ⟨b3, ge⟩
  have g1 := s_roomc (ρ := ρ) (d := d + 188) (b := 0) (Q := cI (fun x10 h5 => hK h5 T = k_Md ∧ wpB PGm ρ (d + 189) m_Md_room 0 [(0, vR T), (1, vI x10)] [] h5 (cV (fun h13 => hK h13 T = k_Md ∧ (hK h13 (hR h13 f_Md_frameAt T) = 1 ∧ 0 ≤ (hI h13 f_Md_top T) ∧ (hI h13 f_Md_top T) < (hl h13 (hR h13 f_Md_frameAt T) : Int)) ∧ let h20 := sA h13 (hR h13 f_Md_frameAt T) (hI h13 f_Md_top T).toNat (hI h13 f_Md_after T)
(hK h20 (hR h20 f_Md_thingAround T) ∈ [1, 11] ∧ 0 ≤ (k : Int) ∧ (k : Int) < (hl h20 (hR h20 f_Md_thingAround T) : Int)) ∧ wpB PGm ρ (d + 189) m_Md_newCall 0 [(0, vR T), (1, vI (fn : Int)), (2, vI (hA h20 (hR h20 f_Md_thingAround T) k)), (3, vI (w32 ((hI h20 f_Md_r T) + 1))), (4, vI (E : Int))] [] h20 (cI (fun x28 h23 => hK h23 T = k_Md ∧ (hK h23 (hR h23 f_Md_height T) = 1 ∧ 0 ≤ (hI h23 f_Md_t T) ∧ (hI h23 f_Md_t T) < (hl h23 (hR h23 f_Md_height T) : Int)) ∧ let h31 := sA h23 (hR h23 f_Md_height T) (hI h23 f_Md_t T).toNat (w32 ((hI h23 f_Md_r T) - (hI h23 f_Md_p0 T)))
wpB PGm ρ (d + 189) m_Md_enters 0 [(0, vR T), (1, vI (fn : Int)), (2, vI x28), (3, vI ty), (4, vL v), (6, vI (-1))] [] h31 (cV (fun h34 => Q (Sum.inl none) h34) (fun e37 h36 => hK h36 e37 ≠ 0 ∧ Q (Sum.inr e37) h36))) (fun e26 h25 => hK h25 e26 ≠ 0 ∧ Q (Sum.inr e26) h25))) (fun e16 h15 => hK h15 e16 ≠ 0 ∧ Q (Sum.inr e16) h15))) (fun e8 h7 => hK h7 e8 ≠ 0 ∧ Q (Sum.inr e8) h7)) O Z (by decide) (fun _ => ⟨kT, s_room (d := d + 188) O (fun _ => ⟨kT, by
    have w1 : atS S t c ((pp + 1 : Nat) : Int) f_Md_thingAround k = ar := by rw [gA _ _ (by decide)]; exact z4
    have w2 : atS S t c ((pp + 1 : Nat) : Int) f_Md_r 0 = (rr : Int) := by rw [gA _ _ (by decide)]; exact a2
    unfold atS at gn w1 w2
    clear oA oN gA gN F3 q Z H F x1 x2 x3 ge
    simp (decide := true) (disch := first | decide | omega) only [cnI, cnR, cnK, cnl, cnA' G, cn_sA' G, kT, KN G, LN G, a6, a7, w1, w2, y2, Int.toNat_natCast, true_and, and_true]
    exact ⟨b2, b1, gn⟩⟩) (fun c => absurd c (by decide))⟩) (fun z => absurd nr z)
  refine s_cf21 (d := d + 189) O H hc (b_Md_callsFun_21 ?_)
  clear q H Z gn oA oN gA gN F3 ge F x1 x2 x3
  simp (decide := true) (disch := first | decide | omega) only [cnI, cnR, cnK, cnl, cnA' G, kT, KN G, LN G, z2, Int.toNat_natCast, true_and, and_true]
  exact ⟨b1, g1⟩
end
