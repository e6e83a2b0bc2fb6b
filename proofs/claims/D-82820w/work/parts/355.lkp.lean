/-! kept choices of both -/
set_option maxRecDepth 20000
/-- row k of T's choices and C's key and value -/
def CKR (g : HG) (hw ws : List (List Int)) (S : SS) (k : Nat) (K : KEY) (v : Int) : Prop := ∃ (κ st : Int) (c : Nat) (L ts : List Int) (n : Int), (st = 0 ∨ st = 1) ∧ hkB g κ st c L = true ∧ KEQ hw κ st c L ts K ∧ CHM S k (c : Int) (hkD κ st) (hkN g κ st c L n) ts ∧ v = sglG g ts (hkC g κ st c L) ∧ S f_Md_choiceFound k = v ∧ (κ = 5 → ∃ nn : Nat, n = (nn : Int) ∧ nn < ws.length ∧ ws.getD nn [] = L) ∧ ∀ i, i < ts.length → 0 ≤ ts.getD i 0
def LKP (g : HG) (hw ws : List (List Int)) (h : ah) (ho : Nat) (X : X3) (Y : Y3) (S : SS) (N M kn ac : Nat) (CK : Nat → KEY) (CV : Nat → Int) (ca : Nat → Nat) : Prop := LKH h ho X Y N M kn ac CK CV ca ∧ (S f_Md_choices 0 = (kn : Int) ∧ S f_Md_allChoices 0 = (ac : Int)) ∧ X 98 f_Lookup_workedOut 0 = S f_Md_workedOut 0 ∧ (∀ k, k < kn → CKR g hw ws S k (CK k) (CV k)) ∧ ∀ j k, j < k → k < kn → CK j ≠ CK k
section
variable {h : ah} {ho C k n i j N M c kn ac kn2 ac2 e c' : Nat} {S S' SX : SS} {X : X3} {Y : Y3} {g : HG} {md nm md' nm' κ st κ' st' v vs wo wo2 nn nn' : Int} {L ts L' ts' : List Int} {ws hw : List (List Int)} {K K0 K' : KEY} {CK CK2 : Nat → KEY} {CV CV2 : Nat → Int} {ca ca2 : Nat → Nat}
theorem CHM.fn {c c' : Int} (A : CHM S k c md nm ts) (B : CHM S k c' md' nm' ts') : c = c' ∧ md = md' ∧ nm = nm' ∧ ts = ts' := by
  obtain ⟨a1, a2, a3, a4, a5⟩ := A
  obtain ⟨b1, b2, b3, b4, b5⟩ := B
  have l : ts.length = ts'.length := by omega
  refine ⟨by omega, by omega, by omega, ?_⟩
  apply List.ext_getElem l
  intro i h1 h2
  have a := a5 i h1
  have b := b5 i h2
  rw [List.getD_eq_getElem?_getD, List.getElem?_eq_getElem h1] at a
  rw [List.getD_eq_getElem?_getD, List.getElem?_eq_getElem h2] at b
  rw [a] at b
  exact b
theorem hkB_k (H : hkB g κ st c L = true) : (κ = 1 ∨ κ = 5 ∨ (κ = 6 ∧ st = 1)) ∧ hkC g κ st c L ≠ [] := by
  unfold hkB at H
  simp only [Bool.and_eq_true, decide_eq_true_eq, Bool.not_eq_true', List.isEmpty_eq_false_iff] at H
  exact H
theorem hkC_w (H : hkB g 1 st c L = true) : ∃ m : Nat, hkN g 1 st c L nn = (m : Int) ∧ g.2 3 m = wtL xSET L := by
  obtain ⟨-, ne⟩ := hkB_k H
  refine ⟨(hkC g 1 st c L).getD 0 0, by unfold hkN; rw [if_pos rfl], ?_⟩
  have mem : (hkC g 1 st c L).getD 0 0 ∈ hkC g 1 st c L := by
    cases q : hkC g 1 st c L with
    | nil => exact absurd q ne
    | cons a l => exact List.mem_cons_self
  generalize (hkC g 1 st c L).getD 0 0 = m at *
  unfold hkC at mem
  rw [if_pos rfl] at mem
  have := colG_w m mem
  unfold wtB at this
  simp only [Bool.and_eq_true, decide_eq_true_eq] at this
  exact this.2.2.2
theorem hkD_inj (q1 : κ = 1 ∨ κ = 5 ∨ (κ = 6 ∧ st = 1)) (q2 : κ' = 1 ∨ κ' = 5 ∨ (κ' = 6 ∧ st' = 1)) (s1 : st = 0 ∨ st = 1) (s2 : st' = 0 ∨ st' = 1) (e : hkD κ st = hkD κ' st') : κ = κ' ∧ st = st' := by
  unfold hkD at e
  rcases q1 with r | r | ⟨r, rs⟩ <;> rcases q2 with r' | r' | ⟨r', rs'⟩ <;> subst r <;> subst r' <;> simp at e <;> omega
theorem k_five (q1 : κ = 1 ∨ κ = 5 ∨ (κ = 6 ∧ st = 1)) (k6 : ¬ κ = 6) (k1 : ¬ κ = 1) : κ = 5 := by omega
theorem k_st (q1 : κ = 1 ∨ κ = 5 ∨ (κ = 6 ∧ st = 1)) (k6 : κ = 6) : st = 1 := by omega
theorem k_eq (q1 : κ = 1 ∨ κ = 5 ∨ (κ = 6 ∧ st = 1)) (q2 : κ' = 1 ∨ κ' = 5 ∨ (κ' = 6 ∧ st' = 1)) (z2 : (if κ = 6 then (2 : Int) else 1) = (if κ' = 6 then 2 else 1)) (z5 : (if κ = 1 then (1 : Int) else 0) = (if κ' = 1 then 1 else 0)) : κ = κ' := by
  rcases q1 with r | r | ⟨r, rs⟩ <;> rcases q2 with r' | r' | ⟨r', rs'⟩ <;> subst r <;> subst r' <;> simp at z2 z5 <;> rfl
theorem map_clA (h1 : ∀ i, i < ts.length → 0 ≤ ts.getD i 0) (h2 : ∀ i, i < ts'.length → 0 ≤ ts'.getD i 0) (e : ts.map clA = ts'.map clA) : ts = ts' := by
  have l : ts.length = ts'.length := by
    have := congrArg List.length e
    simpa using this
  apply List.ext_getElem l
  intro i a1 a2
  have x1 := h1 i a1
  have x2 := h2 i a2
  rw [List.getD_eq_getElem?_getD, List.getElem?_eq_getElem a1] at x1
  rw [List.getD_eq_getElem?_getD, List.getElem?_eq_getElem a2] at x2
  have q : (ts.map clA)[i]'(by rw [List.length_map]; exact a1) = (ts'.map clA)[i]'(by rw [List.length_map]; exact a2) := by simp only [e]
  rw [List.getElem_map, List.getElem_map] at q
  exact (clA_inj x1 x2).mp q
theorem nd_ix (nd : ws.Nodup) {a b : Nat} (ha : a < ws.length) (hb : b < ws.length) (e : ws.getD a [] = ws.getD b []) : a = b := by
  have := (NMO.ix nd hb rfl (l := ws.getD a []) (v := (a : Int)) ⟨a, ha, rfl, rfl⟩).mpr e
  omega
/-- keys of T that are the same are the same for C -/
theorem key_tc (nd : hw.Nodup) (b1 : hkB g κ st c L = true) (b2 : hkB g κ' st' c' L' = true) (s1 : st = 0 ∨ st = 1) (s2 : st' = 0 ∨ st' = 1) (k1 : KEQ hw κ st c L ts K) (k2 : KEQ hw κ' st' c' L' ts' K') (n5 : κ = 5 → ∃ a : Nat, nn = (a : Int) ∧ a < ws.length ∧ ws.getD a [] = L) (n5' : κ' = 5 → ∃ a : Nat, nn' = (a : Int) ∧ a < ws.length ∧ ws.getD a [] = L') (e1 : (c : Int) = (c' : Int)) (e2 : hkD κ st = hkD κ' st') (e3 : hkN g κ st c L nn = hkN g κ' st' c' L' nn') (e4 : ts = ts') : K = K' := by
  obtain ⟨q1, -⟩ := hkB_k b1
  obtain ⟨q2, -⟩ := hkB_k b2
  have ec : c = c' := Int.ofNat.inj e1
  subst ec
  subst e4
  have ek := hkD_inj q1 q2 s1 s2 e2
  obtain ⟨rfl, rfl⟩ := ek
  obtain ⟨m1, rfl, x1, y1⟩ := k1
  obtain ⟨m2, rfl, x2, y2⟩ := k2
  have em : m1 = m2 := by
    by_cases k6 : κ = 6
    · rw [x1 k6, x2 k6]
    · obtain ⟨w1, rfl, w2, w3⟩ := y1 k6
      obtain ⟨w1', rfl, w2', w3'⟩ := y2 k6
      have : (if κ = 1 then wtL xSET L else L) = (if κ = 1 then wtL xSET L' else L') := by
        by_cases k1 : κ = 1
        · subst k1
          obtain ⟨m, u1, u2⟩ := hkC_w (nn := nn) b1
          obtain ⟨m', u1', u2'⟩ := hkC_w (nn := nn') b2
          rw [u1, u1'] at e3
          have : m = m' := Int.ofNat.inj e3
          subst this
          rw [if_pos rfl, if_pos rfl, ← u2, ← u2']
        · have k5 : κ = 5 := k_five q1 k6 k1
          subst k5
          obtain ⟨a, u1, u2, u3⟩ := n5 rfl
          obtain ⟨a', u1', u2', u3'⟩ := n5' rfl
          unfold hkN at e3
          simp at e3
          rw [u1, u1'] at e3
          have : a = a' := Int.ofNat.inj e3
          subst this
          rw [if_neg (by decide), if_neg (by decide), ← u3, ← u3']
      rw [nd_ix nd w2 w2' (by rw [w3, w3', this])]
  rw [em]
/-- and the other way round -/
theorem key_ct (wd : ws.Nodup) (b1 : hkB g κ st c L = true) (b2 : hkB g κ' st' c' L' = true) (s1 : st = 0 ∨ st = 1) (s2 : st' = 0 ∨ st' = 1) (k1 : KEQ hw κ st c L ts K) (k2 : KEQ hw κ' st' c' L' ts' K') (n5 : κ = 5 → ∃ a : Nat, nn = (a : Int) ∧ a < ws.length ∧ ws.getD a [] = L) (n5' : κ' = 5 → ∃ a : Nat, nn' = (a : Int) ∧ a < ws.length ∧ ws.getD a [] = L') (t1 : ∀ i, i < ts.length → 0 ≤ ts.getD i 0) (t2 : ∀ i, i < ts'.length → 0 ≤ ts'.getD i 0) (e : K = K') : (c : Int) = (c' : Int) ∧ hkD κ st = hkD κ' st' ∧ hkN g κ st c L nn = hkN g κ' st' c' L' nn' ∧ ts = ts' ∧ hkC g κ st c L = hkC g κ' st' c' L' := by
  obtain ⟨q1, -⟩ := hkB_k b1
  obtain ⟨q2, -⟩ := hkB_k b2
  obtain ⟨m1, rfl, x1, y1⟩ := k1
  obtain ⟨m2, e2, x2, y2⟩ := k2
  rw [← e] at e2
  simp only [Prod.mk.injEq] at e2
  obtain ⟨z1, z2, z3, z4, z5, z6⟩ := e2
  have ec : c = c' := Int.ofNat.inj z1
  subst ec
  have et := map_clA t1 t2 z6
  have ek : κ = κ' := k_eq q1 q2 z2 z5
  subst ek
  have es : st = st' := by
    by_cases k6 : κ = 6
    · rw [k_st q1 k6, k_st q2 k6]
    · rw [if_neg k6, if_neg k6] at z3; exact z3
  subst es
  subst z4
  by_cases k6 : κ = 6
  · subst k6
    exact ⟨rfl, rfl, rfl, et, rfl⟩
  · obtain ⟨w1, u1, w2, w3⟩ := y1 k6
    obtain ⟨w1', u1', w2', w3'⟩ := y2 k6
    have ew : w1 = w1' := Int.ofNat.inj (u1.symm.trans u1')
    subst ew
    rw [w3] at w3'
    by_cases k1 : κ = 1
    · subst k1
      rw [if_pos rfl, if_pos rfl] at w3'
      have eh : hkC g 1 st c L = hkC g 1 st c L' := by
        unfold hkC
        rw [if_pos rfl, if_pos rfl, w3']
      refine ⟨rfl, rfl, ?_, et, eh⟩
      unfold hkN
      rw [if_pos rfl, if_pos rfl, eh]
    · have k5 : κ = 5 := k_five q1 k6 k1
      subst k5
      rw [if_neg (by decide), if_neg (by decide)] at w3'
      subst w3'
      obtain ⟨a, v1, v2, v3⟩ := n5 rfl
      obtain ⟨a', v1', v2', v3'⟩ := n5' rfl
      have := nd_ix wd v2 v2' (by rw [v3, v3'])
      subst this
      rw [v1, v1']
      exact ⟨rfl, rfl, rfl, et, rfl⟩
end
