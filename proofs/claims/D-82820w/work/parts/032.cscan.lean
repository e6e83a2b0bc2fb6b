/-! C's scanner: its tokens -/
set_option maxRecDepth 20000
def SCM : List Nat := [f_Scanner_kind, f_Scanner_from, f_Scanner_to, f_Scanner_number, f_Scanner_heldSize, f_Scanner_held + 1, f_Fault_told]
/-- the scanner, the text that it reads, its fault, what a text token holds -/
def SC (h : ah) (C s x n fa he : Nat) : Prop := SCN h s x n ∧ hR h f_Scanner_fault s = fa ∧ hK h fa = k_Fault ∧ hR h f_Scanner_held s = he ∧ hK h he = 3 ∧ hl h he = 60 ∧ (s < hz h ∧ x < hz h ∧ fa < hz h ∧ he < hz h) ∧ C < hz h ∧ hR h f_LT_tape C = x ∧ x ≠ 0 ∧ INJ h
theorem own_of {f : Nat} (h : ownF.elem f = true) : own f := h
theorem SC.fr {L : List Nat} {P : List (Nat × Nat)} {z1 s1 : Nat} {h h' : ah} {C s x n fa he : Nat} (H : SC h C s x n fa he) (hf : Fr L P z1 s1 h h') (hM : ∀ a, ¬ okW L P f_Scanner_text a ∧ ¬ okW L P f_Scanner_size a ∧ ¬ okW L P f_Scanner_fault a ∧ ¬ okW L P f_Scanner_held a ∧ ¬ okW L P f_LT_tape a) : SC h' C s x n fa he := by
  obtain ⟨⟨a1, a2, a3, a4, a5, a6⟩, b1, b2, b3, b4, b5, ⟨c1, c2, c3, c4⟩, c5, o1, o2, o3⟩ := H
  obtain ⟨m1, m2, m3, m4, -⟩ := hM s
  obtain ⟨-, -, -, -, m5⟩ := hM C
  exact ⟨⟨by rw [hf.K c1]; exact a1, by rw [hf.R c1 (by decide) m1]; exact a2, by rw [hf.I c1 (by decide) m2]; exact a3, by rw [hf.K c2]; exact a4, by rw [hf.la c2 (by omega)]; exact a5, a6⟩, by rw [hf.R c1 (by decide) m3]; exact b1, by rw [hf.K c3]; exact b2, by rw [hf.R c1 (by decide) m4]; exact b3, by rw [hf.K c4]; exact b4, by rw [hf.la c4 (by omega)]; exact b5, ⟨hf.lt c1, hf.lt c2, hf.lt c3, hf.lt c4⟩, hf.lt c5, by rw [hf.R c5 (by decide) m5]; exact o1, o2, hf.inj o3⟩
theorem SCM_n : ∀ a, ¬ okW SCM [] f_Scanner_text a ∧ ¬ okW SCM [] f_Scanner_size a ∧ ¬ okW SCM [] f_Scanner_fault a ∧ ¬ okW SCM [] f_Scanner_held a ∧ ¬ okW SCM [] f_LT_tape a := fun a => ⟨nokW (by decide) rfl, nokW (by decide) rfl, nokW (by decide) rfl, nokW (by decide) rfl, nokW (by decide) rfl⟩
section
variable {ρ : Nat → Nat} {d : Nat} {h : ah} {G : ah → Prop} {E : Nat → ah → Prop} {C s x n fa he : Nat}
theorem hK_f {f v : Nat} {w : Int} (h1 : hK h v = k_Fault) : hK (sI h f v w) v ≠ 0 := by rw [show hK (sI h f v w) v = hK h v from rfl, h1]; decide
theorem SC.tape (H : SC h C s x n fa he) {h' : ah} (hf : Fr SCM [] 0 0 h h') : ta (hA h' x) n = ta (hA h x) n := by
  obtain ⟨-, -, -, -, -, -, -, c5, o1, o2, o3⟩ := H
  have : hA h' x = hA h x := funext fun i => (hf.ar o3 (own_of rfl) c5 o1 o2 (nok (by decide) (by decide) rfl rfl) (by simp)).2.1 i
  rw [this]
/-- a name -/
theorem c_name (H : SC h C s x n fa he) {p : Nat} (hp : p ≤ n) (hfr : hI h f_Scanner_from s = (p : Int)) (q1 : ∀ h' r, Fr SCM [] 0 0 h h' → endOf ld (ta (hA h x) n) p r → r ≤ n → r - p ≤ 30 → hI h' f_Scanner_kind s = 1 → hI h' f_Scanner_to s = (r : Int) → hI h' f_Scanner_from s = (p : Int) → G h') (q2 : ∀ h' r, Fr SCM [] 0 0 h h' → endOf ld (ta (hA h x) n) p r → r ≤ n → 30 < r - p → hI h' f_Fault_told fa = 1 + 16 * (p : Int) → E fa h') :
    wpB PGm ρ (d + 2) m_Scanner_name 0 [(0, vR s), (1, vI (p : Int))] [] h (cV G E) := by
  have hS := H.1
  have hb := H.1.2.2.2.2.2
  have lp : ∀ m l, n - l < m → p ≤ l → l ≤ n → (∀ k, p ≤ k → k < l → ld (ta (hA h x) n k)) → wpB PGm ρ (d + 2) m_Scanner_name 2 [(0, vR s), (1, vI (p : Int)), (2, vI (l : Int))] [] h (cV G E) := by
    intro m
    induction m with
    | zero => intro l hm; omega
    | succ m ih =>
      intro l hm h1 h2 h3
      have ew : w32 ((l : Int) - (p : Int)) = ((l - p : Nat) : Int) := by rw [w32_of (by omega) (by omega)]; omega
      have go : ld (ta (hA h x) n l) → wpB PGm ρ (d + 2) m_Scanner_name 2 [(0, vR s), (1, vI (p : Int)), (2, vI (w32 ((l : Int) + 1)))] [] h (cV G E) := by
        intro hl
        rw [w32_s (by omega)]
        have hln : l < n := Classical.byContradiction fun z => by rw [ta_out (by omega)] at hl; exact ld0 hl
        exact ih (l + 1) (by omega) (by omega) (by omega) (fun k k1 k2 => by
          by_cases e : k = l
          · rw [e]; exact hl
          · exact h3 k k1 (by omega))
      refine b_Scanner_name_2 ⟨hS.1, c_at hS l (c_let _ (fun y => ⟨fun _ => go (Or.inl y), fun z => absurd z (by decide)⟩) fun y => ⟨fun z => absurd rfl z, fun _ => ⟨hS.1, c_at hS l (c_dig _ (fun y => ⟨fun z => absurd z (by decide), fun _ => go (Or.inr y)⟩) fun y2 => ⟨fun _ => ⟨fun z => ?_, fun z => ⟨hS.1, ?_⟩⟩, fun z => absurd rfl z⟩)⟩⟩)⟩
      · exact b_Scanner_name_43 ⟨hS.1, q1 _ l (Fr.wL (by decide) (Fr.wL (by decide) Fr.r0)) ⟨h1, h3, fun z => z.elim y y2⟩ h2 (by omega) (by rw [I_Ine (by decide), I_I]) (I_I _ _ _ _) (by rw [I_Ine (by decide), I_Ine (by decide)]; exact hfr)⟩
      · exact c_fail hS.1 H.2.1 H.2.2.1 hfr (by omega) (by omega) ⟨hK_f H.2.2.1, q2 _ l (Fr.wL (by decide) Fr.r0) ⟨h1, h3, fun z => z.elim y y2⟩ h2 (by omega) (I_I _ _ _ _)⟩
  exact b_Scanner_name_0 (lp _ p (Nat.lt_succ_self _) (Nat.le_refl _) hp (fun k k1 k2 => by omega))
theorem p10 {j : Nat} (h : j ≤ 9) : (10 : Int) ^ j ≤ 1000000000 := by
  have h1 := Nat.pow_le_pow_right (n := 10) (by omega) h
  have e : ((10 ^ j : Nat) : Int) = (10 : Int) ^ j := by simp
  rw [← e]
  omega
/-- a number: what it is after so many digits, ten at most -/
theorem c_number (H : SC h C s x n fa he) {p : Nat} (hp : p ≤ n) (hfr : hI h f_Scanner_from s = (p : Int)) (q1 : ∀ h' r, Fr SCM [] 0 0 h h' → endOf digi (ta (hA h x) n) p r → r ≤ n → r - p ≤ 10 → nv (ta (hA h x) n) p (r - p) ≤ 2147483647 → hI h' f_Scanner_kind s = 2 → hI h' f_Scanner_to s = (r : Int) → hI h' f_Scanner_from s = (p : Int) → hI h' f_Scanner_number s = nv (ta (hA h x) n) p (r - p) → G h')
    (q2 : ∀ h' r, Fr SCM [] 0 0 h h' → endOf digi (ta (hA h x) n) p r → r ≤ n → ¬ (r - p ≤ 10 ∧ nv (ta (hA h x) n) p (r - p) ≤ 2147483647) → hI h' f_Fault_told fa = 1 + 16 * (p : Int) → E fa h') :
    wpB PGm ρ (d + 2) m_Scanner_number 0 [(0, vR s), (1, vI (p : Int))] [] h (cV G E) := by
  have hb := H.1.2.2.2.2.2
  have lp : ∀ m l h1, n - l < m → p ≤ l → l ≤ n → Fr SCM [] 0 0 h h1 → hI h1 f_Scanner_from s = (p : Int) → hI h1 f_Scanner_number s = nv (ta (hA h x) n) p (min 10 (l - p)) → (∀ k, p ≤ k → k < l → digi (ta (hA h x) n k)) → wpB PGm ρ (d + 2) m_Scanner_number 7 [(0, vR s), (1, vI (p : Int)), (2, vI (l : Int))] [] h1 (cV G E) := by
    intro m
    induction m with
    | zero => intro l h1 hm; omega
    | succ m ih =>
      intro l h1 hm b1 b2 hf hfr1 hnum h3
      have H1 := H.fr hf SCM_n
      have hS := H1.1
      have et := H.tape hf
      have ew : w32 ((l : Int) - (p : Int)) = ((l - p : Nat) : Int) := by rw [w32_of (by omega) (by omega)]; omega
      have go : ∀ v, digi (ta (hA h x) n l) → v = nv (ta (hA h x) n) p (min 10 (l + 1 - p)) → wpB PGm ρ (d + 2) m_Scanner_number 53 [(0, vR s), (1, vI (p : Int)), (2, vI (l : Int))] [vL v, vR s] h1 (cV G E) := by
        intro v hl hv
        have hln : l < n := Classical.byContradiction fun z => by rw [ta_out (by omega)] at hl; exact digi0 hl
        refine b_Scanner_number_53 ⟨hS.1, ?_⟩
        rw [w32_s (by omega)]
        exact ih (l + 1) _ (by omega) (by omega) (by omega) (Fr.wL (by decide) hf) (by rw [I_Ine (by decide)]; exact hfr1) (by rw [I_I]; exact hv) (fun k k1 k2 => by
          by_cases e : k = l
          · rw [e]; exact hl
          · exact h3 k k1 (by omega))
      have bad : ¬ digi (ta (hA h x) n l) → ¬ (l - p ≤ 10 ∧ nv (ta (hA h x) n) p (l - p) ≤ 2147483647) → wpB PGm ρ (d + 2) m_Scanner_number 81 [(0, vR s), (2, vI (l : Int))] [] h1 (cV G E) := by
        intro y z
        refine b_Scanner_number_81 ⟨hS.1, c_fail hS.1 H1.2.1 H1.2.2.1 hfr1 (by omega) (by omega) ⟨hK_f H1.2.2.1, q2 _ l (Fr.wL (by decide) hf) ⟨b1, h3, y⟩ b2 z (I_I _ _ _ _)⟩⟩
      refine b_Scanner_number_7 ⟨hS.1, c_at hS l ?_⟩
      rw [et]
      refine c_dig _ (fun y => ⟨fun z => absurd z (by decide), fun _ => ⟨fun z => ⟨hS.1, go _ y ?_⟩, fun z => ⟨hS.1, c_at hS l ?_⟩⟩⟩) (fun y => ⟨fun _ => ⟨fun z => bad y (by omega), fun z => ⟨hS.1, fun z2 => ?_, fun z2 => bad y ?_⟩⟩, fun z => absurd rfl z⟩)
      · rw [hnum, show min 10 (l - p) = min 10 (l + 1 - p) by omega]
      · rw [et]
        refine go _ y ?_
        have e1 : min 10 (l + 1 - p) = min 10 (l - p) + 1 := by omega
        have e2 : p + min 10 (l - p) = l := by omega
        obtain ⟨g1, g2⟩ := nv_b (a := ta (hA h x) n) (b := p) (j := min 10 (l - p)) (fun i hi => h3 _ (by omega) (by omega))
        have g3 := p10 (j := min 10 (l - p)) (by omega)
        have y' := y
        unfold digi at y'
        rw [e1, hnum, nv, e2]
        rw [w64_of (x := 10 * nv (ta (hA h x) n) p (min 10 (l - p))) (by omega) (by omega), w64_of (x := 10 * nv (ta (hA h x) n) p (min 10 (l - p)) + ta (hA h x) n l) (by omega) (by omega), w64_of (by omega) (by omega)]
      · rw [hnum, lc_np] at z2
        rw [show min 10 (l - p) = l - p by omega] at z2 hnum
        refine b_Scanner_number_86 ⟨hS.1, q1 _ l (Fr.wL (by decide) (Fr.wL (by decide) hf)) ⟨b1, h3, y⟩ b2 (by omega) z2 (by rw [I_Ine (by decide), I_I]) (I_I _ _ _ _) (by rw [I_Ine (by decide), I_Ine (by decide)]; exact hfr1) (by rw [I_Ine (by decide), I_Ine (by decide)]; exact hnum)⟩
      · rw [hnum, lc_p] at z2
        rw [show min 10 (l - p) = l - p by omega] at z2
        omega
  exact b_Scanner_number_0 ⟨H.1.1, lp _ p _ (Nat.lt_succ_self _) (Nat.le_refl _) hp (Fr.wL (by decide) Fr.r0) (by rw [I_Ine (by decide)]; exact hfr) (by rw [I_I, Nat.sub_self]; rfl) (fun k k1 k2 => by omega)⟩
/-- a list of letters that stands in an array -/
def HL (h : ah) (a : Nat) (l : List Int) : Prop := ∀ i, i < l.length → hA h a i = l.getD i 0
theorem HL.add {h : ah} {a : Nat} {l : List Int} (H : HL h a l) (c : Int) : HL (sA h a l.length c) a (l ++ [c]) := by
  intro i hi
  rw [List.length_append, List.length_singleton] at hi
  by_cases e : i = l.length
  · subst e; rw [A_A]; simp [List.getD]
  · rw [A_Ane' e, H i (by omega)]
    simp only [List.getD]
    rw [List.getElem?_append_left (by omega)]
theorem c_quoted (H : SC h C s x n fa he) {p : Nat} (hp : p < n) (hfr : hI h f_Scanner_from s = (p : Int)) (hv : ∀ k, k < n → hA h x k = 10 ∨ (32 ≤ hA h x k ∧ hA h x k ≤ 126))
    (q1 : ∀ h' l r, Fr SCM [] 0 0 h h' → qt (ta (hA h x) n) n (p + 1) [] = some (l, r) → p + 1 ≤ r → r < n → hI h' f_Scanner_kind s = 3 → hI h' f_Scanner_to s = ((r + 1 : Nat) : Int) → hI h' f_Scanner_from s = (p : Int) → HL h' he l → hI h' f_Scanner_heldSize s = (l.length : Int) → l.length ≤ 60 → (∀ c ∈ l, c = 10 ∨ (32 ≤ c ∧ c ≤ 126)) → G h')
    (q2 : ∀ h', Fr SCM [] 0 0 h h' → qt (ta (hA h x) n) n (p + 1) [] = none → hI h' f_Fault_told fa = 1 + 16 * (p : Int) → E fa h') :
    wpB PGm ρ (d + 2) m_Scanner_quoted 0 [(0, vR s), (1, vI (p : Int))] [] h (cV G E) := by
  have hb := H.1.2.2.2.2.2
  have lp : ∀ m k h1 l, n + 1 - k < m → p + 1 ≤ k → k ≤ n + 1 → Fr SCM [] 0 0 h h1 → hI h1 f_Scanner_from s = (p : Int) → HL h1 he l → hI h1 f_Scanner_heldSize s = (l.length : Int) → l.length ≤ 60 → (∀ c ∈ l, c = 10 ∨ (32 ≤ c ∧ c ≤ 126)) → qt (ta (hA h x) n) n (p + 1) [] = qt (ta (hA h x) n) n k l → wpB PGm ρ (d + 2) m_Scanner_quoted 9 [(0, vR s), (2, vI (k : Int))] [] h1 (cV G E) := by
    intro m
    induction m with
    | zero => intro k h1 l hm; omega
    | succ m ih =>
      intro k h1 l hm b1 b2 hf hfr1 hHl hls hl60 hlv hq
      have H1 := H.fr hf SCM_n
      have hS := H1.1
      have et := H.tape hf
      have bad : qt (ta (hA h x) n) n k l = none → ∀ l3, wpB PGm ρ (d + 2) m_Scanner_quoted 48 [(0, vR s), (2, vI (k : Int)), (3, vI l3)] [] h1 (cV G E) := by
        intro e l3
        exact b_Scanner_quoted_48 ⟨hS.1, c_fail hS.1 H1.2.1 H1.2.2.1 hfr1 (by omega) (by omega) ⟨hK_f H1.2.2.1, q2 _ (Fr.wL (by decide) hf) (hq.trans e) (I_I _ _ _ _)⟩⟩
      have put : ∀ (k2 : Nat) (c : Int), k ≤ k2 → k2 ≤ n → (c = 10 ∨ (32 ≤ c ∧ c ≤ 126)) → l.length < 60 → qt (ta (hA h x) n) n k l = qt (ta (hA h x) n) n (k2 + 1) (l ++ [c]) → wpB PGm ρ (d + 2) m_Scanner_quoted 104 [(0, vR s), (2, vI (k2 : Int)), (3, vI c)] [] h1 (cV G E) := by
        intro k2 c g1 g2 g3 g4 g5
        have ec : w8 c = c := w8_of (by omega) (by omega)
        have e1 : hR h1 f_Scanner_held s = he := H1.2.2.2.1
        have e2 : hl h1 he = 60 := H1.2.2.2.2.2.1
        refine b_Scanner_quoted_104 ⟨hS.1, ⟨Or.inl ⟨by rw [e1]; exact H1.2.2.2.2.1, by rw [ec]; omega, by rw [ec]; omega⟩, by omega, by rw [e1, e2, hls]; omega⟩, ?_⟩
        rw [ec, e1, hls, w32_s (by omega)]
        intro g7 g8
        have e3 : hI g7 f_Scanner_heldSize s = (l.length : Int) := hls
        have e4 : w32 (hI g7 f_Scanner_heldSize s + 1) = ((l.length + 1 : Nat) : Int) := by rw [e3, w32_s (by omega)]
        have f7 : Fr SCM [] 0 0 h g7 := Fr.wA (Or.inr (Or.inr (Or.inr ⟨f_Scanner_held, s, H.2.2.2.2.2.2.1.1, own_of rfl, H.2.2.2.1, Or.inr (okL (by decide))⟩))) hf
        refine ih (k2 + 1) g8 (l ++ [c]) (by omega) (by omega) (by omega) (Fr.wL (by decide) f7) (by show hI (sI g7 _ _ _) _ _ = _; rw [I_Ine (by decide)]; exact hfr1) ?_ (by show hI (sI g7 _ _ _) _ _ = _; rw [I_I, e4]; simp) (by simp; omega) (fun c' hc' => ?_) (hq.trans g5)
        · exact hHl.add c
        · rcases List.mem_append.mp hc' with z | z
          · exact hlv c' z
          · cases List.mem_singleton.mp z; exact g3
      have hin : ¬ ta (hA h x) n k = 0 → k < n := fun z => Classical.byContradiction fun y => z (ta_out (by omega))
      have hval : k < n → ta (hA h x) n k = 10 ∨ (32 ≤ ta (hA h x) n k ∧ ta (hA h x) n k ≤ 126) := fun z => by rw [ta_in z]; exact hv k z
      have hsz : hI h1 f_Scanner_size s = (n : Int) := hS.2.2.1
      refine b_Scanner_quoted_9 ⟨hS.1, c_at hS k ?_⟩
      rw [et]
      refine ⟨fun e34 => ⟨hS.1, ?_⟩, fun n34 => ⟨hS.1, c_at hS k ?_⟩⟩
      · have hk := hin (by omega)
        have eq : qt (ta (hA h x) n) n k l = some (l, k) := by rw [qt, dif_pos hk, if_pos e34]
        rw [w32_s (by omega)]
        exact q1 _ l k (Fr.wL (by decide) (Fr.wL (by decide) hf)) (hq.trans eq) b1 hk (by rw [I_Ine (by decide), I_I]) (I_I _ _ _ _) (by rw [I_Ine (by decide), I_Ine (by decide)]; exact hfr1) hHl (by rw [I_Ine (by decide), I_Ine (by decide)]; exact hls) hl60 hlv
      · rw [et]
        refine ⟨hS.1, fun z => bad ?_ _, fun z => ⟨fun e10 => bad ?_ _, fun n10 => ⟨fun n60 => ?_, fun e60 => bad ?_ _⟩⟩⟩
        · rw [qt, dif_neg (by omega)]
        · rw [qt, dif_pos (by omega), if_neg n34, if_pos (Or.inl e10)]
        · have hk : k < n := by omega
          have n60 : ¬ l.length = 60 := by omega
          have eq : qt (ta (hA h x) n) n k l = if ta (hA h x) n k = 92 then (if ta (hA h x) n (k + 1) = 110 then qt (ta (hA h x) n) n (k + 2) (l ++ [10]) else if ta (hA h x) n (k + 1) = 34 ∨ ta (hA h x) n (k + 1) = 92 then qt (ta (hA h x) n) n (k + 2) (l ++ [ta (hA h x) n (k + 1)]) else none) else qt (ta (hA h x) n) n (k + 1) (l ++ [ta (hA h x) n k]) := by
            rw [qt, dif_pos hk, if_neg n34, if_neg (by omega)]
          refine b_Scanner_quoted_53 ⟨fun n92 => ?_, fun e92 => ⟨hS.1, ?_⟩⟩
          · rw [if_neg n92] at eq
            exact put k _ (Nat.le_refl _) (by omega) (hval hk) (by omega) eq
          · rw [if_pos e92] at eq
            rw [w32_s (by omega)]
            refine c_at hS (k + 1) ?_
            rw [et]
            refine ⟨fun e110 => ?_, fun n110 => ⟨fun e34' => ?_, fun n34' => ⟨fun e92' => ?_, fun n92' => ⟨hS.1, ?_⟩⟩⟩⟩
            · rw [if_pos e110] at eq
              exact b_Scanner_quoted_91 ⟨fun z => absurd e110 z, fun _ => put (k + 1) 10 (by omega) (by omega) (Or.inl rfl) (by omega) eq⟩
            · rw [if_neg n110, if_pos (Or.inl e34')] at eq
              exact b_Scanner_quoted_91 ⟨fun _ => put (k + 1) _ (by omega) (by omega) (by omega) (by omega) eq, fun z => absurd z n110⟩
            · rw [if_neg n110, if_pos (Or.inr e92')] at eq
              exact b_Scanner_quoted_91 ⟨fun _ => put (k + 1) _ (by omega) (by omega) (by omega) (by omega) eq, fun z => absurd z n110⟩
            · rw [if_neg n110, if_neg (by omega)] at eq
              exact c_fail hS.1 H1.2.1 H1.2.2.1 hfr1 (by omega) (by omega) ⟨hK_f H1.2.2.1, q2 _ (Fr.wL (by decide) hf) (hq.trans eq) (I_I _ _ _ _)⟩
        · rw [qt, dif_pos (by omega), if_neg n34, if_pos (Or.inr (by omega))]
  refine b_Scanner_quoted_0 ⟨H.1.1, ?_⟩
  rw [w32_s (by omega)]
  exact lp _ (p + 1) _ [] (Nat.lt_succ_self _) (Nat.le_refl _) (by omega) (Fr.wL (by decide) Fr.r0) (by rw [I_Ine (by decide)]; exact hfr) (fun i hi => by simp at hi) (by rw [I_I]; rfl) (by simp) (fun c hc => by cases hc) rfl
theorem sgc_d (c : Int) : sgc c ∨ ¬ sgc c := Classical.em _
/-- a sign -/
theorem c_sign (H : SC h C s x n fa he) {p : Nat} (hp : p < n) (hfr : hI h f_Scanner_from s = (p : Int)) (q1 : ∀ h' k m, Fr SCM [] 0 0 h h' → sgn (hI h f_Scanner_host s) (ta (hA h x) n p) (ta (hA h x) n (p + 1)) (ta (hA h x) n (p + 2)) k m → ¬ k = -1 → hI h' f_Scanner_kind s = k → hI h' f_Scanner_to s = ((p + m : Nat) : Int) → hI h' f_Scanner_from s = (p : Int) → G h')
    (q2 : ∀ h' m, Fr SCM [] 0 0 h h' → sgn (hI h f_Scanner_host s) (ta (hA h x) n p) (ta (hA h x) n (p + 1)) (ta (hA h x) n (p + 2)) (-1) m → hI h' f_Fault_told fa = 1 + 16 * (p : Int) → E fa h') :
    wpB PGm ρ (d + 2) m_Scanner_sign 0 [(0, vR s), (1, vI (ta (hA h x) n p)), (2, vI (p : Int))] [] h (cV G E) := by
  have hb := H.1.2.2.2.2.2
  have hS := H.1
  have w2 : w32 ((p : Int) + 2) = ((p + 2 : Nat) : Int) := by rw [w32_of (by omega) (by omega)]; omega
  have w3 : w32 ((p : Int) + 3) = ((p + 3 : Nat) : Int) := by rw [w32_of (by omega) (by omega)]; omega
  generalize hc : ta (hA h x) n p = c at *
  generalize hd : ta (hA h x) n (p + 1) = d1 at *
  generalize hd2 : ta (hA h x) n (p + 2) = d2 at *
  have one : ∀ h1, Fr SCM [] 0 0 h h1 → hI h1 f_Scanner_from s = (p : Int) → (∀ k m, (sgc c ∧ k = c ∧ m = 1) ∨ (¬ sgc c ∧ k = -1) → sgn (hI h f_Scanner_host s) c d1 d2 k m) → wpB PGm ρ (d + 2) m_Scanner_sign 168 [(0, vR s), (1, vI c), (2, vI (p : Int))] [] h1 (cV G E) := by
    intro h1 hf hfr1 hsg
    have H1 := H.fr hf SCM_n
    have k1 : sgc c → wpB PGm ρ (d + 2) m_Scanner_sign 287 [(0, vR s), (1, vI c), (2, vI (p : Int))] [vI 1] h1 (cV G E) := fun hs => b_Scanner_sign_287 ⟨fun _ => b_Scanner_sign_299 ⟨H1.1.1, by
      rw [w32_s (by omega)]
      have hc1 : ¬ c = -1 := by intro z; rw [z] at hs; revert hs; unfold sgc; decide
      exact q1 _ c 1 (Fr.wL (by decide) (Fr.wL (by decide) hf)) (hsg _ _ (Or.inl ⟨hs, rfl, rfl⟩)) hc1 (by rw [I_Ine (by decide), I_I]) (I_I _ _ _ _) (by rw [I_Ine (by decide), I_Ine (by decide)]; exact hfr1)⟩, fun z => absurd z (by decide)⟩
    have k0 : ¬ sgc c → wpB PGm ρ (d + 2) m_Scanner_sign 287 [(0, vR s), (1, vI c), (2, vI (p : Int))] [vI 0] h1 (cV G E) := fun hs => b_Scanner_sign_287 ⟨fun z => absurd rfl z, fun _ => ⟨H1.1.1, c_fail H1.1.1 H1.2.1 H1.2.2.1 hfr1 (by omega) (by omega) ⟨hK_f H1.2.2.1, q2 _ 0 (Fr.wL (by decide) hf) (hsg _ _ (Or.inr ⟨hs, rfl⟩)) (I_I _ _ _ _)⟩⟩⟩
    unfold sgc at k1 k0
    simp only [List.mem_cons, List.not_mem_nil, or_false] at k1 k0
    refine b_Scanner_sign_168 ⟨fun e => k1 (by omega), fun n1 => ⟨fun e => k1 (by omega), fun n2 => ⟨fun e => k1 (by omega), fun n3 => ⟨fun e => k1 (by omega), fun n4 => ⟨fun e => k1 (by omega), fun n5 => ⟨fun e => k1 (by omega), fun n6 => ⟨fun e => k1 (by omega), fun n7 => ⟨fun e => k1 (by omega), fun n8 => ⟨fun e => k1 (by omega), fun n9 => ⟨fun e => k1 (by omega), fun n10 => ⟨fun e => k1 (by omega), fun n11 => ⟨fun e => k1 (by omega), fun n12 => ⟨fun e => k1 (by omega), fun n13 => ⟨fun e => k1 (by omega), fun n14 => ⟨fun e => k1 (by omega), fun n15 => ⟨fun e => k1 (by omega), fun n16 => ⟨fun e => k1 (by omega), fun n17 => ?_⟩⟩⟩⟩⟩⟩⟩⟩⟩⟩⟩⟩⟩⟩⟩⟩⟩
    exact b_Scanner_sign_270 ⟨fun e => k1 (by omega), fun n18 => ⟨fun n19 => k0 (by omega), fun e => k1 (by omega)⟩⟩
  have two : ∀ k, ¬ k = 0 → ¬ k = -1 → sgn (hI h f_Scanner_host s) c d1 d2 k 2 → wpB PGm ρ (d + 2) m_Scanner_sign 104 [(0, vR s), (1, vI c), (2, vI (p : Int)), (3, vI d1)] [vI k, vR s] h (cV G E) := by
    intro k k0 k1 hk
    refine b_Scanner_sign_104 ⟨hS.1, hS.1, ?_⟩
    rw [w2]
    intro g
    have e1 : hI g f_Scanner_kind s = k := by show hI (sI _ _ _ _) _ _ = _; rw [I_Ine (by decide), I_I]
    refine ⟨fun z => absurd (e1.symm.trans z) k0, fun _ => q1 g k 2 (Fr.wL (by decide) (Fr.wL (by decide) Fr.r0)) hk k1 e1 (I_I _ _ _ _) (by show hI (sI _ _ _ _) _ _ = _; rw [I_Ine (by decide), I_Ine (by decide)]; exact hfr)⟩
  have zer : ¬ (d1 = 61 ∧ (c = 61 ∨ c = 33 ∨ c = 60 ∨ c = 62)) → ¬ (c = 38 ∧ d1 = 38) → ¬ (c = 124 ∧ d1 = 124) → wpB PGm ρ (d + 2) m_Scanner_sign 104 [(0, vR s), (1, vI c), (2, vI (p : Int)), (3, vI d1)] [vI 0, vR s] h (cV G E) := by
    intro z1 z2 z3
    refine b_Scanner_sign_104 ⟨hS.1, hS.1, ?_⟩
    rw [w2]
    intro g
    have f1 : Fr SCM [] 0 0 h g := Fr.wL (by decide) (Fr.wL (by decide) Fr.r0)
    have e1 : hI g f_Scanner_kind s = 0 := by show hI (sI _ _ _ _) _ _ = _; rw [I_Ine (by decide), I_I]
    have e2 : hI g f_Scanner_from s = (p : Int) := by show hI (sI _ _ _ _) _ _ = _; rw [I_Ine (by decide), I_Ine (by decide)]; exact hfr
    have e3 : hI g f_Scanner_host s = hI h f_Scanner_host s := f1.I H.2.2.2.2.2.2.1.1 (by decide) (nokW (by decide) rfl)
    have go : ¬ (¬ hI h f_Scanner_host s = 0 ∧ c = 46 ∧ d1 = 46 ∧ d2 = 46) → wpB PGm ρ (d + 2) m_Scanner_sign 168 [(0, vR s), (1, vI c), (2, vI (p : Int))] [] g (cV G E) := fun z4 => one g f1 e2 (fun k m hk => by
      unfold sgn
      rw [if_neg (by omega), if_neg (by omega), if_neg (by omega), if_neg (by omega), if_neg (by omega), if_neg (by omega), if_neg z4]
      exact hk)
    refine ⟨fun _ => ⟨fun z => go (fun y => y.1 (by rw [← e3]; exact z)), fun y0 => ⟨fun z => go (fun y => z y.2.1), fun e46 => ⟨fun z => go (fun y => z y.2.2.1), fun e46' => ?_⟩⟩⟩, fun z => absurd e1 z⟩
    have H1 := H.fr f1 SCM_n
    rw [show (((p + 2 : Nat) : Int)) = ((p + 2 : Nat) : Int) from rfl]
    refine c_at H1.1 (p + 2) ?_
    rw [H.tape f1, hd2]
    refine ⟨fun z => go (fun y => z y.2.2.2), fun e46'' => ⟨H1.1.1, ?_⟩⟩
    rw [w3]
    refine q1 _ 136 3 (Fr.wL (by decide) (Fr.wL (by decide) f1)) ?_ (by decide) (by rw [I_Ine (by decide), I_I]) (I_I _ _ _ _) (by rw [I_Ine (by decide), I_Ine (by decide)]; exact e2)
    unfold sgn
    rw [if_neg (by omega), if_neg (by omega), if_neg (by omega), if_neg (by omega), if_neg (by omega), if_neg (by omega), if_pos ⟨by rw [← e3]; exact y0, e46, e46', e46''⟩]
    exact ⟨rfl, rfl⟩
  refine b_Scanner_sign_0 ⟨hS.1, ?_⟩
  rw [w32_s (by omega)]
  refine c_at hS (p + 1) ?_
  rw [hd]
  have pipe : ¬ d1 = 61 → ¬ (c = 38 ∧ d1 = 38) → wpB PGm ρ (d + 2) m_Scanner_sign 85 [(0, vR s), (1, vI c), (2, vI (p : Int)), (3, vI d1)] [vR s] h (cV G E) := fun y1 y2 => b_Scanner_sign_85 ⟨fun z => zer (by omega) y2 (by omega), fun e => ⟨fun z => zer (by omega) y2 (by omega), fun e2 => two 135 (by decide) (by decide) (by
    unfold sgn
    rw [if_neg (by omega), if_neg (by omega), if_neg (by omega), if_neg (by omega), if_neg (by omega), if_pos ⟨e, e2⟩]
    exact ⟨rfl, rfl⟩)⟩⟩
  refine ⟨fun n61 => ⟨fun n38 => pipe n61 (by omega), fun e38 => ⟨fun z => pipe n61 (by omega), fun e => two 134 (by decide) (by decide) ?_⟩⟩, fun e61 => ⟨fun m1 => ⟨fun m2 => ⟨fun m3 => ⟨fun m4 => zer (by omega) (by omega) (by omega), fun e => two 133 (by decide) (by decide) ?_⟩, fun e => two 132 (by decide) (by decide) ?_⟩, fun e => two 131 (by decide) (by decide) ?_⟩, fun e => two 130 (by decide) (by decide) ?_⟩⟩
  · unfold sgn; rw [if_neg (by omega), if_neg (by omega), if_neg (by omega), if_neg (by omega), if_pos ⟨e38, e⟩]; exact ⟨rfl, rfl⟩
  · unfold sgn; rw [if_neg (by omega), if_neg (by omega), if_neg (by omega), if_pos ⟨e61, e⟩]; exact ⟨rfl, rfl⟩
  · unfold sgn; rw [if_neg (by omega), if_neg (by omega), if_pos ⟨e61, e⟩]; exact ⟨rfl, rfl⟩
  · unfold sgn; rw [if_neg (by omega), if_pos ⟨e61, e⟩]; exact ⟨rfl, rfl⟩
  · unfold sgn; rw [if_pos ⟨e61, e⟩]; exact ⟨rfl, rfl⟩
/-- what the scanner has at hand -/
def CTK (h : ah) (s he : Nat) (q : Nat) (k : Int) (to : Nat) (num : Int) (held : List Int) : Prop := hI h f_Scanner_kind s = k ∧ hI h f_Scanner_from s = (q : Int) ∧ hI h f_Scanner_to s = (to : Int) ∧ (k = 2 → hI h f_Scanner_number s = num) ∧ (k = 3 → HL h he held ∧ hI h f_Scanner_heldSize s = (held.length : Int) ∧ held.length ≤ 60 ∧ ∀ c ∈ held, c = 10 ∨ (32 ≤ c ∧ c ≤ 126))
theorem c_next (H : SC h C s x n fa he) {p : Nat} (hp : p ≤ n) (hto : hI h f_Scanner_to s = (p : Int)) (hv : ∀ k, k < n → hA h x k = 10 ∨ (32 ≤ hA h x k ∧ hA h x k ≤ 126))
    (q1 : ∀ h' k to num held, Fr SCM [] 0 0 h h' → tokE (ta (hA h x) n) n (hI h f_Scanner_host s) (skp (ta (hA h x) n) n p) k to num held → ¬ k = -1 → to ≤ n + 1 → CTK h' s he (skp (ta (hA h x) n) n p) k to num held → G h')
    (q2 : ∀ h' to num held, Fr SCM [] 0 0 h h' → tokE (ta (hA h x) n) n (hI h f_Scanner_host s) (skp (ta (hA h x) n) n p) (-1) to num held → hI h' f_Fault_told fa = 1 + 16 * ((skp (ta (hA h x) n) n p : Nat) : Int) → E fa h') :
    wpB PGm ρ (d + 3) m_Scanner_next 0 [(0, vR s)] [] h (cV G E) := by
  have hb := H.1.2.2.2.2.2
  have hS := H.1
  obtain ⟨sl, sl2⟩ := skp_le (ta (hA h x) n) n _ p (Nat.le_refl _) hp
  refine b_Scanner_next_0 ⟨hS.1, ?_⟩
  rw [hto]
  refine b_Scanner_next_7 ⟨fun z => absurd z (by decide), fun _ => c_skip hS _ p (Nat.le_refl _) hp ?_⟩
  generalize hq : skp (ta (hA h x) n) n p = r at *
  refine b_Scanner_next_7 ⟨fun _ => ⟨hS.1, ?_⟩, fun z => absurd rfl z⟩
  intro g
  have f1 : Fr SCM [] 0 0 h g := Fr.wL (by decide) Fr.r0
  have H1 := H.fr f1 SCM_n
  have et := H.tape f1
  have eA : ∀ i, hA g x i = hA h x i := fun _ => rfl
  have e1 : hI g f_Scanner_from s = (r : Int) := I_I _ _ _ _
  have e2 : hI g f_Scanner_host s = hI h f_Scanner_host s := f1.I H.2.2.2.2.2.2.1.1 (by decide) (nokW (by decide) rfl)
  have e3 : hI g f_Scanner_size s = (n : Int) := H1.1.2.2.1
  have fE : ∀ e h', E e h' → hK h' e ≠ 0 → hK h' e ≠ 0 ∧ E e h' := fun e h' a b => ⟨b, a⟩
  have K1 : ∀ h', Fr SCM [] 0 0 g h' → hK h' fa ≠ 0 := fun h' hf => by rw [hf.K H1.2.2.2.2.2.2.1.2.2.1, H1.2.2.1]; decide
  refine c_at H1.1 r ?_
  rw [et]
  refine ⟨H1.1.1, fun hlt => ?_, fun hge => ?_⟩
  · have hrn : r < n := by omega
    refine c_let _ (fun y => ⟨fun z => absurd z (by decide), fun _ => ⟨H1.1.1, ?_⟩⟩) (fun y => ⟨fun _ => ?_, fun z => absurd rfl z⟩)
    · refine c_name H1 (by omega) e1 ?_ ?_
      · intro h' r2 hf hen h2 h3 t1 t2 t3
        rw [et] at hen
        exact q1 h' 1 r2 0 [] (f1.trans hf) (Or.inr (Or.inl ⟨hrn, y, r2, hen, h2, Or.inl ⟨h3, rfl, rfl⟩⟩)) (by decide) (by omega) ⟨t1, t3, t2, fun z => absurd z (by decide), fun z => absurd z (by decide)⟩
      · intro h' r2 hf hen h2 h3 t1
        rw [et] at hen
        exact ⟨K1 h' hf, q2 h' 0 0 [] (f1.trans hf) (Or.inr (Or.inl ⟨hrn, y, r2, hen, h2, Or.inr ⟨h3, rfl⟩⟩)) t1⟩
    · refine c_dig _ (fun y2 => ⟨fun z => absurd z (by decide), fun _ => ⟨H1.1.1, ?_⟩⟩) (fun y2 => ⟨fun _ => ⟨fun n34 => ⟨H1.1.1, ?_⟩, fun e34 => ⟨H1.1.1, ?_⟩⟩, fun z => absurd rfl z⟩)
      · refine c_number H1 (by omega) e1 ?_ ?_
        · intro h' r2 hf hen h2 h3 h4 t1 t2 t3 t4
          rw [et] at hen h4 t4
          exact q1 h' 2 r2 _ [] (f1.trans hf) (Or.inr (Or.inr (Or.inl ⟨hrn, y2, r2, hen, h2, Or.inl ⟨h3, h4, rfl, rfl, rfl⟩⟩))) (by decide) (by omega) ⟨t1, t3, t2, fun _ => t4, fun z => absurd z (by decide)⟩
        · intro h' r2 hf hen h2 h3 t1
          rw [et] at hen h3
          exact ⟨K1 h' hf, q2 h' 0 0 [] (f1.trans hf) (Or.inr (Or.inr (Or.inl ⟨hrn, y2, r2, hen, h2, Or.inr ⟨h3, rfl⟩⟩))) t1⟩
      · have := c_sign (ρ := ρ) (d := d) (G := fun h48 => G h48) (E := fun e51 h50 => hK h50 e51 ≠ 0 ∧ E e51 h50) H1 hrn e1 ?_ ?_
        · rw [et] at this; exact this
        · intro h' k m hf hsg hk t1 t2 t3
          rw [et, e2] at hsg
          have hm : m ≤ 3 ∧ (r + m ≤ n + 1) := by
            unfold sgn at hsg
            have a0 : ∀ z, ¬ ta (hA h x) n z = 0 → z < n := fun z w => Classical.byContradiction fun v => w (ta_out (by omega))
            have b1 := a0 (r + 1)
            have b2 := a0 (r + 2)
            split at hsg
            · have := b1 (by omega); omega
            · split at hsg
              · have := b1 (by omega); omega
              · split at hsg
                · have := b1 (by omega); omega
                · split at hsg
                  · have := b1 (by omega); omega
                  · split at hsg
                    · have := b1 (by omega); omega
                    · split at hsg
                      · have := b1 (by omega); omega
                      · split at hsg
                        · have := b2 (by omega); omega
                        · rcases hsg with ⟨-, -, z⟩ | ⟨-, z⟩
                          · omega
                          · exact absurd z hk
          refine q1 h' k (r + m) 0 [] (f1.trans hf) (Or.inr (Or.inr (Or.inr (Or.inr ⟨hrn, y, y2, n34, m, hsg, rfl⟩)))) hk hm.2 ⟨t1, t3, t2, fun z => ?_, fun z => ?_⟩
          · exfalso
            unfold sgn at hsg
            rw [z] at hsg
            revert hsg
            split <;> (try omega)
            split <;> (try omega)
            split <;> (try omega)
            split <;> (try omega)
            split <;> (try omega)
            split <;> (try omega)
            split <;> (try omega)
            rintro (⟨w1, w2, -⟩ | ⟨-, w2⟩)
            · rw [← w2] at w1; revert w1; unfold sgc; decide
            · omega
          · exfalso
            unfold sgn at hsg
            rw [z] at hsg
            revert hsg
            split <;> (try omega)
            split <;> (try omega)
            split <;> (try omega)
            split <;> (try omega)
            split <;> (try omega)
            split <;> (try omega)
            split <;> (try omega)
            rintro (⟨w1, w2, -⟩ | ⟨-, w2⟩)
            · rw [← w2] at w1; revert w1; unfold sgc; decide
            · omega
        · intro h' m hf hsg t1
          rw [et, e2] at hsg
          exact ⟨K1 h' hf, q2 h' _ 0 [] (f1.trans hf) (Or.inr (Or.inr (Or.inr (Or.inr ⟨hrn, y, y2, n34, m, hsg, rfl⟩)))) t1⟩
      · refine c_quoted H1 hrn e1 (fun k hk => by rw [eA]; exact hv k hk) ?_ ?_
        · intro h' l r2 hf hqt g1 g2 t1 t2 t3 t4 t5 t6 t7
          rw [et] at hqt
          exact b_Scanner_next_174 (q1 h' 3 (r2 + 1) 0 l (f1.trans hf) (Or.inr (Or.inr (Or.inr (Or.inl ⟨hrn, e34, Or.inl ⟨by rw [Nat.add_sub_cancel]; exact hqt, by omega, by omega, by omega, rfl⟩⟩)))) (by decide) (by omega) ⟨t1, t3, t2, fun z => absurd z (by decide), fun _ => ⟨t4, t5, t6, t7⟩⟩)
        · intro h' hf hqt t1
          rw [et] at hqt
          exact ⟨K1 h' hf, q2 h' 0 0 [] (f1.trans hf) (Or.inr (Or.inr (Or.inr (Or.inl ⟨hrn, e34, Or.inr ⟨hqt, rfl⟩⟩)))) t1⟩
  · have hrn : n ≤ r := by omega
    exact q1 _ 0 r 0 [] (Fr.wL (by decide) (Fr.wL (by decide) f1)) (Or.inl ⟨hrn, rfl, rfl⟩) (by decide) (by omega) ⟨by rw [I_Ine (by decide), I_I], by rw [I_Ine (by decide), I_Ine (by decide)]; exact e1, I_I _ _ _ _, fun z => absurd z (by decide), fun z => absurd z (by decide)⟩
end
