/-! T's scanner: its tokens -/
set_option maxRecDepth 20000
def TSM : List Nat := [f_Md_to, f_Md_from, f_Md_token, f_Md_sign, f_Md_number, f_Md_textSize, f_Md_text + 1]
def TS (h : ah) (T x n tx : Nat) : Prop := hK h T = k_Md ∧ hR h f_Md_tape T = x ∧ hI h f_Md_size T = (n : Int) ∧ hK h x = 3 ∧ n ≤ hl h x ∧ n ≤ 70000 ∧ hR h f_Md_text T = tx ∧ hK h tx = 3 ∧ hl h tx = 64 ∧ (T < hz h ∧ x < hz h ∧ tx < hz h) ∧ x ≠ 0 ∧ INJ h
theorem TS.fr {L : List Nat} {P : List (Nat × Nat)} {z1 s1 : Nat} {h h' : ah} {T x n tx : Nat} (H : TS h T x n tx) (hf : Fr L P z1 s1 h h') (hM : ∀ a, ¬ okW L P f_Md_tape a ∧ ¬ okW L P f_Md_size a ∧ ¬ okW L P f_Md_text a) : TS h' T x n tx := by
  obtain ⟨a1, a2, a3, a4, a5, a6, b1, b2, b3, ⟨c1, c2, c3⟩, o1, o2⟩ := H
  obtain ⟨m1, m2, m3⟩ := hM T
  exact ⟨by rw [hf.K c1]; exact a1, by rw [hf.R c1 (by decide) m1]; exact a2, by rw [hf.I c1 (by decide) m2]; exact a3, by rw [hf.K c2]; exact a4, by rw [hf.la c2 (by omega)]; exact a5, a6, by rw [hf.R c1 (by decide) m3]; exact b1, by rw [hf.K c3]; exact b2, by rw [hf.la c3 (by omega)]; exact b3, ⟨hf.lt c1, hf.lt c2, hf.lt c3⟩, o1, hf.inj o2⟩
theorem TSM_n : ∀ a, ¬ okW TSM [] f_Md_tape a ∧ ¬ okW TSM [] f_Md_size a ∧ ¬ okW TSM [] f_Md_text a := fun a => ⟨nokW (by decide) rfl, nokW (by decide) rfl, nokW (by decide) rfl⟩
theorem qt_b {a : Nat → Int} {n : Nat} : ∀ m p l (r : List Int × Nat), n - p ≤ m → qt a n p l = some r → p ≤ r.2 ∧ r.2 < n := by
  intro m
  induction m with
  | zero => intro p l r hm e; rw [qt, dif_neg (by omega)] at e; cases e
  | succ m ih =>
    intro p l r hm e
    rw [qt] at e
    split at e
    · split at e
      · cases e; exact ⟨Nat.le_refl _, by assumption⟩
      · split at e
        · cases e
        · split at e
          · split at e
            · have := ih _ _ _ (by omega) e; omega
            · split at e
              · have := ih _ _ _ (by omega) e; omega
              · cases e
          · have := ih _ _ _ (by omega) e; omega
    · cases e
section
variable {ρ : Nat → Nat} {d : Nat} {h : ah} {F : Int → ah → Prop} {G : ah → Prop} {E : Nat → ah → Prop} {T x n tx : Nat}
theorem TS.tapA (H : TS h T x n tx) {h' : ah} (hf : Fr TSM [] 0 0 h h') (i : Nat) : hA h' x i = hA h x i := by
  obtain ⟨-, a2, -, -, -, -, -, -, -, ⟨c1, -, -⟩, o1, o2⟩ := H
  exact (hf.ar o2 (own_of rfl) c1 a2 o1 (nok (by decide) (by decide) rfl rfl) (by simp)).2.1 i
theorem TS.tape (H : TS h T x n tx) {h' : ah} (hf : Fr TSM [] 0 0 h h') : ta (hA h' x) n = ta (hA h x) n := by
  rw [show hA h' x = hA h x from funext fun i => H.tapA hf i]
theorem t_in (v a b : Int) (q1 : a ≤ v ∧ v ≤ b → F 1 h) (q0 : ¬ (a ≤ v ∧ v ≤ b) → F 0 h) : wpB PGm ρ d m_Md_in 0 [(0, vL v), (2, vL a), (4, vL b)] [] h (cI F E) :=
  b_Md_in_0 ⟨fun z => q0 (by rw [lc_n] at z; omega), fun z => ⟨fun y => q0 (by rw [lc_p] at y; omega), fun y => q1 (by rw [lc_nn] at z; rw [lc_np] at y; omega)⟩⟩
theorem t_let (c : Int) (q1 : lett c → F 1 h) (q0 : ¬ lett c → F 0 h) : wpB PGm ρ (d + 1) m_Md_isLetter 0 [(0, vI c)] [] h (cI F E) := by
  unfold lett at q1 q0
  exact b_Md_isLetter_0 (t_in _ _ _ (fun y => ⟨fun _ => q1 (by omega), fun z => absurd z (by decide)⟩) (fun y => ⟨fun z => absurd rfl z, fun _ => t_in _ _ _ (fun y => ⟨fun _ => q1 (by omega), fun z => absurd z (by decide)⟩) (fun y2 => ⟨fun z => absurd rfl z, fun _ => ⟨fun z => q0 (by omega), fun z => q1 (by omega)⟩⟩)⟩))
theorem t_dig (c : Int) (q1 : digi c → F 1 h) (q0 : ¬ digi c → F 0 h) : wpB PGm ρ (d + 1) m_Md_isDigit 0 [(0, vI c)] [] h (cI F E) := by
  unfold digi at q1 q0
  exact b_Md_isDigit_0 (t_in _ _ _ (fun y => ⟨Or.inr rfl, q1 y⟩) (fun y => ⟨Or.inl rfl, q0 y⟩))
theorem t_at (H : TS h T x n tx) (k : Nat) (q : F (ta (hA h x) n k) h) : wpB PGm ρ d m_Md_at 0 [(0, vR T), (1, vI (k : Int))] [] h (cI F E) := by
  obtain ⟨h1, h2, h3, h4, h5, h6, -⟩ := H
  refine b_Md_at_0 ⟨h1, fun c => ?_, fun c => ⟨⟨by rw [h2, h4]; decide, by omega, by rw [h2]; omega⟩, ?_⟩⟩
  · rw [ta_out (by omega)] at q; exact q
  · rw [ta_in (by omega)] at q; rw [h2]; exact q
/-- a comment ends -/
theorem t_eol {Q : QT} (H : TS h T x n tx) : ∀ m p h1, n - p < m → p ≤ n → Fr TSM [] 0 0 h h1 → hI h1 f_Md_to T = (p : Int) → (∀ h', Fr TSM [] 0 0 h h' → hI h' f_Md_to T = ((eol (ta (hA h x) n) n p : Nat) : Int) → wpB PGm ρ d m_Md_next 2 [(0, vR T), (1, vI 1)] [] h' Q) → wpB PGm ρ d m_Md_next 61 [(0, vR T), (1, vI 1)] [] h1 Q := by
  intro m
  induction m with
  | zero => intro p h1 hm; omega
  | succ m ih =>
    intro p h1 hm hp hf hto k
    have H1 := H.fr hf TSM_n
    have et := H.tape hf
    obtain ⟨a1, a2, a3, a4, a5, a6, -⟩ := id H1
    refine b_Md_next_61 ⟨a1, fun z => ?_, fun z => ⟨⟨by rw [a2, a4]; decide, by omega, by rw [a2]; omega⟩, fun e => ?_, fun e => ?_⟩⟩
    · rw [eol_n (Or.inl (by omega))] at k; exact k h1 hf hto
    · rw [a2, hto] at e
      have e' : ta (hA h x) n p = 10 := by rw [← et, ta_in (by omega)]; exact e
      rw [eol_n (Or.inr e')] at k; exact k h1 hf hto
    · rw [a2, hto] at e
      have e' : ¬ ta (hA h x) n p = 10 := by rw [← et, ta_in (by omega)]; exact e
      rw [eol_s (by omega) e'] at k
      rw [hto, w32_s (by omega)]
      exact ih (p + 1) _ (by omega) (by omega) (Fr.wL (by decide) hf) (I_I _ _ _ _) k
theorem t_skip {Q : QT} (H : TS h T x n tx) : ∀ m p h1, n - p < m → p ≤ n → Fr TSM [] 0 0 h h1 → hI h1 f_Md_to T = (p : Int) → (∀ h', Fr TSM [] 0 0 h h' → hI h' f_Md_to T = ((skp (ta (hA h x) n) n p : Nat) : Int) → wpB PGm ρ (d + 1) m_Md_next 2 [(0, vR T), (1, vI 0)] [] h' Q) → wpB PGm ρ (d + 1) m_Md_next 2 [(0, vR T), (1, vI 1)] [] h1 Q := by
  intro m
  induction m with
  | zero => intro p h1 hm; omega
  | succ m ih =>
    intro p h1 hm hp hf hto k
    have H1 := H.fr hf TSM_n
    have et := H.tape hf
    have hb := H1.2.2.2.2.2.1
    have a0 : ∀ z, ¬ ta (hA h x) n z = 0 → z < n := fun z w => Classical.byContradiction fun v => w (ta_out (by omega))
    have bl : (ta (hA h x) n p = 32 ∨ ta (hA h x) n p = 10) → wpB PGm ρ (d + 1) m_Md_next 27 [(0, vR T), (1, vI 1)] [] h1 Q := by
      intro e
      have hpn := a0 p (by omega)
      rw [skp_b hpn e] at k
      refine b_Md_next_27 ⟨H1.1, ?_⟩
      rw [hto, w32_s (by omega)]
      exact ih (p + 1) _ (by omega) (by omega) (Fr.wL (by decide) hf) (I_I _ _ _ _) k
    refine b_Md_next_2 ⟨fun z => absurd z (by decide), fun _ => ⟨H1.1, ?_⟩⟩
    rw [hto]
    refine t_at H1 p ?_
    rw [et]
    have fin : ¬ (ta (hA h x) n p = 32 ∨ ta (hA h x) n p = 10) → ¬ (ta (hA h x) n p = 47 ∧ ta (hA h x) n (p + 1) = 47) → wpB PGm ρ (d + 1) m_Md_next 2 [(0, vR T), (1, vI 0)] [] h1 Q := fun y1 y2 => by
      rw [skp_n (Or.inr ⟨y1, y2⟩)] at k; exact k h1 hf hto
    refine ⟨fun e => bl (Or.inl e), fun n32 => ⟨fun n10 => ⟨fun n47 => fin (by omega) (by omega), fun e47 => ⟨H1.1, ?_⟩⟩, fun e => bl (Or.inr e)⟩⟩
    rw [hto, w32_s (by omega)]
    refine t_at H1 (p + 1) ?_
    rw [et]
    refine ⟨fun z => fin (by omega) (by omega), fun e47' => ?_⟩
    have hpn := a0 p (by omega)
    rw [skp_c hpn e47 e47'] at k
    have g1 := eol_ge (ta (hA h x) n) n _ (p + 1) (Nat.le_refl _)
    have g2 := eol_le (ta (hA h x) n) n _ (p + 1) (Nat.le_refl _) (by omega)
    refine t_eol H _ p h1 (Nat.lt_succ_self _) hp hf hto (fun h' hf' ht' => ?_)
    rw [eol_s hpn (by omega)] at ht'
    exact ih _ h' (by omega) g2 hf' ht' k
/-- a name -/
theorem t_name {Q : QT} (H : TS h T x n tx) {p : Nat} (q : ∀ h' r, Fr TSM [] 0 0 h h' → endOf ld (ta (hA h x) n) p r → r ≤ n → hI h' f_Md_to T = (r : Int) → hI h' f_Md_from T = (p : Int) → hI h' f_Md_token T = (if r - p ≤ 30 then 1 else 5) → Q (Sum.inl none) h') : ∀ m l h1, n - l < m → p ≤ l → l ≤ n → Fr TSM [] 0 0 h h1 → hI h1 f_Md_to T = (l : Int) → hI h1 f_Md_from T = (p : Int) → (∀ k, p ≤ k → k < l → ld (ta (hA h x) n k)) → wpB PGm ρ (d + 2) m_Md_next 147 [(0, vR T)] [] h1 Q := by
  intro m
  induction m with
  | zero => intro l h1 hm; omega
  | succ m ih =>
    intro l h1 hm b1 b2 hf hto hfr h3
    have H1 := H.fr hf TSM_n
    have et := H.tape hf
    have hb := H1.2.2.2.2.2.1
    have ew : w32 ((l : Int) - (p : Int)) = ((l - p : Nat) : Int) := by rw [w32_of (by omega) (by omega)]; omega
    have go : ld (ta (hA h x) n l) → wpB PGm ρ (d + 2) m_Md_next 175 [(0, vR T)] [] h1 Q := by
      intro hl
      have hln : l < n := Classical.byContradiction fun z => by rw [ta_out (by omega)] at hl; exact ld0 hl
      refine b_Md_next_175 ⟨H1.1, ?_⟩
      rw [hto, w32_s (by omega)]
      exact ih (l + 1) _ (by omega) (by omega) (by omega) (Fr.wL (by decide) hf) (I_I _ _ _ _) (by rw [I_Ine (by decide)]; exact hfr) (fun k k1 k2 => by
        by_cases e : k = l
        · rw [e]; exact hl
        · exact h3 k k1 (by omega))
    refine b_Md_next_147 ⟨H1.1, ?_⟩
    rw [hto]
    refine t_at H1 l ?_
    rw [et]
    refine t_let _ (fun y => ⟨fun _ => go (Or.inl y), fun z => absurd z (by decide)⟩) (fun y => ⟨fun z => absurd rfl z, fun _ => ⟨H1.1, ?_⟩⟩)
    rw [hto]
    refine t_at H1 l ?_
    rw [et]
    refine t_dig _ (fun y => ⟨fun z => absurd z (by decide), fun _ => go (Or.inr y)⟩) (fun y2 => ⟨fun _ => ⟨H1.1, fun z => ?_, fun z => ?_⟩, fun z => absurd rfl z⟩)
    · rw [hto, hfr, ew] at z
      exact q _ l (Fr.wL (by decide) hf) ⟨b1, h3, fun z => z.elim y y2⟩ b2 (by rw [I_Ine (by decide)]; exact hto) (by rw [I_Ine (by decide)]; exact hfr) (by rw [I_I, if_neg (by omega)])
    · rw [hto, hfr, ew] at z
      exact q _ l (Fr.wL (by decide) hf) ⟨b1, h3, fun z => z.elim y y2⟩ b2 (by rw [I_Ine (by decide)]; exact hto) (by rw [I_Ine (by decide)]; exact hfr) (by rw [I_I, if_pos (by omega)])
/-- a number -/
theorem t_number {Q : QT} (H : TS h T x n tx) {p : Nat} (q : ∀ h' r, Fr TSM [] 0 0 h h' → endOf digi (ta (hA h x) n) p r → r ≤ n → hI h' f_Md_to T = (r : Int) → hI h' f_Md_from T = (p : Int) → hI h' f_Md_token T = (if r - p ≤ 10 ∧ nv (ta (hA h x) n) p (r - p) ≤ 2147483647 then 2 else 5) → (r - p ≤ 10 → nv (ta (hA h x) n) p (r - p) ≤ 2147483647 → hI h' f_Md_number T = nv (ta (hA h x) n) p (r - p)) → Q (Sum.inl none) h') : ∀ m l h1 v, n - l < m → p ≤ l → l ≤ n → Fr TSM [] 0 0 h h1 → hI h1 f_Md_to T = (l : Int) → hI h1 f_Md_from T = (p : Int) → v = nv (ta (hA h x) n) p (min 11 (l - p)) → (∀ k, p ≤ k → k < l → digi (ta (hA h x) n k)) → wpB PGm ρ (d + 2) m_Md_next 223 [(0, vR T), (3, vL v)] [] h1 Q := by
  intro m
  induction m with
  | zero => intro l h1 v hm; omega
  | succ m ih =>
    intro l h1 v hm b1 b2 hf hto hfr hnum h3
    have H1 := H.fr hf TSM_n
    have et := H.tape hf
    have hb := H1.2.2.2.2.2.1
    have ew : w32 ((l : Int) - (p : Int)) = ((l - p : Nat) : Int) := by rw [w32_of (by omega) (by omega)]; omega
    obtain ⟨g1, g2⟩ := nv_b (a := ta (hA h x) n) (b := p) (j := min 11 (l - p)) (fun i hi => h3 _ (by omega) (by omega))
    have go : ∀ v', digi (ta (hA h x) n l) → v' = nv (ta (hA h x) n) p (min 11 (l + 1 - p)) → wpB PGm ρ (d + 2) m_Md_next 274 [(0, vR T)] [vL v'] h1 Q := by
      intro v' hl hv
      have hln : l < n := Classical.byContradiction fun z => by rw [ta_out (by omega)] at hl; exact digi0 hl
      refine b_Md_next_274 ⟨H1.1, ?_⟩
      rw [hto, w32_s (by omega)]
      exact ih (l + 1) _ v' (by omega) (by omega) (by omega) (Fr.wL (by decide) hf) (I_I _ _ _ _) (by rw [I_Ine (by decide)]; exact hfr) hv (fun k k1 k2 => by
        by_cases e : k = l
        · rw [e]; exact hl
        · exact h3 k k1 (by omega))
    have fin : ∀ t, ¬ digi (ta (hA h x) n l) → t = (if l - p ≤ 10 ∧ nv (ta (hA h x) n) p (l - p) ≤ 2147483647 then (2 : Int) else 5) → wpB PGm ρ (d + 2) m_Md_next 316 [(0, vR T), (3, vL v)] [vI t, vR T] h1 Q := by
      intro t y ht
      refine b_Md_next_316 ⟨H1.1, H1.1, ?_⟩
      refine q _ l (Fr.wL (by decide) (Fr.wL (by decide) hf)) ⟨b1, h3, y⟩ b2 (by rw [I_Ine (by decide), I_Ine (by decide)]; exact hto) (by rw [I_Ine (by decide), I_Ine (by decide)]; exact hfr) (by rw [I_Ine (by decide), I_I]; exact ht) (fun z1 z2 => ?_)
      rw [I_I]
      have e9 : min 11 (l - p) = l - p := by omega
      rw [e9] at hnum g1
      rw [hnum, w32_of (by omega) (by omega)]
    refine b_Md_next_223 ⟨H1.1, ?_⟩
    rw [hto]
    refine t_at H1 l ?_
    rw [et]
    refine t_dig _ (fun y => ⟨fun z => absurd z (by decide), fun _ => ⟨H1.1, fun z => ?_, fun z => ?_⟩⟩) (fun y => ⟨fun _ => ⟨H1.1, fun z => fin 5 y ?_, fun z => ⟨fun z2 => fin 5 y ?_, fun z2 => fin 2 y ?_⟩⟩, fun z => absurd rfl z⟩)
    · rw [hto, hfr, ew] at z
      exact go v y (by rw [hnum, show min 11 (l - p) = min 11 (l + 1 - p) by omega])
    · rw [hto, hfr, ew] at z
      rw [hto]
      refine t_at H1 l ?_
      rw [et]
      refine go _ y ?_
      have e1 : min 11 (l + 1 - p) = min 11 (l - p) + 1 := by omega
      have e2 : p + min 11 (l - p) = l := by omega
      have e3 : (10 : Int) ^ (min 11 (l - p)) ≤ 10000000000 := by
        have h1 := Nat.pow_le_pow_right (n := 10) (by omega) (show min 11 (l - p) ≤ 10 by omega)
        have e : ((10 ^ (min 11 (l - p)) : Nat) : Int) = (10 : Int) ^ (min 11 (l - p)) := by simp
        rw [← e]
        omega
      have y' := y
      unfold digi at y'
      rw [← hnum] at g1 g2
      rw [e1, nv, e2, ← hnum]
      rw [w64_of (x := 10 * v) (by omega) (by omega), w64_of (x := 10 * v + ta (hA h x) n l) (by omega) (by omega), w64_of (by omega) (by omega)]
    · rw [hto, hfr, ew] at z
      rw [if_neg (by omega)]
    · rw [hto, hfr, ew] at z
      rw [lc_p, hnum, show min 11 (l - p) = l - p by omega] at z2
      rw [if_neg (by omega)]
    · rw [hto, hfr, ew] at z
      rw [lc_np, hnum, show min 11 (l - p) = l - p by omega] at z2
      rw [if_pos (by omega)]
/-- a text -/
theorem t_reads {Q : QT} (H : TS h T x n tx) {p : Nat} (hp : p < n) (hto0 : hI h f_Md_to T = (p : Int)) (hfr : hI h f_Md_from T = (p : Int)) (hv : ∀ k, k < n → hA h x k = 10 ∨ (32 ≤ hA h x k ∧ hA h x k ≤ 126))
    (q : ∀ h', Fr TSM [] 0 0 h h' → hI h' f_Md_from T = (p : Int) → ((∃ l r, qt (ta (hA h x) n) n (p + 1) [] = some (l, r) ∧ hI h' f_Md_token T = 3 ∧ hI h' f_Md_to T = ((r + 1 : Nat) : Int) ∧ HL h' tx l ∧ hI h' f_Md_textSize T = (l.length : Int) ∧ l.length ≤ 60) ∨ (qt (ta (hA h x) n) n (p + 1) [] = none ∧ hI h' f_Md_token T = 5)) → Q (Sum.inl none) h') :
    wpB PGm ρ (d + 1) m_Md_reads 0 [(0, vR T)] [] h Q := by
  have hb := H.2.2.2.2.2.1
  have lp : ∀ m k h1 l, n + 1 - k < m → p + 1 ≤ k → k ≤ n + 1 → Fr TSM [] 0 0 h h1 → hI h1 f_Md_from T = (p : Int) → hI h1 f_Md_to T = (k : Int) → hI h1 f_Md_token T = 3 → HL h1 tx l → hI h1 f_Md_textSize T = (l.length : Int) → l.length ≤ 60 → qt (ta (hA h x) n) n (p + 1) [] = qt (ta (hA h x) n) n k l → wpB PGm ρ (d + 1) m_Md_reads 20 [(0, vR T)] [] h1 Q := by
    intro m
    induction m with
    | zero => intro k h1 l hm; omega
    | succ m ih =>
      intro k h1 l hm b1 b2 hf hfr1 hto htok hHl hls hl60 hq
      have H1 := H.fr hf TSM_n
      have et := H.tape hf
      have hval : ∀ z, z < n → ta (hA h x) n z = 10 ∨ (32 ≤ ta (hA h x) n z ∧ ta (hA h x) n z ≤ 126) := fun z hz => by rw [ta_in hz]; exact hv z hz
      have a0 : ∀ z, ¬ ta (hA h x) n z = 0 → z < n := fun z w => Classical.byContradiction fun v => w (ta_out (by omega))
      have bad : ∀ h2 (k2 : Nat), Fr TSM [] 0 0 h h2 → hI h2 f_Md_from T = (p : Int) → hI h2 f_Md_to T = (k2 : Int) → k2 ≤ 90000 → qt (ta (hA h x) n) n k l = none → wpB PGm ρ (d + 1) m_Md_reads 147 [(0, vR T)] [] h2 Q := by
        intro h2 k2 f2 r2 t2 k2b e
        have H2 := H.fr f2 TSM_n
        refine b_Md_reads_147 ⟨H2.1, b_Md_reads_20 ⟨H2.1, fun _ => b_Md_reads_189 ⟨H2.1, q _ (Fr.wL (by decide) (Fr.wL (by decide) f2)) (by rw [I_Ine (by decide), I_Ine (by decide)]; exact r2) (Or.inr ⟨hq.trans e, by rw [I_Ine (by decide), I_I]⟩)⟩, fun z => ?_⟩⟩
        rw [I_I] at z
        exact absurd z (by decide)
      have put : ∀ h2 (k2 : Nat) (c : Int), Fr TSM [] 0 0 h h2 → hI h2 f_Md_from T = (p : Int) → hI h2 f_Md_to T = (k2 : Int) → hI h2 f_Md_token T = 3 → HL h2 tx l → hI h2 f_Md_textSize T = (l.length : Int) → k ≤ k2 → k2 ≤ n → (c = 10 ∨ (32 ≤ c ∧ c ≤ 126)) → (l.length < 60 → qt (ta (hA h x) n) n k l = qt (ta (hA h x) n) n (k2 + 1) (l ++ [c])) → (l.length = 60 → qt (ta (hA h x) n) n k l = none) → wpB PGm ρ (d + 1) m_Md_reads 134 [(0, vR T), (1, vI c)] [] h2 Q := by
        intro h2 k2 c f2 r2 t2 tk2 hl2 ls2 g1 g2 g3 g5 g6
        have H2 := H.fr f2 TSM_n
        have ec : w8 c = c := w8_of (by omega) (by omega)
        obtain ⟨-, -, -, -, -, -, e1, e2, e3, -⟩ := id H2
        refine b_Md_reads_134 ⟨fun z => by omega, fun _ => ⟨H2.1, fun n60 => ⟨⟨Or.inl ⟨by rw [e1]; exact e2, by rw [ec]; omega, by rw [ec]; omega⟩, by omega, by rw [e1, e3, ls2]; omega⟩, ?_⟩, fun e60 => bad h2 k2 f2 r2 t2 (by omega) (g6 (by omega))⟩⟩
        rw [ec, e1, ls2]
        intro g7 g8 g9
        have e4 : w32 (hI g7 f_Md_textSize T + 1) = ((l.length + 1 : Nat) : Int) := by rw [show hI g7 f_Md_textSize T = (l.length : Int) from ls2, w32_s (by omega)]
        have f7 : Fr TSM [] 0 0 h g7 := Fr.wA (Or.inr (Or.inr (Or.inr ⟨f_Md_text, T, H.2.2.2.2.2.2.2.2.2.1.1, own_of rfl, H.2.2.2.2.2.2.1, Or.inr (okL (by decide))⟩))) f2
        have e5 : hI g8 f_Md_to T = (k2 : Int) := by show hI (sI g7 _ _ _) _ _ = _; rw [I_Ine (by decide)]; exact t2
        have e6 : w32 (hI g8 f_Md_to T + 1) = ((k2 + 1 : Nat) : Int) := by rw [e5, w32_s (by omega)]
        exact ih (k2 + 1) g9 (l ++ [c]) (by omega) (by omega) (by omega) (Fr.wL (by decide) (Fr.wL (by decide) f7)) (by show hI (sI g8 _ _ _) _ _ = _; rw [I_Ine (by decide)]; show hI (sI g7 _ _ _) _ _ = _; rw [I_Ine (by decide)]; exact r2) (by show hI (sI g8 _ _ _) _ _ = _; rw [I_I, e6]) (by show hI (sI g8 _ _ _) _ _ = _; rw [I_Ine (by decide)]; show hI (sI g7 _ _ _) _ _ = _; rw [I_Ine (by decide)]; exact tk2) (hl2.add c) (by show hI (sI g8 _ _ _) _ _ = _; rw [I_Ine (by decide)]; show hI (sI g7 _ _ _) _ _ = _; rw [I_I, e4]; simp) (by simp; omega) (hq.trans (g5 (by omega)))
      have nul : ∀ h2 (k2 : Nat), Fr TSM [] 0 0 h h2 → hI h2 f_Md_from T = (p : Int) → hI h2 f_Md_to T = (k2 : Int) → k2 ≤ 90000 → qt (ta (hA h x) n) n k l = none → wpB PGm ρ (d + 1) m_Md_reads 134 [(0, vR T), (1, vI 0)] [] h2 Q := fun h2 k2 f2 r2 t2 kb e => b_Md_reads_134 ⟨fun _ => bad h2 k2 f2 r2 t2 kb e, fun z => absurd rfl z⟩
      refine b_Md_reads_20 ⟨H1.1, fun z => absurd htok z, fun _ => ?_⟩
      rw [hto]
      refine t_at H1 k ?_
      rw [et]
      refine ⟨fun e34 => ?_, fun n34 => ⟨H1.1, ?_⟩⟩
      · have hk := a0 k (by omega)
        refine b_Md_reads_189 ⟨H1.1, ?_⟩
        rw [hto, w32_s (by omega)]
        exact q _ (Fr.wL (by decide) hf) (by rw [I_Ine (by decide)]; exact hfr1) (Or.inl ⟨l, k, hq.trans (by rw [qt, dif_pos hk, if_pos e34]), by rw [I_Ine (by decide)]; exact htok, I_I _ _ _ _, hHl, by rw [I_Ine (by decide)]; exact hls, hl60⟩)
      · rw [hto]
        refine t_at H1 k ?_
        rw [et]
        have q60 : l.length = 60 → qt (ta (hA h x) n) n k l = none := fun z => by
          by_cases hk : k < n
          · rw [qt, dif_pos hk, if_neg n34, if_pos (Or.inr z)]
          · rw [qt, dif_neg hk]
        have eq : k < n → ¬ ta (hA h x) n k = 10 → l.length < 60 → qt (ta (hA h x) n) n k l = if ta (hA h x) n k = 92 then (if ta (hA h x) n (k + 1) = 110 then qt (ta (hA h x) n) n (k + 2) (l ++ [10]) else if ta (hA h x) n (k + 1) = 34 ∨ ta (hA h x) n (k + 1) = 92 then qt (ta (hA h x) n) n (k + 2) (l ++ [ta (hA h x) n (k + 1)]) else none) else qt (ta (hA h x) n) n (k + 1) (l ++ [ta (hA h x) n k]) := fun z1 z2 z3 => by
          rw [qt, dif_pos z1, if_neg n34, if_neg (by omega)]
        refine ⟨fun n92 => ⟨fun z => ?_, fun z => nul h1 k hf hfr1 hto (by omega) ?_⟩, fun e92 => ⟨H1.1, ?_⟩⟩
        · have hk := a0 k (by omega)
          refine put h1 k _ hf hfr1 hto htok hHl hls (Nat.le_refl _) (by omega) (hval k hk) (fun z2 => ?_) q60
          rw [eq hk (by omega) z2, if_neg n92]
        · by_cases hk : k < n
          · have := hval k hk
            rw [qt, dif_pos hk, if_neg n34, if_pos (Or.inl (by omega))]
          · rw [qt, dif_neg hk]
        · have hk := a0 k (by omega)
          rw [hto, w32_s (by omega)]
          intro g
          have fg : Fr TSM [] 0 0 h g := Fr.wL (by decide) hf
          have Hg := H.fr fg TSM_n
          have eg := H.tape fg
          have t9 : hI g f_Md_to T = ((k + 1 : Nat) : Int) := I_I _ _ _ _
          have r9 : hI g f_Md_from T = (p : Int) := by show hI (sI _ _ _ _) _ _ = _; rw [I_Ine (by decide)]; exact hfr1
          have k9 : hI g f_Md_token T = 3 := by show hI (sI _ _ _ _) _ _ = _; rw [I_Ine (by decide)]; exact htok
          have s9 : hI g f_Md_textSize T = (l.length : Int) := by show hI (sI _ _ _ _) _ _ = _; rw [I_Ine (by decide)]; exact hls
          rw [t9]
          refine t_at Hg (k + 1) ?_
          rw [eg]
          refine ⟨fun n110 => ⟨Hg.1, ?_⟩, fun e110 => ?_⟩
          · rw [t9]
            refine t_at Hg (k + 1) ?_
            rw [eg]
            have go : (ta (hA h x) n (k + 1) = 34 ∨ ta (hA h x) n (k + 1) = 92) → wpB PGm ρ (d + 1) m_Md_reads 110 [(0, vR T)] [] g Q := by
              intro e
              refine b_Md_reads_110 ⟨Hg.1, ?_⟩
              rw [t9]
              refine t_at Hg (k + 1) ?_
              rw [eg]
              refine put g (k + 1) _ fg r9 t9 k9 hHl s9 (by omega) (by omega) (by omega) (fun z2 => ?_) q60
              rw [eq hk (by omega) z2, if_pos e92, if_neg n110, if_pos e]
            refine ⟨fun e => go (Or.inl e), fun n34' => ⟨Hg.1, ?_⟩⟩
            rw [t9]
            refine t_at Hg (k + 1) ?_
            rw [eg]
            refine ⟨fun n92' => nul g (k + 1) fg r9 t9 (by omega) ?_, fun e => go (Or.inr e)⟩
            by_cases z : l.length = 60
            · exact q60 z
            · rw [eq hk (by omega) (by omega), if_pos e92, if_neg n110, if_neg (by omega)]
          · refine put g (k + 1) 10 fg r9 t9 k9 hHl s9 (by omega) (by omega) (Or.inl rfl) (fun z2 => ?_) q60
            rw [eq hk (by omega) z2, if_pos e92, if_pos e110]
  refine b_Md_reads_0 ⟨H.1, ?_⟩
  rw [hto0, w32_s (by omega)]
  exact lp _ (p + 1) _ [] (Nat.lt_succ_self _) (Nat.le_refl _) (by omega) (Fr.wL (by decide) (Fr.wL (by decide) (Fr.wL (by decide) Fr.r0))) (by rw [I_Ine (by decide), I_Ine (by decide), I_Ine (by decide)]; exact hfr) (by rw [I_Ine (by decide), I_Ine (by decide), I_I]) (I_I _ _ _ _) (fun i hi => by simp at hi) (by rw [I_Ine (by decide), I_I]; rfl) (by simp) rfl
/-- how T tells the kind of a token -/
def TKC (k tok sg : Int) : Prop := (k = 0 ∧ tok = 0) ∨ (k = 1 ∧ tok = 1) ∨ (k = 2 ∧ tok = 2) ∨ (k = 3 ∧ tok = 3) ∨ (k = -1 ∧ tok = 5) ∨ (tok = 4 ∧ 130 ≤ k ∧ k ≤ 136 ∧ sg = k + 126) ∨ (tok = 4 ∧ sgc k ∧ sg = k)
/-- a sign -/
theorem t_signs {Q : QT} (H : TS h T x n tx) {p : Nat} (hp : p < n) (hto : hI h f_Md_to T = (p : Int)) (hfr : hI h f_Md_from T = (p : Int))
    (q : ∀ h' k m, Fr TSM [] 0 0 h h' → hI h' f_Md_from T = (p : Int) → sgn (hI h f_Md_ofHost T) (ta (hA h x) n p) (ta (hA h x) n (p + 1)) (ta (hA h x) n (p + 2)) k m → TKC k (hI h' f_Md_token T) (hI h' f_Md_sign T) → (¬ k = -1 → hI h' f_Md_to T = ((p + m : Nat) : Int)) → Q (Sum.inl none) h') :
    wpB PGm ρ (d + 1) m_Md_signs 0 [(0, vR T), (1, vI (ta (hA h x) n p)), (2, vI (ta (hA h x) n (p + 1)))] [] h Q := by
  have hb := H.2.2.2.2.2.1
  have w2 : w32 ((p : Int) + 2) = ((p + 2 : Nat) : Int) := by rw [w32_of (by omega) (by omega)]; omega
  have w3 : w32 ((p : Int) + 3) = ((p + 3 : Nat) : Int) := by rw [w32_of (by omega) (by omega)]; omega
  generalize hc : ta (hA h x) n p = c at *
  generalize hd : ta (hA h x) n (p + 1) = d1 at *
  generalize hd2 : ta (hA h x) n (p + 2) = d2 at *
  refine b_Md_signs_0 ⟨H.1, ?_⟩
  intro g
  have f1 : Fr TSM [] 0 0 h g := Fr.wL (by decide) Fr.r0
  have H1 := H.fr f1 TSM_n
  have t1 : hI g f_Md_to T = (p : Int) := by show hI (sI _ _ _ _) _ _ = _; rw [I_Ine (by decide)]; exact hto
  have r1 : hI g f_Md_from T = (p : Int) := by show hI (sI _ _ _ _) _ _ = _; rw [I_Ine (by decide)]; exact hfr
  have k1 : hI g f_Md_token T = 4 := I_I _ _ _ _
  have o1 : hI g f_Md_ofHost T = hI h f_Md_ofHost T := f1.I H.2.2.2.2.2.2.2.2.2.1.1 (by decide) (nokW (by decide) rfl)
  have two : ∀ sg k, sg = k + 126 → 130 ≤ k → k ≤ 135 → sgn (hI h f_Md_ofHost T) c d1 d2 k 2 → wpB PGm ρ (d + 1) m_Md_signs 133 [(0, vR T)] [vI sg, vR T] g Q := by
    intro sg k e1 e2 e3 hs
    refine b_Md_signs_133 ⟨H1.1, H1.1, ?_⟩
    intro g2
    have e4 : hI (sI g f_Md_sign T sg) f_Md_to T = (p : Int) := by rw [I_Ine (by decide)]; exact t1
    have eg : g2 = sI (sI g f_Md_sign T sg) f_Md_to T ((p + 2 : Nat) : Int) := by show sI (sI g f_Md_sign T sg) f_Md_to T (w32 (hI (sI g f_Md_sign T sg) f_Md_to T + 2)) = _; rw [e4, w2]
    rw [eg]
    exact q _ k 2 (Fr.wL (by decide) (Fr.wL (by decide) f1)) (by rw [I_Ine (by decide), I_Ine (by decide)]; exact r1) hs (Or.inr (Or.inr (Or.inr (Or.inr (Or.inr (Or.inl ⟨by rw [I_Ine (by decide), I_Ine (by decide)]; exact k1, e2, by omega, by rw [I_Ine (by decide), I_I]; exact e1⟩)))))) (fun _ => I_I _ _ _ _)
  have S2 : (d1 = 61 ∧ (c = 61 ∨ c = 33 ∨ c = 60 ∨ c = 62)) ∨ (c = 38 ∧ d1 = 38) ∨ (c = 124 ∧ d1 = 124) → wpB PGm ρ (d + 1) m_Md_signs 64 [(0, vR T), (1, vI c), (2, vI d1)] [vI 1] g Q := by
    intro hh
    refine b_Md_signs_64 ⟨fun z => absurd z (by decide), fun _ => ⟨fun n1 => ⟨fun n2 => ⟨fun n3 => ⟨fun n4 => ⟨fun n5 => two 261 135 (by decide) (by decide) (by decide) ?_, fun e => two 260 134 (by decide) (by decide) (by decide) ?_⟩, fun e => two 259 133 (by decide) (by decide) (by decide) ?_⟩, fun e => two 258 132 (by decide) (by decide) (by decide) ?_⟩, fun e => two 257 131 (by decide) (by decide) (by decide) ?_⟩, fun e => two 256 130 (by decide) (by decide) (by decide) ?_⟩⟩
    · unfold sgn; rw [if_neg (by omega), if_neg (by omega), if_neg (by omega), if_neg (by omega), if_neg (by omega), if_pos (by omega)]; exact ⟨rfl, rfl⟩
    · unfold sgn; rw [if_neg (by omega), if_neg (by omega), if_neg (by omega), if_neg (by omega), if_pos (by omega)]; exact ⟨rfl, rfl⟩
    · unfold sgn; rw [if_neg (by omega), if_neg (by omega), if_neg (by omega), if_pos (by omega)]; exact ⟨rfl, rfl⟩
    · unfold sgn; rw [if_neg (by omega), if_neg (by omega), if_pos (by omega)]; exact ⟨rfl, rfl⟩
    · unfold sgn; rw [if_neg (by omega), if_pos (by omega)]; exact ⟨rfl, rfl⟩
    · unfold sgn; rw [if_pos (by omega)]; exact ⟨rfl, rfl⟩
  have one : (∀ k m, (sgc c ∧ k = c ∧ m = 1) ∨ (¬ sgc c ∧ k = -1) → sgn (hI h f_Md_ofHost T) c d1 d2 k m) → wpB PGm ρ (d + 1) m_Md_signs 203 [(0, vR T), (1, vI c)] [] g Q := by
    intro hsg
    have kk : ∀ b : Int, (b = 1 ∧ sgc c) ∨ (b = 0 ∧ ¬ sgc c) → wpB PGm ρ (d + 1) m_Md_signs 322 [(0, vR T), (1, vI c)] [vI b] g Q := by
      intro b hh
      have fin : ∀ tk : Int, (tk = 4 ∧ sgc c) ∨ (tk = 5 ∧ ¬ sgc c) → wpB PGm ρ (d + 1) m_Md_signs 340 [(0, vR T)] [vI tk, vR T] (sI g f_Md_sign T c) Q := by
        intro tk ht
        refine b_Md_signs_340 ⟨H1.1, H1.1, ?_⟩
        intro g2
        have e4 : hI (sI (sI g f_Md_sign T c) f_Md_token T tk) f_Md_to T = (p : Int) := by rw [I_Ine (by decide), I_Ine (by decide)]; exact t1
        have eg : g2 = sI (sI (sI g f_Md_sign T c) f_Md_token T tk) f_Md_to T ((p + 1 : Nat) : Int) := by show sI _ _ _ (w32 (hI (sI (sI g f_Md_sign T c) f_Md_token T tk) f_Md_to T + 1)) = _; rw [e4, w32_s (by omega)]
        rw [eg]
        have ff : Fr TSM [] 0 0 h (sI (sI (sI g f_Md_sign T c) f_Md_token T tk) f_Md_to T ((p + 1 : Nat) : Int)) := Fr.wL (by decide) (Fr.wL (by decide) (Fr.wL (by decide) f1))
        have fr9 : hI (sI (sI (sI g f_Md_sign T c) f_Md_token T tk) f_Md_to T ((p + 1 : Nat) : Int)) f_Md_from T = (p : Int) := by rw [I_Ine (by decide), I_Ine (by decide), I_Ine (by decide)]; exact r1
        have tk9 : hI (sI (sI (sI g f_Md_sign T c) f_Md_token T tk) f_Md_to T ((p + 1 : Nat) : Int)) f_Md_token T = tk := by rw [I_Ine (by decide), I_I]
        have sg9 : hI (sI (sI (sI g f_Md_sign T c) f_Md_token T tk) f_Md_to T ((p + 1 : Nat) : Int)) f_Md_sign T = c := by rw [I_Ine (by decide), I_Ine (by decide), I_I]
        rcases ht with ⟨h4, h5⟩ | ⟨h4, h5⟩
        · exact q _ c 1 ff fr9 (hsg _ _ (Or.inl ⟨h5, rfl, rfl⟩)) (by rw [tk9, sg9]; exact Or.inr (Or.inr (Or.inr (Or.inr (Or.inr (Or.inr ⟨h4, h5, rfl⟩)))))) (fun _ => I_I _ _ _ _)
        · exact q _ (-1) 1 ff fr9 (hsg _ _ (Or.inr ⟨h5, rfl⟩)) (by rw [tk9, sg9]; exact Or.inr (Or.inr (Or.inr (Or.inr (Or.inl ⟨rfl, h4⟩))))) (fun z => absurd rfl z)
      exact b_Md_signs_322 ⟨H1.1, fun z => fin 5 (by rcases hh with ⟨a, b⟩ | ⟨a, b⟩; exact absurd z (by omega); exact Or.inr ⟨rfl, b⟩), fun z => fin 4 (by rcases hh with ⟨a, b⟩ | ⟨a, b⟩; exact Or.inl ⟨rfl, b⟩; exact absurd a z)⟩
    have y1 : sgc c → wpB PGm ρ (d + 1) m_Md_signs 322 [(0, vR T), (1, vI c)] [vI 1] g Q := fun z => kk 1 (Or.inl ⟨rfl, z⟩)
    have y0 : ¬ sgc c → wpB PGm ρ (d + 1) m_Md_signs 322 [(0, vR T), (1, vI c)] [vI 0] g Q := fun z => kk 0 (Or.inr ⟨rfl, z⟩)
    unfold sgc at y1 y0
    simp only [List.mem_cons, List.not_mem_nil, or_false] at y1 y0
    refine b_Md_signs_203 ⟨fun e => y1 (by omega), fun n1 => ⟨fun e => y1 (by omega), fun n2 => ⟨fun e => y1 (by omega), fun n3 => ⟨fun e => y1 (by omega), fun n4 => ⟨fun e => y1 (by omega), fun n5 => ⟨fun e => y1 (by omega), fun n6 => ⟨fun e => y1 (by omega), fun n7 => ⟨fun e => y1 (by omega), fun n8 => ⟨fun e => y1 (by omega), fun n9 => ⟨fun e => y1 (by omega), fun n10 => ⟨fun e => y1 (by omega), fun n11 => ⟨fun e => y1 (by omega), fun n12 => ⟨fun e => y1 (by omega), fun n13 => ⟨fun e => y1 (by omega), fun n14 => ⟨fun e => y1 (by omega), fun n15 => ⟨fun e => y1 (by omega), fun n16 => ⟨fun e => y1 (by omega), fun n17 => ?_⟩⟩⟩⟩⟩⟩⟩⟩⟩⟩⟩⟩⟩⟩⟩⟩⟩
    exact b_Md_signs_305 ⟨fun e => y1 (by omega), fun n18 => ⟨fun n19 => y0 (by omega), fun e => y1 (by omega)⟩⟩
  have S0 : ¬ (d1 = 61 ∧ (c = 61 ∨ c = 33 ∨ c = 60 ∨ c = 62)) → ¬ (c = 38 ∧ d1 = 38) → ¬ (c = 124 ∧ d1 = 124) → wpB PGm ρ (d + 1) m_Md_signs 64 [(0, vR T), (1, vI c), (2, vI d1)] [vI 0] g Q := by
    intro z1 z2 z3
    have go : ¬ (¬ hI h f_Md_ofHost T = 0 ∧ c = 46 ∧ d1 = 46 ∧ d2 = 46) → wpB PGm ρ (d + 1) m_Md_signs 203 [(0, vR T), (1, vI c)] [] g Q := fun z4 => one (fun k m hk => by
      unfold sgn
      rw [if_neg (by omega), if_neg (by omega), if_neg (by omega), if_neg (by omega), if_neg (by omega), if_neg (by omega), if_neg z4]
      exact hk)
    refine b_Md_signs_64 ⟨fun _ => ⟨fun z => go (fun y => z y.2.1), fun e1 => ⟨fun z => go (fun y => z y.2.2.1), fun e2 => ⟨H1.1, ?_⟩⟩⟩, fun z => absurd rfl z⟩
    rw [t1, w2]
    refine t_at H1 (p + 2) ?_
    rw [H.tape f1, hd2]
    refine ⟨fun z => go (fun y => z y.2.2.2), fun e3 => ⟨H1.1, fun z => go (fun y => y.1 (by rw [← o1]; exact z)), fun z => ?_⟩⟩
    intro g2 g3
    have e4 : hI g2 f_Md_to T = (p : Int) := by show hI (sI _ _ _ _) _ _ = _; rw [I_Ine (by decide)]; exact t1
    have eg : g3 = sI g2 f_Md_to T ((p + 3 : Nat) : Int) := by show sI _ _ _ (w32 (hI g2 f_Md_to T + 3)) = _; rw [e4, w3]
    rw [eg]
    refine q _ 136 3 (Fr.wL (by decide) (Fr.wL (by decide) f1)) (by rw [I_Ine (by decide), I_Ine (by decide)]; exact r1) ?_ (Or.inr (Or.inr (Or.inr (Or.inr (Or.inr (Or.inl ⟨by rw [I_Ine (by decide), I_Ine (by decide)]; exact k1, by decide, by decide, by rw [I_Ine (by decide), I_I]; decide⟩)))))) (fun _ => I_I _ _ _ _)
    unfold sgn
    rw [if_neg (by omega), if_neg (by omega), if_neg (by omega), if_neg (by omega), if_neg (by omega), if_neg (by omega), if_pos ⟨by rw [← o1]; exact z, e1, e2, e3⟩]
    exact ⟨rfl, rfl⟩
  have P3 : ¬ (d1 = 61 ∧ (c = 61 ∨ c = 33 ∨ c = 60 ∨ c = 62)) → wpB PGm ρ (d + 1) m_Md_signs 35 [(0, vR T), (1, vI c), (2, vI d1)] [] g Q := by
    intro z1
    have P4 : ¬ (c = 38 ∧ d1 = 38) → wpB PGm ρ (d + 1) m_Md_signs 47 [(0, vR T), (1, vI c), (2, vI d1)] [] g Q := fun z2 => b_Md_signs_47 ⟨fun z => S0 z1 z2 (by omega), fun e => ⟨fun z => S0 z1 z2 (by omega), fun e2 => S2 (by omega)⟩⟩
    exact b_Md_signs_35 ⟨fun z => P4 (by omega), fun e => ⟨fun e2 => S2 (by omega), fun z => P4 (by omega)⟩⟩
  exact ⟨fun z => P3 (by omega), fun e => ⟨fun e1 => S2 (by omega), fun n1 => ⟨fun e1 => S2 (by omega), fun n2 => ⟨fun e1 => S2 (by omega), fun n3 => ⟨fun e1 => S2 (by omega), fun n4 => P3 (by omega)⟩⟩⟩⟩⟩
/-- what T has at hand -/
def TTK (h : ah) (T tx : Nat) (q : Nat) (k : Int) (to : Nat) (num : Int) (held : List Int) : Prop := hI h f_Md_from T = (q : Int) ∧ (¬ k = -1 → hI h f_Md_to T = (to : Int)) ∧ TKC k (hI h f_Md_token T) (hI h f_Md_sign T) ∧ (k = 2 → hI h f_Md_number T = num) ∧ (k = 3 → HL h tx held ∧ hI h f_Md_textSize T = (held.length : Int) ∧ held.length ≤ 60)
theorem t_next {Q : QT} (H : TS h T x n tx) {p : Nat} (hp : p ≤ n) (hto : hI h f_Md_to T = (p : Int)) (hv : ∀ k, k < n → hA h x k = 10 ∨ (32 ≤ hA h x k ∧ hA h x k ≤ 126))
    (q : ∀ h' k to num held, Fr TSM [] 0 0 h h' → tokE (ta (hA h x) n) n (hI h f_Md_ofHost T) (skp (ta (hA h x) n) n p) k to num held → TTK h' T tx (skp (ta (hA h x) n) n p) k to num held → Q (Sum.inl none) h') :
    wpB PGm ρ (d + 3) m_Md_next 0 [(0, vR T)] [] h Q := by
  have hb := H.2.2.2.2.2.1
  obtain ⟨sl, sl2⟩ := skp_le (ta (hA h x) n) n _ p (Nat.le_refl _) hp
  refine b_Md_next_0 (t_skip H _ p h (Nat.lt_succ_self _) hp Fr.r0 hto fun h1 hf ht => ?_)
  generalize hq : skp (ta (hA h x) n) n p = r at *
  have H1 := H.fr hf TSM_n
  have et := H.tape hf
  have o1 : hI h1 f_Md_ofHost T = hI h f_Md_ofHost T := hf.I H.2.2.2.2.2.2.2.2.2.1.1 (by decide) (nokW (by decide) rfl)
  have eA : ∀ i, hA h1 x i = hA h x i := fun i => H.tapA hf i
  refine b_Md_next_2 ⟨fun _ => ⟨H1.1, ?_⟩, fun z => absurd rfl z⟩
  rw [ht]
  intro g
  have f1 : Fr TSM [] 0 0 h g := Fr.wL (by decide) hf
  have Hg := H.fr f1 TSM_n
  have eg := H.tape f1
  have t1 : hI g f_Md_to T = (r : Int) := by show hI (sI _ _ _ _) _ _ = _; rw [I_Ine (by decide)]; exact ht
  have r1 : hI g f_Md_from T = (r : Int) := I_I _ _ _ _
  have z1 : hI g f_Md_size T = (n : Int) := Hg.2.2.1
  have og : hI g f_Md_ofHost T = hI h f_Md_ofHost T := o1
  have vg : ∀ k, k < n → hA g x k = 10 ∨ (32 ≤ hA g x k ∧ hA g x k ≤ 126) := fun k hk => by rw [show hA g x k = hA h x k from eA k]; exact hv k hk
  rw [t1]
  refine t_at Hg r ?_
  rw [eg]
  refine ⟨Hg.1, fun hlt => ?_, fun hge => ?_⟩
  · have hrn : r < n := by omega
    refine t_let _ (fun y => ⟨fun z => absurd z (by decide), fun _ => ?_⟩) (fun y => ⟨fun _ => ?_, fun z => absurd rfl z⟩)
    · refine t_name Hg (p := r) (fun h' r2 hf2 hen h2 a1 a2 a3 => ?_) _ r g (Nat.lt_succ_self _) (Nat.le_refl _) (by omega) Fr.r0 t1 r1 (fun k k1 k2 => by omega)
      rw [eg] at hen
      by_cases c30 : r2 - r ≤ 30
      · rw [if_pos c30] at a3
        exact q h' 1 r2 0 [] (f1.trans hf2) (Or.inr (Or.inl ⟨hrn, y, r2, hen, h2, Or.inl ⟨c30, rfl, rfl⟩⟩)) ⟨a2, fun _ => a1, Or.inr (Or.inl ⟨rfl, a3⟩), fun z => absurd z (by decide), fun z => absurd z (by decide)⟩
      · rw [if_neg c30] at a3
        exact q h' (-1) r2 0 [] (f1.trans hf2) (Or.inr (Or.inl ⟨hrn, y, r2, hen, h2, Or.inr ⟨by omega, rfl⟩⟩)) ⟨a2, fun _ => a1, Or.inr (Or.inr (Or.inr (Or.inr (Or.inl ⟨rfl, a3⟩)))), fun z => absurd z (by decide), fun z => absurd z (by decide)⟩
    · refine t_dig _ (fun y2 => ⟨fun z => absurd z (by decide), fun _ => ?_⟩) (fun y2 => ⟨fun _ => ⟨fun n34 => ⟨Hg.1, ?_⟩, fun e34 => ⟨Hg.1, ?_⟩⟩, fun z => absurd rfl z⟩)
      · refine t_number Hg (p := r) (fun h' r2 hf2 hen h2 a1 a2 a3 a4 => ?_) _ r g 0 (Nat.lt_succ_self _) (Nat.le_refl _) (by omega) Fr.r0 t1 r1 (by rw [Nat.sub_self]; rfl) (fun k k1 k2 => by omega)
        rw [eg] at hen a3 a4
        by_cases c10 : r2 - r ≤ 10 ∧ nv (ta (hA h x) n) r (r2 - r) ≤ 2147483647
        · rw [if_pos c10] at a3
          exact q h' 2 r2 _ [] (f1.trans hf2) (Or.inr (Or.inr (Or.inl ⟨hrn, y2, r2, hen, h2, Or.inl ⟨c10.1, c10.2, rfl, rfl, rfl⟩⟩))) ⟨a2, fun _ => a1, Or.inr (Or.inr (Or.inl ⟨rfl, a3⟩)), fun _ => a4 c10.1 c10.2, fun z => absurd z (by decide)⟩
        · rw [if_neg c10] at a3
          exact q h' (-1) r2 0 [] (f1.trans hf2) (Or.inr (Or.inr (Or.inl ⟨hrn, y2, r2, hen, h2, Or.inr ⟨c10, rfl⟩⟩))) ⟨a2, fun _ => a1, Or.inr (Or.inr (Or.inr (Or.inr (Or.inl ⟨rfl, a3⟩)))), fun z => absurd z (by decide), fun z => absurd z (by decide)⟩
      · rw [t1, w32_s (by omega)]
        refine t_at Hg (r + 1) ?_
        rw [eg]
        refine ⟨Hg.1, ?_⟩
        have := t_signs (ρ := ρ) (d := d + 1) (Q := cV (fun h58 => Q (Sum.inl none) h58) (fun e61 h60 => hK h60 e61 ≠ 0 ∧ Q (Sum.inr e61) h60)) Hg hrn t1 r1 (fun h' k m hf2 a1 hsg a2 a3 => ?_)
        · rw [eg] at this; exact this
        · rw [eg, og] at hsg
          have n23 : ¬ k = 2 ∧ ¬ k = 3 := by
            unfold sgn at hsg
            constructor
            · intro z
              rw [z] at hsg
              revert hsg
              split <;> (try omega)
              split <;> (try omega)
              split <;> (try omega)
              split <;> (try omega)
              split <;> (try omega)
              split <;> (try omega)
              split <;> (try omega)
              rintro (⟨w1, w2, -⟩ | ⟨-, w2⟩)
              · rw [← w2] at w1; revert w1; unfold sgc; decide
              · omega
            · intro z
              rw [z] at hsg
              revert hsg
              split <;> (try omega)
              split <;> (try omega)
              split <;> (try omega)
              split <;> (try omega)
              split <;> (try omega)
              split <;> (try omega)
              split <;> (try omega)
              rintro (⟨w1, w2, -⟩ | ⟨-, w2⟩)
              · rw [← w2] at w1; revert w1; unfold sgc; decide
              · omega
          exact q h' k (r + m) 0 [] (f1.trans hf2) (Or.inr (Or.inr (Or.inr (Or.inr ⟨hrn, y, y2, n34, m, hsg, rfl⟩)))) ⟨a1, a3, a2, fun z => absurd z n23.1, fun z => absurd z n23.2⟩
      · refine t_reads Hg hrn t1 r1 vg (fun h' hf2 a1 a2 => ?_)
        rw [eg] at a2
        rcases a2 with ⟨l, r2, e1, e2, e3, e4, e5, e6⟩ | ⟨e1, e2⟩
        · have hr2 : r + 1 ≤ r2 ∧ r2 < n := qt_b _ _ _ _ (Nat.le_refl _) e1
          exact q h' 3 (r2 + 1) 0 l (f1.trans hf2) (Or.inr (Or.inr (Or.inr (Or.inl ⟨hrn, e34, Or.inl ⟨by rw [Nat.add_sub_cancel]; exact e1, by omega, by omega, by omega, rfl⟩⟩)))) ⟨a1, fun _ => e3, Or.inr (Or.inr (Or.inr (Or.inl ⟨rfl, e2⟩))), fun z => absurd z (by decide), fun _ => ⟨e4, e5, e6⟩⟩
        · exact q h' (-1) 0 0 [] (f1.trans hf2) (Or.inr (Or.inr (Or.inr (Or.inl ⟨hrn, e34, Or.inr ⟨e1, rfl⟩⟩)))) ⟨a1, fun z => absurd rfl z, Or.inr (Or.inr (Or.inr (Or.inr (Or.inl ⟨rfl, e2⟩)))), fun z => absurd z (by decide), fun z => absurd z (by decide)⟩
  · have hrn : n ≤ r := by omega
    exact q _ 0 r 0 [] (Fr.wL (by decide) f1) (Or.inl ⟨hrn, rfl, rfl⟩) ⟨by rw [I_Ine (by decide)]; exact r1, fun _ => by rw [I_Ine (by decide)]; exact t1, Or.inl ⟨rfl, I_I _ _ _ _⟩, fun z => absurd z (by decide), fun z => absurd z (by decide)⟩
end
/-- both find the same -/
theorem sgn_u {host c d e k k' : Int} {m m' : Nat} (h1 : sgn host c d e k m) (h2 : sgn host c d e k' m') : k = k' ∧ (¬ k = -1 → m = m') := by
  unfold sgn at h1 h2
  split at h1
  · rename_i z; rw [if_pos z] at h2; omega
  · rename_i z; rw [if_neg z] at h2
    split at h1
    · rename_i z; rw [if_pos z] at h2; omega
    · rename_i z; rw [if_neg z] at h2
      split at h1
      · rename_i z; rw [if_pos z] at h2; omega
      · rename_i z; rw [if_neg z] at h2
        split at h1
        · rename_i z; rw [if_pos z] at h2; omega
        · rename_i z; rw [if_neg z] at h2
          split at h1
          · rename_i z; rw [if_pos z] at h2; omega
          · rename_i z; rw [if_neg z] at h2
            split at h1
            · rename_i z; rw [if_pos z] at h2; omega
            · rename_i z; rw [if_neg z] at h2
              split at h1
              · rename_i z; rw [if_pos z] at h2; omega
              · rename_i z; rw [if_neg z] at h2
                rcases h1 with ⟨a1, a2, a3⟩ | ⟨a1, a2⟩ <;> rcases h2 with ⟨b1, b2, b3⟩ | ⟨b1, b2⟩
                · omega
                · exact absurd a1 b1
                · exact absurd b1 a1
                · omega
theorem tokE_u {a : Nat → Int} {n : Nat} {host : Int} {q : Nat} {k k' : Int} {to to' : Nat} {num num' : Int} {held held' : List Int} (h1 : tokE a n host q k to num held) (h2 : tokE a n host q k' to' num' held') : k = k' ∧ (¬ k = -1 → to = to') ∧ (k = 2 → num = num') ∧ (k = 3 → held = held') := by
  have x1 : ∀ c, lett c → ¬ digi c ∧ ¬ c = 34 := fun c => by unfold lett digi; omega
  have x2 : ∀ c, digi c → ¬ c = 34 := fun c => by unfold digi; omega
  have x3 : ∀ c d e k m, sgn host c d e k m → ¬ k = 2 ∧ ¬ k = 3 := by
    intro c d e k m hsg
    have y : ∀ v : Int, v = 2 ∨ v = 3 → ¬ sgc v := by rintro v (rfl | rfl) <;> (unfold sgc; decide)
    constructor
    · intro z
      obtain ⟨u, -⟩ := sgn_u hsg hsg
      unfold sgn at hsg
      rw [z] at hsg
      revert hsg
      split <;> (try omega)
      split <;> (try omega)
      split <;> (try omega)
      split <;> (try omega)
      split <;> (try omega)
      split <;> (try omega)
      split <;> (try omega)
      rintro (⟨w1, w2, -⟩ | ⟨-, w2⟩)
      · exact y c (Or.inl w2.symm) w1
      · omega
    · intro z
      unfold sgn at hsg
      rw [z] at hsg
      revert hsg
      split <;> (try omega)
      split <;> (try omega)
      split <;> (try omega)
      split <;> (try omega)
      split <;> (try omega)
      split <;> (try omega)
      split <;> (try omega)
      rintro (⟨w1, w2, -⟩ | ⟨-, w2⟩)
      · exact y c (Or.inr w2.symm) w1
      · omega
  rcases h1 with ⟨a1, a2, a3⟩ | ⟨a1, a2, r, a3, a4, a5⟩ | ⟨a1, a2, r, a3, a4, a5⟩ | ⟨a1, a2, a3⟩ | ⟨a1, a2, a3, a4, m, a5, a6⟩
  · rcases h2 with ⟨b1, b2, b3⟩ | ⟨b1, -⟩ | ⟨b1, -⟩ | ⟨b1, -⟩ | ⟨b1, -⟩
    · exact ⟨by omega, fun _ => by omega, fun z => by omega, fun z => by omega⟩
    all_goals omega
  · rcases h2 with ⟨b1, b2, b3⟩ | ⟨b1, b2, r', b3, b4, b5⟩ | ⟨b1, b2, -⟩ | ⟨b1, b2, -⟩ | ⟨b1, b2, -⟩
    · omega
    · obtain rfl := endOf_u a3 b3
      rcases a5 with ⟨c1, c2, c3⟩ | ⟨c1, c2⟩ <;> rcases b5 with ⟨e1, e2, e3⟩ | ⟨e1, e2⟩
      all_goals exact ⟨by omega, fun _ => by omega, fun z => by omega, fun z => by omega⟩
    · exact absurd b2 (x1 _ a2).1
    · exact absurd b2 (x1 _ a2).2
    · exact absurd a2 b2
  · rcases h2 with ⟨b1, b2, b3⟩ | ⟨b1, b2, -⟩ | ⟨b1, b2, r', b3, b4, b5⟩ | ⟨b1, b2, -⟩ | ⟨b1, -, b2, -⟩
    · omega
    · exact absurd a2 (x1 _ b2).1
    · obtain rfl := endOf_u a3 b3
      rcases a5 with ⟨c1, c2, c3, c4, c5⟩ | ⟨c1, c2⟩ <;> rcases b5 with ⟨e1, e2, e3, e4, e5⟩ | ⟨e1, e2⟩
      · exact ⟨by omega, fun _ => by omega, fun z => by rw [c5, e5], fun z => by omega⟩
      · exact absurd ⟨c1, c2⟩ e1
      · exact absurd ⟨e1, e2⟩ c1
      · exact ⟨by omega, fun z => by omega, fun z => by omega, fun z => by omega⟩
    · exact absurd b2 (x2 _ a2)
    · exact absurd a2 b2
  · rcases h2 with ⟨b1, b2, b3⟩ | ⟨b1, b2, -⟩ | ⟨b1, b2, -⟩ | ⟨b1, b2, b3⟩ | ⟨b1, -, -, b2, -⟩
    · omega
    · exact absurd a2 (x1 _ b2).2
    · exact absurd a2 (x2 _ b2)
    · rcases a3 with ⟨c1, c2, c3, c4, c5⟩ | ⟨c1, c2⟩ <;> rcases b3 with ⟨e1, e2, e3, e4, e5⟩ | ⟨e1, e2⟩
      · rw [c1] at e1
        have e9 := Option.some.inj e1
        have e8 : to - 1 = to' - 1 := congrArg Prod.snd e9
        exact ⟨by omega, fun _ => by omega, fun z => by omega, fun z => congrArg Prod.fst e9⟩
      · rw [c1] at e1; cases e1
      · rw [c1] at e1; cases e1
      · exact ⟨by omega, fun z => by omega, fun z => by omega, fun z => by omega⟩
    · exact absurd a2 b2
  · rcases h2 with ⟨b1, b2, b3⟩ | ⟨b1, b2, -⟩ | ⟨b1, b2, -⟩ | ⟨b1, b2, -⟩ | ⟨b1, b2, b3, b4, m', b5, b6⟩
    · omega
    · exact absurd b2 a2
    · exact absurd b2 a3
    · exact absurd b2 a4
    · obtain ⟨u1, u2⟩ := sgn_u a5 b5
      obtain ⟨v1, v2⟩ := x3 _ _ _ _ _ a5
      exact ⟨u1, fun z => by have := u2 z; omega, fun z => absurd z v1, fun z => absurd z v2⟩
