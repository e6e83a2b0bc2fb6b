/-! the next token as a function; what is read of a host, as functions -/
set_option maxRecDepth 20000
noncomputable def nx (tp : List Int) (host : Int) (t : TKN) : TKN := Classical.epsilon (fun t' => nxT tp host t t')
section
variable {ρ : Nat → Nat} {d : Nat} {h h' h0 : ah} {F : Int → ah → Prop} {G : ah → Prop} {E : Nat → ah → Prop} {Q : QT} {C T ho a k : Nat} {tp : List Int} {host : Int} {t t' t1 t2 : TKN} {g : HG} {n m : Nat} {ws : List (List Int)} {S : Nat → Nat → Int}
theorem nx_of (H : nxT tp host t t') : nxT tp host t (nx tp host t) := Classical.epsilon_spec ⟨t', H⟩
/-- what counts of a token -/
def sameT (t t' : TKN) : Prop := t.1 = t'.1 ∧ t.2.1 = t'.2.1 ∧ (¬ t.2.1 = -1 → t.2.2.1 = t'.2.2.1) ∧ (t.2.1 = 2 → t.2.2.2.1 = t'.2.2.2.1) ∧ (t.2.1 = 3 → t.2.2.2.2 = t'.2.2.2.2)
theorem nx_same (H : nxT tp host t t') : sameT t' (nx tp host t) := nxT_u H (nx_of H)
theorem sameT.bs (H : sameT t t') (hk : ¬ t.2.1 = -1) : tkB tp t = tkB tp t' := by unfold tkB; rw [H.1, H.2.2.1 hk]
theorem CK.tr (H : CK h C tp host t) (S : sameT t t') (e : tkE tp host t') : CK h C tp host t' := by
  obtain ⟨H1, H2, H3, ⟨k1, k2, k3, k4, k5⟩, H5, H6, H7, H8, H9⟩ := H
  obtain ⟨s1, s2, s3, s4, s5⟩ := S
  have s3 := s3 H6
  refine ⟨H1, H2, H3, ⟨by rw [← s2]; exact k1, by rw [← s1]; exact k2, by rw [← s3]; exact k3, fun c => ?_, fun c => ?_⟩, e, by rw [← s2]; exact H6, by rw [← s1, ← s3]; exact H7, by rw [← s3]; exact H8, H9⟩
  · rw [← s2] at c; rw [← s4 c]; exact k4 c
  · rw [← s2] at c; rw [← s5 c]; exact k5 c
theorem TK.tr (H : TK h T tp host t) (S : sameT t t') (e : tkE tp host t') : TK h T tp host t' := by
  obtain ⟨H1, H2, H3, ⟨k1, k2, k3, k4, k5⟩, H5, H6, H7, H8, H9⟩ := H
  obtain ⟨s1, s2, s3, s4, s5⟩ := S
  refine ⟨H1, H2, H3, ⟨by rw [← s1]; exact k1, fun c => ?_, by rw [← s2]; exact k3, fun c => ?_, fun c => ?_⟩, e, fun c => ?_, H7, H8, H9⟩
  · rw [← s2] at c; rw [← s3 c]; exact k2 c
  · rw [← s2] at c; rw [← s4 c]; exact k4 c
  · rw [← s2] at c; rw [← s5 c]; exact k5 c
  · rw [← s2] at c; rw [← s1, ← s3 c]; exact H6 c
theorem CK.nxf (H : CK h C tp host t') (e : nxT tp host t t') : CK h C tp host (nx tp host t) := H.tr (nx_same e) (nx_of e).2
/-- C goes on: either there is a token, or a fault -/
theorem c_nxf (H : CK h C tp host t) (q1 : ∀ h', Fr SCM [] 0 0 h h' → nxT tp host t (nx tp host t) → ¬ (nx tp host t).2.1 = -1 → CK h' C tp host (nx tp host t) → G h') (q2 : ∀ h', Fr SCM [] 0 0 h h' → nxT tp host t (nx tp host t) → (nx tp host t).2.1 = -1 → hI h' f_Fault_told (C + 2) = 1 + 16 * ((nx tp host t).1 : Int) → E (C + 2) h') : wpB PGm ρ (d + 3) m_Scanner_next 0 [(0, vR (C + 3))] [] h (cV G E) :=
  c_nx H (fun h' t' a b c => q1 h' a (nx_of b) (by rw [← (nx_same b).2.1]; exact c.2.2.2.2.2.1) (c.nxf b)) (fun h' t' a b c e => q2 h' a (nx_of b) (by rw [← (nx_same b).2.1]; exact c) (by rw [← (nx_same b).1]; exact e))
/-- there is always a next one -/
theorem sgn_ex (host c d e : Int) : ∃ k m, sgn host c d e k m := by
  unfold sgn
  split
  · exact ⟨_, _, rfl, rfl⟩
  · split
    · exact ⟨_, _, rfl, rfl⟩
    · split
      · exact ⟨_, _, rfl, rfl⟩
      · split
        · exact ⟨_, _, rfl, rfl⟩
        · split
          · exact ⟨_, _, rfl, rfl⟩
          · split
            · exact ⟨_, _, rfl, rfl⟩
            · split
              · exact ⟨_, _, rfl, rfl⟩
              · by_cases c : sgc c
                · exact ⟨_, 1, Or.inl ⟨c, rfl, rfl⟩⟩
                · exact ⟨_, 0, Or.inr ⟨c, rfl⟩⟩
theorem endOf_ex {P : Int → Prop} {a : Nat → Int} {n : Nat} (h0 : ∀ k, n ≤ k → ¬ P (a k)) : ∀ m p, n - p ≤ m → p ≤ n → ∃ r, endOf P a p r ∧ r ≤ n := by
  intro m
  induction m with
  | zero => intro p hm hp; exact ⟨p, ⟨Nat.le_refl _, fun k h1 h2 => by omega, h0 p (by omega)⟩, hp⟩
  | succ m ih =>
    intro p hm hp
    by_cases c : P (a p)
    · by_cases e : p = n
      · exact absurd c (h0 p (by omega))
      · obtain ⟨r, ⟨r1, r2, r3⟩, r4⟩ := ih (p + 1) (by omega) (by omega)
        refine ⟨r, ⟨by omega, fun k h1 h2 => ?_, r3⟩, r4⟩
        by_cases ek : k = p
        · rw [ek]; exact c
        · exact r2 k (by omega) h2
    · exact ⟨p, ⟨Nat.le_refl _, fun k h1 h2 => by omega, c⟩, hp⟩
theorem tkE_ex (q : Nat) : ∃ t, t.1 = q ∧ tkE tp host t := by
  have z : ∀ k, tp.length ≤ k → ch tp k = 0 := fun k hk => ch_out hk
  by_cases c0 : tp.length ≤ q
  · exact ⟨(q, 0, q, 0, []), rfl, Or.inl ⟨c0, rfl, rfl⟩⟩
  · by_cases c1 : lett (ch tp q)
    · obtain ⟨r, hr, hr2⟩ := endOf_ex (P := ld) (a := ch tp) (n := tp.length) (fun k hk => by rw [z k hk]; exact ld0) _ q (Nat.le_refl _) (by omega)
      by_cases c : r - q ≤ 30
      · exact ⟨(q, 1, r, 0, []), rfl, Or.inr (Or.inl ⟨by simp only; omega, c1, r, hr, hr2, Or.inl ⟨c, rfl, rfl⟩⟩)⟩
      · exact ⟨(q, -1, r, 0, []), rfl, Or.inr (Or.inl ⟨by simp only; omega, c1, r, hr, hr2, Or.inr ⟨by simp only; omega, rfl⟩⟩)⟩
    · by_cases c2 : digi (ch tp q)
      · obtain ⟨r, hr, hr2⟩ := endOf_ex (P := digi) (a := ch tp) (n := tp.length) (fun k hk => by rw [z k hk]; exact digi0) _ q (Nat.le_refl _) (by omega)
        by_cases c : r - q ≤ 10 ∧ nv (ch tp) q (r - q) ≤ 2147483647
        · exact ⟨(q, 2, r, nv (ch tp) q (r - q), []), rfl, Or.inr (Or.inr (Or.inl ⟨by simp only; omega, c2, r, hr, hr2, Or.inl ⟨c.1, c.2, rfl, rfl, rfl⟩⟩))⟩
        · exact ⟨(q, -1, r, 0, []), rfl, Or.inr (Or.inr (Or.inl ⟨by simp only; omega, c2, r, hr, hr2, Or.inr ⟨c, rfl⟩⟩))⟩
      · by_cases c3 : ch tp q = 34
        · cases e : qt (ch tp) tp.length (q + 1) [] with
          | none => exact ⟨(q, -1, 0, 0, []), rfl, Or.inr (Or.inr (Or.inr (Or.inl ⟨by simp only; omega, c3, Or.inr ⟨e, rfl⟩⟩)))⟩
          | some r =>
            have b := qt_b (a := ch tp) (n := tp.length) _ _ _ r (Nat.le_refl _) e
            exact ⟨(q, 3, r.2 + 1, 0, r.1), rfl, Or.inr (Or.inr (Or.inr (Or.inl ⟨by simp only; omega, c3, Or.inl ⟨e, by simp only; omega, by simp only; omega, by simp only; omega, rfl⟩⟩)))⟩
        · obtain ⟨k, m, hs⟩ := sgn_ex host (ch tp q) (ch tp (q + 1)) (ch tp (q + 2))
          exact ⟨(q, k, q + m, 0, []), rfl, Or.inr (Or.inr (Or.inr (Or.inr ⟨by simp only; omega, c1, c2, c3, m, hs, rfl⟩)))⟩
theorem nx_ok : nxT tp host t (nx tp host t) := by
  obtain ⟨t', e1, e2⟩ := tkE_ex (tp := tp) (host := host) (skp (ch tp) tp.length t.2.2.1)
  exact nx_of (t' := t') ⟨e1, e2⟩
end
/-! the reader of hosts, as functions: a fault (number, place), or what was read -/
abbrev FLT : Type := Int × Nat
/-- the class of a name -/
def idxN (g : HG) (n : Nat) (l : List Int) : Option Nat := (List.range n).find? (fun i => decide (g.2 0 i = l))
theorem idxN_s {g : HG} {n : Nat} {l : List Int} {i : Nat} (e : idxN g n l = some i) : i < n ∧ g.2 0 i = l := by
  unfold idxN at e
  have h1 := List.mem_of_find?_eq_some e
  have h2 := List.find?_some e
  simp at h1 h2
  exact ⟨h1, h2⟩
theorem idxN_n {g : HG} {n : Nat} {l : List Int} (e : idxN g n l = none) : ∀ i, i < n → g.2 0 i ≠ l := by
  unfold idxN at e
  rw [List.find?_eq_none] at e
  intro i hi c
  exact e i (by simp; exact hi) (by simp [c])
/-- names differ -/
def difN (g : HG) (n : Nat) : Prop := ∀ i j, i < n → j < n → g.2 0 i = g.2 0 j → i = j
theorem idxN_e {g : HG} {n : Nat} {l : List Int} {i : Nat} (H : difN g n) (hi : i < n) (e : g.2 0 i = l) : idxN g n l = some i := by
  cases c : idxN g n l with
  | none => exact absurd e (idxN_n c i hi)
  | some j =>
    obtain ⟨a, b⟩ := idxN_s c
    rw [H i j hi a (by rw [e, b])]
theorem idxN_0 {g : HG} {n : Nat} {l : List Int} (e : ∀ i, i < n → g.2 0 i ≠ l) : idxN g n l = none := by
  cases c : idxN g n l with
  | none => rfl
  | some j => exact absurd (idxN_s c).2 (e j (idxN_s c).1)
/-- classes above, from a sign ahead of a name on -/
noncomputable def rdSups (tp : List Int) (n : Nat) : Nat → HG → TKN → FLT ⊕ (HG × TKN)
  | 0, _, _ => Sum.inl (0, 0)
  | f + 1, g, t =>
    if ¬ (nx tp 1 t).2.1 = 1 then Sum.inl (1, (nx tp 1 t).1) else
    match idxN g n (tkB tp (nx tp 1 t)) with
    | none => Sum.inl (3, (nx tp 1 t).1)
    | some s => @ite _ (twice g n s) (Classical.propDecidable _) (Sum.inl (4, (nx tp 1 t).1))
      (if (nx tp 1 (nx tp 1 t)).2.1 = -1 then Sum.inl (1, (nx tp 1 (nx tp 1 t)).1) else
       if (nx tp 1 (nx tp 1 t)).2.1 = 44 then rdSups tp n f (gSup g n s) (nx tp 1 (nx tp 1 t)) else Sum.inr (gSup g n s, nx tp 1 (nx tp 1 t)))
