/-! T: what is spelt -/
set_option maxRecDepth 20000
/-- bytes stand in the row from p on -/
def sp1 (S : SS) (p : Nat) (bs : List Int) : SS := fun f i => if f = f_Md_spelt ∧ p ≤ i ∧ i < p + bs.length then bs.getD (i - p) 0 else S f i
def spS (S : SS) (p : Nat) (bs : List Int) : SS := u2 (sp1 S p bs) f_Md_spelling 0 ((p + bs.length : Nat) : Int)
section
variable {ρ : Nat → Nat} {d : Nat} {h h' h0 : ah} {Q : QT} {T k f g n c t i j x p r : Nat} {op a b v w : Int} {S X : SS} {bs cs : List Int}
theorem sp1_o (hf : f ≠ f_Md_spelt) : sp1 S p bs f i = S f i := if_neg fun c => hf c.1
theorem sp1_nil : sp1 S p [] = S := by
  funext f i
  exact if_neg fun c => by have := c.2; simp at this; omega
theorem sp1_u (hj : j < bs.length) : u2 (sp1 S p (bs.take j)) f_Md_spelt (p + j) (bs.getD j 0) = sp1 S p (bs.take (j + 1)) := by
  funext f i
  rw [u2_e]
  unfold sp1
  have l1 : (bs.take j).length = j := by rw [List.length_take]; omega
  have l2 : (bs.take (j + 1)).length = j + 1 := by rw [List.length_take]; omega
  rw [l1, l2]
  by_cases q : f = f_Md_spelt
  · by_cases q2 : i = p + j
    · rw [if_pos ⟨q, q2⟩, if_pos ⟨q, by omega, by omega⟩, List.getD_eq_getElem?_getD, List.getD_eq_getElem?_getD, List.getElem?_take, if_pos (by omega)]
      congr 2; omega
    · rw [if_neg (fun c => q2 c.2)]
      by_cases q3 : p ≤ i ∧ i < p + j
      · rw [if_pos ⟨q, q3⟩, if_pos ⟨q, by omega, by omega⟩, List.getD_eq_getElem?_getD, List.getD_eq_getElem?_getD, List.getElem?_take, List.getElem?_take, if_pos (by omega), if_pos (by omega)]
      · rw [if_neg (fun c => q3 c.2), if_neg (fun c => q3 ⟨c.2.1, by omega⟩)]
  · rw [if_neg (fun c => q c.1), if_neg (fun c => q c.1), if_neg (fun c => q c.1)]
theorem spS_nil (e : S f_Md_spelling 0 = (p : Int)) : spS S p [] = S := by
  unfold spS
  rw [sp1_nil]
  funext f i
  rw [u2_e]
  split
  · next c => rw [c.1, c.2, e]; rfl
  · rfl
theorem sp1_app : sp1 (sp1 S p bs) (p + bs.length) cs = sp1 S p (bs ++ cs) := by
  funext f i
  unfold sp1
  rw [List.length_append]
  by_cases q : f = f_Md_spelt
  · by_cases q1 : p + bs.length ≤ i ∧ i < p + bs.length + cs.length
    · rw [if_pos ⟨q, q1⟩, if_pos ⟨q, by omega, by omega⟩, List.getD_eq_getElem?_getD, List.getD_eq_getElem?_getD, List.getElem?_append, if_neg (by omega)]
      congr 2; omega
    · rw [if_neg (fun c => q1 c.2)]
      by_cases q2 : p ≤ i ∧ i < p + bs.length
      · rw [if_pos ⟨q, q2⟩, if_pos ⟨q, by omega, by omega⟩, List.getD_eq_getElem?_getD, List.getD_eq_getElem?_getD, List.getElem?_append, if_pos (by omega)]
      · rw [if_neg (fun c => q2 c.2), if_neg (fun c => by have := c.2; omega)]
  · rw [if_neg (fun c => q c.1), if_neg (fun c => q c.1), if_neg (fun c => q c.1)]
theorem sp1_sp : sp1 (u2 S f_Md_spelling 0 v) p cs = u2 (sp1 S p cs) f_Md_spelling 0 v := by
  funext f i
  rw [u2_e]
  by_cases q : f = f_Md_spelling ∧ i = 0
  · rw [if_pos q, q.1, q.2, sp1_o (by decide), u2_s]
  · rw [if_neg q]
    unfold sp1
    rw [u2_e, if_neg q]
theorem spS_app : spS (spS S p bs) (p + bs.length) cs = spS S p (bs ++ cs) := by
  unfold spS
  rw [sp1_sp, sp1_app, List.length_append, ← Nat.add_assoc]
  funext f i
  simp only [u2_e]
  split <;> rfl
theorem cnS (H : SOK h0 r bs) (hT : T < hz h0) (hS : ∀ q, q ∈ tabM → own q.1) : hK (cn h0 T S) r = 191 ∧ hl (cn h0 T S) r = bs.length ∧ ∀ i, i < bs.length → hA (cn h0 T S) r i = bs.getD i 0 := by
  obtain ⟨⟨a1, a2, a3, a4⟩, a5, a6, a7⟩ := H
  refine ⟨a1, a2, fun i hi => ?_⟩
  rw [cnAo (fun q m c => a7 q.1 T hT (hS q m) c)]
  exact a4 i hi
theorem tabO : ∀ q, q ∈ tabM → own q.1 := by
  have : tabM.all (fun q => ownF.elem q.1) = true := by decide +kernel
  exact fun q m => List.all_eq_true.mp this q m
/-- what T's runs may lean on -/
def TKS (ρ : Nat → Nat) (h0 : ah) (T : Nat) : Prop := TOK h0 T ∧ STM ρ h0 ∧ T < hz h0
theorem s_spell (K : TKS ρ h0 T) (sk : SOK h0 r bs) (hb : ∀ i, i < bs.length → -128 ≤ bs.getD i 0 ∧ bs.getD i 0 ≤ 127) (e : S f_Md_spelling 0 = (p : Int)) (hp : p + bs.length ≤ 256) (hd : 10 ≤ d) (q : Q (Sum.inl none) (cn h0 T (spS S p bs))) : wpB PGm ρ d m_Md_spell 0 [(0, vR T), (1, vR r)] [] (cn h0 T S) Q := by
  obtain ⟨⟨kT, G, kH⟩, -, hT⟩ := K
  refine b_Md_spell_0 ?_
  have key : ∀ m j, j + m = bs.length → wpB PGm ρ d m_Md_spell 2 [(0, vR T), (1, vR r), (2, vI (j : Int))] [] (cn h0 T (sp1 S p (bs.take j))) Q := by
    intro m
    induction m with
    | zero =>
      intro j hj
      have : j = bs.length := by omega
      subst this
      rw [List.take_length]
      obtain ⟨s1, s2, s3⟩ := cnS (S := sp1 S p bs) sk hT tabO
      refine b_Md_spell_2 hd ⟨s1, s1, fun _ => ⟨kT, s1, s1, ?_⟩, fun w => by rw [s2] at w; omega⟩
      rw [s2]
      simp (decide := true) (disch := first | decide | omega) only [cnI, cnIe, cnR, cnK, cnl, cnA' G, cn_sI, cn_sIe, cn_sA' G, kT, kH, KN G, LN G, u2_f, u2_s, w32_aa, w32_ss, w32_p1, w32_m1, Int.toNat_natCast, true_and, and_true, false_and, and_false, or_false, false_or, ne_eq, not_false_eq_true, forall_const, implies_true, not_true_eq_false, false_implies, sp1_o, e]
      exact q
    | succ m ih =>
      intro j hj
      have hj' : j < bs.length := by omega
      obtain ⟨s1, s2, s3⟩ := cnS (S := sp1 S p (bs.take j)) sk hT tabO
      have b := hb j hj'
      have nx := ih (j + 1) (by omega)
      have b1 : 0 ≤ ((p + j : Nat) : Int) ∧ ((p + j : Nat) : Int) < ((256 : Nat) : Int) := by omega
      have u := sp1_u (S := S) (p := p) hj'
      have b2 : ¬ (bs.length : Int) ≤ (j : Int) := by omega
      have b3 : 0 ≤ (j : Int) ∧ (j : Int) < (bs.length : Int) := by omega
      have b4 : j ≤ 2000000000 := by omega
      have s3' := s3 j hj'
      have w2 : w8 (bs.getD j 0) = bs.getD j 0 := w8_of b.1 (by omega)
      generalize bs.getD j 0 = cv at *
      generalize bs.take (j + 1) = bt at *
      have w1 : w32 ((j : Int) + 1) = ((j + 1 : Nat) : Int) := w32_s b4
      refine b_Md_spell_2 hd ⟨s1, s1, fun w => by rw [s2] at w; exact absurd w b2, fun _ => ⟨kT, s1, ⟨s1, b3.1, by rw [s2]; exact b3.2⟩, ?_⟩⟩
      rw [Int.toNat_natCast, s3', w1, w2]
      clear s1 s2 s3 s3' b2 b3 b4 hb ih sk w1 w2
      simp (decide := true) (disch := first | decide | omega) only [cnI, cnIe, cnR, cnK, cnl, cnA' G, cn_sI, cn_sIe, cn_sA' G, kT, kH, KN G, LN G, u2_f, u2_s, w32_aa, w32_ss, w32_p1, w32_m1, Int.toNat_natCast, true_and, and_true, false_and, and_false, or_false, false_or, ne_eq, not_false_eq_true, forall_const, implies_true, not_true_eq_false, false_implies, sp1_o, e, u]
      exact And.intro (And.intro b b1) nx
  have := key bs.length 0 (by omega)
  rw [List.take_zero, sp1_nil] at this
  exact this
theorem s_digits (K : TKS ρ h0 T) (hv : -9223372036854775808 ≤ v ∧ v < 9223372036854775808) : ∀ (k p : Nat) (S : SS), k ≤ 18 → S f_Md_spelling 0 = (p : Int) → p + k + 1 ≤ 256 → Q (Sum.inl none) (cn h0 T (spS S p (dgL v k))) → wpB PGm ρ d m_Md_spellNumber 44 [(0, vR T), (1, vL v), (3, vL ((10 ^ k : Nat) : Int))] [] (cn h0 T S) Q := by
  intro k
  have O := K.1
  have one : ∀ (k p : Nat) (S : SS), k ≤ 18 → S f_Md_spelling 0 = (p : Int) → p + 1 ≤ 256 → wpB PGm ρ d m_Md_spellNumber 44 [(0, vR T), (1, vL v), (3, vL (o64 (· / ·) ((10 ^ k : Nat) : Int) 10))] [] (cn h0 T (spS S p [dgN v k])) Q → wpB PGm ρ d m_Md_spellNumber 44 [(0, vR T), (1, vL v), (3, vL ((10 ^ k : Nat) : Int))] [] (cn h0 T S) Q := by
    intro k p S hk e hp q
    obtain ⟨kT, G, kH⟩ := O
    have t := t10 hk
    have sg : (if ((10 ^ k : Nat) : Int) < 0 then (-1 : Int) else if ((10 ^ k : Nat) : Int) = 0 then 0 else 1) = 1 := by rw [if_neg (by omega), if_neg (by omega)]
    have hdd : -9223372036854775808 ≤ v.tdiv ((10 ^ k : Nat) : Int) ∧ v.tdiv ((10 ^ k : Nat) : Int) < 9223372036854775808 := by
      have := o64_d hv (u := ((10 ^ k : Nat) : Int)) (by omega)
      rw [← this]
      unfold o64
      exact ⟨Int64.le_toInt _, Int64.toInt_lt _⟩
    have r := dg_r (v := v.tdiv ((10 ^ k : Nat) : Int))
    have sp : spS S p [dgN v k] = u2 (u2 S f_Md_spelt p (dgN v k)) f_Md_spelling 0 ((p + 1 : Nat) : Int) := by
      have := sp1_u (S := S) (p := p) (bs := [dgN v k]) (j := 0) (Nat.zero_lt_one)
      rw [List.take_zero, sp1_nil, Nat.add_zero] at this
      unfold spS
      rw [show ([dgN v k] : List Int) = [dgN v k].take (0 + 1) from rfl, ← this]; rfl
    rw [sp] at q
    have dgb : -128 ≤ dgN v k ∧ dgN v k ≤ 127 := by unfold dgN; omega
    have b1 : 0 ≤ (p : Int) ∧ (p : Int) < ((256 : Nat) : Int) := by omega
    have kz : ((10 ^ k : Nat) : Int) ≠ 0 := by omega
    have fin : ∀ y : Int, 48 + y = dgN v k → 0 ≤ y ∧ y ≤ 9 → wpB PGm ρ d m_Md_spellNumber 85 [(0, vR T), (1, vL v), (3, vL ((10 ^ k : Nat) : Int))] [vL y, vL 48, vI (p : Int), vR (hR h0 f_Md_spelt T)] (cn h0 T S) Q := by
      intro y ey hy
      have w1 : w8 (w32 (w64 (48 + y))) = dgN v k := by rw [w64_i (by omega) (by omega), w32_of (by omega) (by omega), w8_of (by omega) (by omega), ey]
      clear ey hy sg hdd r sp t
      refine b_Md_spellNumber_85 ?_
      rw [w1]
      clear w1
      simp (decide := true) (disch := first | decide | omega) only [cnI, cnIe, cnR, cnK, cnl, cnA' G, cn_sI, cn_sIe, cn_sA' G, kT, kH, KN G, LN G, u2_f, u2_s, w32_aa, w32_ss, w32_p1, w32_m1, Int.toNat_natCast, true_and, and_true, false_and, and_false, or_false, false_or, ne_eq, not_false_eq_true, forall_const, implies_true, not_true_eq_false, false_implies, e]
      exact ⟨⟨dgb, b1⟩, q⟩
    refine b_Md_spellNumber_44 ?_
    rw [sg, o64_d hv (by omega), o64_m hdd]
    refine ⟨fun w => absurd w (by decide), fun _ => ⟨kz, by decide, kT, ?_⟩⟩
    have eI : hI (cn h0 T S) f_Md_spelling T = (p : Int) := by rw [cnI (by decide)]; exact e
    rw [eI, cnR]
    unfold dgN at fin
    generalize (v.tdiv ((10 ^ k : Nat) : Int)).tmod 10 = y at *
    refine ⟨fun w => fin y ?_ ?_, fun w => ?_⟩
    · have : ¬ y < 0 := fun c => by rw [if_pos c] at w; exact absurd w (by decide)
      omega
    · have : ¬ y < 0 := fun c => by rw [if_pos c] at w; exact absurd w (by decide)
      omega
    · have : y < 0 := Classical.byContradiction fun c => by
        rw [if_neg c] at w
        revert w; split <;> decide
      rw [w64_i (by omega) (by omega)]
      exact fin (-y) (by omega) (by omega)
  induction k with
  | zero =>
    intro p S hk e hp q
    refine one 0 p S hk e (by omega) ?_
    rw [t10d hk, if_pos rfl]
    exact b_Md_spellNumber_44 ⟨fun _ => q, fun w => absurd w (by decide)⟩
  | succ k ih =>
    intro p S hk e hp q
    refine one (k + 1) p S hk e (by omega) ?_
    rw [t10d hk, if_neg (by omega), Nat.add_sub_cancel]
    refine ih (p + 1) _ (by omega) (by unfold spS; rw [u2_s]; rfl) (by omega) ?_
    have := spS_app (S := S) (p := p) (bs := [dgN v (k + 1)]) (cs := dgL v k)
    rw [show p + [dgN v (k + 1)].length = p + 1 from rfl] at this
    rw [this]
    exact q
theorem s_unit (hv : -9223372036854775808 ≤ v ∧ v < 9223372036854775808) : ∀ f k, f + k = 18 → wpB PGm ρ d m_Md_spellNumber 44 [(0, vR T), (1, vL v), (3, vL ((10 ^ (ndK v f k) : Nat) : Int))] [] h Q → wpB PGm ρ d m_Md_spellNumber 15 [(0, vR T), (1, vL v), (3, vL ((10 ^ k : Nat) : Int))] [] h Q := by
  intro f
  induction f with
  | zero =>
    intro k hk q
    have t := t10 (k := k) (by omega)
    have e := o64_d hv (u := ((10 ^ k : Nat) : Int)) (by omega)
    have nd := ndC_18 hv
    have : k = 18 := by omega
    subst this
    unfold ndC at nd
    refine b_Md_spellNumber_15 ?_
    rw [e]
    refine ⟨by omega, fun w => ?_, fun _ => ⟨by omega, fun _ => q, fun w => ?_⟩⟩
    · exfalso; revert w; split
      · decide
      · split
        · decide
        · omega
    · exfalso; revert w; split
      · omega
      · split <;> decide
  | succ f ih =>
    intro k hk q
    have t := t10 (k := k) (by omega)
    have e := o64_d hv (u := ((10 ^ k : Nat) : Int)) (by omega)
    unfold ndK at q
    have up : ndC v k → wpB PGm ρ d m_Md_spellNumber 35 [(0, vR T), (1, vL v), (3, vL ((10 ^ k : Nat) : Int))] [] h Q := fun c => by
      have c' : 9 < v.tdiv ((10 ^ k : Nat) : Int) ∨ v.tdiv ((10 ^ k : Nat) : Int) < -9 := c
      rw [if_pos c'] at q
      refine b_Md_spellNumber_35 ?_
      rw [t10s (by omega)]
      exact ih (k + 1) (by omega) q
    refine b_Md_spellNumber_15 ?_
    rw [e]
    refine ⟨by omega, fun w => up (Or.inl ?_), fun w1 => ⟨by omega, fun w2 => ?_, fun w => up (Or.inr ?_)⟩⟩
    · revert w; split
      · intro w; exact absurd w (by decide)
      · split
        · intro w; exact absurd w (by decide)
        · intro _; omega
    · rw [if_neg (fun c => ?_)] at q
      · exact q
      · rcases c with c | c
        · revert w1; rw [if_neg (by omega), if_neg (by omega)]; decide
        · revert w2; rw [if_pos (by omega)]; decide
    · revert w; split
      · intro _; omega
      · split <;> (intro w; exact absurd w (by decide))
theorem s_spellNumber (K : TKS ρ h0 T) (hv : -9223372036854775808 ≤ v ∧ v < 9223372036854775808) (e : S f_Md_spelling 0 = (p : Int)) (hp : p + 20 ≤ 256) (hd : 10 ≤ d) (q : Q (Sum.inl none) (cn h0 T (spS S p (nuL v)))) : wpB PGm ρ (d + 1) m_Md_spellNumber 0 [(0, vR T), (1, vL v)] [] (cn h0 T S) Q := by
  have nk := ndK_le (v := v) 18 0
  refine b_Md_spellNumber_0 ⟨fun w => ?_, fun w => ⟨K.1.1, ?_⟩⟩
  · have nv : ¬ v < 0 := fun c => by rw [if_pos c] at w; exact absurd w (by decide)
    unfold nuL at q
    rw [if_neg nv, List.nil_append] at q
    exact s_unit hv 18 0 rfl (s_digits K hv _ p S (by omega) e (by omega) q)
  · have nv : v < 0 := Classical.byContradiction fun c => by
      rw [if_neg c] at w
      revert w; split <;> decide
    unfold nuL at q
    rw [if_pos nv] at q
    refine s_spell K (K.2.1.g (x := 46) (w := [45]) (by decide)) (fun i hi => ?_) e (by simp; omega) hd ?_
    · have : i = 0 := by simp at hi; exact hi
      subst this; decide
    · have := spS_app (S := S) (p := p) (bs := [45]) (cs := dgL v (ndK v 18 0))
      rw [show p + ([45] : List Int).length = p + 1 from rfl] at this
      exact s_unit hv 18 0 rfl (s_digits K hv _ (p + 1) _ (by omega) (by unfold spS; rw [u2_s]; rfl) (by omega) (by rw [this]; exact q))
end
