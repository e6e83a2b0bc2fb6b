/-! T: a shape is rebuilt -/
set_option maxRecDepth 20000
/-- the shape that is there, or -1 -/
noncomputable def fsh (S : SS) (sn : Nat) (b p nm : Int) : Int := @dite _ (∃ r : Nat, (1 ≤ r ∧ r < sn) ∧ mtc S b p nm r) (Classical.propDecidable _) (fun h => ((Classical.choose h : Nat) : Int)) (fun _ => -1)
noncomputable def nxF (S : SS) (sn : Nat) (p cur nm : Int) : Int := if cur < 0 then -1 else fsh S sn cur p nm
noncomputable def rtF (S : SS) (sn : Nat) (p : Int) : Int := if p < 0 then 0 else fsh S sn (-1) p (-1)
/-- how many shapes are wanting from the i-th name on (m are left of n) -/
noncomputable def ctF (S : SS) (sn : Nat) (p : Int) (nm : Nat → Int) (w : Int) (n : Nat) : Nat → Int → Nat
  | 0, _ => 0
  | m + 1, cur => if ((n - (m + 1) : Nat) : Int) = w then ctF S sn p nm w n m cur else (if nxF S sn p cur (nm (n - (m + 1))) < 0 then 1 else 0) + ctF S sn p nm w n m (nxF S sn p cur (nm (n - (m + 1))))
noncomputable def wnF (S : SS) (sn : Nat) (p : Int) (nm : Nat → Int) (w : Int) (n : Nat) : Nat := (if rtF S sn p < 0 then 1 else 0) + ctF S sn p nm w n n (rtF S sn p)
def UNQ (S : SS) (sn : Nat) : Prop := ∀ s s', 1 ≤ s → 1 ≤ s' → s < sn → s' < sn → S f_Md_shapeBefore s = S f_Md_shapeBefore s' → S f_Md_shapeProto s = S f_Md_shapeProto s' → S f_Md_shapeName s = S f_Md_shapeName s' → s = s'
def nmT (S : SS) (k i : Nat) : Int := S f_Md_slotName (slS S k i)
/-- a thing's slots, as T walks them -/
def SLK (S : SS) (k n : Nat) : Prop := k < 8000 ∧ n ≤ 64 ∧ S f_Md_thingCount k = (n : Int) ∧ (0 < n → 0 ≤ S f_Md_thingFirst k) ∧ (∀ i, i < n → slS S k i < 60000) ∧ (∀ i, i + 1 < n → 0 ≤ S f_Md_slotNext (slS S k i))
section
variable {ρ : Nat → Nat} {d : Nat} {h0 : ah} {Q : QT} {T k f n i j sn sm r m : Nat} {b p nm cur w l6 : Int} {S S' : SS} {e : Option (Nat × SS)}
theorem fsh_s : (∃ r : Nat, fsh S sn b p nm = (r : Int) ∧ 1 ≤ r ∧ r < sn ∧ mtc S b p nm r) ∨ (fsh S sn b p nm = -1 ∧ ∀ r, 1 ≤ r → r < sn → ¬ mtc S b p nm r) := by
  by_cases h : ∃ r : Nat, (1 ≤ r ∧ r < sn) ∧ mtc S b p nm r
  · left
    have e : fsh S sn b p nm = ((Classical.choose h : Nat) : Int) := by unfold fsh; exact dif_pos h
    have s := Classical.choose_spec h
    exact ⟨_, e, s.1.1, s.1.2, s.2⟩
  · right
    have e : fsh S sn b p nm = -1 := by unfold fsh; exact dif_neg h
    exact ⟨e, fun r h1 h2 h3 => h ⟨r, ⟨h1, h2⟩, h3⟩⟩
theorem fsh_u (U : UNQ S sn) (h1 : 1 ≤ r) (h2 : r < sn) (h3 : mtc S b p nm r) : fsh S sn b p nm = (r : Int) := by
  rcases fsh_s (S := S) (sn := sn) (b := b) (p := p) (nm := nm) with ⟨r', e, a1, a2, a3⟩ | ⟨-, a⟩
  · rw [e, U r' r a1 h1 a2 h2 (by rw [a3.1, h3.1]) (by rw [a3.2.1, h3.2.1]) (by rw [a3.2.2, h3.2.2])]
  · exact absurd h3 (a r h1 h2)
theorem fsh_n (h : ∀ r, 1 ≤ r → r < sn → ¬ mtc S b p nm r) : fsh S sn b p nm = -1 := by
  rcases fsh_s (S := S) (sn := sn) (b := b) (p := p) (nm := nm) with ⟨r', e, a1, a2, a3⟩ | ⟨a, -⟩
  · exact absurd a3 (h r' a1 a2)
  · exact a
theorem s_fsh (O : TOK h0 T) (en : S f_Md_shapes 0 = (sn : Int)) (hsn : 1 ≤ sn ∧ sn ≤ 4001) (U : UNQ S sn) (ne : ¬ (b < 0 ∧ p < 0)) (q : Q (Sum.inl (some (vI (fsh S sn b p nm)))) (cn h0 T S)) : wpB PGm ρ d m_Md_findShape 0 [(0, vR T), (1, vI b), (2, vI p), (3, vI nm)] [] (cn h0 T S) Q := by
  refine s_findShape O en hsn ne (fun r r1 r2 r3 => ?_) (fun w => ?_)
  · rw [fsh_u U r1 r2 r3] at q; exact q
  · rw [fsh_n w] at q; exact q
theorem s_rb95 (O : TOK h0 T) (L : SLK S k n) (hi : i < n) (el : l6 = (slS S k i : Int)) {l4 l5 : Int} (q : ∀ l6', (i + 1 < n → l6' = (slS S k (i + 1) : Int)) → wpB PGm ρ d m_Md_rebuilt 38 [(0, vR T), (1, vI (k : Int)), (2, vI p), (3, vI w), (4, vI l4), (5, vI l5), (6, vI l6'), (7, vI ((i + 1 : Nat) : Int))] [] (cn h0 T S) Q) : wpB PGm ρ d m_Md_rebuilt 95 [(0, vR T), (1, vI (k : Int)), (2, vI p), (3, vI w), (4, vI l4), (5, vI l5), (6, vI l6), (7, vI (i : Int))] [] (cn h0 T S) Q := by
  obtain ⟨kT, G, kH⟩ := O
  obtain ⟨a1, a2, a3, a4, a5, a6⟩ := L
  have b1 := a5 i hi
  subst el
  have c1 : 0 ≤ (slS S k i : Int) ∧ (slS S k i : Int) < ((60000 : Nat) : Int) := by omega
  have g := q (S f_Md_slotNext (slS S k i)) (fun h => by
    have := a6 i h
    show _ = (((S f_Md_slotNext (slS S k i)).toNat : Nat) : Int)
    omega)
  have w1 : w32 ((i : Int) + 1) = ((i + 1 : Nat) : Int) := w32_s (by omega)
  clear q
  refine b_Md_rebuilt_95 ?_
  simp (decide := true) only [cnR, cnK, cnl, cnA' G, kT, KN G, LN G, w1, Int.toNat_natCast, true_and, and_true]
  exact ⟨c1, g⟩
/-- T counts what is wanting -/
theorem s_rbc (O : TOK h0 T) (en : S f_Md_shapes 0 = (sn : Int)) (em : S f_Md_allShapes 0 = (sm : Int)) (hsn : 1 ≤ sn ∧ sn ≤ 4001) (hsm : sm ≤ 4000) (U : UNQ S sn) (L : SLK S k n) : ∀ m i c (cur l6 : Int), i + m = n → c ≤ 100 + i → (i < n → l6 = (slS S k i : Int)) → (∀ c' : Nat, c' = c + ctF S sn p (nmT S k) w n m cur → wpB PGm ρ (d + 1) m_Md_rebuilt 129 [(0, vR T), (1, vI (k : Int)), (2, vI p), (3, vI w)] [vI (if sm + c' ≤ 4000 then 1 else 0), vR T] (cn h0 T S) Q) → wpB PGm ρ (d + 1) m_Md_rebuilt 38 [(0, vR T), (1, vI (k : Int)), (2, vI p), (3, vI w), (4, vI (c : Int)), (5, vI cur), (6, vI l6), (7, vI (i : Int))] [] (cn h0 T S) Q := by
  have O' := O
  obtain ⟨kT, G, kH⟩ := O
  have L' := L
  obtain ⟨a1, a2, a3, a4, a5, a6⟩ := L
  have ck : 0 ≤ (k : Int) ∧ (k : Int) < ((8000 : Nat) : Int) := by omega
  intro m
  induction m with
  | zero =>
    intro i c cur l6 hi hc _ q
    have e : i = n := by omega
    subst e
    have g := q c (by unfold ctF; omega)
    have x1 : sm + c ≤ 2000000000 := by omega
    have e1 : ((i : Int) ≤ (i : Int)) = True := eq_true (Int.le_refl _)
    have e2 : ((i : Int) < (i : Int)) = False := eq_false (Int.lt_irrefl _)
    have e3 : (4001 ≤ ((sm + c : Nat) : Int)) = (¬ sm + c ≤ 4000) := propext (by omega)
    have e4 : (((sm + c : Nat) : Int) < 4001) = (sm + c ≤ 4000) := propext (by omega)
    clear q
    have w1 : w32 ((sm : Int) + (c : Int)) = ((sm + c : Nat) : Int) := w32_aa x1
    refine b_Md_rebuilt_38 ?_
    simp (decide := true) only [cnI, cnR, cnK, cnl, cnA' G, kT, KN G, LN G, a3, em, w1, e1, e2, e3, e4, Int.toNat_natCast, true_and, and_true, forall_const, false_implies]
    refine ⟨ck, fun z => ?_, fun z => ?_⟩
    · rw [if_neg z] at g; exact g
    · rw [if_pos z] at g; exact g
  | succ m ih =>
    intro i c cur l6 hi hc hl q
    have hin : i < n := by omega
    have el := hl hin
    have en' : n - (m + 1) = i := by omega
    have e1 : ((n : Int) ≤ (i : Int)) = False := eq_false (by omega)
    have e2 : ((i : Int) < (n : Int)) = True := eq_true (by omega)
    have b1 := a5 i hin
    have c1 : 0 ≤ (slS S k i : Int) ∧ (slS S k i : Int) < ((60000 : Nat) : Int) := by omega
    have x0 : -2147483648 ≤ (c : Int) + 0 ∧ (c : Int) + 0 < 2147483648 := by omega
    have x1 : c ≤ 2000000000 := by omega
    have uf : ctF S sn p (nmT S k) w n (m + 1) cur = if (i : Int) = w then ctF S sn p (nmT S k) w n m cur else (if nxF S sn p cur (nmT S k i) < 0 then 1 else 0) + ctF S sn p (nmT S k) w n m (nxF S sn p cur (nmT S k i)) := by
      show (if ((n - (m + 1) : Nat) : Int) = w then _ else _) = _
      rw [en']
    rw [uf] at q
    have skip : (i : Int) = w → wpB PGm ρ (d + 1) m_Md_rebuilt 95 [(0, vR T), (1, vI (k : Int)), (2, vI p), (3, vI w), (4, vI (c : Int)), (5, vI cur), (6, vI l6), (7, vI (i : Int))] [] (cn h0 T S) Q := fun z => by
      rw [if_pos z] at q
      exact s_rb95 O' L' hin el (fun l6' h6 => ih (i + 1) c cur l6' (by omega) (by omega) h6 q)
    have nx : ¬ (i : Int) = w → ∀ v, v = nxF S sn p cur (nmT S k i) → wpB PGm ρ (d + 1) m_Md_rebuilt 78 [(0, vR T), (1, vI (k : Int)), (2, vI p), (3, vI w), (4, vI (c : Int)), (6, vI l6), (7, vI (i : Int))] [vI v] (cn h0 T S) Q := fun z v ev => by
      rw [if_neg z, ← ev] at q
      refine b_Md_rebuilt_78 ⟨fun z2 => ?_, fun z2 => ?_⟩
      · rw [w32_of x0.1 x0.2, Int.add_zero]
        rw [if_neg (by omega)] at q
        exact s_rb95 O' L' hin el (fun l6' h6 => ih (i + 1) c v l6' (by omega) (by omega) h6 (fun c' e => q c' (by omega)))
      · rw [w32_s x1]
        rw [if_pos z2] at q
        exact s_rb95 O' L' hin el (fun l6' h6 => ih (i + 1) (c + 1) v l6' (by omega) (by omega) h6 (fun c' e => q c' (by omega)))
    have fs : ¬ (i : Int) = w → 0 ≤ cur → wpB PGm ρ d m_Md_findShape 0 [(0, vR T), (1, vI cur), (2, vI p), (3, vI (nmT S k i))] [] (cn h0 T S) (cI (fun x26 h21 => wpB PGm ρ (d + 1) m_Md_rebuilt 78 [(0, vR T), (1, vI (k : Int)), (2, vI p), (3, vI w), (4, vI (c : Int)), (6, vI l6), (7, vI (i : Int))] [vI x26] h21 Q) (fun e24 h23 => hK h23 e24 ≠ 0 ∧ Q (Sum.inr e24) h23)) := fun z z2 => s_fsh O' en hsn U (fun c => by omega) (nx z _ (by unfold nxF; rw [if_neg (by omega)]))
    have nf : ¬ (i : Int) = w → cur < 0 → wpB PGm ρ (d + 1) m_Md_rebuilt 78 [(0, vR T), (1, vI (k : Int)), (2, vI p), (3, vI w), (4, vI (c : Int)), (6, vI l6), (7, vI (i : Int))] [vI (-1)] (cn h0 T S) Q := fun z z2 => nx z _ (by unfold nxF; rw [if_pos z2])
    unfold nmT at fs
    subst el
    clear q ih nx uf hl en'
    refine b_Md_rebuilt_38 ?_
    simp (decide := true) only [cnI, cnR, cnK, cnl, cnA' G, kT, KN G, LN G, a3, e1, e2, Int.toNat_natCast, true_and, and_true, forall_const, false_implies]
    exact ⟨ck, skip, fun z => ⟨fun z2 => ⟨c1, fs z z2⟩, nf z⟩⟩
end
