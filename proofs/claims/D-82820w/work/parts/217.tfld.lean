/-! T: fields of host classes -/
set_option maxRecDepth 20000
def fbB (g : HG) (st : Int) (L : List Int) (m : Nat) : Bool := decide (g.1 6 m = 0) && ((decide (st < 0) || decide (g.1 7 m = st)) && decide (g.2 3 m = L))
/-- the nearest field of a name -/
def fldG (g : HG) (st : Int) (L : List Int) (b : Nat) (c : Int) : Option Nat := (chnG g b c).findSome? (fun k => (memG g k).find? (fbB g st L))
def oN (x : Option Nat) : Int := match x with
  | some m => (m : Int)
  | none => -1
def infG (g : HG) (k : Nat) : List Nat := (memG g k).filter (fun m => decide (g.1 6 m = 0) && decide (g.1 7 m = 0))
/-- fields of an instance, those of the highest class first -/
def layG (g : HG) (c : Nat) : List Nat := (chnG g 61 (c : Int)).reverse.flatMap (infG g)
def FLD (S : SS) (l : List Nat) : Prop := S f_Md_fields 0 = (l.length : Int) ∧ ∀ i, i < l.length → S f_Md_fieldOf i = (l.getD i 0 : Int)
def LFD : List Nat := [f_Md_fieldOf, f_Md_fields]
/-- whose members they are -/
def HMC (g : HG) (N : Nat) : Prop := ∀ k, k < N → ∀ m, m ∈ memG g k → g.1 5 m = (k : Int)
section
variable {ρ : Nat → Nat} {P : ah → Nat → Prop} {d : Nat} {Q : QT} {h h0 : ah} {T k n m f i j N M b r a ph kn ac c : Nat} {S S' S1 S2 : SS} {g : HG} {tp l o bs pf L ts : List Int} {v st p x y md nm : Int} {ls cs : List Nat} {w : Nat → Bool}
theorem chnG_fu (W : HGW g N) : ∀ (b b' : Nat) (c : Int), c < (b : Int) → c < (b' : Int) → c < (N : Int) → chnG g (b + 1) c = chnG g (b' + 1) c := fun b => by
  induction b with
  | zero =>
    intro b' c h1 h2 h3
    unfold chnG
    rw [if_pos (by omega), if_pos (by omega)]
  | succ b ih =>
    intro b' c h1 h2 h3
    by_cases w : c < 0
    · conv => lhs; unfold chnG
      conv => rhs; unfold chnG
      rw [if_pos w, if_pos w]
    · cases b' with
      | zero => omega
      | succ b' =>
        have wa := (W c.toNat (by omega)).2.1
        conv => lhs; unfold chnG
        conv => rhs; unfold chnG
        rw [if_neg w, if_neg w, ih b' (g.1 2 c.toNat) (by omega) (by omega) (by omega)]
theorem s_fld17 (K : PTO ρ g N M h0 T) (W2 : HMW g N M) (hk : k < N) (hw : WNT S l) (hst : st = -1 ∨ st = 0 ∨ st = 1) (q1 : ∀ m, (memG g k).find? (fbB g st l) = some m → Q (Sum.inl (some (vI (m : Int)))) (cn h0 T S)) (q0 : (memG g k).find? (fbB g st l) = none → wpB PGm ρ (d + 1) m_Md_field 2 [(0, vR T), (2, vI st), (3, vI (g.1 2 k))] [] (cn h0 T S) Q) : ∀ mm j, j + mm = (g.1 4 k).toNat → (∀ i, i < j → ¬ fbB g st l ((g.1 3 k).toNat + i) = true) → wpB PGm ρ (d + 1) m_Md_field 17 [(0, vR T), (2, vI st), (3, vI (k : Int)), (4, vI (((g.1 3 k).toNat + j : Nat) : Int))] [] (cn h0 T S) Q := fun mm => by
  have wk := W2 k hk
  have lm : (memG g k).length = (g.1 4 k).toNat := by unfold memG; simp
  have O := K.1.1
  have kT := O.1
  have R := K.pth.2
  have ⟨a1, a2, a3, a4, a5, a6, a7, a8⟩ := R
  obtain ⟨-, -, r3, -, -, -, -, r8, r9, -⟩ := a7 k hk
  have tA := tAH (S := S) O a2
  have tK := tKH a2.1
  have tL := tLH a2.1
  have kk := a2.2
  have k4 : 0 ≤ (k : Int) ∧ (k : Int) < ((60 : Nat) : Int) := by omega
  have m5 : -2147483648 ≤ g.1 3 k + g.1 4 k ∧ g.1 3 k + g.1 4 k < 2147483648 := by omega
  induction mm with
  | zero =>
    intro j hj hi
    have n1 : g.1 3 k + g.1 4 k ≤ (((g.1 3 k).toNat + j : Nat) : Int) := by omega
    have n2 : ¬ (((g.1 3 k).toNat + j : Nat) : Int) < g.1 3 k + g.1 4 k := by omega
    have g0 := q0 (List.find?_eq_none.mpr (fun x hx => by
      unfold memG at hx
      obtain ⟨i, hi', e⟩ := List.mem_map.mp hx
      rw [List.mem_range] at hi'
      rw [← e]; exact hi i (by omega)))
    have y1 : w32 (g.1 3 k + g.1 4 k) = g.1 3 k + g.1 4 k := w32_of m5.1 m5.2
    refine b_Md_field_17 ?_
    clear a7 a8 R wk hi q1 q0 K
    simp (decide := true) (disch := first | decide | omega) only [cnI, cnR, cnK, cnl, kT, kk, tA, tK, tL, r3, r8, r9, y1, n1, n2, Int.toNat_natCast, true_and, and_true, false_implies, forall_const]
    exact ⟨k4, k4, k4, g0⟩
  | succ mm ih =>
    intro j hj hi
    have hm : (g.1 3 k).toNat + j < M := by omega
    have lt : j < (memG g k).length := by omega
    obtain ⟨-, u2', u3', -⟩ := a8 _ hm
    have m6 : (g.1 3 k).toNat + j ≤ 2000000000 := by omega
    have nx : ¬ fbB g st l ((g.1 3 k).toNat + j) = true → wpB PGm ρ (d + 1) m_Md_field 17 [(0, vR T), (2, vI st), (3, vI (k : Int)), (4, vI (((g.1 3 k).toNat + j + 1 : Nat) : Int))] [] (cn h0 T S) Q := fun e => ih (j + 1) (by omega) (fun i h => by
      by_cases w : i = j
      · rw [w]; exact e
      · exact hi i (by omega))
    have g1 : fbB g st l ((g.1 3 k).toNat + j) = true → Q (Sum.inl (some (vI (((g.1 3 k).toNat + j : Nat) : Int)))) (cn h0 T S) := fun e => q1 _ (by
      rw [List.find?_eq_some_iff_getElem]
      refine ⟨e, j, by omega, by simp [memG], fun i hi' => ?_⟩
      have : (memG g k)[i] = (g.1 3 k).toNat + i := by simp [memG]
      rw [this]; simpa using hi i hi')
    have m4 : 0 ≤ (((g.1 3 k).toNat + j : Nat) : Int) ∧ (((g.1 3 k).toNat + j : Nat) : Int) < ((400 : Nat) : Int) := by omega
    have n1 : ¬ g.1 3 k + g.1 4 k ≤ (((g.1 3 k).toNat + j : Nat) : Int) := by omega
    have n2 : (((g.1 3 k).toNat + j : Nat) : Int) < g.1 3 k + g.1 4 k := by omega
    generalize (g.1 3 k).toNat + j = mx at *
    have n81 : g.1 6 mx = 0 → (st < 0 ∨ g.1 7 mx = st) → wpB PGm ρ (d + 1) m_Md_field 81 [(0, vR T), (2, vI st), (3, vI (k : Int)), (4, vI (mx : Int))] [] (cn h0 T S) Q := fun c1 c2 => by
      refine b_Md_field_81 ⟨kT, s_isWanted O R hm hw (fun e => ⟨fun z => absurd z (by decide), fun _ => g1 ?_⟩) (fun e => ⟨fun _ => ?_, fun z => absurd rfl z⟩)⟩
      · unfold fbB; simp [c1, c2, e]
      · rw [w32_p1 m6]; exact nx (by unfold fbB; simp [e])
    have x1 : ¬ g.1 6 mx = 0 → wpB PGm ρ (d + 1) m_Md_field 17 [(0, vR T), (2, vI st), (3, vI (k : Int)), (4, vI ((mx + 1 : Nat) : Int))] [] (cn h0 T S) Q := fun c => nx (by unfold fbB; simp [c])
    have x2 : g.1 6 mx = 0 → 0 ≤ st → ∀ s0 : Int, s0 = st → wpB PGm ρ (d + 1) m_Md_field 78 [(0, vR T), (2, vI st), (3, vI (k : Int)), (4, vI (mx : Int))] [vI s0, vI (g.1 7 mx)] (cn h0 T S) Q := fun c1 c2 s0 es => b_Md_field_78 ⟨fun z => by rw [w32_p1 m6]; exact nx (by unfold fbB; rw [es] at z; simp [z]; intro _ z'; omega), fun z => n81 c1 (Or.inr (by omega))⟩
    have s0 : 0 ≤ st → ¬ st = 1 → (0 : Int) = st := fun z z1 => by omega
    have y1 : w32 (g.1 3 k + g.1 4 k) = g.1 3 k + g.1 4 k := w32_of m5.1 m5.2
    have y2 : w32 ((mx : Int) + 1) = ((mx + 1 : Nat) : Int) := w32_p1 m6
    refine b_Md_field_17 ?_
    clear a7 a8 R wk hi q1 q0 K ih nx g1 hw
    simp (decide := true) (disch := first | decide | omega) only [cnI, cnR, cnK, cnl, kT, kk, tA, tK, tL, r3, r8, r9, u2', u3', y1, y2, n1, n2, Int.toNat_natCast, true_and, and_true, false_implies, forall_const]
    exact ⟨k4, k4, m4, x1, fun c1 => ⟨fun c2 => n81 c1 (Or.inl c2), fun c2 => ⟨m4, fun z => x2 c1 c2 0 (s0 c2 z), fun z => x2 c1 c2 1 z.symm⟩⟩⟩
theorem s_field (K : PTO ρ g N M h0 T) (W1 : HGW g N) (W2 : HMW g N M) (hc : c < N) (hw : WNT S l) (hst : st = -1 ∨ st = 0 ∨ st = 1) (q : Q (Sum.inl (some (vI (oN (fldG g st l 61 (c : Int)))))) (cn h0 T S)) : wpB PGm ρ (d + 1) m_Md_field 0 [(0, vR T), (1, vI (c : Int)), (2, vI st)] [] (cn h0 T S) Q := by
  have O := K.1.1
  have kT := O.1
  have R := K.pth.2
  have ⟨a1, a2, a3, a4, a5, a6, a7, a8⟩ := R
  have tA := tAH (S := S) O a2
  have tK := tKH a2.1
  have tL := tLH a2.1
  have kk := a2.2
  refine b_Md_field_0 ?_
  have lp : ∀ (b : Nat) (x : Int), x < (b : Int) → -1 ≤ x → x < (N : Int) → Q (Sum.inl (some (vI (oN (fldG g st l (b + 1) x))))) (cn h0 T S) → wpB PGm ρ (d + 1) m_Md_field 2 [(0, vR T), (2, vI st), (3, vI x)] [] (cn h0 T S) Q := fun b => by
    induction b with
    | zero =>
      intro x h1 h2 h3 q
      refine b_Md_field_2 ⟨fun _ => ?_, fun z => absurd z (by omega)⟩
      unfold fldG chnG at q
      rw [if_pos (by omega)] at q
      exact q
    | succ b ih =>
      intro x h1 h2 h3 q
      refine b_Md_field_2 ⟨fun z => ?_, fun z => ?_⟩
      · unfold fldG chnG at q
        rw [if_pos z] at q
        exact q
      · have hk : x.toNat < N := by omega
        have ex : (x.toNat : Int) = x := by omega
        have wa := (W1 x.toNat hk).2.1
        have wk := W2 x.toNat hk
        have e : fldG g st l (b + 1 + 1) x = ((memG g x.toNat).find? (fbB g st l)).or (fldG g st l (b + 1) (g.1 2 x.toNat)) := by
          unfold fldG
          conv => lhs; unfold chnG
          rw [if_neg (by omega), List.findSome?_cons]
          cases (memG g x.toNat).find? (fbB g st l) <;> rfl
        rw [e] at q
        have g1 := s_fld17 (ρ := ρ) (d := d) (Q := Q) K W2 hk hw hst (fun m e => by rw [e] at q; exact q) (fun e => ih _ (by omega) (by omega) (by omega) (by rw [e] at q; exact q)) (g.1 4 x.toNat).toNat 0 (by omega) (fun i h => absurd h (by omega))
        have e3 : (((g.1 3 x.toNat).toNat + 0 : Nat) : Int) = g.1 3 x.toNat := by omega
        rw [e3, ex] at g1
        obtain ⟨-, -, -, -, -, -, -, r8, r9, -⟩ := a7 _ hk
        have b1 : 0 ≤ x ∧ x < ((60 : Nat) : Int) := by omega
        clear a7 a8 R ih q e K
        simp (decide := true) (disch := first | decide | omega) only [cnI, cnR, cnK, cnl, kT, kk, tA, tK, tL, r8, true_and, and_true]
        exact ⟨b1, g1⟩
  exact lp 60 (c : Int) (by omega) (by omega) (by omega) q
theorem infG_mem (hm : m ∈ infG g k) : m ∈ memG g k := (List.mem_filter.mp hm).1
theorem lay_ok (W1 : HGW g N) (W2 : HMW g N M) (W3 : HMC g N) : ∀ ls : List Nat, OKL N ls → OKL M (ls.flatMap (infG g)) := fun ls => by
  induction ls with
  | nil => exact fun _ => ⟨List.nodup_nil, fun x hx => absurd hx (by simp)⟩
  | cons k r ih =>
    intro H
    rw [OKL] at H
    have nk := List.nodup_cons.mp H.1
    obtain ⟨i1, i2⟩ := ih ⟨nk.2, fun x hx => H.2 x (List.mem_cons_of_mem _ hx)⟩
    have hk := H.2 k (List.mem_cons_self ..)
    have nm : (memG g k).Nodup := by
      unfold memG
      exact List.pairwise_map.mpr (List.Pairwise.imp (fun h e => h (by omega)) List.nodup_range)
    rw [List.flatMap_cons]
    refine ⟨List.nodup_append.mpr ⟨nm.filter _, i1, fun a ha b hb e => ?_⟩, fun x hx => ?_⟩
    · subst e
      obtain ⟨k', hk', hm'⟩ := List.mem_flatMap.mp hb
      have e1 := W3 k hk a (infG_mem ha)
      have e2 := W3 k' (H.2 k' (List.mem_cons_of_mem _ hk')) a (infG_mem hm')
      have : k = k' := by omega
      subst this
      exact nk.1 hk'
    · rcases List.mem_append.mp hx with z | z
      · exact memG_lt W2 hk x (infG_mem z)
      · exact i2 x z
end
