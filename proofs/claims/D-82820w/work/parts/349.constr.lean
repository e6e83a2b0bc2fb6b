/-! C: a new instance gets the values that it is made with -/
set_option maxRecDepth 20000
/-- changes of the machine that need no room -/
def CIV (Γ : GH) (h : ah) (C ho : Nat) (X : X3) (Y : Y3) (S : SS) (N : Nat) (H : ah) (X' : X3) (S' : SS) : Prop := (CORE Γ H C ho X' Y S' N ∧ ∀ {t o n c r' : Nat}, CT Γ h C X Y S N t o n c r' → CT Γ H C X' Y S' N t o n c r') ∧ GRO Γ Γ h H C S S' ∧ BND h C S H S' 0 0 ∧ ∃ z s, Fr LHc [] z s h H
/-- the fields that have got a value are marked -/
def mrX (X : X3) (n : Nat) (A : Nat → Option Nat) : X3 := fun o f i => if o = 32 ∧ f = f_Machine_marks ∧ i < n then (if (A i).isNone = true then 0 else 1) else X o f i
def mcX (X : X3) (j : Nat) : X3 := fun o f i => if o = 32 ∧ f = f_Machine_marks ∧ i < j then 0 else X o f i
section
variable {ρ : Nat → Nat} {d : Nat} {Q : QT} {Γ Γ' : GH} {h h' h1 h2 H H1 : ah} {C ho k i j N M a z s r f o c t n m mn m0 rr l l1 l2 la p E mk rm sk tn sn c0 : Nat} {g : HG} {v w hd ty κ x y : Int} {S S' S1 S2 S0 : SS} {X X' X1 X2 X0 : X3} {Y Y' Y1 Y2 : Y3} {hw : List (List Int)} {e : Option Int} {A : Nat → Option Nat} {LL : List Nat} {ls : List Nat}
theorem CIV.rf (HC : CORE Γ h C ho X Y S N) : CIV Γ h C ho X Y S N h X S := ⟨⟨HC, fun K => K⟩, GRO.rf, BND.rf, 0, 0, Fr.r0⟩
theorem CIV.fz (I : CIV Γ h C ho X Y S N H X' S') (eS : OFF LL S' S1) (e1 : (f_Md_names :: (LSA ++ LPO)).all (fun f => !(LL.elem f)) = true) (eX : EXX LXA X' X1) : CIV Γ h C ho X Y S N H X1 S1 := by
  obtain ⟨⟨a1, a2⟩, a3, a4, z, s, a5⟩ := I
  have e2 : EXS (f_Md_names :: (LSA ++ LPO)) S' S1 := eS.ex e1
  obtain ⟨⟨b1, b2⟩, b3, b4⟩ := a1.fzz (L := []) (Pp := []) (h' := H) (X' := X1) (Y' := Y) (S' := S1) Fr.r0 (by unfold DJ; decide +kernel) (fun y c => by simp at c) (fun f hf i => e2 f (by simp only [List.elem_eq_mem, decide_eq_true_eq, List.mem_cons, List.mem_append] at hf ⊢; exact Or.inr (Or.inl hf)) i) (Int.le_of_eq (e2 _ (by simp) 0).symm) eX (fun _ _ _ _ => rfl)
  exact ⟨⟨b1, fun K => b2 (a2 K)⟩, a3.tr b3, (a4.tr (b4 (fun f hf i => e2 f (by simp only [List.elem_eq_mem, decide_eq_true_eq, List.mem_cons, List.mem_append] at hf ⊢; exact Or.inr (Or.inr hf)) i))).le (by decide) (by decide), z, s, a5⟩
theorem CIV.slw (I : CIV Γ h C ho X Y S N H X' S') (hk : (k : Int) < S' f_Md_things 0) (hi : (i : Int) < S' f_Md_thingCount k) (V : VR Γ S' N x y ty v) : CIV Γ h C ho X Y S N (slwH H (hB H (C + 51) k) i x y) X' (slwS S' k i ty v) := by
  obtain ⟨⟨a1, a2⟩, a3, a4, z, s, a5⟩ := I
  obtain ⟨⟨b1, b2⟩, b3, b4, b5⟩ := a1.slw hk hi V
  exact ⟨⟨b1, fun K => b2 (a2 K)⟩, a3.tr b3, (a4.tr b4).le (by decide) (by decide), z + 0, s + 0, a5.trans b5⟩
theorem mrX_g (hi : i < n) : mrX X n A 32 f_Machine_marks i = if (A i).isNone = true then 0 else 1 := if_pos ⟨rfl, rfl, hi⟩
theorem mrX_o (hf : f ≠ f_Machine_marks) : mrX X n A o f i = X o f i := if_neg (fun c => hf c.2.1)
theorem mrX_u (hx : l < n) : u3 (mrX X n A) 32 f_Machine_marks l 1 = mrX X n (fun y => if y = l then some k else A y) := by
  funext o f i
  rw [u3_e]
  unfold mrX
  by_cases c : o = 32 ∧ f = f_Machine_marks
  · obtain ⟨c1, c2⟩ := c
    subst c1; subst c2
    simp only [true_and]
    by_cases e : i = l
    · subst e
      rw [if_pos rfl, if_pos hx]; simp
    · rw [if_neg e]
      simp only [if_neg e]
  · rw [if_neg (fun z => c ⟨z.1, z.2.1⟩), if_neg (fun z => c ⟨z.1, z.2.1⟩), if_neg (fun z => c ⟨z.1, z.2.1⟩)]
theorem mrX_n (hz0 : ∀ i, i < n → X 32 f_Machine_marks i = 0) : mrX X n (fun _ => none) = X := by
  funext o f i
  unfold mrX
  split
  · next c =>
    obtain ⟨rfl, rfl, c⟩ := c
    exact (hz0 i c).symm
  · rfl
theorem mcX_u : u3 (mcX X j) 32 f_Machine_marks j 0 = mcX X (j + 1) := by
  funext o f i
  rw [u3_e]
  unfold mcX
  by_cases c : o = 32 ∧ f = f_Machine_marks
  · obtain ⟨c1, c2⟩ := c
    subst c1; subst c2
    simp only [true_and]
    by_cases e : i = j
    · rw [if_pos e, if_pos (by omega)]
    · rw [if_neg e]
      by_cases l : i < j
      · rw [if_pos l, if_pos (by omega)]
      · rw [if_neg l, if_neg (by omega)]
  · rw [if_neg (fun z => c ⟨z.1, z.2.1⟩), if_neg (fun z => c ⟨z.1, z.2.1⟩), if_neg (fun z => c ⟨z.1, z.2.1⟩)]
theorem mcX_0 : mcX X 0 = X := by
  funext o f i
  unfold mcX
  exact if_neg (fun c => absurd c.2.2 (Nat.not_lt_zero _))
theorem mcX_n (hz0 : ∀ i, i < n → X 32 f_Machine_marks i = 0) : mcX (mrX X n A) n = X := by
  funext o f i
  unfold mcX
  split
  · next c =>
    obtain ⟨rfl, rfl, c⟩ := c
    exact (hz0 i c).symm
  · next c => exact if_neg c
theorem LYA.fr (L0 : LYA h ho la ls) (HX : HCX ρ h ho g N M hw) (ij : INJ h) {L : List Nat} (fr : Fr L [] z s h H) (dd : DJ [f_Host_members, f_Host_members + 1] L []) : LYA H ho la ls ∧ ∀ j, hB H (ho + 3) j = hB h (ho + 3) j := by
  obtain ⟨⟨a1, a2, a3, a4⟩, a5, a6⟩ := L0
  have hh := HX.hh
  have s3 := fr.ar ij (f := f_Host_members) (x := ho) (y := ho + 3) (by unfold own; decide) hh.2.1 hh.2.2.2.1 (by omega) (fun c => c.elim (dd.w (by decide)) (dd.w (by decide))) (by simp)
  have s6 := fr.ar0 a3 a2 (by simp) a4
  exact ⟨⟨⟨by rw [fr.K a3]; exact a1, a2, fr.lt a3, UNO.fr a4 a3 a2 fr⟩, by rw [s6.1]; exact a5, fun i hi => by rw [s6.2.2, s3.2.2]; exact a6 i hi⟩, s3.2.2⟩
/-- the marks go away, and the instance is answered -/
theorem r_con201 (G : AC h C) (F : FC h C) (ht : isT o) (e1 : Y 32 f_Machine_t 0 = C + o) (e3 : X0 o f_Task_calls 0 = (c : Int)) (hm : m0 ≤ 2000) (hc : 1 ≤ c ∧ c ≤ 200) (lk : hK h la = 24 ∧ hl h la = n) (n4 : n ≤ 400) (mz : ∀ i, i < n → X0 32 f_Machine_marks i = 0) (ka : hK h a = k_Instance) (kn : hI h f_Thing_number a = (tn : Int)) (q : Q (Sum.inl none) (cc h C (ansX X0 o m0 c 7 (tn : Int)) Y)) : wpB PGm ρ (d + 12) m_Machine_construct 201 [(0, vR (C + 32)), (2, vI (m0 : Int)), (4, vR la), (5, vR a), (8, vI 0)] [] (cc h C (mrX X0 n A) Y) Q := by
  have km : hK h (hR h f_Machine_marks (C + 32)) = 4 := (KC G).2.2.2.2.2.2.2.2.2.1
  have lm : hl h (hR h f_Machine_marks (C + 32)) = 400 := F.2.2.2.2.2.2.1.2.2.2.2.2.2
  have lp : ∀ mm j, j + mm = n → wpB PGm ρ (d + 12) m_Machine_construct 201 [(0, vR (C + 32)), (2, vI (m0 : Int)), (4, vR la), (5, vR a), (8, vI (j : Int))] [] (cc h C (mcX (mrX X0 n A) j) Y) Q := fun mm => by
    induction mm with
    | zero =>
      intro j hj
      have ej : j = n := by omega
      subst ej
      rw [mcX_n mz]
      have b1 : ¬ (j : Int) < (j : Int) := by omega
      refine b_Machine_construct_201 (d := d + 11) ⟨by rw [ccK, lk.1]; decide, fun _ => ⟨by rw [ccK, ka]; decide, F.1.1, ?_⟩, fun z => absurd z (by rw [ccl, lk.2]; exact b1)⟩
      rw [ccIo (by decide), kn]
      exact r_answer (d := d + 10) (n := m0) G F ht e1 e3 hm hc (by decide) q
    | succ mm ih =>
      intro j hj
      have b1 : ¬ (n : Int) ≤ (j : Int) ∧ 0 ≤ (j : Int) ∧ (j : Int) < ((400 : Nat) : Int) ∧ j ≤ 2000000000 := by omega
      have rm : hR (cc h C (mcX (mrX X0 n A) j) Y) f_Machine_marks (C + 32) = hR h f_Machine_marks (C + 32) := ccRo (by decide)
      refine b_Machine_construct_201 (d := d + 11) ⟨by rw [ccK, lk.1]; decide, fun z => absurd z (by rw [ccl, lk.2]; exact b1.1), fun _ => ⟨F.1.1, ?_⟩⟩
      rw [rm, Int.toNat_natCast, w32_p1 b1.2.2.2]
      refine ⟨⟨Or.inr ⟨km, Or.inl rfl⟩, b1.2.1, by rw [ccl, lm]; exact b1.2.2.1⟩, ?_⟩
      rw [cc_sA G (by decide), mcX_u]
      exact ih (j + 1) (by omega)
  have := lp n 0 (by omega)
  rw [mcX_0] at this
  exact this
end
