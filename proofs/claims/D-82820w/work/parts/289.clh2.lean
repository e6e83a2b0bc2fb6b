/-! C: a look at a host: get -/
set_option maxRecDepth 20000
def LBH : List Nat := [f_Found_action, f_Found_byClasses, f_Lookup_word, f_Lookup_workedOut, f_Lookup_kept, f_Lookup_allKept]
def BXH (X X2 : X3) : Prop := ∀ o f i, LBH.elem f = false → X2 o f i = X o f i
/-- choices, and what counts them, are as before -/
def BXK (X X2 : X3) : Prop := X2 98 f_Lookup_workedOut 0 = X 98 f_Lookup_workedOut 0 ∧ X2 98 f_Lookup_kept 0 = X 98 f_Lookup_kept 0 ∧ X2 98 f_Lookup_allKept 0 = X 98 f_Lookup_allKept 0 ∧ X2 53 f_Found_byClasses 0 = X 53 f_Found_byClasses 0
section
variable {ρ : Nat → Nat} {d : Nat} {Q : QT} {Γ : GH} {h h' h1 h2 B : ah} {C ho k n m i j N M a b z s x y nw r f o kn ac e c D : Nat} {g : HG} {v p es lo sb st kd nm κ : Int} {ws hw : List (List Int)} {L ts cl pf bs Wd : List Int} {S : SS} {X X' X1 X2 : X3} {Y Y' : Y3} {w : Nat → Bool} {cs o' : List Nat}
theorem BXH.rf : BXH X X := fun _ _ _ _ => rfl
theorem BXH.tr (A : BXH X X1) (B : BXH X1 X2) : BXH X X2 := fun o f i hf => (B o f i hf).trans (A o f i hf)
theorem BXH.u (A : BXH X X1) (hf : LBH.elem f = true) : BXH X (u3 X1 o f i v) := fun o' f' i' h' => by
  rw [u3_f (by rintro rfl; rw [hf] at h'; cases h')]; exact A o' f' i' h'
theorem BXH.wd : BXH X (wdX X bs) := fun o f i hf => wdX_o (by rintro rfl; exact absurd hf (by decide))
theorem BXH.ex (A : BXH X X1) : EXX LXA X X1 := fun f hf o i => A o f i (by
  have e : LXA.all (fun f => !(LBH.elem f)) = true := by decide +kernel
  simpa using List.all_eq_true.mp e f (by simpa using hf))
theorem BXK.wd : BXK X (wdX X bs) := ⟨wdX_o (by decide), wdX_o (by decide), wdX_o (by decide), wdX_o (by decide)⟩
theorem BXK.tr (A : BXK X X1) (B : BXK X1 X2) : BXK X X2 := ⟨B.1.trans A.1, B.2.1.trans A.2.1, B.2.2.1.trans A.2.2.1, B.2.2.2.trans A.2.2.2⟩
theorem BXK.act (A : BXK X X1) : BXK X (u3 X1 53 f_Found_action 0 v) := ⟨by rw [u3_f (by decide)]; exact A.1, by rw [u3_f (by decide)]; exact A.2.1, by rw [u3_f (by decide)]; exact A.2.2.1, by rw [u3_f (by decide)]; exact A.2.2.2⟩
theorem addC_w (H : ∀ x, x ∈ cs → w x = true) : ∀ x, x ∈ addC g w cs m → w x = true := fun x hx => by
  unfold addC at hx
  split at hx
  · rename_i c
    rcases List.mem_append.mp hx with z | z
    · exact H x z
    · rw [List.mem_singleton] at z
      rw [z]
      simp only [Bool.and_eq_true] at c
      exact c.1
  · exact H x hx
theorem colG_w : ∀ x, x ∈ colG g w o' → w x = true := by
  unfold colG
  have f1 : ∀ (l cs : List Nat), (∀ x, x ∈ cs → w x = true) → ∀ x, x ∈ l.foldl (addC g w) cs → w x = true := fun l => by
    induction l with
    | nil => intro cs H x hx; exact H x hx
    | cons m l ih => intro cs H x hx; exact ih (addC g w cs m) (addC_w H) x hx
  have f2 : ∀ (o cs : List Nat), (∀ x, x ∈ cs → w x = true) → ∀ x, x ∈ o.foldl (fun cs k => (memG g k).foldl (addC g w) cs) cs → w x = true := fun o => by
    induction o with
    | nil => intro cs H x hx; exact H x hx
    | cons k o ih => intro cs H x hx; exact ih _ (f1 _ cs H) x hx
  exact f2 o' [] (fun x hx => by cases hx)
theorem col_lt (W : HGW g N) (W2 : HMW g N M) (hc : c < N) : ∀ m, m ∈ colG g w (ordG g c) → m < M := by
  have f1 : ∀ (l cs : List Nat), (∀ x, x ∈ l → x < M) → (∀ x, x ∈ cs → x < M) → ∀ x, x ∈ l.foldl (addC g w) cs → x < M := fun l => by
    induction l with
    | nil => intro cs _ H x hx; exact H x hx
    | cons m l ih =>
      intro cs hl H x hx
      refine ih (addC g w cs m) (fun x hx => hl x (List.mem_cons_of_mem _ hx)) (fun y hy => ?_) x hx
      unfold addC at hy
      split at hy
      · rcases List.mem_append.mp hy with z | z
        · exact H y z
        · rw [List.mem_singleton] at z; rw [z]; exact hl m (List.mem_cons_self ..)
      · exact H y hy
  have f2 : ∀ (o cs : List Nat), (∀ k, k ∈ o → k < N) → (∀ x, x ∈ cs → x < M) → ∀ x, x ∈ o.foldl (fun cs k => (memG g k).foldl (addC g w) cs) cs → x < M := fun o => by
    induction o with
    | nil => intro cs _ H x hx; exact H x hx
    | cons k o ih => intro cs hk H x hx; exact ih _ (fun y hy => hk y (List.mem_cons_of_mem _ hy)) (f1 _ cs (mem_lt W2 (hk k (List.mem_cons_self ..))) H) x hx
  intro m hm
  exact f2 (ordG g c) [] (ord_lt W hc) (fun x hx => by cases hx) m hm
theorem wtB_k (H : wtB g st Wd p m = true) : g.1 6 m = 1 := by
  unfold wtB at H
  simp only [Bool.and_eq_true, decide_eq_true_eq] at H
  exact H.1
theorem fld_k (H : fldG g st L b (c : Int) = some m) : g.1 6 m = 0 := by
  unfold fldG at H
  obtain ⟨k, -, hk⟩ := List.exists_of_findSome?_eq_some H
  have := List.find?_some hk
  unfold fbB at this
  simp only [Bool.and_eq_true, decide_eq_true_eq] at this
  exact this.1
theorem CHF.site (CF : CHF h C ho e h1) (ka : hK h a = k_Site) (ha : a < hz h) : hK h1 a = k_Site ∧ a < hz h1 ∧ (∀ f, LZF.elem f = true → hI h1 f a = hI h f a) := by
  obtain ⟨⟨z, s, fr⟩, -⟩ := CF
  have dj : DJ LZF LCC (PMN ho) := djL (by decide +kernel)
  exact ⟨by rw [fr.K ha]; exact ka, fr.lt ha, fun f hf => fr.I ha (by
    have : LZF.all (fun f => Nat.ble 5 f) = true := by decide
    exact Nat.le_of_ble_eq_true (List.all_eq_true.mp this f (by simpa using hf))) (dj.w hf)⟩
/-- the end of a get: what was found, or the field -/
theorem r_get96 (A : LHP ρ Γ g h C ho X Y S N M ws hw k c L st) (k4 : k < 4000) (ka : hK h a = k_Site) (en : hI h f_Site_name a = (k : Int)) {l5 : Nat} (hl : l5 = 0 ∨ ∃ m, m < M ∧ l5 = hB h (ho + 3) m ∧ g.1 6 m = 1) (q1 : ∀ bs (m : Nat), l5 = 0 → fldG g st L 61 (c : Int) = some m → m < M → Q (Sum.inl none) (cc h C (u3 (wdX X bs) 53 f_Found_action 0 6) (u3 Y 53 f_Found_member 0 (hB h (ho + 3) m)))) (q0 : ∀ bs, l5 = 0 → fldG g st L 61 (c : Int) = none → Q (Sum.inr (C + 33)) (cc h C (erX (wdX X bs) 4) (u3 Y 53 f_Found_member 0 0))) (q2 : ¬ l5 = 0 → Q (Sum.inl none) (cc h C (u3 X 53 f_Found_action 0 8) (u3 Y 53 f_Found_member 0 l5))) : wpB PGm ρ (d + 74) m_Lookup_hostGet 96 [(0, vR (C + 98)), (1, vR a), (2, vR (C + 53)), (3, vI st), (5, vR l5)] [] (cc h C X Y) Q := by
  have G := A.1.1.1
  have F := A.1.1.2
  have ST := A.2.2.2.2.1
  have HX := A.2.2.1
  have ko : hK h (C + 53) = k_Found := F.1.2.2.2.2.2.2.1
  have kl : hK h (C + 98) = k_Lookup := F.1.2.2.2.2.2.2.2.2
  have i1 : hI (cc h C X Y) f_Site_name a = (k : Int) := by rw [ccIo (by decide)]; exact en
  refine b_Lookup_hostGet_96 (d := d + 73) ⟨fun z => ⟨ka, kl, ?_⟩, fun z => ⟨ko, ?_⟩⟩
  · rw [i1]
    refine r_fldw (k4 := k4) A (by omega) (ST.g (w := []) (by decide +kernel)) (fun bs a0 ha0 => ⟨ko, ?_⟩)
    show (¬ hR (sR (cc h C (wdX X bs) Y) f_Found_member (C + 53) a0) f_Found_member (C + 53) = 0 → Q (Sum.inl none) (sI (sR (cc h C (wdX X bs) Y) f_Found_member (C + 53) a0) f_Found_action (C + 53) 6)) ∧ (hR (sR (cc h C (wdX X bs) Y) f_Found_member (C + 53) a0) f_Found_member (C + 53) = 0 → _)
    rw [cc_sR (by decide), ccR (by decide), u3_s, cc_sI (by decide)]
    have HC2 : CORE Γ h C ho (wdX X bs) (u3 Y 53 f_Found_member 0 a0) S N := A.1.wd.yo (by decide)
    rcases ha0 with ⟨m, em, mM, ea⟩ | ⟨em, ea⟩
    · subst ea
      exact ⟨fun _ => q1 bs m z em mM, fun c => absurd c (HX.me mM).1.2.2⟩
    · subst ea
      exact ⟨fun c => absurd rfl c, fun _ => r_sigL HC2 (q0 bs z em)⟩
  · show Q (Sum.inl none) (sR (sI (cc h C X Y) f_Found_action (C + 53) 8) f_Found_member (C + 53) l5)
    rw [cc_sI (by decide), cc_sR (by decide)]
    exact q2 z
theorem r_hostGet (A : LHP ρ Γ g h C ho X Y S N M ws hw k c L st) (k4 : k < 4000) (ka : hK h a = k_Site) (ha : a < hz h) (en : hI h f_Site_name a = (k : Int)) (q1 : ∀ h2 X2 (m : Nat), CHF h C ho 0 h2 → BXH X X2 → BXK X X2 → gtG g st c L = (m : Int) → m < M → X2 53 f_Found_action 0 = (if g.1 6 m = 0 then 6 else 8) → Q (Sum.inl none) (cc h2 C X2 (u3 Y 53 f_Found_member 0 (hB h2 (ho + 3) m)))) (q0 : ∀ h2 X2, CHF h C ho 0 h2 → BXH X X2 → BXK X X2 → gtG g st c L < 0 → Q (Sum.inr (C + 33)) (cc h2 C (erX X2 4) (u3 Y 53 f_Found_member 0 0))) : wpB PGm ρ (d + 74) m_Lookup_hostGet 0 [(0, vR (C + 98)), (1, vR a), (2, vR (C + 53)), (3, vI st)] [] (cc h C X Y) Q := by
  have G := A.1.1.1
  have F := A.1.1.2
  have ST := A.2.2.2.2.1
  have kl : hK h (C + 98) = k_Lookup := F.1.2.2.2.2.2.2.2.2
  have i1 : hI (cc h C X Y) f_Site_name a = (k : Int) := by rw [ccIo (by decide)]; exact en
  -- the end: from a heap on, with what was found so far
  have fin : ∀ (h1 : ah) (X1 : X3) (l5 : Nat), CHF h C ho 0 h1 → BXH X X1 → BXK X X1 → ((l5 = 0 ∧ gtG g st c L = oN (fldG g st L 61 (c : Int))) ∨ ∃ m : Nat, gtG g st c L = (m : Int) ∧ m < M ∧ l5 = hB h1 (ho + 3) m ∧ g.1 6 m = 1) → wpB PGm ρ (d + 74) m_Lookup_hostGet 96 [(0, vR (C + 98)), (1, vR a), (2, vR (C + 53)), (3, vI st), (5, vR l5)] [] (cc h1 C X1 Y) Q := fun h1 X1 l5 CF bx bk hl => by
    have A1 := A.chf (X' := X1) (Y' := Y) CF bx.ex rfl rfl (fun _ _ _ _ => rfl)
    obtain ⟨ka1, -, fa1⟩ := CF.site ka ha
    have HX1 := A1.2.2.1
    refine r_get96 (d := d) A1 k4 ka1 (by rw [fa1 _ (by decide)]; exact en) ?_ (fun bs m z em mM => ?_) (fun bs z em => ?_) (fun z => ?_)
    · rcases hl with ⟨z, -⟩ | ⟨m, -, mM, z, mk⟩
      · exact Or.inl z
      · exact Or.inr ⟨m, mM, z, mk⟩
    · rcases hl with ⟨-, eg⟩ | ⟨m', -, mM', z', -⟩
      · rw [em] at eg
        have k0 := fld_k em
        exact q1 h1 _ m CF ((bx.tr BXH.wd).u (by decide)) ((bk.tr BXK.wd).act) eg mM (by rw [u3_s, if_pos k0])
      · rw [z] at z'; exact absurd z'.symm (HX1.me mM').1.2.2
    · rcases hl with ⟨-, eg⟩ | ⟨m', -, mM', z', -⟩
      · rw [em] at eg
        exact q0 h1 _ CF (bx.tr BXH.wd) (bk.tr BXK.wd) (by rw [eg]; decide)
      · rw [z] at z'; exact absurd z'.symm (HX1.me mM').1.2.2
    · rcases hl with ⟨z', -⟩ | ⟨m, eg, mM, z', mk⟩
      · exact absurd z' z
      · rw [z']
        exact q1 h1 _ m CF (bx.u (by decide)) bk.act eg mM (by rw [u3_s, if_neg (by omega)])
  refine b_Lookup_hostGet_0 (d := d + 73) ⟨ka, kl, ?_⟩
  rw [i1]
  refine r_getw (k4 := k4) A (by omega) (ST.g (w := xGET) (by decide +kernel)) (by decide) (by decide) (by decide) (fun h1 bs a1 CF1 ha1 => ?_)
  have A1 := A.chf (X' := wdX X bs) (Y' := Y) CF1 (BXH.wd (X := X) (bs := bs)).ex rfl rfl (fun _ _ _ _ => rfl)
  obtain ⟨ka1, az1, fa1⟩ := CF1.site ka ha
  have HX1 := A1.2.2.1
  have F1 := A1.1.1.2
  have i2 : hI (cc h1 C (wdX X bs) Y) f_Site_name a = (k : Int) := by rw [ccIo (by decide), fa1 _ (by decide)]; exact en
  refine b_Lookup_hostGet_35 (d := d + 73) ⟨fun z => ?_, fun z => ⟨ka1, F1.1.2.2.2.2.2.2.2.2, ?_⟩⟩
  · rcases ha1 with ⟨m, l, em, mM, ea⟩ | ⟨-, ea⟩
    · refine fin h1 _ a1 CF1 BXH.wd BXK.wd (Or.inr ⟨m, ?_, mM, ea, ?_⟩)
      · unfold gtG; rw [em]
      · exact wtB_k (colG_w m (by rw [em]; exact List.mem_cons_self ..))
    · exact absurd ea z
  · have ge : colG g (wtB g st (wtL xGET L) 0) (ordG g c) = [] := by
      rcases ha1 with ⟨m, l, em, mM, ea⟩ | ⟨em, -⟩
      · rw [z] at ea; exact absurd ea.symm (HX1.me mM).1.2.2
      · exact em
    have ST1 := A1.2.2.2.2.1
    rw [i2]
    refine r_getw (k4 := k4) A1 (by omega) (ST1.g (w := xIS) (by decide +kernel)) (by decide) (by decide) (by decide) (fun h2 bs2 a2 CF2 ha2 => ?_)
    have CF := CF1.tr CF2
    have A2 := A1.chf (X' := wdX (wdX X bs) bs2) (Y' := Y) CF2 (BXH.wd (X := wdX X bs) (bs := bs2)).ex rfl rfl (fun _ _ _ _ => rfl)
    have HX2 := A2.2.2.1
    have bx : BXH X (wdX (wdX X bs) bs2) := BXH.wd.tr BXH.wd
    have bk : BXK X (wdX (wdX X bs) bs2) := BXK.wd.tr BXK.wd
    refine b_Lookup_hostGet_77 ⟨fun z2 => ?_, fun z2 => ?_⟩
    · have ie : colG g (wtB g st (wtL xIS L) 0) (ordG g c) = [] := by
        rcases ha2 with ⟨m, l, em, mM, ea⟩ | ⟨em, -⟩
        · rw [z2] at ea; exact absurd ea.symm (HX2.me mM).1.2.2
        · exact em
      refine fin h2 _ a2 CF bx bk (Or.inl ⟨z2, ?_⟩)
      unfold gtG; rw [ge, ie]
    · rcases ha2 with ⟨m, l, em, mM, ea⟩ | ⟨-, ea⟩
      · have me := HX2.me mM
        have mt : hI (cc h2 C (wdX (wdX X bs) bs2) Y) f_Member_type a2 = g.1 8 m := by rw [ccIo (by decide), ea]; exact me.2.2.2.2.1
        refine ⟨by rw [ea]; exact me.1.1, ?_⟩
        rw [mt]
        refine ⟨fun t3 => fin h2 _ a2 CF bx bk (Or.inr ⟨m, ?_, mM, ea, ?_⟩), fun t3 => fin h2 _ 0 CF bx bk (Or.inl ⟨rfl, ?_⟩)⟩
        · unfold gtG; rw [ge, em]
          show (if g.1 8 m = 3 then (m : Int) else _) = _
          rw [if_pos t3]
        · exact wtB_k (colG_w m (by rw [em]; exact List.mem_cons_self ..))
        · unfold gtG; rw [ge, em]
          show (if g.1 8 m = 3 then (m : Int) else _) = _
          rw [if_neg t3]
      · exact absurd ea z2
end
