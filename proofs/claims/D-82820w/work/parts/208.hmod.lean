/-! members that may be meant: the model; T puts classes in order -/
set_option maxRecDepth 20000
/-- how a run of T ends: with a value, or (none) with an error -/
def oT (e : Option (Option AV)) (x : Nat) : Out := match e with
  | some r => Sum.inl r
  | none => Sum.inr x
def TC (ρ : Nat → Nat) (P : ah → Nat → Prop) (k : Nat) (M : MT) (pc : Nat) (ls : LV) (st : List AV) (S : SS) (e : Option (Option AV)) (S' : SS) : Prop := ∀ (d : Nat) (h0 : ah) (T : Nat) (Q : QT), P h0 T → Q (oT e (hR h0 f_Md_halt T)) (cn h0 T S') → wpB PGm ρ (d + k) M pc ((0, vR T) :: ls) st (cn h0 T S) Q
/-- a class and those above it -/
def chnG (g : HG) : Nat → Int → List Nat
  | 0, _ => []
  | n + 1, c => if c < 0 then [] else c.toNat :: chnG g n (g.1 2 c.toNat)
/-- interfaces above a class, each with its own behind it -/
def dfsB (g : HG) : Nat → List Nat → Nat → List Nat
  | 0, o, _ => o
  | b + 1, o, c => (g.2 1 c).foldl (fun o s => if g.1 1 s.toNat = 1 ∧ ¬ s.toNat ∈ o then dfsB g b (o ++ [s.toNat]) s.toNat else o) o
def ordG (g : HG) (c : Nat) : List Nat := (chnG g 61 (c : Int)).foldl (fun o k => dfsB g 60 o k) (chnG g 61 (c : Int))
/-- T's host, with all of it -/
def xPRO : List Int := [112, 114, 111, 116, 111]
def PRO (ρ : Nat → Nat) (h : ah) : Prop := hK h (ρ 1001) = 13 ∧ hl h (ρ 1001) = 5 ∧ (∀ i, i < 5 → hA h (ρ 1001) i = xPRO.getD i 0) ∧ ρ 1001 < hz h ∧ ρ 1001 ≠ 0 ∧ UNO h (ρ 1001)
def PTO (ρ : Nat → Nat) (g : HG) (N M : Nat) (h0 : ah) (T : Nat) : Prop := TKS ρ h0 T ∧ (∃ tp, THO h0 (hR h0 f_Md_host T) g N M tp) ∧ PRO ρ h0
/-- classes that are there, each once -/
def OKL (N : Nat) (l : List Nat) : Prop := l.Nodup ∧ ∀ x, x ∈ l → x < N
def ORD (S : SS) (l : List Nat) : Prop := S f_Md_ordered 0 = (l.length : Int) ∧ ∀ i, i < l.length → S f_Md_order i = (l.getD i 0 : Int)
/-- what is above a class is ahead of it -/
def HGW (g : HG) (N : Nat) : Prop := ∀ i, i < N → (g.1 1 i = 0 ∨ g.1 1 i = 1) ∧ (-1 ≤ g.1 2 i ∧ g.1 2 i < (i : Int)) ∧ (g.2 1 i).length ≤ i ∧ ∀ j, j < (g.2 1 i).length → 0 ≤ (g.2 1 i).getD j 0 ∧ (g.2 1 i).getD j 0 < (i : Int)
section
variable {ρ : Nat → Nat} {P : ah → Nat → Prop} {d : Nat} {Q : QT} {h h0 : ah} {T k n m f i j c N M b : Nat} {S S' S1 : SS} {g : HG} {tp l o : List Int} {v : Int} {ls : List Nat}
theorem OKL.len (H : OKL N ls) : ls.length ≤ N := by
  have := List.Nodup.length_le_of_subset H.1 (l₂ := List.range N) (fun x hx => List.mem_range.mpr (H.2 x hx))
  rw [List.length_range] at this; exact this
theorem OKL.add (H : OKL N ls) (hc : c < N) (hn : c ∉ ls) : OKL N (ls ++ [c]) := ⟨List.nodup_append.mpr ⟨H.1, by simp, fun a ha b hb => by simp at hb; subst hb; rintro rfl; exact hn ha⟩, fun x hx => by
  rcases List.mem_append.mp hx with h | h
  · exact H.2 x h
  · simp at h; rw [h]; exact hc⟩
theorem dfsB_ok (W : HGW g N) : ∀ b, ∀ (o : List Nat) (c : Nat), OKL N o → c < N → OKL N (dfsB g b o c) := fun b => by
  induction b with
  | zero => exact fun o c H _ => H
  | succ b ih =>
    intro o c H hc
    unfold dfsB
    have hs : ∀ s, s ∈ g.2 1 c → s.toNat < N := fun s hs => by
      obtain ⟨j, hj, e⟩ := List.mem_iff_getElem.mp hs
      have := (W c hc).2.2.2 j hj
      rw [List.getD_eq_getElem?_getD, List.getElem?_eq_getElem hj, Option.getD_some, e] at this
      omega
    revert o
    generalize g.2 1 c = L at hs
    induction L with
    | nil => exact fun o H => H
    | cons s r ihr =>
      intro o H
      rw [List.foldl_cons]
      refine ihr (fun x hx => hs x (List.mem_cons_of_mem _ hx)) _ ?_
      by_cases w : g.1 1 s.toNat = 1 ∧ ¬ s.toNat ∈ o
      · rw [if_pos w]
        have h1 := hs s (List.mem_cons_self ..)
        exact ih _ _ (H.add h1 w.2) h1
      · rw [if_neg w]; exact H
theorem chnG_ok (W : HGW g N) : ∀ b (c : Int), c < (N : Int) → OKL N (chnG g b c) ∧ ∀ x, x ∈ chnG g b c → (x : Int) ≤ c := fun b => by
  induction b with
  | zero => exact fun c _ => ⟨⟨List.nodup_nil, fun x hx => absurd hx (by simp [chnG])⟩, fun x hx => absurd hx (by simp [chnG])⟩
  | succ b ih =>
    intro c hc
    unfold chnG
    by_cases w : c < 0
    · rw [if_pos w]; exact ⟨⟨List.nodup_nil, fun x hx => absurd hx (by simp)⟩, fun x hx => absurd hx (by simp)⟩
    · rw [if_neg w]
      have hb := (W c.toNat (by omega)).2.1
      obtain ⟨⟨a1, a2⟩, a3⟩ := ih (g.1 2 c.toNat) (by omega)
      refine ⟨⟨List.nodup_cons.mpr ⟨fun hx => ?_, a1⟩, fun x hx => ?_⟩, fun x hx => ?_⟩
      · have := a3 _ hx; omega
      · rcases List.mem_cons.mp hx with h | h
        · omega
        · exact a2 x h
      · rcases List.mem_cons.mp hx with h | h
        · omega
        · have := a3 x h; omega
theorem PTO.pth (H : PTO ρ g N M h0 T) : PTH ρ g N M h0 T := ⟨H.1, H.2.1.elim fun _ K => K.rows rfl⟩
theorem PTO.hgw (H : PTO ρ g N M h0 T) (hs : ∀ i, i < N → ∀ j, j < (g.2 1 i).length → 0 ≤ (g.2 1 i).getD j 0 ∧ (g.2 1 i).getD j 0 < (i : Int)) : HGW g N := fun i hi => by
  obtain ⟨-, a2, -, a4, -, a6, -⟩ := H.pth.2.2.2.2.2.2.2.1 i hi
  exact ⟨a2, a4, a6, hs i hi⟩
theorem ORD.add (H : ORD S ls) : ORD (u2 (u2 S f_Md_order ls.length (c : Int)) f_Md_ordered 0 ((ls.length + 1 : Nat) : Int)) (ls ++ [c]) := by
  refine ⟨?_, fun i hi => ?_⟩
  · rw [u2_s]; simp
  · rw [u2_f (by decide)]
    rw [List.length_append] at hi
    by_cases w : i = ls.length
    · subst w; rw [u2_s]; simp [List.getD_eq_getElem?_getD]
    · have hi' : i < ls.length := by simp at hi; omega
      rw [u2_e, if_neg (fun c => w c.2), H.2 i hi', List.getD_eq_getElem?_getD, List.getD_eq_getElem?_getD, List.getElem?_append_left hi']
theorem s_addOrder (O : TOK h0 T) (H : ORD S ls) (hc : c < 60) (hl : ls.length ≤ 60) (hn : c ∉ ls → ls.length < 60) (q1 : c ∉ ls → Q (Sum.inl (some (vI 1))) (cn h0 T (u2 (u2 S f_Md_order ls.length (c : Int)) f_Md_ordered 0 ((ls.length + 1 : Nat) : Int)))) (q0 : c ∈ ls → Q (Sum.inl (some (vI 0))) (cn h0 T S)) : wpB PGm ρ d m_Md_addOrder 0 [(0, vR T), (1, vI (c : Int))] [] (cn h0 T S) Q := by
  have kT := O.1
  have G := O.2.1
  have kH := O.2.2
  obtain ⟨e1, e2⟩ := H
  refine b_Md_addOrder_0 ?_
  have lp : ∀ mm j, j + mm = ls.length → c ∉ ls.take j → wpB PGm ρ d m_Md_addOrder 2 [(0, vR T), (1, vI (c : Int)), (2, vI (j : Int))] [] (cn h0 T S) Q := fun mm => by
    induction mm with
    | zero =>
      intro j hj nm
      have e : j = ls.length := by omega
      subst e
      rw [List.take_length] at nm
      have q1' := q1 nm
      have l60 := hn nm
      have b1 : 0 ≤ (ls.length : Int) ∧ (ls.length : Int) < ((60 : Nat) : Int) := by omega
      refine b_Md_addOrder_2 ?_
      clear q1 q0 hn
      simp (decide := true) (disch := first | decide | omega) only [cnI, cnIe, cnR, cnK, cnl, cnA' G, cn_sI, cn_sIe, cn_sA' G, kT, kH, KN G, LN G, u2_f, u2_s, w32_aa, w32_ss, w32_p1, w32_m1, Int.toNat_natCast, true_and, and_true, false_and, and_false, or_false, false_or, ne_eq, not_false_eq_true, forall_const, implies_true, not_true_eq_false, false_implies, e1, Int.le_refl, Int.lt_irrefl]
      exact ⟨b1, q1'⟩
    | succ mm ih =>
      intro j hj nm
      have lt : j < ls.length := by omega
      have e3 := e2 j lt
      have g1 := ih (j + 1) (by omega)
      have gx : ls.getD j 0 = ls[j] := by rw [List.getD_eq_getElem?_getD, List.getElem?_eq_getElem lt, Option.getD_some]
      have tk : ls.take (j + 1) = ls.take j ++ [ls.getD j 0] := by rw [gx, List.take_add_one, List.getElem?_eq_getElem lt]; rfl
      have b1 : 0 ≤ (j : Int) ∧ (j : Int) < ((60 : Nat) : Int) := by omega
      have n1 : ¬ (ls.length : Int) ≤ (j : Int) := by omega
      have n2 : (j : Int) < (ls.length : Int) := by omega
      have w1 : w32 ((j : Int) + 1) = ((j + 1 : Nat) : Int) := w32_p1 (by omega)
      refine b_Md_addOrder_2 ?_
      clear q1 hn ih
      simp (decide := true) (disch := first | decide | omega) only [cnI, cnR, cnK, cnl, cnA' G, kT, KN G, LN G, e1, e3, n1, n2, w1, Int.toNat_natCast, true_and, and_true, false_implies, forall_const]
      refine ⟨b1, fun ne => g1 ?_, fun e => q0 ?_⟩
      · rw [tk]
        intro hc'
        rcases List.mem_append.mp hc' with z | z
        · exact nm z
        · simp only [List.mem_singleton] at z; exact ne (by omega)
      · have : c = ls[j] := by rw [← gx]; omega
        rw [this]; exact List.getElem_mem lt
  exact lp ls.length 0 (by omega) (by simp)
end
