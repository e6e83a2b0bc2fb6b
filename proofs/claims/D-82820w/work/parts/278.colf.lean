/-! members that may be meant: by numbers of parameters; static ones -/
set_option maxRecDepth 20000
section
variable {g : HG} {N M k m : Nat} {st p : Int} {L : List Int} {cs o r : List Nat} {w f : Nat → Bool} {hw : List (List Int)} {nmw : Int} {b c : Nat}
theorem addC_flt (hf : ∀ a b, g.2 2 a = g.2 2 b → f a = f b) : (addC g w cs m).filter f = addC g (fun m => w m && f m) (cs.filter f) m := by
  unfold addC
  by_cases fm : f m = true
  · have e : (cs.filter f).all (fun q => !(decide (g.2 2 q = g.2 2 m))) = cs.all (fun q => !(decide (g.2 2 q = g.2 2 m))) := by
      rw [Bool.eq_iff_iff, List.all_eq_true, List.all_eq_true]
      constructor
      · intro H q hq
        by_cases e : g.2 2 q = g.2 2 m
        · exact H q (List.mem_filter.mpr ⟨hq, by rw [hf q m e]; exact fm⟩)
        · simpa using e
      · intro H q hq
        exact H q (List.mem_filter.mp hq).1
    rw [e]
    have e2 : ((fun m => w m && f m) m && cs.all (fun q => !(decide (g.2 2 q = g.2 2 m)))) = (w m && cs.all (fun q => !(decide (g.2 2 q = g.2 2 m)))) := by
      show ((w m && f m) && _) = _
      rw [fm, Bool.and_true]
    rw [e2]
    by_cases c : (w m && cs.all (fun q => !(decide (g.2 2 q = g.2 2 m)))) = true
    · rw [if_pos c, if_pos c, List.filter_append]
      simp [fm]
    · rw [if_neg c, if_neg c]
  · have fm' : f m = false := by simpa using fm
    have e2 : ((fun m => w m && f m) m && (cs.filter f).all (fun q => !(decide (g.2 2 q = g.2 2 m)))) = false := by
      show ((w m && f m) && _) = _
      rw [fm', Bool.and_false, Bool.false_and]
    rw [e2]
    rw [if_neg (show ¬ false = true by decide)]
    split
    · rw [List.filter_append]
      simp [fm']
    · rfl
theorem fold_flt (hf : ∀ a b, g.2 2 a = g.2 2 b → f a = f b) : ∀ (l cs : List Nat), (l.foldl (addC g w) cs).filter f = l.foldl (addC g (fun m => w m && f m)) (cs.filter f) := fun l => by
  induction l with
  | nil => intro cs; rfl
  | cons m l ih =>
    intro cs
    rw [List.foldl_cons, List.foldl_cons, ih, addC_flt hf]
theorem colG_flt (hf : ∀ a b, g.2 2 a = g.2 2 b → f a = f b) : (colG g w o).filter f = colG g (fun m => w m && f m) o := by
  unfold colG
  have : ∀ (o cs : List Nat), (o.foldl (fun cs k => (memG g k).foldl (addC g w) cs) cs).filter f = o.foldl (fun cs k => (memG g k).foldl (addC g (fun m => w m && f m)) cs) (cs.filter f) := fun o => by
    induction o with
    | nil => intro cs; rfl
    | cons k o ih =>
      intro cs
      rw [List.foldl_cons, List.foldl_cons, ih, fold_flt hf]
  exact this o []
theorem wtB_p (hp : 0 ≤ p) : wtB g st L p = fun m => wtB g st L (-1) m && decide (((g.2 2 m).length : Int) = p) := by
  funext m
  unfold wtB
  have e1 : decide ((-1 : Int) < 0 ∨ ((g.2 2 m).length : Int) = -1) = true := by simp
  have e2 : decide (p < 0 ∨ ((g.2 2 m).length : Int) = p) = decide (((g.2 2 m).length : Int) = p) := by
    rw [decide_eq_decide]
    exact ⟨fun c => c.resolve_left (by omega), Or.inr⟩
  rw [e1, e2, Bool.true_and]
  cases decide (g.1 6 m = 1) <;> cases decide (g.1 7 m = st) <;> cases decide (((g.2 2 m).length : Int) = p) <;> cases decide (g.2 3 m = L) <;> rfl
/-- those of a number of parameters -/
theorem colG_p (hp : 0 ≤ p) : colG g (wtB g st L p) o = (colG g (wtB g st L (-1)) o).filter (fun m => decide (((g.2 2 m).length : Int) = p)) := by
  rw [wtB_p hp, colG_flt]
  intro a b e
  rw [e]
theorem fold_no (H : ∀ m, m ∈ r → w m = false) : ∀ cs, r.foldl (addC g w) cs = cs := by
  induction r with
  | nil => intro cs; rfl
  | cons m r ih =>
    intro cs
    rw [List.foldl_cons]
    have e : addC g w cs m = cs := by
      unfold addC
      rw [if_neg (by rw [H m (List.mem_cons_self ..)]; simp)]
    rw [e]
    exact ih (fun x hx => H x (List.mem_cons_of_mem _ hx)) cs
theorem colG_no (H : ∀ k, k ∈ r → ∀ m, m ∈ memG g k → w m = false) : colG g w (o ++ r) = colG g w o := by
  unfold colG
  rw [List.foldl_append]
  generalize o.foldl (fun cs k => (memG g k).foldl (addC g w) cs) [] = cs
  induction r generalizing cs with
  | nil => rfl
  | cons k r ih =>
    rw [List.foldl_cons, fold_no (H k (List.mem_cons_self ..))]
    exact ih (fun x hx => H x (List.mem_cons_of_mem _ hx)) cs
/-- what is behind in the order is an interface -/
theorem dfs_ext (W : HGW g N) : ∀ (b c : Nat) (o : List Nat), c < N → ∃ r, dfsB g b o c = o ++ r ∧ ∀ x, x ∈ r → g.1 1 x = 1 ∧ x < N := fun b => by
  induction b with
  | zero => intro c o _; exact ⟨[], by simp [dfsB], fun x hx => by cases hx⟩
  | succ b ih =>
    intro c o hc
    have hl := (W c hc).2.2.2
    show ∃ r, (g.2 1 c).foldl (fun o s => if g.1 1 s.toNat = 1 ∧ ¬ s.toNat ∈ o then dfsB g b (o ++ [s.toNat]) s.toNat else o) o = o ++ r ∧ _
    have hs : ∀ s, s ∈ g.2 1 c → s.toNat < N := fun s hs => by
      obtain ⟨j, hj, e⟩ := List.mem_iff_getElem.mp hs
      have := hl j hj
      rw [List.getD_eq_getElem?_getD, List.getElem?_eq_getElem hj, Option.getD_some, e] at this
      omega
    revert hs
    generalize g.2 1 c = l
    intro hs
    induction l generalizing o with
    | nil => exact ⟨[], by simp, fun x hx => by cases hx⟩
    | cons s l ihl =>
      rw [List.foldl_cons]
      by_cases z : g.1 1 s.toNat = 1 ∧ ¬ s.toNat ∈ o
      · rw [if_pos z]
        obtain ⟨r1, e1, p1⟩ := ih s.toNat (o ++ [s.toNat]) (hs s (List.mem_cons_self ..))
        obtain ⟨r2, e2, p2⟩ := ihl (dfsB g b (o ++ [s.toNat]) s.toNat) (fun x hx => hs x (List.mem_cons_of_mem _ hx))
        refine ⟨s.toNat :: (r1 ++ r2), by rw [e2, e1]; simp, fun x hx => ?_⟩
        rcases List.mem_cons.mp hx with e | e
        · rw [e]; exact ⟨z.1, hs s (List.mem_cons_self ..)⟩
        · rcases List.mem_append.mp e with e | e
          · exact p1 x e
          · exact p2 x e
      · rw [if_neg z]
        exact ihl o (fun x hx => hs x (List.mem_cons_of_mem _ hx))
theorem chn_lt (W : HGW g N) : ∀ (b : Nat) (c : Int), -1 ≤ c → c < (N : Int) → ∀ x, x ∈ chnG g b c → x < N := fun b => by
  induction b with
  | zero => intro c _ _ x hx; cases hx
  | succ b ih =>
    intro c h1 h2 x hx
    have hx' : x ∈ (if c < 0 then [] else c.toNat :: chnG g b (g.1 2 c.toNat)) := hx
    by_cases c0 : c < 0
    · rw [if_pos c0] at hx'; cases hx'
    · rw [if_neg c0] at hx'
      have wc := (W c.toNat (by omega)).2.1
      rcases List.mem_cons.mp hx' with e | e
      · rw [e]; omega
      · exact ih (g.1 2 c.toNat) (by omega) (by omega) x e
theorem ord_ext (W : HGW g N) (hc : c < N) : ∃ r, ordG g c = chnG g 61 (c : Int) ++ r ∧ ∀ x, x ∈ r → g.1 1 x = 1 ∧ x < N := by
  unfold ordG
  have hl := chn_lt W 61 (c : Int) (by omega) (by omega)
  have : ∀ (l o : List Nat), (∀ x, x ∈ l → x < N) → ∃ r, l.foldl (fun o k => dfsB g 60 o k) o = o ++ r ∧ ∀ x, x ∈ r → g.1 1 x = 1 ∧ x < N := fun l => by
    induction l with
    | nil => intro o _; exact ⟨[], by simp, fun x hx => by cases hx⟩
    | cons k l ih =>
      intro o hk
      rw [List.foldl_cons]
      obtain ⟨r1, e1, p1⟩ := dfs_ext W 60 k o (hk k (List.mem_cons_self ..))
      obtain ⟨r2, e2, p2⟩ := ih (dfsB g 60 o k) (fun x hx => hk x (List.mem_cons_of_mem _ hx))
      refine ⟨r1 ++ r2, by rw [e2, e1, List.append_assoc], fun x hx => ?_⟩
      rcases List.mem_append.mp hx with e | e
      · exact p1 x e
      · exact p2 x e
  exact this _ _ hl
/-- static methods are of classes alone -/
theorem colG_st (W : HGW g N) (WX : HWX g N M) (hc : c < N) (hs : st = 0 ∨ st = 1) : colG g (wtB g st L p) (if st = 0 then ordG g c else chnG g 61 (c : Int)) = colG g (wtB g st L p) (ordG g c) := by
  by_cases s0 : st = 0
  · rw [if_pos s0]
  · rw [if_neg s0]
    obtain ⟨r, e, pr⟩ := ord_ext W hc
    rw [e, colG_no]
    intro k hk m hm
    have := (WX.2.1 k (pr k hk).2 (pr k hk).1 m hm).2
    unfold wtB
    have e : decide (g.1 7 m = st) = false := by simp; omega
    rw [e]; simp
/-- what C asks of a method of a name -/
theorem wtB_w {nw : Nat} (nd : hw.Nodup) (h1 : nw < hw.length) (h2 : hw.getD nw [] = L) : WCM g hw M (wtB g st L (-1)) 1 st (nw : Int) := fun m hm v hv => by
  unfold wtB
  simp only [Bool.and_eq_true, decide_eq_true_eq]
  constructor
  · rintro ⟨a1, a2, -, a3⟩
    refine ⟨a1, a2, ?_⟩
    rcases hv with ⟨c, -⟩ | ⟨-, w, w1, w2, w3⟩
    · omega
    · rw [w3]
      have : w = nw := nd_getD nd w1 h1 (by rw [w2, h2, a3])
      rw [this]
  · rintro ⟨a1, a2, a3⟩
    refine ⟨a1, a2, Or.inl (by decide), ?_⟩
    rcases hv with ⟨c, -⟩ | ⟨-, w, w1, w2, w3⟩
    · omega
    · have : w = nw := by omega
      rw [← w2, this, h2]
/-- and of a maker -/
theorem mkr_w (WX : HWX g N M) : WCM g hw M (fun m => decide (g.1 6 m = 2)) 2 0 (-1) := fun m hm v hv => by
  simp only [decide_eq_true_eq]
  constructor
  · intro a1
    refine ⟨a1, (WX.2.2.2.2 m hm a1).1, ?_⟩
    rcases hv with ⟨-, -, c⟩ | ⟨c, -⟩
    · exact c
    · exact absurd a1 c
  · rintro ⟨a1, -, -⟩; exact a1
theorem mem_lt (W2 : HMW g N M) (hk : k < N) : ∀ m, m ∈ memG g k → m < M := fun m hm => by
  unfold memG at hm
  obtain ⟨i, hi, e⟩ := List.mem_map.mp hm
  have := W2 k hk
  rw [List.mem_range] at hi
  omega
theorem mem_nd : (memG g k).Nodup := by
  unfold memG
  rw [List.nodup_iff_pairwise_ne, List.pairwise_map]
  exact List.Pairwise.imp (fun h c => h (Nat.add_left_cancel c)) (List.nodup_iff_pairwise_ne.mp List.nodup_range)
/-- makers of a class -/
theorem mkr_col (WX : HWX g N M) (hk : k < N) : (memG g k).foldl (addC g (fun m => decide (g.1 6 m = 2))) [] = mkrG g k := by
  unfold mkrG
  have key : ∀ (l cs : List Nat), (∀ m, m ∈ l → m ∈ memG g k) → (∀ m, m ∈ cs → m ∈ memG g k ∧ g.1 6 m = 2 ∧ m ∉ l) → l.Nodup → l.foldl (addC g (fun m => decide (g.1 6 m = 2))) cs = cs ++ l.filter (fun m => decide (g.1 6 m = 2)) := fun l => by
    induction l with
    | nil => intro cs _ _ _; simp
    | cons m l ih =>
      intro cs h1 h2 nd
      rw [List.foldl_cons]
      have nd' := List.nodup_cons.mp nd
      by_cases z : g.1 6 m = 2
      · have e : addC g (fun m => decide (g.1 6 m = 2)) cs m = cs ++ [m] := by
          unfold addC
          rw [if_pos]
          simp only [Bool.and_eq_true, decide_eq_true_eq]
          refine ⟨z, List.all_eq_true.mpr (fun q hq => ?_)⟩
          have hq' := h2 q hq
          simp only [Bool.not_eq_true', decide_eq_false_iff_not]
          intro c
          have := WX.2.2.2.1 k hk q m hq'.1 (h1 m (List.mem_cons_self ..)) hq'.2.1 z c
          exact hq'.2.2 (by rw [this]; exact List.mem_cons_self ..)
        rw [e, ih (cs ++ [m]) (fun x hx => h1 x (List.mem_cons_of_mem _ hx)) (fun x hx => ?_) nd'.2, List.filter_cons_of_pos (by simpa using z)]
        · simp
        · rcases List.mem_append.mp hx with c | c
          · have := h2 x c
            exact ⟨this.1, this.2.1, fun q => this.2.2 (List.mem_cons_of_mem _ q)⟩
          · rw [List.mem_singleton] at c
            rw [c]
            exact ⟨h1 m (List.mem_cons_self ..), z, nd'.1⟩
      · have e : addC g (fun m => decide (g.1 6 m = 2)) cs m = cs := by
          unfold addC
          rw [if_neg]
          simp [z]
        rw [e, ih cs (fun x hx => h1 x (List.mem_cons_of_mem _ hx)) (fun x hx => ?_) nd'.2, List.filter_cons_of_neg (by simpa using z)]
        have := h2 x hx
        exact ⟨this.1, this.2.1, fun q => this.2.2 (List.mem_cons_of_mem _ q)⟩
  have := key (memG g k) [] (fun m hm => hm) (fun m hm => by cases hm) mem_nd
  rw [this]; rfl
end
