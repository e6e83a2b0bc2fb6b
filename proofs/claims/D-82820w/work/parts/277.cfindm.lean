/-! C's host: the methods of a name, whole -/
set_option maxRecDepth 20000
/-- what hosts are like besides -/
def HWX (g : HG) (N M : Nat) : Prop := (∀ i, i < N → 0 ≤ g.1 2 i → g.1 1 (g.1 2 i).toNat = 0) ∧ (∀ k, k < N → g.1 1 k = 1 → ∀ m, m ∈ memG g k → g.1 6 m = 1 ∧ g.1 7 m = 0) ∧ (∀ k, k < N → ∀ a b, a ∈ memG g k → b ∈ memG g k → g.1 6 a = 0 → g.1 6 b = 0 → g.2 3 a = g.2 3 b → a = b) ∧ (∀ k, k < N → ∀ a b, a ∈ memG g k → b ∈ memG g k → g.1 6 a = 2 → g.1 6 b = 2 → g.2 2 a = g.2 2 b → a = b) ∧ (∀ m, m < M → g.1 6 m = 2 → g.1 7 m = 0 ∧ g.2 3 m = [])
def hcA (h : ah) (ho : Nat) (c : Int) : Nat := if c < 0 then 0 else hB h (ho + 2) c.toNat
section
variable {ρ : Nat → Nat} {d : Nat} {Q : QT} {h h' h1 h2 : ah} {ho k n m i j N M b a z s x y : Nat} {g : HG} {v p st kd nmw c : Int} {hw : List (List Int)} {L : List Int} {cs o : List Nat} {w : Nat → Bool}
theorem HCX.abv (H : HCX ρ h ho g N M hw) (hi : i < N) : hR h f_HostType_above (hB h (ho + 2) i) = hcA h ho (g.1 2 i) := by
  obtain ⟨-, -, -, -, -, y1, -⟩ := H.tp hi
  unfold hcA
  rcases y1 with ⟨y1, y2⟩ | ⟨y1, y2, y3⟩
  · rw [y1, y2, if_pos (by decide)]
  · rw [if_neg (by omega), y3]
theorem MFR.hca (a : MFR h ho h1) (H : HCX ρ h ho g N M hw) : hcA h1 ho c = hcA h ho c := by
  unfold hcA
  split
  · rfl
  · exact a.b2 H _
/-- methods of a class and those above it -/
theorem c_chn (W : HGW g N) (W2 : HMW g N M) (WC : WCM g hw M w 1 st nmw) : ∀ (b : Nat) (c : Int) (h : ah) (o : List Nat) (l1 : Nat), c < (b : Int) → -1 ≤ c → c < (N : Int) → HCX ρ h ho g N M hw → MNT h ho M (colG g w o) → (∀ h1, MFR h ho h1 → MNT h1 ho M (colG g w (o ++ chnG g (b + 1) c)) → ((st = 0 → wpB PGm ρ (d + 11) m_Host_findMethods 42 [(0, vR ho), (1, vR l1), (3, vI nmw), (4, vI 0)] [] h1 Q) ∧ (¬ st = 0 → Q (Sum.inl none) h1))) → wpB PGm ρ (d + 11) m_Host_findMethods 10 [(0, vR ho), (1, vR l1), (2, vI st), (3, vI nmw), (4, vR (hcA h ho c))] [] h Q := fun b => by
  have nil : ∀ {b : Nat} {c : Int}, c < 0 → chnG g b c = [] := fun {b c} hc => by
    cases b with
    | zero => rfl
    | succ b => show (if c < 0 then [] else _) = _; rw [if_pos hc]
  induction b with
  | zero =>
    intro c h o l1 hb h1 h2 H A q
    have c0 : c < 0 := by omega
    have e : hcA h ho c = 0 := if_pos c0
    rw [e]
    have := q h MFR.rf (by rw [nil c0, List.append_nil]; exact A)
    exact b_Host_findMethods_10 (d := d + 10) ⟨fun _ => this, fun c => absurd rfl c⟩
  | succ b ih =>
    intro c h o l1 hb h1 h2 H A q
    by_cases c0 : c < 0
    · have e : hcA h ho c = 0 := if_pos c0
      rw [e]
      have := q h MFR.rf (by rw [nil c0, List.append_nil]; exact A)
      exact b_Host_findMethods_10 (d := d + 10) ⟨fun _ => this, fun c => absurd rfl c⟩
    · have e : hcA h ho c = hB h (ho + 2) c.toNat := if_neg c0
      have cN : c.toNat < N := by omega
      have T := H.tp cN
      have wc := (W c.toNat cN).2.1
      rw [e]
      refine b_Host_findMethods_10 (d := d + 10) ⟨fun z => absurd z T.1.2.2, fun _ => ⟨H.hh.1, ?_⟩⟩
      refine c_mean (d := d) W2 cN WC H A (fun h1' f1 a1 => ?_)
      have H1 := f1.1.hcx H
      have T1 := H1.tp cN
      rw [← f1.1.b2 H c.toNat]
      refine ⟨T1.1.1, ?_⟩
      rw [H1.abv cN]
      refine ih (g.1 2 c.toNat) h1' (o ++ [c.toNat]) l1 (by omega) (by omega) (by omega) H1 (by rw [colG_app]; exact a1) (fun h2' f2 a2 => q h2' (f1.1.tr f2) ?_)
      have ec : chnG g (b + 1 + 1) c = c.toNat :: chnG g (b + 1) (g.1 2 c.toNat) := by
        show (if c < 0 then [] else c.toNat :: chnG g (b + 1) (g.1 2 c.toNat)) = _
        rw [if_neg c0]
      rw [ec]
      rw [List.append_assoc] at a2
      exact a2
/-- none was met -/
theorem c_met (H : HCX ρ h ho g N M hw) {l1 : Nat} (q : ∀ h1, MFR h ho h1 → (∀ k, k < 60 → hA h1 (ho + 12) k = 0) → (∀ i, hB h1 (ho + 11) i = hB h (ho + 11) i) → hl h1 (ho + 11) = hl h (ho + 11) → wpB PGm ρ d m_Host_findMethods 66 [(0, vR ho), (3, vI nmw), (4, vR l1)] [] h1 Q) : ∀ (mm j : Nat) (h1 : ah), j + mm = 60 → MFR h ho h1 → (∀ k, k < j → hA h1 (ho + 12) k = 0) → (∀ i, hB h1 (ho + 11) i = hB h (ho + 11) i) → hl h1 (ho + 11) = hl h (ho + 11) → wpB PGm ρ d m_Host_findMethods 42 [(0, vR ho), (1, vR l1), (3, vI nmw), (4, vI (j : Int))] [] h1 Q := fun mm => by
  induction mm with
  | zero =>
    intro j h1 hj f1 z1 z2 z3
    have ej : j = 60 := by omega
    subst ej
    exact b_Host_findMethods_42 ⟨fun _ => q h1 f1 z1 z2 z3, fun c => absurd c (by decide)⟩
  | succ mm ih =>
    intro j h1 hj f1 z1 z2 z3
    have H1 := f1.hcx H
    obtain ⟨t1, t2, t3, t4, t5, t6⟩ := H1.mt
    have x2 := H1.hh.2.1
    have ln : ¬ (60 : Int) ≤ (j : Int) ∧ 0 ≤ (j : Int) ∧ (j : Int) < ((60 : Nat) : Int) ∧ j ≤ 2000000000 := by omega
    refine b_Host_findMethods_42 ⟨fun c => absurd c ln.1, fun _ => ⟨H1.hh.1, ?_⟩⟩
    rw [t3]
    refine ⟨⟨Or.inr ⟨t4, Or.inl rfl⟩, ln.2.1, by rw [t5]; exact ln.2.2.1⟩, ?_⟩
    rw [Int.toNat_natCast, w32_p1 ln.2.2.2]
    have fA : MFR h1 ho (sA h1 (ho + 12) j 0) := ⟨⟨0, 0, Fr.wA (Or.inr (Or.inr (Or.inr ⟨f_Host_met, ho, x2, by unfold own; decide, t3, Or.inr (Or.inr (by simp [PMN]))⟩))) Fr.r0⟩, Int.le_refl _, Int.le_refl _⟩
    refine ih (j + 1) _ (by omega) (f1.tr fA) (fun k hk => ?_) z2 z3
    rw [g_hA_sA]
    by_cases w1 : k = j
    · rw [if_pos ⟨rfl, w1⟩]
    · rw [if_neg (fun c => w1 c.2)]; exact z1 k (by omega)
/-- interfaces above a class and those above it -/
theorem c_abv (W : HGW g N) (W2 : HMW g N M) (hN : N ≤ 60) (WC : WCM g hw M w 1 0 nmw) : ∀ (b : Nat) (c : Int) (h : ah) (o : List Nat), c < (b : Int) → -1 ≤ c → c < (N : Int) → HCX ρ h ho g N M hw → MNT h ho M (colG g w o) → MET h ho g N o → (∀ h1, MFR h ho h1 → MNT h1 ho M (colG g w ((chnG g (b + 1) c).foldl (fun o k => dfsB g 60 o k) o)) → Q (Sum.inl none) h1) → wpB PGm ρ (d + 71) m_Host_findMethods 66 [(0, vR ho), (3, vI nmw), (4, vR (hcA h ho c))] [] h Q := fun b => by
  have nil : ∀ {b : Nat} {c : Int}, c < 0 → chnG g b c = [] := fun {b c} hc => by
    cases b with
    | zero => rfl
    | succ b => show (if c < 0 then [] else _) = _; rw [if_pos hc]
  induction b with
  | zero =>
    intro c h o hb h1 h2 H A B q
    have c0 : c < 0 := by omega
    have e : hcA h ho c = 0 := if_pos c0
    rw [e]
    have := q h MFR.rf (by rw [nil c0]; exact A)
    exact b_Host_findMethods_66 (d := d + 70) ⟨fun _ => this, fun c => absurd rfl c⟩
  | succ b ih =>
    intro c h o hb h1 h2 H A B q
    by_cases c0 : c < 0
    · have e : hcA h ho c = 0 := if_pos c0
      rw [e]
      have := q h MFR.rf (by rw [nil c0]; exact A)
      exact b_Host_findMethods_66 (d := d + 70) ⟨fun _ => this, fun c => absurd rfl c⟩
    · have e : hcA h ho c = hB h (ho + 2) c.toNat := if_neg c0
      have cN : c.toNat < N := by omega
      have T := H.tp cN
      have wc := (W c.toNat cN).2.1
      obtain ⟨t1, t2, t3, t4, t5, t6⟩ := H.mt
      rw [e]
      refine b_Host_findMethods_66 (d := d + 70) ⟨fun z => absurd z T.1.2.2, fun _ => ⟨H.hh.1, ?_⟩⟩
      rw [t3]
      refine c_mean4 (d := d) W W2 WC 60 c.toNat (by omega) cN h o H A B _ (fun h1' f1 a1 b1 => ?_)
      have H1 := f1.hcx H
      have T1 := H1.tp cN
      rw [← f1.b2 H c.toNat]
      refine ⟨T1.1.1, ?_⟩
      rw [H1.abv cN]
      refine ih (g.1 2 c.toNat) h1' _ (by omega) (by omega) (by omega) H1 a1 b1 (fun h2' f2 a2 => q h2' (f1.tr f2) ?_)
      have ec : chnG g (b + 1 + 1) c = c.toNat :: chnG g (b + 1) (g.1 2 c.toNat) := by
        show (if c < 0 then [] else c.toNat :: chnG g (b + 1) (g.1 2 c.toNat)) = _
        rw [if_neg c0]
      rw [ec]
      exact a2
theorem chn_cls (WX : HWX g N M) (W : HGW g N) : ∀ (b : Nat) (c : Int), -1 ≤ c → c < (N : Int) → (0 ≤ c → g.1 1 c.toNat = 0) → ∀ x, x ∈ chnG g b c → g.1 1 x = 0 ∧ x < N := fun b => by
  induction b with
  | zero => intro c _ _ _ x hx; cases hx
  | succ b ih =>
    intro c h1 h2 h3 x hx
    have hx' : x ∈ (if c < 0 then [] else c.toNat :: chnG g b (g.1 2 c.toNat)) := hx
    by_cases c0 : c < 0
    · rw [if_pos c0] at hx'; cases hx'
    · rw [if_neg c0] at hx'
      have wc := (W c.toNat (by omega)).2.1
      rcases List.mem_cons.mp hx' with e | e
      · rw [e]; exact ⟨h3 (by omega), by omega⟩
      · exact ih (g.1 2 c.toNat) (by omega) (by omega) (fun z => WX.1 c.toNat (by omega) z) x e
theorem c_findM {c : Nat} (W : HGW g N) (W2 : HMW g N M) (WX : HWX g N M) (hc : c < N) (hst : st = 0 → g.1 1 c = 0) (WC : WCM g hw M w 1 st nmw) (H : HCX ρ h ho g N M hw) (q : ∀ h1, MFR h ho h1 → MNT h1 ho M (colG g w (if st = 0 then ordG g c else chnG g 61 (c : Int))) → Q (Sum.inl none) h1) : wpB PGm ρ (d + 71) m_Host_findMethods 0 [(0, vR ho), (1, vR (hB h (ho + 2) c)), (2, vI st), (3, vI nmw)] [] h Q := by
  obtain ⟨t1, t2, t3, t4, t5, t6⟩ := H.mt
  obtain ⟨x1, x2, x3, x4, x5, x6, x7, x8, x9, x10, x11⟩ := H.hh
  have fN : MFR h ho (sN h (ho + 11) 0) := ⟨⟨0, 0, Fr.wN (Or.inr (Or.inr (Or.inr ⟨f_Host_meant, ho, x2, by unfold own; decide, t1, Or.inr (Or.inr (by simp [PMN]))⟩))) (Or.inr (by rw [t2.1.1]; decide)) Fr.r0⟩, Int.le_refl _, Int.le_refl _⟩
  have HN := fN.hcx H
  have A0 : MNT (sN h (ho + 11) 0) ho M (colG g w []) := by
    have e : colG g w [] = [] := rfl
    rw [e]
    exact ⟨if_pos rfl, fun i hi => absurd hi (Nat.not_lt_zero _), fun m hm => absurd hm List.not_mem_nil, List.nodup_nil⟩
  have ea : hB h (ho + 2) c = hcA (sN h (ho + 11) 0) ho (c : Int) := by
    unfold hcA
    rw [if_neg (by omega), Int.toNat_natCast]
    rfl
  refine b_Host_findMethods_0 (by omega) ⟨x1, ?_⟩
  rw [t1]
  refine ⟨t2.1.1, t2.1, ?_⟩
  rw [ea]
  refine wp_d (show d + 60 + 11 = d + 71 by omega) (c_chn (d := d + 60) W W2 WC 60 (c : Int) (sN h (ho + 11) 0) [] _ (by omega) (by omega) (by omega) HN A0 (fun h1 f1 a1 => ⟨fun s0 => ?_, fun s0 => ?_⟩))
  · rw [List.nil_append] at a1
    have H1 := f1.hcx HN
    rw [if_pos s0] at q
    subst s0
    refine c_met H1 (fun h2 f2 z1 z2 z3 => ?_) 60 0 h1 (by omega) MFR.rf (fun k hk => absurd hk (Nat.not_lt_zero _)) (fun _ => rfl) rfl
    have H2 := f2.hcx H1
    rw [show hcA (sN h (ho + 11) 0) ho (c : Int) = hcA h2 ho (c : Int) from ((f2.hca H1).trans (f1.hca HN)).symm]
    have a2 : MNT h2 ho M (colG g w (chnG g 61 (c : Int))) := ⟨by rw [z3]; exact a1.1, fun i hi => by rw [z2, f2.b3 H1]; exact a1.2.1 i hi, a1.2.2⟩
    refine c_abv (d := d) W W2 x10 WC 60 (c : Int) h2 _ (by omega) (by omega) (by omega) H2 a2 (fun k hk gk => ?_) (fun h3 f3 a3 => q h3 ((fN.tr f1).tr (f2.tr f3)) a3)
    rw [z1 k (by omega), if_neg]
    intro c2
    have := (chn_cls WX W 61 (c : Int) (by omega) (by omega) (fun _ => by rw [Int.toNat_natCast]; exact hst rfl) k c2).1
    omega
  · rw [List.nil_append] at a1
    rw [if_neg s0] at q
    exact q h1 (fN.tr f1) a1
end
