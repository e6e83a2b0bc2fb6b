/-! C's host: the methods of a name -/
set_option maxRecDepth 20000
section
variable {ρ : Nat → Nat} {d : Nat} {Q : QT} {F : Int → ah → Prop} {E : Nat → ah → Prop} {h h' h1 h2 : ah} {ho k n m i j N M b a z s c x y : Nat} {g : HG} {v p st kd nmw : Int} {hw : List (List Int)} {L : List Int} {cs o : List Nat} {w : Nat → Bool}
theorem wp_d {d1 d2 : Nat} {Mt : MT} {pc : Nat} {ls : LV} {sk : List AV} (e : d1 = d2) (k : wpB PGm ρ d1 Mt pc ls sk h Q) : wpB PGm ρ d2 Mt pc ls sk h Q := by subst e; exact k
/-- w is what C asks of a member -/
def WCM (g : HG) (hw : List (List Int)) (M : Nat) (w : Nat → Bool) (kd st nmw : Int) : Prop := ∀ m, m < M → ∀ v : Int, ((g.1 6 m = 2 ∧ g.2 3 m = [] ∧ v = -1) ∨ (¬ g.1 6 m = 2 ∧ NMO hw (g.2 3 m) v)) → (w m = true ↔ (g.1 6 m = kd ∧ g.1 7 m = st ∧ v = nmw))
theorem MNT.len (A : MNT h ho M cs) (hM : M ≤ 400) : cs.length ≤ 400 := by
  have : cs.length ≤ (List.range M).length := List.Nodup.length_le_of_subset A.2.2.2 (fun x hx => List.mem_range.mpr (A.2.2.1 x hx))
  rw [List.length_range] at this
  omega
theorem c_mean3 (W2 : HMW g N M) (hi : i < N) (WC : WCM g hw M w kd st nmw) : ∀ (mm k : Nat) (h : ah) (cs : List Nat), k + mm = (g.1 4 i).toNat → HCX ρ h ho g N M hw → MNT h ho M cs → (∀ h1, MFA h ho h1 → MNT h1 ho M (((memG g i).drop k).foldl (addC g w) cs) → Q (Sum.inl none) h1) → wpB PGm ρ (d + 10) m_Host_mean 3 [(0, vR ho), (1, vR (hB h (ho + 2) i)), (2, vI kd), (3, vI st), (4, vI nmw), (5, vI (k : Int))] [] h Q := fun mm => by
  have ml : (memG g i).length = (g.1 4 i).toNat := by unfold memG; simp
  have mg : ∀ k, k < (g.1 4 i).toNat → (memG g i).drop k = ((g.1 3 i).toNat + k) :: (memG g i).drop (k + 1) := fun k hk => by
    rw [List.drop_eq_getElem_cons (by omega)]
    congr 1
    unfold memG; simp
  obtain ⟨w1, w2, w3⟩ := W2 i hi
  induction mm with
  | zero =>
    intro k h cs hk H A q
    obtain ⟨⟨y1, -, -⟩, -, -, -, -, -, -, ⟨y2, y3, y4⟩, -⟩ := H.tp hi
    have e : (memG g i).drop k = [] := List.drop_eq_nil_of_le (by omega)
    rw [e] at q
    refine b_Host_mean_3 (by omega) ⟨y1, y2.1.1, y2.1, fun _ => q h MFA.rf A, fun c => by omega⟩
  | succ mm ih =>
    intro k h cs hk H A q
    have M4 := H.hh.2.2.2.2.2.2.2.2.2.2
    obtain ⟨⟨y1, -, -⟩, -, -, -, -, -, -, ⟨y2, y3, y4⟩, -⟩ := H.tp hi
    have kl : k < (g.1 4 i).toNat := by omega
    have mM : (g.1 3 i).toNat + k < M := by omega
    have ln : ¬ (hl h (hR h f_HostType_members (hB h (ho + 2) i)) : Int) ≤ (k : Int) ∧ 0 ≤ (k : Int) ∧ (k : Int) < (hl h (hR h f_HostType_members (hB h (ho + 2) i)) : Int) ∧ k ≤ 2000000000 := by omega
    obtain ⟨⟨m1, m2, m3⟩, -, m4, -, -, -, -, m5, -, m6, -, -, m7⟩ := H.me mM
    have wc := WC _ mM _ m6
    rw [mg k kl] at q
    have skip : ¬ w ((g.1 3 i).toNat + k) = true → wpB PGm ρ (d + 10) m_Host_mean 3 [(0, vR ho), (1, vR (hB h (ho + 2) i)), (2, vI kd), (3, vI st), (4, vI nmw), (5, vI (w32 ((k : Int) + 1)))] [] h Q := fun nw => by
      rw [w32_p1 ln.2.2.2]
      refine ih (k + 1) h cs (by omega) H A (fun h1 f1 a1 => q h1 f1 ?_)
      show MNT h1 ho M (((memG g i).drop (k + 1)).foldl (addC g w) (addC g w cs ((g.1 3 i).toNat + k)))
      have e : addC g w cs ((g.1 3 i).toNat + k) = cs := by
        unfold addC
        rw [if_neg (fun c => nw (by simp only [Bool.and_eq_true] at c; exact c.1))]
      rw [e]; exact a1
    refine b_Host_mean_3 (by omega) ⟨y1, y2.1.1, y2.1, fun c => absurd c ln.1, fun _ => ⟨y2.1.1, ⟨y2.1, ln.2.1, ln.2.2.1⟩, ?_⟩⟩
    rw [Int.toNat_natCast, y4 k (by omega)]
    refine ⟨Or.inr (by rw [m1]; decide), m1, ?_⟩
    rw [m4, m5]
    refine ⟨fun c => skip (fun z => c (wc.mp z).1), fun c1 => ⟨fun c => skip (fun z => c (wc.mp z).2.1), fun c2 => ⟨fun c3 => ?_, fun c => skip (fun z => c (wc.mp z).2.2)⟩⟩⟩
    have wt : w ((g.1 3 i).toNat + k) = true := wc.mpr ⟨c1, c2, c3⟩
    refine c_mean66 (d := d) H A mM (A.len M4) (fun al h1 f1 a1 => ?_) (fun nal => ?_) cs.length 0 (by omega) 0 (Or.inl ⟨rfl, fun i hi => absurd hi (Nat.not_lt_zero _)⟩)
    · have e : addC g w cs ((g.1 3 i).toNat + k) = cs ++ [(g.1 3 i).toNat + k] := by
        unfold addC
        rw [if_pos (by rw [wt, al]; rfl)]
      rw [w32_p1 ln.2.2.2, ← f1.1.b2 H]
      refine ih (k + 1) h1 (cs ++ [(g.1 3 i).toNat + k]) (by omega) (f1.1.hcx H) a1 (fun h2 f2 a2 => q h2 (f1.tr f2) ?_)
      show MNT h2 ho M (((memG g i).drop (k + 1)).foldl (addC g w) (addC g w cs ((g.1 3 i).toNat + k)))
      rw [e]; exact a2
    · rw [w32_p1 ln.2.2.2]
      have e : addC g w cs ((g.1 3 i).toNat + k) = cs := by
        unfold addC
        rw [if_neg (fun c => nal (by simp only [Bool.and_eq_true] at c; exact c.2))]
      refine ih (k + 1) h cs (by omega) H A (fun h1 f1 a1 => q h1 f1 ?_)
      show MNT h1 ho M (((memG g i).drop (k + 1)).foldl (addC g w) (addC g w cs ((g.1 3 i).toNat + k)))
      rw [e]; exact a1
theorem c_mean (W2 : HMW g N M) (hi : i < N) (WC : WCM g hw M w kd st nmw) (H : HCX ρ h ho g N M hw) (A : MNT h ho M cs) (q : ∀ h1, MFA h ho h1 → MNT h1 ho M ((memG g i).foldl (addC g w) cs) → Q (Sum.inl none) h1) : wpB PGm ρ (d + 10) m_Host_mean 0 [(0, vR ho), (1, vR (hB h (ho + 2) i)), (2, vI kd), (3, vI st), (4, vI nmw)] [] h Q :=
  b_Host_mean_0 (c_mean3 (d := d) W2 hi WC (g.1 4 i).toNat 0 h cs (by omega) H A (fun h1 f1 a1 => q h1 f1 (by rw [List.drop_zero] at a1; exact a1)))
theorem colG_app (k : Nat) : colG g w (o ++ [k]) = (memG g k).foldl (addC g w) (colG g w o) := by
  unfold colG
  rw [List.foldl_append]
  rfl
/-- which interfaces were met: those that are in o -/
def MET (h : ah) (ho : Nat) (g : HG) (N : Nat) (o : List Nat) : Prop := ∀ k, k < N → g.1 1 k = 1 → hA h (ho + 12) k = if k ∈ o then 1 else 0
/-- the interfaces above a class -/
theorem c_mean4 (W : HGW g N) (W2 : HMW g N M) (WC : WCM g hw M w 1 0 nmw) : ∀ (b i : Nat), i < b → i < N → ∀ (h : ah) (o : List Nat), HCX ρ h ho g N M hw → MNT h ho M (colG g w o) → MET h ho g N o → ∀ (Q : QT), (∀ h1, MFR h ho h1 → MNT h1 ho M (colG g w (dfsB g b o i)) → MET h1 ho g N (dfsB g b o i) → Q (Sum.inl none) h1) → wpB PGm ρ (d + 10 + b) m_Host_meanAbove 0 [(0, vR ho), (1, vR (hB h (ho + 2) i)), (2, vI nmw), (3, vR (ho + 12))] [] h Q := fun b => by
  induction b with
  | zero => intro i hb; omega
  | succ b ih =>
    intro i hb hi h o H A B Q q
    have sl := (W i hi).2.2
    let F : List Nat → Int → List Nat := fun o s => if g.1 1 s.toNat = 1 ∧ ¬ s.toNat ∈ o then dfsB g b (o ++ [s.toNat]) s.toNat else o
    have lp : ∀ (mm k : Nat) (h : ah) (o : List Nat), k + mm = (g.2 1 i).length → HCX ρ h ho g N M hw → MNT h ho M (colG g w o) → MET h ho g N o → (∀ h1, MFR h ho h1 → MNT h1 ho M (colG g w (((g.2 1 i).drop k).foldl F o)) → MET h1 ho g N (((g.2 1 i).drop k).foldl F o) → Q (Sum.inl none) h1) → wpB PGm ρ (d + 10 + (b + 1)) m_Host_meanAbove 3 [(0, vR ho), (1, vR (hB h (ho + 2) i)), (2, vI nmw), (3, vR (ho + 12)), (4, vI (k : Int))] [] h Q := fun mm => by
      induction mm with
      | zero =>
        intro k h o hk H A B q
        obtain ⟨⟨y1, -, -⟩, -, -, -, -, -, ⟨y2, y3, y4⟩, -⟩ := H.tp hi
        have e : (g.2 1 i).drop k = [] := List.drop_eq_nil_of_le (by omega)
        rw [e] at q
        refine b_Host_meanAbove_3 (d := d + 10 + b) (by omega) ⟨y1, y2.1.1, y2.1, fun _ => q h MFR.rf A B, fun c => by omega⟩
      | succ mm ihm =>
        intro k h o hk H A B q
        obtain ⟨t1, t2, t3, t4, t5, t6⟩ := H.mt
        obtain ⟨x1, x2, x3, x4, x5, x6, x7, x8, x9, x10, x11⟩ := H.hh
        obtain ⟨⟨y1, -, -⟩, -, -, -, -, -, ⟨y2, y3, y4⟩, -⟩ := H.tp hi
        have kl : k < (g.2 1 i).length := by omega
        obtain ⟨s1, s2, s3⟩ := y4 k kl
        have ed : (g.2 1 i).drop k = (g.2 1 i).getD k 0 :: (g.2 1 i).drop (k + 1) := by
          rw [List.drop_eq_getElem_cons kl, List.getD_eq_getElem?_getD, List.getElem?_eq_getElem kl]; rfl
        rw [ed] at q
        obtain ⟨sv, es⟩ : ∃ sv : Nat, (g.2 1 i).getD k 0 = (sv : Int) := ⟨((g.2 1 i).getD k 0).toNat, by omega⟩
        rw [es] at q s1 s2 s3
        rw [Int.toNat_natCast] at s3
        have svN : sv < N := by omega
        have svb : sv < b := by omega
        have TS := H.tp svN
        have ln : ¬ (hl h (hR h f_HostType_supers (hB h (ho + 2) i)) : Int) ≤ (k : Int) ∧ 0 ≤ (k : Int) ∧ (k : Int) < (hl h (hR h f_HostType_supers (hB h (ho + 2) i)) : Int) ∧ k ≤ 2000000000 ∧ 10 ≤ d + 10 + b + 1 := by omega
        have bs : 0 ≤ (sv : Int) ∧ (sv : Int) < ((60 : Nat) : Int) := by omega
        have skip : F o (sv : Int) = o → wpB PGm ρ (d + 10 + (b + 1)) m_Host_meanAbove 3 [(0, vR ho), (1, vR (hB h (ho + 2) i)), (2, vI nmw), (3, vR (ho + 12)), (4, vI (w32 ((k : Int) + 1)))] [] h Q := fun e => by
          rw [w32_p1 ln.2.2.2.1]
          refine ihm (k + 1) h o (by omega) H A B (fun h1 f1 a1 b1 => q h1 f1 ?_ ?_)
          · rw [List.foldl_cons, e]; exact a1
          · rw [List.foldl_cons, e]; exact b1
        refine b_Host_meanAbove_3 (d := d + 10 + b) ln.2.2.2.2 ⟨y1, y2.1.1, y2.1, fun c => absurd c ln.1, fun _ => ⟨y2.1.1, ⟨y2.1, ln.2.1, ln.2.2.1⟩, ?_⟩⟩
        rw [Int.toNat_natCast, s3]
        refine ⟨Or.inr (by rw [TS.1.1]; decide), TS.1.1, ?_⟩
        rw [TS.2.1, TS.2.2.1, Int.toNat_natCast]
        refine ⟨fun c => skip ?_, fun c => ⟨⟨by rw [t4]; decide, bs.1, by rw [t5]; exact bs.2⟩, fun m0 => ⟨⟨Or.inr ⟨t4, Or.inr rfl⟩, bs.1, by rw [t5]; exact bs.2⟩, ?_⟩, fun m1 => skip ?_⟩⟩
        · show (if g.1 1 ((sv : Int)).toNat = 1 ∧ _ then _ else _) = _
          rw [if_neg (fun z => by rw [Int.toNat_natCast] at z; omega)]
        · -- a new one
          have g1 : g.1 1 sv = 1 := by
            rcases (W sv svN).1 with z | z
            · exact absurd z c
            · exact z
          have nin : sv ∉ o := fun z => by
            rw [B sv svN g1, if_pos z] at m0; exact absurd m0 (by decide)
          have eF : F o (sv : Int) = dfsB g b (o ++ [sv]) sv := by
            show (if g.1 1 ((sv : Int)).toNat = 1 ∧ ¬ ((sv : Int)).toNat ∈ o then dfsB g b (o ++ [((sv : Int)).toNat]) ((sv : Int)).toNat else o) = _
            rw [Int.toNat_natCast, if_pos ⟨g1, nin⟩]
          have z12 : ho + 12 < hz h := by have := H.inj.1 f_Host_met ho x2 (by unfold own; decide); rw [t3] at this; exact this
          have fA : MFR h ho (sA h (ho + 12) sv 1) := ⟨⟨0, 0, Fr.wA (Or.inr (Or.inr (Or.inr ⟨f_Host_met, ho, x2, by unfold own; decide, t3, Or.inr (Or.inr (by simp [PMN]))⟩))) Fr.r0⟩, Int.le_refl _, Int.le_refl _⟩
          have HA := fA.hcx H
          have BA : ∀ {h1 : ah}, (∀ i, hA h1 (ho + 12) i = hA (sA h (ho + 12) sv 1) (ho + 12) i) → MET h1 ho g N (o ++ [sv]) := fun {h1} e k hk gk => by
            rw [e, g_hA_sA]
            by_cases w1 : k = sv
            · rw [if_pos ⟨rfl, w1⟩, if_pos (by rw [w1]; simp)]
            · rw [if_neg (fun c => w1 c.2), B k hk gk]
              by_cases w2 : k ∈ o
              · rw [if_pos w2, if_pos (List.mem_append_left _ w2)]
              · rw [if_neg w2, if_neg (fun c => (List.mem_append.mp c).elim w2 (fun c => w1 (by simpa using c)))]
          refine ⟨x1, ?_⟩
          have ms : MNT (sA h (ho + 12) sv 1) ho M (colG g w o) := A
          refine wp_d (show d + b + 10 = d + 10 + b by omega) (c_mean (d := d + b) (Q := cV (fun h24 => hK h24 ho = k_Host ∧ wpB PGm ρ (d + 10 + b) m_Host_meanAbove 0 [(0, vR ho), (1, vR (hB h (ho + 2) sv)), (2, vI nmw), (3, vR (ho + 12))] [] h24 (cV (fun h31 => wpB PGm ρ (d + 10 + b + 1) m_Host_meanAbove 3 [(0, vR ho), (1, vR (hB h (ho + 2) i)), (2, vI nmw), (3, vR (ho + 12)), (4, vI (w32 ((k : Int) + 1)))] [] h31 Q) (fun e34 h33 => hK h33 e34 ≠ 0 ∧ Q (Sum.inr e34) h33))) (fun e27 h26 => hK h26 e27 ≠ 0 ∧ Q (Sum.inr e27) h26)) W2 svN WC HA ms (fun h1 f1 a1 => ?_))
          have H1 := f1.1.hcx HA
          refine ⟨H1.hh.1, ?_⟩
          have g2 : ∀ j, hB h1 (ho + 2) j = hB h (ho + 2) j := fun j => (f1.1.b2 HA j).trans (fA.b2 H j)
          rw [← g2 sv]
          refine ih sv svb svN h1 (o ++ [sv]) H1 (by rw [colG_app]; exact a1) (BA f1.2) _ (fun h2 f2 a2 b2 => ?_)
          show wpB PGm ρ (d + 10 + (b + 1)) m_Host_meanAbove 3 [(0, vR ho), (1, vR (hB h (ho + 2) i)), (2, vI nmw), (3, vR (ho + 12)), (4, vI (w32 ((k : Int) + 1)))] [] h2 Q
          have H2 := f2.hcx H1
          have F2 : MFR h ho h2 := (fA.tr f1.1).tr f2
          rw [w32_p1 ln.2.2.2.1, ← F2.b2 H i]
          refine ihm (k + 1) h2 (dfsB g b (o ++ [sv]) sv) (by omega) H2 a2 b2 (fun h3 f3 a3 b3 => q h3 (F2.tr f3) ?_ ?_)
          · rw [List.foldl_cons, eF]; exact a3
          · rw [List.foldl_cons, eF]; exact b3
        · have g1 : g.1 1 sv = 1 := by
            rcases (W sv svN).1 with z | z
            · exact absurd z c
            · exact z
          have inn : sv ∈ o := by
            by_cases z : sv ∈ o
            · exact z
            · rw [B sv svN g1, if_neg z] at m1; exact absurd rfl m1
          show (if g.1 1 ((sv : Int)).toNat = 1 ∧ ¬ ((sv : Int)).toNat ∈ o then _ else _) = _
          rw [Int.toNat_natCast, if_neg (fun z => z.2 inn)]
    refine b_Host_meanAbove_0 (lp (g.2 1 i).length 0 h o (by omega) H A B (fun h1 f1 a1 b1 => q h1 f1 ?_ ?_))
    · exact a1
    · exact b1
end
