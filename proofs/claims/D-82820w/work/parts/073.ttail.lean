/-! T: members of a class -/
set_option maxRecDepth 20000
/-- a token that the reader goes on from -/
def VT (tp : List Int) (t : TKN) : Prop := tkE tp 1 t ∧ (¬ t.2.1 = -1 → t.1 ≤ t.2.2.1 ∧ t.2.2.1 ≤ tp.length)
section
variable {ρ : Nat → Nat} {d : Nat} {h h' h0 k0 : ah} {F : Int → ah → Prop} {G : ah → Prop} {E : Nat → ah → Prop} {Q : QT} {C T ho a k : Nat} {tp : List Int} {t t' t1 t2 : TKN} {g g' : HG} {n m N c : Nat} {ws : List (List Int)} {S S0 : Nat → Nat → Int} {b so st ty va : Int} {ps nm : List Int}
theorem VT.nx (H : VT tp t) (h1 : ¬ t.2.1 = -1) (h0 : ¬ t.2.1 = 0) : VT tp (nx tp 1 t) ∧ t.1 < (nx tp 1 t).1 := by
  have b := H.2 h1
  have p := tkE_pos H.1 h1 h0
  have l := nx_le (tp := tp) (t := t) b.2
  exact ⟨⟨(nx_ok (tp := tp) (host := 1) (t := t)).2, fun x => nx_to b.2 x⟩, by omega⟩
theorem rdPars_lt : ∀ f ps t ps' va t4, VT tp t → rdPars tp g n f ps t = Sum.inr (ps', va, t4) → VT tp t4 ∧ t.1 ≤ t4.1 ∧ t4.2.1 = 41 := by
  intro f
  induction f with
  | zero => intro ps t ps' va t4 _ e; rw [rdPars] at e; cases e
  | succ f ih =>
    intro ps t ps' va t4 V e
    rw [rdPars] at e
    by_cases e1 : t.2.1 = 1
    · rw [if_neg (by rw [e1]; simp)] at e
      obtain ⟨V1, l1⟩ := V.nx (by rw [e1]; decide) (by rw [e1]; decide)
      cases ev : tyV g n (tkB tp t) with
      | none => rw [ev] at e; cases e
      | some v =>
        rw [ev] at e
        simp only at e
        by_cases c1 : v = 0
        · rw [if_pos c1] at e; cases e
        rw [if_neg c1] at e
        by_cases c2 : ps.length = 8
        · rw [if_pos c2] at e; cases e
        rw [if_neg c2] at e
        by_cases c3 : (nx tp 1 t).2.1 = 136
        · rw [if_pos c3] at e
          obtain ⟨V2, l2⟩ := V1.nx (by rw [c3]; decide) (by rw [c3]; decide)
          by_cases c4 : (nx tp 1 (nx tp 1 t)).2.1 = 41
          · rw [if_pos c4] at e
            cases e
            exact ⟨V2, by omega, c4⟩
          · rw [if_neg c4] at e; cases e
        rw [if_neg c3] at e
        by_cases c4 : (nx tp 1 t).2.1 = 44
        · rw [if_pos c4] at e
          obtain ⟨V2, l2⟩ := V1.nx (by rw [c4]; decide) (by rw [c4]; decide)
          obtain ⟨x, y, z⟩ := ih _ _ _ _ _ V2 e
          exact ⟨x, by omega, z⟩
        rw [if_neg c4] at e
        by_cases c5 : (nx tp 1 t).2.1 = 41
        · rw [if_pos c5] at e
          cases e
          exact ⟨V1, by omega, c5⟩
        · rw [if_neg c5] at e; cases e
    · rw [if_pos e1] at e; cases e
theorem rdSups_lt : ∀ f g t g' t', VT tp t → ¬ t.2.1 = -1 → ¬ t.2.1 = 0 → rdSups tp n f g t = Sum.inr (g', t') → t.1 < t'.1 := by
  intro f
  induction f with
  | zero => intro g t g' t' _ _ _ e; rw [rdSups] at e; cases e
  | succ f ih =>
    intro g t g' t' V k1 k0 e
    obtain ⟨V1, l1⟩ := V.nx k1 k0
    rw [rdSups] at e
    by_cases e1 : (nx tp 1 t).2.1 = 1
    · rw [if_neg (by rw [e1]; simp)] at e
      obtain ⟨V2, l2⟩ := V1.nx (by rw [e1]; decide) (by rw [e1]; decide)
      cases ev : idxN g n (tkB tp (nx tp 1 t)) with
      | none => rw [ev] at e; cases e
      | some s =>
        rw [ev] at e
        simp only at e
        by_cases c1 : twice g n s
        · rw [if_pos c1] at e; cases e
        rw [if_neg c1] at e
        by_cases c2 : (nx tp 1 (nx tp 1 t)).2.1 = -1
        · rw [if_pos c2] at e; cases e
        rw [if_neg c2] at e
        by_cases c3 : (nx tp 1 (nx tp 1 t)).2.1 = 44
        · rw [if_pos c3] at e
          have := ih _ _ _ _ V2 c2 (by rw [c3]; decide) e
          omega
        · rw [if_neg c3] at e
          cases e
          omega
    · rw [if_pos e1] at e; cases e
theorem rdMem2_lt (V : VT tp t) (e : rdMem2 tp g n c m so st ty nm t = Sum.inr (g', t')) : t.1 < t'.1 := by
  rw [rdMem2] at e
  cases er : rdPar0 tp g n t with
  | inl x => rw [er] at e; cases e
  | inr x =>
    obtain ⟨ps, va, t4⟩ := x
    have : VT tp t4 ∧ t.1 ≤ t4.1 ∧ t4.2.1 = 41 := by
      rw [rdPar0] at er
      by_cases c : t.2.1 = 41
      · rw [if_pos c] at er; cases er; exact ⟨V, Nat.le_refl _, c⟩
      · rw [if_neg c] at er; exact rdPars_lt _ _ _ _ _ _ V er
    obtain ⟨V4, l4, k4⟩ := this
    obtain ⟨V5, l5⟩ := V4.nx (by rw [k4]; decide) (by rw [k4]; decide)
    rw [er] at e
    simp only at e
    by_cases c1 : hasM g c m so nm ps
    · rw [if_pos c1] at e; cases e
    rw [if_neg c1] at e
    by_cases c2 : (nx tp 1 t4).2.1 = 59
    · rw [if_neg (by rw [c2]; simp)] at e
      cases e
      have := (V5.nx (by rw [c2]; decide) (by rw [c2]; decide)).2
      omega
    · rw [if_pos c2] at e; cases e
theorem rdMem1_lt (V : VT tp t) (e : rdMem1 tp g n c m st t = Sum.inr (g', t')) : t.1 < t'.1 := by
  rw [rdMem1] at e
  by_cases e1 : t.2.1 = 1
  · rw [if_neg (by rw [e1]; simp)] at e
    obtain ⟨V1, l1⟩ := V.nx (by rw [e1]; decide) (by rw [e1]; decide)
    by_cases cN : tkB tp t = wNew
    · rw [if_pos cN] at e
      by_cases c1 : st = 0
      · rw [if_neg (by rw [c1]; simp)] at e
        by_cases c2 : m = 400
        · rw [if_pos c2] at e; cases e
        rw [if_neg c2] at e
        by_cases c3 : g.1 1 c = 0
        · rw [if_neg (by rw [c3]; simp)] at e
          by_cases c4 : (nx tp 1 t).2.1 = 40
          · rw [if_neg (by rw [c4]; simp)] at e
            obtain ⟨V2, l2⟩ := V1.nx (by rw [c4]; decide) (by rw [c4]; decide)
            have := rdMem2_lt V2 e
            omega
          · rw [if_pos c4] at e; cases e
        · rw [if_pos c3] at e; cases e
      · rw [if_pos c1] at e; cases e
    · rw [if_neg cN] at e
      cases ev : tyV g n (tkB tp t) with
      | none => rw [ev] at e; cases e
      | some v =>
        rw [ev] at e
        simp only at e
        by_cases c2 : m = 400
        · rw [if_pos c2] at e; cases e
        rw [if_neg c2] at e
        by_cases c3 : (nx tp 1 t).2.1 = 1
        · rw [if_neg (by rw [c3]; simp)] at e
          obtain ⟨V2, l2⟩ := V1.nx (by rw [c3]; decide) (by rw [c3]; decide)
          by_cases c4 : resv (tkB tp (nx tp 1 t))
          · rw [if_pos c4] at e; cases e
          rw [if_neg c4] at e
          by_cases c5 : (nx tp 1 (nx tp 1 t)).2.1 = 59 ∧ ¬ v = 0
          · rw [if_pos c5] at e
            by_cases c6 : hasF g c m (tkB tp (nx tp 1 t))
            · rw [if_pos c6] at e; cases e
            rw [if_neg c6] at e
            by_cases c7 : g.1 1 c = 0
            · rw [if_neg (by rw [c7]; simp)] at e
              cases e
              have := (V2.nx (by rw [c5.1]; decide) (by rw [c5.1]; decide)).2
              omega
            · rw [if_pos c7] at e; cases e
          · rw [if_neg c5] at e
            by_cases c6 : (nx tp 1 (nx tp 1 t)).2.1 = 40
            · rw [if_neg (by rw [c6]; simp)] at e
              obtain ⟨V3, l3⟩ := V2.nx (by rw [c6]; decide) (by rw [c6]; decide)
              have := rdMem2_lt V3 e
              omega
            · rw [if_pos c6] at e; cases e
        · rw [if_pos c3] at e; cases e
  · rw [if_pos e1] at e; cases e
theorem rdMem_lt (V : VT tp t) (e : rdMem tp g n c m t = Sum.inr (g', t')) : t.1 < t'.1 := by
  rw [rdMem] at e
  by_cases e1 : t.2.1 = 1
  · rw [if_neg (by rw [e1]; simp)] at e
    by_cases cS : tkB tp t = wSta
    · rw [if_pos cS] at e
      obtain ⟨V1, l1⟩ := V.nx (by rw [e1]; decide) (by rw [e1]; decide)
      by_cases c3 : g.1 1 c = 0
      · rw [if_neg (by rw [c3]; simp)] at e
        have := rdMem1_lt V1 e
        omega
      · rw [if_pos c3] at e; cases e
    · rw [if_neg cS] at e; exact rdMem1_lt V e
  · rw [if_pos e1] at e; cases e
theorem TW.vt (H : TW ρ k0 h T k tp S n m t) : VT tp t := ⟨H.1.2.2.2.2.2.2.2.2.1.2.2.2.2.1, H.1.2.2.2.2.2.2.2.2.1.2.2.2.2.2.1⟩
theorem t_mem (H : TW ρ k0 h T k tp S n m t) (hg : HGS g n m tp S) (mg : MGS g m tp S) (ok : mOK g n c m) (hd : 10 ≤ d)
    (q1 : ∀ h' S' g' t', rdMem tp g n c m t = Sum.inr (g', t') → TW ρ k0 h' T k tp S' n (m + 1) t' → HGS g' n (m + 1) tp S' → MGS g' (m + 1) tp S' → (∃ so st ty va ps nm, g' = gMem g c m so st ty va ps nm) → Q (Sum.inl none) h')
    (q2 : ∀ h' w p, rdMem tp g n c m t = Sum.inl (w, p) → FLq k0 h' T k w p → Q (Sum.inr (T + 1)) h') :
    wpB PGm ρ (d + 6) m_Md_readsMember 0 [(0, vR T), (1, vI (c : Int))] [] h Q := by
  obtain ⟨fo, hc, hm, df, hnr, h10, hlast⟩ := id ok
  obtain ⟨c1, c2, c3, c4, c5, c6, c7⟩ := H.1.kn
  obtain ⟨a1, a2, a3, a4, a5, a6, hn60, hm400, a9, s31', s32', SS, Hr, hTk⟩ := id H.1
  have gc : (0 : Int) ≤ (c : Int) ∧ (c : Int) < ((60 : Nat) : Int) := by omega
  have eif : hA h (hR h f_MdHost_isInterface k) c = g.1 1 c := (a4.g rfl c).trans (hg c hc).1
  refine b_Md_readsMember_0 ⟨c1, by rw [c6]; exact c7, ?_⟩
  rw [c6, a6]
  refine t_tw H.1 SS.2.2.2.1 (by omega) (fun _ x => x) (fun e1 eS => ⟨fun x => absurd x (by decide), fun _ => ⟨c1, by rw [c6]; exact c7, ?_⟩⟩) (fun nS => ⟨fun _ => ?_, fun x => absurd rfl x⟩)
  · have eq0 : rdMem tp g n c m t = if ¬ g.1 1 c = 0 then Sum.inl (6, t.1) else rdMem1 tp g n c m 1 (nx tp 1 t) := by
      rw [rdMem, if_neg (by rw [e1]; simp), if_pos (show tkB tp t = wSta from eS)]
    rw [c6, Int.toNat_natCast, eif]
    refine ⟨a1.rt rfl gc, fun x => b_Md_readsMember_38 ⟨c1, t_mustQ H.1 (fun y => absurd rfl y) (fun _ h' a => by rw [H.2.2.2.1]; exact q2 h' 6 t.1 (by rw [eq0, if_pos x]) (H.fl a))⟩, fun x => b_Md_readsMember_38 ⟨c1, t_mustQ H.1 (fun _ => ⟨c1, t_hnx H.1 (by rw [e1]; decide) nx_ok (fun h1 f1 Q1 => ?_)⟩) (fun y => absurd y (by decide))⟩⟩
    rw [if_neg (by rw [x]; simp)] at eq0
    exact t_mem1 (H.nxt f1 Q1) hg mg ok (Or.inr rfl) hd (fun h' S' g' t' e => q1 h' S' g' t' (eq0.trans e)) (fun h' w p e => q2 h' w p (eq0.trans e))
  · have eq0 : rdMem tp g n c m t = rdMem1 tp g n c m 0 t := by
      rw [rdMem]
      by_cases e1 : t.2.1 = 1
      · rw [if_neg (by rw [e1]; simp), if_neg (show ¬ tkB tp t = wSta from fun x => nS ⟨e1, x⟩)]
      · rw [if_pos e1, rdMem1, if_pos e1]
    exact t_mem1 H hg mg ok (Or.inl rfl) hd (fun h' S' g' t' e => q1 h' S' g' t' (eq0.trans e)) (fun h' w p e => q2 h' w p (eq0.trans e))
theorem HGS.set (H : HGS g n N tp S) : HGS (gSet g c) n N tp S := by
  intro i hi
  rw [gSet_1 (by decide), gSet_1 (by decide), gSet_1 (by decide), gSet_1 (by decide)]
  obtain ⟨a1, a2, a3, a4, a5, a6, a7, a8, a9, a10, a11, a12⟩ := H i hi
  exact ⟨a1, a2, a3, a4, a5, a6, a7, a8, a9, a10, a11, fun j hj => by rw [gSet_1 (by omega)]; exact a12 j hj⟩
theorem MGS.set (H : MGS g m tp S) : MGS (gSet g c) m tp S := by
  intro j hj
  rw [gSet_1 (by decide), gSet_1 (by decide), gSet_1 (by decide), gSet_1 (by decide), gSet_1 (by decide)]
  exact H j hj
theorem t_tail (hd : 10 ≤ d) : ∀ f g m t h S, tp.length - t.1 < f → TW ρ k0 h T k tp S n m t → HGS g n m tp S → MGS g m tp S → mOK g n c m →
    (∀ h' S' g' m' t', rdTail tp n c f g m t = Sum.inr (g', m', t') → TW ρ k0 h' T k tp S' n m' t' → HGS g' n m' tp S' → MGS g' m' tp S' → (∃ g2, g' = gSet g2 c ∧ mOK g2 n c m' ∧ ∀ i, g2.2 0 i = g.2 0 i) → t.1 < t'.1 → Q (Sum.inl none) h') →
    (∀ h' w p, rdTail tp n c f g m t = Sum.inl (w, p) → FLq k0 h' T k w p → Q (Sum.inr (T + 1)) h') →
    wpB PGm ρ (d + 7) m_Md_readsClass 265 [(0, vR T), (2, vI (c : Int))] [] h Q := by
  intro f
  induction f with
  | zero => intro g m t h S hm; omega
  | succ f ih =>
    intro g m t h S hmm H hg mg ok q1 q2
    have c1 := H.1.kn.1
    have sg : (125 : Int) = sgv 125 := by decide
    refine b_Md_readsClass_265 ⟨c1, ?_⟩
    rw [sg]
    refine t_isSign H.1.2.2.2.2.2.2.2.2.1 (Or.inl (by unfold sgc; decide)) (fun e => ⟨fun _ => ⟨c1, t_hnx H.1 (by rw [e]; decide) nx_ok (fun h1 f1 Q1 => ?_)⟩, fun x => absurd x (by decide)⟩) (fun ne => ⟨fun x => absurd rfl x, fun _ => ⟨c1, ?_⟩⟩)
    · exact q1 h1 S (gSet g c) m _ (by rw [rdTail, rdMems, if_pos e]) (H.nxt f1 Q1) hg.set mg.set ⟨g, rfl, ok, fun _ => rfl⟩ (H.vt.nx (by rw [e]; decide) (by rw [e]; decide)).2
    · refine t_mem H hg mg ok hd (fun h' S' g' t' e H' hg' mg' ⟨so, st, ty, va, ps, nm, eg⟩ => ?_) (fun h' w p e fl => ⟨H.ke fl, q2 h' w p (by rw [rdTail, rdMems, if_neg ne, e]) fl⟩)
      have eq0 : rdTail tp n c (f + 1) g m t = rdTail tp n c f g' (m + 1) t' := by rw [rdTail, rdMems, if_neg ne, e, rdTail]
      have lt := rdMem_lt H.vt e
      have lt2 : t.1 < tp.length := by
        have k1 : t.2.1 = 1 := by
          apply Classical.byContradiction
          intro x
          rw [rdMem, if_pos x] at e; cases e
        have := H.vt.2 (by rw [k1]; decide)
        have := tkE_pos H.vt.1 (by rw [k1]; decide) (by rw [k1]; decide)
        omega
      exact ih g' (m + 1) t' h' S' (by omega) H' hg' mg' (by rw [eg]; exact ok.mem) (fun h3 S3 g3 m3 t3 e3 H3 a b ⟨g2, x1, x2, x3⟩ l3 => q1 h3 S3 g3 m3 t3 (eq0.trans e3) H3 a b ⟨g2, x1, x2, fun i => (x3 i).trans (by rw [eg]; exact gMem_2 (by omega))⟩ (by omega)) (fun h3 w p e3 => q2 h3 w p (eq0.trans e3))
end
