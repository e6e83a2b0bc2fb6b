/-! T reads the classes above as the function says -/
set_option maxRecDepth 20000
section
variable {ρ : Nat → Nat} {d : Nat} {h h' h0 k0 : ah} {F : Int → ah → Prop} {G : ah → Prop} {E : Nat → ah → Prop} {Q : QT} {C T ho a k : Nat} {tp : List Int} {t t' t1 t2 : TKN} {g g' : HG} {n m N : Nat} {ws : List (List Int)} {S : Nat → Nat → Int}
theorem kept.trans {g1 g2 g3 : HG} (a : kept g1 g2 n) (b : kept g2 g3 n) : kept g1 g3 n := ⟨fun k i h1 h2 => (b.1 k i h1 h2).trans (a.1 k i h1 h2), fun k i h1 => (b.2 k i h1).trans (a.2 k i h1)⟩
/-- the place moves on -/
theorem nx_le (h1 : t.2.2.1 ≤ tp.length) : t.2.2.1 ≤ (nx tp 1 t).1 ∧ (nx tp 1 t).1 ≤ tp.length := by
  have := skp_le (ch tp) tp.length _ t.2.2.1 (Nat.le_refl _) h1
  rw [(nx_ok (tp := tp) (host := 1) (t := t)).1]; exact this
theorem nx_to (h1 : t.2.2.1 ≤ tp.length) (hk : ¬ (nx tp 1 t).2.1 = -1) : (nx tp 1 t).1 ≤ (nx tp 1 t).2.2.1 ∧ (nx tp 1 t).2.2.1 ≤ tp.length := tkE_to (nx_ok (tp := tp) (host := 1) (t := t)).2 hk (nx_le h1).2
/-- a token that is one, is not empty -/
theorem tkE_pos (H : tkE tp 1 t) (hk : ¬ t.2.1 = -1) (h0 : ¬ t.2.1 = 0) : t.1 < t.2.2.1 := by
  obtain ⟨q, kd, to, num, held⟩ := t
  rcases H with ⟨a, b, c⟩ | ⟨a, b, r, ⟨c1, c2, c3⟩, e, f⟩ | ⟨a, b, r, ⟨c1, c2, c3⟩, e, f⟩ | ⟨a, b, c⟩ | ⟨a, b, c, e, mm, f, g2⟩
  · exact absurd b h0
  · simp only at *
    have : q ≠ r := fun x => c3 (by rw [← x]; exact Or.inl b)
    omega
  · simp only at *
    have : q ≠ r := fun x => c3 (by rw [← x]; exact b)
    omega
  · simp only at *; omega
  · simp only at *
    unfold sgn at f
    have : 1 ≤ mm := by grind
    omega
theorem t_sups : ∀ f g t h, tp.length - t.1 < f → t.1 < t.2.2.1 → t.2.2.1 ≤ tp.length → RTq ρ k0 h T k tp g n (n + 1) m (nx tp 1 t) → n < 60 → supOK g n → difN g n →
    (∀ h' g' t', (rdSups tp n f g t = Sum.inr (g', t') ∨ (rdSups tp n f g t = Sum.inl (1, t'.1) ∧ t'.2.1 = -1)) → RTq ρ k0 h' T k tp g' n (n + 1) m t' → kept g g' n → wpB PGm ρ (d + 5) m_Md_readsClass 246 [(0, vR T), (2, vI (n : Int))] [] h' Q) →
    (∀ h' w p, rdSups tp n f g t = Sum.inl (w, p) → FLq k0 h' T k w p → Q (Sum.inr (T + 1)) h') →
    wpB PGm ρ (d + 4) m_Md_readsSuper 0 [(0, vR T), (1, vI (n : Int))] [] h (cV (fun h2 => wpB PGm ρ (d + 5) m_Md_readsClass 229 [(0, vR T), (2, vI (n : Int))] [] h2 Q) (fun e h2 => hK h2 e ≠ 0 ∧ Q (Sum.inr e) h2)) := by
  intro f
  induction f with
  | zero => intro g t h hm; omega
  | succ f ih =>
    intro g t h hm ht htl H hn ok df q1 q2
    obtain ⟨⟨S, HQ, HG1, HM⟩, fx, eh⟩ := H
    have le := nx_le (t := t) htl
    have a9 := HQ.2.2.2.2.2.2.2.2.1
    have kne : ∀ {w : Int} {p : Nat} {h'}, HF T h h' w (p : Int) → hK h' (T + 1) ≠ 0 := fun a => by rw [← eh, a.1.K a9.2.2.2.2.2.2.2.2.1, a9.2.2.2.2.2.2.2.1]; decide
    refine t_sup HQ HG1 ok hn (fun s e1 hs e2 tw => ⟨nx tp 1 (nx tp 1 t), nx_ok, fun h' f' Q' => ?_⟩) (fun w h' sf a => ?_)
    · have eq0 : rdSups tp n (f + 1) g t = if (nx tp 1 (nx tp 1 t)).2.1 = -1 then Sum.inl (1, (nx tp 1 (nx tp 1 t)).1) else if (nx tp 1 (nx tp 1 t)).2.1 = 44 then rdSups tp n f (gSup g n s) (nx tp 1 (nx tp 1 t)) else Sum.inr (gSup g n s, nx tp 1 (nx tp 1 t)) := by
        rw [rdSups, if_neg (by rw [e1]; simp), idxN_e df hs e2]
        simp only
        rw [if_neg tw]
      have ne1 : ¬ (nx tp 1 t).2.1 = -1 := by rw [e1]; decide
      have to1 := nx_to (t := t) htl ne1
      have le2 := nx_le (t := nx tp 1 t) (tp := tp) to1.2
      have p1 := tkE_pos (nx_ok (tp := tp) (host := 1) (t := t)).2 ne1 (by rw [e1]; decide)
      have HQ' := HGS.sup HG1 hs hn (ok.lt hs tw)
      have HM' := MGS.sup (n := n) (s := s) HM
      have fx' := fx.trans f'
      have eh' : hR h' f_Md_halt T = T + 1 := by
        obtain ⟨z, s, ff⟩ := f'
        rw [ff.R HQ.2.2.2.2.2.2.2.2.1.1.2.2.2.2.2.2.2.2.2.1.1 (by decide) (nokW rfl rfl)]; exact eh
      have kp : kept g (gSup g n s) n := ⟨fun k i h1 h2 => gSup_1 (by omega), fun k i h1 => gSup_2 h1⟩
      have c1 := Q'.2.2.2.2.2.2.2.2.1.1.1
      refine b_Md_readsClass_229 ⟨c1, ?_⟩
      have sg : (44 : Int) = sgv 44 := by decide
      rw [sg]
      refine t_accepts Q'.2.2.2.2.2.2.2.2.1 (Or.inl (by unfold sgc; decide)) (fun e3 => ?_) (fun e3 => ⟨fun _ => ?_, fun z => absurd rfl z⟩)
      · rw [if_neg (by rw [e3]; decide), if_pos e3] at eq0
        have ne2 : ¬ (nx tp 1 (nx tp 1 t)).2.1 = -1 := by rw [e3]; decide
        have to2 := nx_to (t := nx tp 1 t) to1.2 ne2
        have p2 := tkE_pos (nx_ok (tp := tp) (host := 1) (t := nx tp 1 t)).2 ne2 (by rw [e3]; decide)
        refine t_hnx Q' ne2 nx_ok (fun h2 f2 Q2 => ⟨fun z => absurd z (by decide), fun _ => ⟨Q2.2.2.2.2.2.2.2.2.1.1.1, ?_⟩⟩)
        have eh2 : hR h2 f_Md_halt T = T + 1 := by rw [f2.R Q'.2.2.2.2.2.2.2.2.1.1.2.2.2.2.2.2.2.2.2.1.1 (by decide) (nokW rfl rfl)]; exact eh'
        exact ih (gSup g n s) (nx tp 1 (nx tp 1 t)) h2 (by omega) p2 to2.2 ⟨⟨_, Q2, HQ', HM'⟩, fx'.into ⟨_, _, f2⟩ (fun f hm => by simp [LTq, hm]) (fun q c => by cases c), eh2⟩ hn (ok.sup hs tw) df.sup (fun h3 g3 t3 e4 R3 k3 => q1 h3 g3 t3 (by rw [eq0]; exact e4) R3 (kp.trans k3)) (fun h3 w p e4 => q2 h3 w p (eq0.trans e4))
      · refine q1 h' (gSup g n s) (nx tp 1 (nx tp 1 t)) ?_ ⟨⟨_, Q', HQ', HM'⟩, fx', eh'⟩ kp
        by_cases c : (nx tp 1 (nx tp 1 t)).2.1 = -1
        · rw [if_pos c] at eq0; exact Or.inr ⟨eq0, c⟩
        · rw [if_neg c, if_neg e3] at eq0; exact Or.inl eq0
    · rw [eh]
      refine ⟨kne a, q2 h' w (nx tp 1 t).1 ?_ (a.fl fx eh)⟩
      rcases sf with ⟨x1, x2⟩ | ⟨x1, x2, x3⟩ | ⟨x1, s, hs, e2, x2, x3⟩
      · rw [rdSups, if_pos x1, x2]
      · rw [rdSups, if_neg (by rw [x1]; simp), idxN_0 x2, x3]
      · rw [rdSups, if_neg (by rw [x1]; simp), idxN_e df hs e2]
        simp only
        rw [if_pos x2, x3]
end
