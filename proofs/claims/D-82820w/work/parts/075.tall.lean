/-! T: all classes -/
set_option maxRecDepth 20000
theorem TKC_0 {k tok sg : Int} (H : TKC k tok sg) : tok = 0 ↔ k = 0 := by
  unfold TKC at H
  constructor
  · intro e; rcases H with K | K | K | K | K | K | K <;> omega
  · intro e; subst e; rcases H with K | K | K | K | K | K | K <;> first | omega | (obtain ⟨-, c, -⟩ := K; exact absurd c (by unfold sgc; decide))
section
variable {ρ : Nat → Nat} {d : Nat} {h h' h0 k0 : ah} {F : Int → ah → Prop} {G : ah → Prop} {E : Nat → ah → Prop} {Q : QT} {C T ho a k : Nat} {tp : List Int} {t t' t1 t2 : TKN} {g g' : HG} {n m N c : Nat} {ws : List (List Int)} {S S0 : Nat → Nat → Int} {b so st ty va iF : Int} {ps nm : List Int}
theorem t_all {l1 : Int} (hd : 10 ≤ d) : ∀ f g n m t h S, tp.length - t.1 < f → TW ρ k0 h T k tp S n m t → HGS g n m tp S → MGS g m tp S → gOK g n m →
    (∀ h' S' g' n' m' t', rdAll tp f g n m t = Sum.inr (g', n', m') → TW ρ k0 h' T k tp S' n' m' t' → HGS g' n' m' tp S' → MGS g' m' tp S' → gOK g' n' m' → wpB PGm ρ (d + 8) m_Md_host 52 [(0, vR T), (1, vI l1), (2, vI 0)] [] h' Q) →
    (∀ h' w p, rdAll tp f g n m t = Sum.inl (w, p) → FLq k0 h' T k w p → hK h' (T + 1) = k_MdHalt → wpB PGm ρ (d + 8) m_Md_host 104 [(0, vR T)] [vR (T + 1)] h' Q) →
    wpB PGm ρ (d + 8) m_Md_host 36 [(0, vR T), (1, vI l1)] [] h Q := by
  intro f
  induction f with
  | zero => intro g n m t h S hm; omega
  | succ f ih =>
    intro g n m t h S hmm H hg mg ok q1 q2
    obtain ⟨c1, c2, c3, c4, c5, c6, c7⟩ := H.1.kn
    obtain ⟨a1, a2, a3, a4, a5, a6, hn60, hm400, a9, s31', s32', SS, Hr, hTk⟩ := id H.1
    have k0' : hI h f_Md_token T = 0 ↔ t.2.1 = 0 := TKC_0 a9.2.2.2.1.2.2.1
    have kH : ∀ {h' w p}, FLq k0 h' T k w p → hK h' (T + 1) = k_MdHalt := fun fl => by
      obtain ⟨⟨z, s, ff⟩, -, -⟩ := fl
      obtain ⟨z2, s2, f2⟩ := H.2.1
      have k2 := c2
      rw [H.2.2.2.1, f2.K H.2.2.2.2] at k2
      rw [ff.K H.2.2.2.2]; exact k2
    refine b_Md_host_36 ⟨c1, fun z => ?_, fun z => ?_⟩
    · exact q1 h S g n m t (by rw [rdAll, if_pos (k0'.mp z)]) H hg mg ok
    · have n0 : ¬ t.2.1 = 0 := fun x => z (k0'.mpr x)
      -- what a class says
      have go : t.2.1 = 1 → (tkB tp t = wIfc ∨ tkB tp t = wCls) → wpB PGm ρ (d + 7) m_Md_readsClass 26 [(0, vR T)] [vI 1, vR T] h (cV (fun h9 => wpB PGm ρ (d + 8) m_Md_host 36 [(0, vR T), (1, vI l1)] [] h9 Q) (fun e h' => hK h' e ≠ 0 ∧ hK h' e = k_MdHalt ∧ wpB PGm ρ (d + 8) m_Md_host 104 [(0, vR T)] [vR e] h' Q)) := by
        intro e1 hw
        have ne1 : ¬ t.2.1 = -1 := by rw [e1]; decide
        have eq0 : ∀ iF : Int, iF = (if tkB tp t = wIfc then 1 else 0) → rdAll tp (f + 1) g n m t = match rdCls tp g n m iF (nx tp 1 t) with
          | Sum.inl e => Sum.inl e
          | Sum.inr (g', m', t') => rdAll tp f g' (n + 1) m' t' := fun iF ei => by
          rw [rdAll, if_neg n0, if_neg (fun x => x ⟨e1, hw⟩), ← ei]
          rfl
        have nxt : ∀ iF : Int, (iF = 0 ∨ iF = 1) → iF = (if tkB tp t = wIfc then 1 else 0) → hK h T = k_Md ∧ wpB PGm ρ (d + 6) m_Md_next 0 [(0, vR T)] [] h (cV (fun h18 => hK h18 T = k_Md ∧ ((¬ (hI h18 f_Md_token T) = 1 → wpB PGm ρ (d + 6 + 1) m_Md_readsClass 56 [(0, vR T), (1, vI iF)] [vI 0, vR T] h18 (cV (fun h9 => wpB PGm ρ (d + 8) m_Md_host 36 [(0, vR T), (1, vI l1)] [] h9 Q) (fun e h' => hK h' e ≠ 0 ∧ hK h' e = k_MdHalt ∧ wpB PGm ρ (d + 8) m_Md_host 104 [(0, vR T)] [vR e] h' Q))) ∧ ((hI h18 f_Md_token T) = 1 → wpB PGm ρ (d + 6 + 1) m_Md_readsClass 56 [(0, vR T), (1, vI iF)] [vI 1, vR T] h18 (cV (fun h9 => wpB PGm ρ (d + 8) m_Md_host 36 [(0, vR T), (1, vI l1)] [] h9 Q) (fun e h' => hK h' e ≠ 0 ∧ hK h' e = k_MdHalt ∧ wpB PGm ρ (d + 8) m_Md_host 104 [(0, vR T)] [vR e] h' Q)))))
            (fun e h' => hK h' e ≠ 0 ∧ (cV (fun h9 => wpB PGm ρ (d + 8) m_Md_host 36 [(0, vR T), (1, vI l1)] [] h9 Q) (fun e h' => hK h' e ≠ 0 ∧ hK h' e = k_MdHalt ∧ wpB PGm ρ (d + 8) m_Md_host 104 [(0, vR T)] [vR e] h' Q)) (Sum.inr e) h')) := by
          intro iF hif ei
          refine ⟨c1, t_hnx H.1 ne1 nx_ok (fun h1 f1 Q1 => ?_)⟩
          have H1 := H.nxt f1 Q1
          have lt1 := (H.vt.nx ne1 n0).2
          have eq1 := eq0 iF ei
          have cls := t_cls (Q := (cV (fun h9 => wpB PGm ρ (d + 8) m_Md_host 36 [(0, vR T), (1, vI l1)] [] h9 Q) (fun e h' => hK h' e ≠ 0 ∧ hK h' e = k_MdHalt ∧ wpB PGm ρ (d + 8) m_Md_host 104 [(0, vR T)] [vR e] h' Q))) H1 hg mg ok hif hd (fun h' S' g' m' t' e H' hg' mg' ok' lt => by
              rw [e] at eq1
              have l0 : t.1 < tp.length := by
                have := H.vt.2 ne1
                have := tkE_pos H.vt.1 ne1 n0
                omega
              exact ih g' (n + 1) m' t' h' S' (by omega) H' hg' mg' ok' (fun h2 S2 g2 n2 m2 t2 e2 => q1 h2 S2 g2 n2 m2 t2 (eq1.trans e2)) (fun h2 w p e2 => q2 h2 w p (eq1.trans e2))) (fun h' w p e fl => by
              rw [e] at eq1
              exact ⟨by rw [kH fl]; decide, kH fl, q2 h' w p eq1 fl (kH fl)⟩)
          refine ⟨Q1.kn.1, fun z => ?_, fun z => ?_⟩
          · rw [if_neg (fun x => z (Q1.kn.2.2.2.1.mpr x))] at cls; exact cls
          · rw [if_pos (Q1.kn.2.2.2.1.mp z)] at cls; exact cls
        refine b_Md_readsClass_26 ⟨c1, t_mustQ H.1 (fun _ => ⟨c1, ?_⟩) (fun x => absurd x (by decide))⟩
        exact t_tw H.1 SS.2.2.1 (by omega) (fun _ x => x) (fun _ e => nxt 1 (Or.inr rfl) (by rw [if_pos (show tkB tp t = wIfc from e)])) (fun ne => nxt 0 (Or.inl rfl) (by rw [if_neg (show ¬ tkB tp t = wIfc from fun x => ne ⟨e1, x⟩)]))
      refine b_Md_readsClass_0 ⟨c1, ?_⟩
      refine t_tw H.1 SS.2.1 (by omega) (fun _ x => x) (fun e1 e => ⟨fun _ => go e1 (Or.inr e), fun x => absurd x (by decide)⟩) (fun n1 => ⟨fun x => absurd rfl x, fun _ => ⟨c1, ?_⟩⟩)
      refine t_tw H.1 SS.2.2.1 (by omega) (fun _ x => x) (fun e1 e => ⟨fun x => absurd x (by decide), fun _ => go e1 (Or.inl e)⟩) (fun n2 => ⟨fun _ => ?_, fun x => absurd rfl x⟩)
      refine b_Md_readsClass_26 ⟨c1, t_mustQ H.1 (fun x => absurd rfl x) (fun _ h' a => ?_)⟩
      rw [H.2.2.2.1]
      have fl := H.fl a
      exact ⟨by rw [kH fl]; decide, kH fl, q2 h' 1 t.1 (by rw [rdAll, if_neg n0, if_pos (fun w => w.2.elim (fun e => n2 ⟨w.1, e⟩) (fun e => n1 ⟨w.1, e⟩))]) fl (kH fl)⟩
end
