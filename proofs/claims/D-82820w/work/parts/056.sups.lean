/-! both read the classes above as the function says -/
set_option maxRecDepth 20000
def RTq (ρ : Nat → Nat) (k0 h : ah) (T k : Nat) (tp : List Int) (g : HG) (n N m : Nat) (t : TKN) : Prop := (∃ S, TQ ρ h T k tp S n m t ∧ HGS g N m tp S ∧ MGS g m tp S) ∧ FX LTq (PTq k) k0 h ∧ hR h f_Md_halt T = T + 1
/-- T has faulted with a number at a place -/
def FLq (k0 h : ah) (T k : Nat) (w : Int) (p : Nat) : Prop := FX LTq (PTq k) k0 h ∧ hI h f_MdHalt_number (T + 1) = w ∧ hI h f_MdHalt_place (T + 1) = (p : Int)
section
variable {ρ : Nat → Nat} {d : Nat} {h h' h0 k0 : ah} {F : Int → ah → Prop} {G : ah → Prop} {E : Nat → ah → Prop} {Q : QT} {C T ho a k : Nat} {tp : List Int} {t t' t1 t2 : TKN} {g g' : HG} {n m N : Nat} {ws : List (List Int)} {S : Nat → Nat → Int}
theorem RC.tr (H : RC ρ h0 h C ho tp g n m ws t) (e : sameT t t') (e2 : tkE tp 1 t') : RC ρ h0 h C ho tp g n m ws t' := by
  obtain ⟨H1, H2, H3, H4, H5, H6, H6', H7, H8, H9⟩ := H
  refine ⟨H1, H2.tr e e2, H3, H4, H5, H6, H6', ?_, ?_, ?_⟩
  · rw [← e.1]; exact H7
  · rw [← e.1]; exact H8
  · rw [← e.1]; exact H9
theorem nxT_s (H : nxT tp 1 t t2) (e : sameT t t') (hk : ¬ t.2.1 = -1) : nxT tp 1 t' t2 := ⟨by rw [← e.2.2.1 hk]; exact H.1, H.2⟩
theorem HF.fl {w : Int} {p : Nat} (H : FX LTq (PTq k) k0 h) (e : hR h f_Md_halt T = T + 1) (a : HF T h h' w (p : Int)) : FLq k0 h' T k w p := ⟨H.into ⟨_, _, a.1⟩ (fun f hm => by simp [LTq, hm]) (fun q c => by cases c), by rw [← e]; exact a.2.1, by rw [← e]; exact a.2.2⟩
theorem gSup_N (s i : Nat) : (gSup g n s).2 0 i = g.2 0 i := gSup_2 (by omega)
theorem difN.sup {s : Nat} (H : difN g n) : difN (gSup g n s) n := fun i j hi hj e => H i j hi hj (by rw [gSup_N, gSup_N] at e; exact e)
/-- what stays while the classes above are read -/
def kept (g g' : HG) (n : Nat) : Prop := (∀ k i, k < 100 → ¬ (k = 2 ∧ i = n) → g'.1 k i = g.1 k i) ∧ (∀ k i, ¬ (k = 1 ∧ i = n) → g'.2 k i = g.2 k i)
theorem c_sups : ∀ f g t h, tp.length - t.1 < f → RC ρ h0 h C ho tp g n m ws t → TYO h ho g ws n a → g.1 10 n = 0 → (g.1 3 n).toNat + (g.1 4 n).toNat ≤ m → supOK g n → difN g n → (∀ i, i < n → g.2 0 i ∉ plainW) → t.1 < t.2.2.1 → hz h0 ≤ a → 10 ≤ d → C + 5 < hz h0 →
    (∀ h' g' t', rdSups tp n f g t = Sum.inr (g', t') → RC ρ h0 h' C ho tp g' n m ws t' → TYO h' ho g' ws n a → supOK g' n → kept g g' n → t.1 < t'.1 → G h') →
    (∀ h' w p, rdSups tp n f g t = Sum.inl (w, p) → FQ tp h0 h' ho → hI h' f_Fault_told (C + 2) = w + 16 * (p : Int) → E (C + 2) h') →
    wpB PGm ρ (d + 4) m_Host_readSupers 2 [(0, vR ho), (1, vR (C + 3)), (2, vR a), (3, vI 1)] [] h (cV G E) := by
  intro f
  induction f with
  | zero => intro g t h hm; omega
  | succ f ih =>
    intro g t h hm H TY h10 hfi ok df hnr ht ha hd hC q1 q2
    have hl1 : (g.2 1 n).length ≤ n := nd_len ok.1 ok.2
    refine c_sup1 H TY h10 hfi ha hd hnr hl1 ht hC (fun h' t1 t2 s n1 e1 hs e2 tw n2 R TY2 => ?_) (fun h' t1 w p n1 sf fx told => ?_)
    · have s1 := nx_same n1
      have k1 : ¬ t1.2.1 = -1 := by rw [e1]; decide
      have n2' := nxT_s n2 s1 k1
      have s2 := nx_same n2'
      have b1 := s1.bs (tp := tp) k1
      have le1 := nxT_le H.2.1 n1
      have kk2 : ¬ t2.2.1 = -1 := R.2.1.2.2.2.2.2.1
      have eq : rdSups tp n (f + 1) g t = if (nx tp 1 (nx tp 1 t)).2.1 = 44 then rdSups tp n f (gSup g n s) (nx tp 1 (nx tp 1 t)) else Sum.inr (gSup g n s, nx tp 1 (nx tp 1 t)) := by
        rw [rdSups, if_neg (by rw [← s1.2.1, e1]; simp), ← b1, idxN_e df hs e2]
        simp only
        rw [if_neg tw, if_neg (by rw [← s2.2.1]; exact kk2)]
      have R2 := R.tr s2 (nx_of n2').2
      have lt2 : t.1 < (nx tp 1 (nx tp 1 t)).1 := by
        rw [← s2.1, n2.1]
        have := skp_le (ch tp) tp.length _ t1.2.2.1 (Nat.le_refl _) (by have := tkE_to n1.2 k1 le1.2.2; omega)
        have := tkE_to n1.2 k1 le1.2.2
        omega
      have kp : kept g (gSup g n s) n := ⟨fun k i h1 h2 => gSup_1 (by omega), fun k i h1 => gSup_2 h1⟩
      have lb : (nx tp 1 (nx tp 1 t)).1 ≤ tp.length := by have := R2.2.1.2.2.2.2.2.2.1; have := R2.2.1.2.2.2.2.2.2.2.1; omega
      by_cases c : t2.2.1 = 44
      · rw [if_pos c]
        rw [if_pos (by rw [← s2.2.1]; exact c)] at eq
        have tk2 := R2.2.1.2.2.2.2.2.2.1
        have ht2 : (nx tp 1 (nx tp 1 t)).1 < (nx tp 1 (nx tp 1 t)).2.2.1 := by
          have hE := R2.2.1.2.2.2.2.1
          have k44 : (nx tp 1 (nx tp 1 t)).2.1 = 44 := by rw [← s2.2.1]; exact c
          rcases hE with ⟨x1, x2, x3⟩ | ⟨x1, x2, r, x3, x4, x5⟩ | ⟨x1, x2, r, x3, x4, x5⟩ | ⟨x1, x2, x3⟩ | ⟨x1, x2, x3, x4, mm, x5, x6⟩
          · omega
          · omega
          · omega
          · omega
          · unfold sgn at x5
            have : 1 ≤ mm := by grind
            omega
        refine ih (gSup g n s) (nx tp 1 (nx tp 1 t)) h' (by omega) R2 TY2 (by rw [gSup_1 (by omega)]; exact h10) (by rw [gSup_1 (by omega), gSup_1 (by omega)]; exact hfi) (ok.sup hs tw) df.sup (fun i hi => by rw [gSup_N]; exact hnr i hi) ht2 ha hd hC (fun h2 g2 t3 e3 R3 TY3 ok3 kp3 lt3 => q1 h2 g2 t3 (eq.trans e3) R3 TY3 ok3 ⟨fun k i h1 h2 => (kp3.1 k i h1 h2).trans (kp.1 k i h1 h2), fun k i h1 => (kp3.2 k i h1).trans (kp.2 k i h1)⟩ (by omega)) (fun h2 w p e3 => q2 h2 w p (eq.trans e3))
      · rw [if_neg c]
        rw [if_neg (by rw [← s2.2.1]; exact c)] at eq
        exact b_Host_readSupers_2 ⟨fun _ => q1 h' _ _ eq R2 TY2 (ok.sup hs tw) kp lt2, fun z => absurd rfl z⟩
    · have s1 := nx_same n1
      refine q2 h' w p ?_ fx told
      rcases sf with ⟨x1, x2, x3⟩ | ⟨x1, x2, x3, x4⟩ | ⟨x1, s, hs, e2, x2⟩
      · rw [rdSups, if_pos (by rw [← s1.2.1]; exact x1), ← s1.1, x2, x3]
      · have k1 : ¬ t1.2.1 = -1 := by rw [x1]; decide
        rw [rdSups, if_neg (by rw [← s1.2.1, x1]; simp), ← s1.bs k1, idxN_0 x2, x3, x4, ← s1.1]
      · have k1 : ¬ t1.2.1 = -1 := by rw [x1]; decide
        rw [rdSups, if_neg (by rw [← s1.2.1, x1]; simp), ← s1.bs k1, idxN_e df hs e2]
        simp only
        rcases x2 with ⟨y1, y2, y3⟩ | ⟨y1, t2, n2, y2, y3, y4⟩
        · rw [if_pos y1, y2, y3, ← s1.1]
        · have s2 := nx_same (nxT_s n2 s1 k1)
          rw [if_neg y1, if_pos (by rw [← s2.2.1]; exact y2), y3, y4, ← s2.1]
end
