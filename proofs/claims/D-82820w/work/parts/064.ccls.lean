/-! C reads members, a class, all classes -/
set_option maxRecDepth 20000
theorem mOK.mem {g : HG} {n c m : Nat} {so st ty va : Int} {ps nm : List Int} (H : mOK g n c m) : mOK (gMem g c m so st ty va ps nm) n c (m + 1) := by
  obtain ⟨h1, h2, h3, h4, h5, h6, h7⟩ := H
  have k3 : ∀ i, (gMem g c m so st ty va ps nm).1 3 i = g.1 3 i := fun i => gMem_1 (by omega)
  have k4 : ∀ i, i ≠ c → (gMem g c m so st ty va ps nm).1 4 i = g.1 4 i := fun i hi => gMem_1 (by omega)
  have k10 : ∀ i, (gMem g c m so st ty va ps nm).1 10 i = g.1 10 i := fun i => gMem_1 (by omega)
  have n0 : ∀ i, (gMem g c m so st ty va ps nm).2 0 i = g.2 0 i := fun i => gMem_2 (by omega)
  have hc := h1 c h2
  refine ⟨fun i hi => ?_, h2, ?_, fun i j hi hj e => h4 i j hi hj (by rw [n0, n0] at e; exact e), fun i hi => by rw [n0]; exact h5 i hi, by rw [k10]; exact h6, fun i hi ne => by rw [k3, k3, k4 i ne]; exact h7 i hi ne⟩
  · by_cases e : i = c
    · subst e
      rw [k3, gMem_4]
      omega
    · have := h1 i hi
      rw [k3, k4 i e]
      omega
  · rw [k3, gMem_4]
    omega
section
variable {ρ : Nat → Nat} {d : Nat} {h h' h0 : ah} {F : Int → ah → Prop} {FR : Nat → ah → Prop} {G : ah → Prop} {E : Nat → ah → Prop} {Q : QT} {C ho a : Nat} {tp : List Int} {t t' : TKN} {g : HG} {n m c : Nat} {ws : List (List Int)} {so st ty va : Int} {ps nm : List Int}
/-- the rest of a class: members up to the bracket, and the next token -/
noncomputable def rdTail (tp : List Int) (n c f : Nat) (g : HG) (m : Nat) (t : TKN) : FLT ⊕ (HG × Nat × TKN) := match rdMems tp n c f g m t with
  | Sum.inl e => Sum.inl e
  | Sum.inr (g2, m2, t2) => Sum.inr (gSet g2 c, m2, nx tp 1 t2)
theorem c_tail (hd : 10 ≤ d) : ∀ f g m ws t h, tp.length - t.1 < f → RC ρ h0 h C ho tp g n m ws t → mOK g n c m → hz h0 ≤ hB h (ho + 2) c →
    (∀ h' g' m' t' ws', rdTail tp n c f g m t = Sum.inr (g', m', t') → RC ρ h0 h' C ho tp g' n m' ws' t' → (∃ g2, g' = gSet g2 c ∧ mOK g2 n c m' ∧ (∀ i, g2.2 0 i = g.2 0 i)) → t.1 < t'.1 → G h') →
    (∀ h' w p, (rdTail tp n c f g m t = Sum.inl (w, p) ∨ ∃ r t', rdTail tp n c f g m t = Sum.inr (r, t') ∧ t'.2.2.1 = -1 ∧ w = 1 ∧ p = t'.2.1) → FQ tp h0 h' ho → hI h' f_Fault_told (C + 2) = w + 16 * (p : Int) → E (C + 2) h') →
    wpB PGm ρ (d + 6) m_Host_readType 113 [(0, vR ho), (1, vR (C + 3)), (4, vR (hB h (ho + 2) c))] [] h (cV G E) := by
  intro f
  induction f with
  | zero => intro g m ws t h hm; omega
  | succ f ih =>
    intro g m ws t h hmm H ok ha0 q1 q2
    obtain ⟨a1, k1, lho, hi⟩ := H.hc
    obtain ⟨⟨by_, fr, sz, nx0, H1⟩, K, S, -⟩ := id H
    have T := H1.2.2.2.2.2.1 c ok.2.1
    have kk := K.2.2.2.1.1
    refine b_Host_readType_113 ⟨k1, fun z => ⟨T.1.1, ?_⟩, fun z => ⟨a1, ?_⟩⟩
    · rw [kk] at z
      have eq0 : rdTail tp n c (f + 1) g m t = Sum.inr (gSet g c, m, nx tp 1 t) := by rw [rdTail, rdMems, if_pos z]
      have pos := tkE_pos K.2.2.2.2.1 (by rw [z]; decide) (by rw [z]; decide)
      refine c_settle H ok (by omega) ha0 (fun h2 R2 hB2 => ⟨R2.2.1.1.1.1, c_nxf R2.2.1 (fun h3 f3 n3 b3 K3 => ?_) (fun h3 f3 n3 b3 e3 => ⟨kF R2.2.1 f3, q2 h3 1 _ (Or.inr ⟨_, _, eq0, b3, rfl, rfl⟩) (R2.fx f3) e3⟩)⟩)
      exact q1 h3 _ _ _ ws eq0 (R2.nxt f3 n3 pos K3) ⟨g, rfl, ok, fun i => rfl⟩ (by have := (nxT_le R2.2.1 n3).1; omega)
    · rw [kk] at z
      refine c_mem H ok hd ha0 (fun h2 g' t' ws' e R2 hB2 ⟨so, st, ty, va, ps, nm, eg⟩ lt => ?_) (fun h2 w p e fx told => ⟨H.ke fx, q2 h2 w p ?_ fx told⟩)
      · have eq0 : rdTail tp n c (f + 1) g m t = rdTail tp n c f g' (m + 1) t' := by rw [rdTail, rdMems, if_neg z, e, rdTail]
        have ok' : mOK g' n c (m + 1) := by rw [eg]; exact ok.mem
        have nn : ∀ i, g'.2 0 i = g.2 0 i := fun i => by rw [eg]; exact gMem_2 (by omega)
        rw [← hB2]
        refine ih g' (m + 1) ws' t' h2 (by have := R2.2.1.2.2.2.2.2.2.1; have := R2.2.1.2.2.2.2.2.2.2.1; omega) R2 ok' (by rw [hB2]; exact ha0) (fun h3 g3 m3 t3 ws3 e3 R3 ⟨g2, x1, x2, x3⟩ lt3 => q1 h3 g3 m3 t3 ws3 (eq0.trans e3) R3 ⟨g2, x1, x2, fun i => (x3 i).trans (nn i)⟩ (by omega)) (fun h3 w p e3 => q2 h3 w p (by rw [eq0]; exact e3))
      · rcases e with e | ⟨g', t', e, b, ew, ep⟩
        · exact Or.inl (by rw [rdTail, rdMems, if_neg z, e])
        · refine Or.inl ?_
          have e1 : t.2.1 = 1 := by
            by_cases c1 : t.2.1 = 1
            · exact c1
            · rw [rdMem, if_pos c1] at e; cases e
          have tl := tkB_len K e1
          have eq0 : rdTail tp n c (f + 1) g m t = rdTail tp n c f g' (m + 1) t' := by rw [rdTail, rdMems, if_neg z, e, rdTail]
          cases f with
          | zero => omega
          | succ f => rw [eq0, rdTail, rdMems, if_neg (by rw [b]; decide), rdMem, if_pos (by rw [b]; decide), ew, ep]
/-- a class is begun -/
theorem gCls_o {iF : Int} {k i : Nat} (h : i ≠ n ∧ k ≠ 100 + n) : (gCls g n m nm iF).1 k i = g.1 k i := by
  show (if k = 100 + n then _ else if i = n then _ else _) = _
  rw [if_neg h.2, if_neg h.1]
theorem gCls_k {iF : Int} {k : Nat} (h : k ≠ 100 + n) (h2 : k ≠ 1 ∧ k ≠ 2 ∧ k ≠ 3 ∧ k ≠ 4 ∧ k ≠ 10) : (gCls g n m nm iF).1 k n = g.1 k n := by
  show (if k = 100 + n then _ else if n = n then _ else _) = _
  rw [if_neg h, if_pos rfl, if_neg h2.1, if_neg h2.2.1, if_neg h2.2.2.1, if_neg h2.2.2.2.1, if_neg h2.2.2.2.2]
theorem gCls_n {iF : Int} : (gCls g n m nm iF).1 1 n = iF ∧ (gCls g n m nm iF).1 2 n = -1 ∧ (gCls g n m nm iF).1 3 n = (m : Int) ∧ (gCls g n m nm iF).1 4 n = 0 ∧ (gCls g n m nm iF).1 10 n = 0 ∧ (gCls g n m nm iF).2 0 n = nm ∧ (gCls g n m nm iF).2 1 n = [] ∧ ∀ j, (gCls g n m nm iF).1 (100 + n) j = if j = n then 1 else 0 := by
  refine ⟨?_, ?_, ?_, ?_, ?_, ?_, ?_, fun j => ?_⟩
  · show (if 1 = 100 + n then _ else if n = n then _ else _) = _
    rw [if_neg (by omega), if_pos rfl, if_pos rfl]
  · show (if 2 = 100 + n then _ else if n = n then _ else _) = _
    rw [if_neg (by omega), if_pos rfl, if_neg (by omega), if_pos rfl]
  · show (if 3 = 100 + n then _ else if n = n then _ else _) = _
    rw [if_neg (by omega), if_pos rfl, if_neg (by omega), if_neg (by omega), if_pos rfl]
  · show (if 4 = 100 + n then _ else if n = n then _ else _) = _
    rw [if_neg (by omega), if_pos rfl, if_neg (by omega), if_neg (by omega), if_neg (by omega), if_pos rfl]
  · show (if 10 = 100 + n then _ else if n = n then _ else _) = _
    rw [if_neg (by omega), if_pos rfl, if_neg (by omega), if_neg (by omega), if_neg (by omega), if_neg (by omega), if_pos rfl]
  · simp [gCls]
  · simp [gCls]
  · show (if 100 + n = 100 + n then _ else _) = _
    rw [if_pos rfl]
theorem gCls_2 {iF : Int} {k i : Nat} (h : ¬ (i = n ∧ (k = 0 ∨ k = 1))) : (gCls g n m nm iF).2 k i = g.2 k i := by
  show (if i = n ∧ k = 0 then _ else if i = n ∧ k = 1 then _ else _) = _
  rw [if_neg (by omega), if_neg (by omega)]
theorem HC.cls {iF : Int} {by_ fr sz nx_ : Nat} (H : HC ρ h ho g n m ws by_ fr sz nx_) : HC ρ h ho (gCls g n m nm iF) n m ws by_ fr sz nx_ := by
  obtain ⟨b0, b1, b2, b3, b4, b5, b6, b7⟩ := H
  refine ⟨b0, b1, b2, b3, b4, fun i hi => ?_, fun j hj => ?_, b7⟩
  · obtain ⟨x0, x1, x2, x3, x4, x5, x6, x7, x8, x9, x10, x11⟩ := b5 i hi
    have ne : i ≠ n := by omega
    refine ⟨x0, x1, by rw [gCls_2 (by omega)]; exact x2, by rw [gCls_o ⟨ne, by omega⟩]; exact x3, by rw [gCls_o ⟨ne, by omega⟩]; exact x4, by rw [gCls_o ⟨ne, by omega⟩]; exact x5, by rw [gCls_o ⟨ne, by omega⟩]; exact x6, by rw [gCls_o ⟨ne, by omega⟩]; exact x7, by rw [gCls_2 (by omega)]; exact x8, by rw [gCls_o ⟨ne, by omega⟩, gCls_o ⟨ne, by omega⟩]; exact x9, ⟨x10.1, x10.2.1, x10.2.2.1, fun j hj => ?_⟩, ?_⟩
    · have : (gCls g n m nm iF).1 (100 + i) j = g.1 (100 + i) j := by
        by_cases e : j = n
        · subst e; exact gCls_k (by omega) (by omega)
        · exact gCls_o ⟨e, by omega⟩
      rw [this]; exact x10.2.2.2 j hj
    · unfold SVA at x11 ⊢
      rw [gCls_o ⟨ne, by omega⟩, gCls_o ⟨ne, by omega⟩, gCls_o ⟨ne, by omega⟩]
      refine x11.imp id (fun ⟨y1, y2, y3, y4, y5, y6, y7, y8⟩ => ⟨y1, y2, y3, y4, y5, y6, y7, fun k hk => ?_⟩)
      have e11 : ∀ q, (q = 11 ∨ q = 12) → ∀ j, (gCls g n m nm iF).1 q j = g.1 q j := fun q hq j => by
        by_cases e : j = n
        · subst e; exact gCls_k (by omega) (by omega)
        · exact gCls_o ⟨e, by omega⟩
      rw [e11 11 (Or.inl rfl), e11 12 (Or.inr rfl)]; exact y8 k hk
  · have e59 : ∀ q, 5 ≤ q → q ≤ 9 → (gCls g n m nm iF).1 q j = g.1 q j := fun q q1 q2 => by
      by_cases e : j = n
      · subst e; exact gCls_k (by omega) (by omega)
      · exact gCls_o ⟨e, by omega⟩
    have := b6 j hj
    unfold MEO at this ⊢
    rw [e59 5 (by omega) (by omega), e59 6 (by omega) (by omega), e59 7 (by omega) (by omega), e59 8 (by omega) (by omega), e59 9 (by omega) (by omega), gCls_2 (by omega), gCls_2 (by omega)]
    exact this
end
