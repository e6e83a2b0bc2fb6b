/-! T: parameters of a member, none alike; the end of a member -/
set_option maxRecDepth 20000
/-- rows that were there stay -/
def AGR (S0 S : Nat → Nat → Int) (m : Nat) : Prop := (∀ f, f ∈ hfs → ∀ i, S f i = S0 f i) ∧ (∀ f, f ∈ mfs → ∀ i, i < m → S f i = S0 f i) ∧ ∀ i, i < 8 * m → S f_MdHost_parameter i = S0 f_MdHost_parameter i
theorem AGR.r {S : Nat → Nat → Int} {m : Nat} : AGR S S m := ⟨fun _ _ _ => rfl, fun _ _ _ _ => rfl, fun _ _ => rfl⟩
theorem AGR.trans {S0 S1 S2 : Nat → Nat → Int} {m : Nat} (a : AGR S0 S1 m) (b : AGR S1 S2 m) : AGR S0 S2 m := ⟨fun f hf i => (b.1 f hf i).trans (a.1 f hf i), fun f hf i hi => (b.2.1 f hf i hi).trans (a.2.1 f hf i hi), fun i hi => (b.2.2 i hi).trans (a.2.2 i hi)⟩
theorem AGR.w {S0 S : Nat → Nat → Int} {m f : Nat} {v : Int} (a : AGR S0 S m) (hf : f ∈ mfs) : AGR S0 (u2 S f m v) m := by
  have h1 : f ∉ hfs ∧ f ≠ f_MdHost_parameter := by
    simp only [mfs, List.mem_cons, List.not_mem_nil, or_false] at hf
    rcases hf with x | x | x | x | x | x | x | x <;> subst x <;> decide
  refine ⟨fun g hg i => ?_, fun g hg i hi => ?_, fun i hi => ?_⟩
  · rw [u2_e, if_neg (fun x => h1.1 (by rw [← x.1]; exact hg))]; exact a.1 g hg i
  · rw [u2_e, if_neg (fun x => by omega)]; exact a.2.1 g hg i hi
  · rw [u2_e, if_neg (fun x => h1.2 x.1.symm)]; exact a.2.2 i hi
theorem PAR.agr {S0 S : Nat → Nat → Int} {m : Nat} {ps : List Int} {va : Int} (P : PAR S0 S m ps va) : AGR S0 S m := ⟨P.hf, fun f hm i hi => P.1 f i (by omega) (by omega) (fun c => by
  simp only [mfs, List.mem_cons, List.not_mem_nil, or_false] at hm
  rcases hm with x | x | x | x | x | x | x | x <;> rw [x] at c <;> exact absurd c.1 (by decide)), fun i hi => P.1 _ i (fun c => absurd c.1 (by decide)) (fun c => absurd c.1 (by decide)) (by omega)⟩
theorem AGR.hg {S0 S : Nat → Nat → Int} {g : HG} {n m N : Nat} {tp : List Int} (a : AGR S0 S m) (H : HGS g n N tp S0) : HGS g n N tp S := H.cong a.1
theorem AGR.mg {S0 S : Nat → Nat → Int} {g : HG} {m : Nat} {tp : List Int} (a : AGR S0 S m) (H : MGS g m tp S0) : MGS g m tp S := H.cong a.2.1 a.2.2
section
variable {ρ : Nat → Nat} {d : Nat} {h h' h0 k0 : ah} {F : Int → ah → Prop} {G : ah → Prop} {E : Nat → ah → Prop} {Q : QT} {C T ho a k : Nat} {tp : List Int} {t t' t1 t2 : TKN} {g g' : HG} {n m N c : Nat} {ws : List (List Int)} {S S0 : Nat → Nat → Int} {b so st ty va : Int} {ps nm : List Int}
/-- T at a token, with all that goes by it -/
def TW (ρ : Nat → Nat) (k0 h : ah) (T k : Nat) (tp : List Int) (S : Nat → Nat → Int) (n m : Nat) (t : TKN) : Prop := TQ ρ h T k tp S n m t ∧ FX LTq (PTq k) k0 h ∧ KQ k0 h k ∧ hR h f_Md_halt T = T + 1 ∧ T + 1 < hz k0
theorem TW.nxt (H : TW ρ k0 h T k tp S n m t) (f : Fr TSM [] 0 0 h h') (Q : TQ ρ h' T k tp S n m t') : TW ρ k0 h' T k tp S n m t' := ⟨Q, H.2.1.tsm f, H.2.2.1.tsm H.1 f, H.1.eh f H.2.2.2.1, H.2.2.2.2⟩
/-- what was thrown is there -/
theorem TW.ke (H : TW ρ k0 h T k tp S n m t) {w : Int} {p : Nat} (fl : FLq k0 h' T k w p) : hK h' (T + 1) ≠ 0 := by
  obtain ⟨⟨z, s, ff⟩, -, -⟩ := fl
  obtain ⟨z2, s2, f2⟩ := H.2.1
  have k2 := H.1.kn.2.1
  rw [H.2.2.2.1, f2.K H.2.2.2.2] at k2
  rw [ff.K H.2.2.2.2, k2]; decide
theorem TW.fl (H : TW ρ k0 h T k tp S n m t) {w : Int} (a : HF T h h' w (t.1 : Int)) : FLq k0 h' T k w t.1 := HF.fl H.2.1 H.2.2.2.1 a
theorem TW.w (H : TW ρ k0 h T k tp S n m t) {f a b i : Nat} {v : Int} (e : lkA tabH f = some (a, b)) (hf : f ≠ f_Md_tape ∧ f ≠ f_Md_text) : TW ρ k0 (sA h (hR h f k) i v) T k tp (u2 S f i v) n m t := ⟨(H.1.wr H.2.1 H.2.2.1.1 H.2.2.1.2 e hf).1, (H.1.wr H.2.1 H.2.2.1.1 H.2.2.1.2 e hf).2, H.2.2.1, H.2.2.2⟩
theorem t_mem2 (H : TW ρ k0 h T k tp S n m t) (hg : HGS g n m tp S) (mg : MGS g m tp S) (ok : mOK g n c m) (hm4 : m < 400) (hn60 : n ≤ 60) (es : S f_MdHost_sort m = so) (hso : so = 1 ∨ so = 2) (en : mnm tp S m nm) (hd : 10 ≤ d)
    (q1 : ∀ h' S' ps va t4, rdPar0 tp g n t = Sum.inr (ps, va, t4) → ¬ hasM g c m so nm ps → TW ρ k0 h' T k tp S' n m (nx tp 1 t4) → PAR S S' m ps va → Q (Sum.inl none) h')
    (q2 : ∀ h' w p, (rdPar0 tp g n t = Sum.inl (w, p) ∨ ∃ ps va t4, rdPar0 tp g n t = Sum.inr (ps, va, t4) ∧ hasM g c m so nm ps ∧ w = 7 ∧ p = t4.1) → FLq k0 h' T k w p → Q (Sum.inr (T + 1)) h') :
    wpB PGm ρ (d + 5) m_Md_readsParameters 0 [(0, vR T), (1, vI (c : Int)), (2, vI (m : Int))] [] h Q := by
  obtain ⟨fo, hc, hm, df, hnr, h10, -⟩ := ok
  obtain ⟨c1, c2, c3, c4, c5, c6, c7⟩ := H.1.kn
  have gm : (0 : Int) ≤ (m : Int) ∧ (m : Int) < ((400 : Nat) : Int) := by omega
  have foc := fo c hc
  -- none is alike
  have dup : ∀ h1 S1 ps va t4, rdPar0 tp g n t = Sum.inr (ps, va, t4) → TW ρ k0 h1 T k tp S1 n m t4 → PAR S S1 m ps va → t4.2.1 = 41 → wpB PGm ρ (d + 5) m_Md_readsParameters 220 [(0, vR T), (2, vI (m : Int)), (4, vI (g.1 3 c))] [] h1 Q := by
    intro h1 S1 ps va t4 er H1 P1 k41
    obtain ⟨d1, d2, d3, d4, d5, d6, d7⟩ := H1.1.kn
    have mg1 := P1.agr.mg mg
    have es1 : S1 f_MdHost_sort m = so := (P1.1 _ _ (fun c => absurd c.1 (by decide)) (fun c => absurd c.1 (by decide)) (fun c => absurd c.1 (by decide))).trans es
    have en1 : mnm tp S1 m nm := by
      obtain ⟨x, y, e1, e2, e3⟩ := en
      exact ⟨x, y, (P1.1 _ _ (fun c => absurd c.1 (by decide)) (fun c => absurd c.1 (by decide)) (fun c => absurd c.1 (by decide))).trans e1, (P1.1 _ _ (fun c => absurd c.1 (by decide)) (fun c => absurd c.1 (by decide)) (fun c => absurd c.1 (by decide))).trans e2, e3⟩
    have lp : ∀ mm j, m - j < mm → (g.1 3 c).toNat ≤ j → j ≤ m → (∀ l, (g.1 3 c).toNat ≤ l → l < j → ¬ (g.1 6 l = so ∧ g.2 3 l = nm ∧ g.2 2 l = ps)) → wpB PGm ρ (d + 5) m_Md_readsParameters 220 [(0, vR T), (2, vI (m : Int)), (4, vI (j : Int))] [] h1 Q := by
      intro mm
      induction mm with
      | zero => intro j hm; omega
      | succ mm ih =>
        intro j hmm hj0 hj no
        refine b_Md_readsParameters_220 ⟨fun z => ⟨d1, t_hnx H1.1 (by rw [k41]; decide) nx_ok (fun h2 f2 Q2 => ?_)⟩, fun z => ⟨d1, by rw [d6]; exact d7, ?_⟩⟩
        · refine q1 h2 S1 ps va t4 er (fun ⟨l, l1, l2, l3⟩ => no l l1 (by omega) l3) (H1.nxt f2 Q2) P1
        · have hj2 : j < m := by omega
          have j9 : j ≤ 2000000000 := by omega
          obtain ⟨m1, m2, m3, m4, m5, m6, m7, m8, m9⟩ := mg1 j hj2
          have gj : (0 : Int) ≤ (j : Int) ∧ (j : Int) < ((400 : Nat) : Int) := by omega
          have ej : hA h1 (hR h1 f_MdHost_sort k) j = g.1 6 j := (H1.1.2.2.2.1.g rfl j).trans m2
          have em : hA h1 (hR h1 f_MdHost_sort k) m = so := (H1.1.2.2.2.1.g rfl m).trans es1
          rw [d6, Int.toNat_natCast, Int.toNat_natCast, ej, em]
          have nxt : ¬ (g.1 6 j = so ∧ g.2 3 j = nm ∧ g.2 2 j = ps) → wpB PGm ρ (d + 5) m_Md_readsParameters 288 [(0, vR T), (2, vI (m : Int)), (4, vI (j : Int))] [vI 0] h1 Q := fun ne => by
            refine b_Md_readsParameters_288 ⟨fun x => absurd rfl x, fun _ => b_Md_readsParameters_301 ⟨d1, t_mustQ H1.1 (fun _ => ?_) (fun x => absurd x (by decide))⟩⟩
            rw [w32_s j9]
            exact ih (j + 1) (by omega) (by omega) (by omega) (fun l l1 l2 => by
              by_cases e : l = j
              · rw [e]; exact ne
              · exact no l l1 (by omega))
          refine ⟨H1.1.1.ri rfl gj, H1.1.1.ri rfl gm, fun ne => nxt (fun x => ne x.1), fun e6 => ⟨H1.1.1.ri rfl gm, fun x => by omega, fun _ => ?_⟩⟩
          refine t_same H1.1 (by omega) hm4 m9 en1 (fun e3 => ⟨fun x => absurd x (by decide), fun _ => ⟨d1, by rw [d6]; exact d7, ?_⟩⟩) (fun n3 => ⟨fun _ => nxt (fun x => n3 x.2.1), fun x => absurd rfl x⟩)
          rw [d6]
          refine t_stypes H1.1 (by omega) hm4 ⟨m6, m7, m8⟩ P1.2.1 (fun e2 => ⟨fun x => absurd x (by decide), fun _ => b_Md_readsParameters_288 ⟨fun _ => b_Md_readsParameters_301 ⟨d1, t_mustQ H1.1 (fun x => absurd rfl x) (fun _ h' a => ?_)⟩, fun x => absurd x (by decide)⟩⟩) (fun n2 => ⟨fun _ => nxt (fun x => n2 x.2.2), fun x => absurd rfl x⟩)
          rw [H1.2.2.2.1]
          exact q2 h' 7 t4.1 (Or.inr ⟨ps, va, t4, er, ⟨j, hj0, hj2, e6, e3, e2⟩, rfl, rfl⟩) (H1.fl a)
    have := lp _ (g.1 3 c).toNat (Nat.lt_succ_self _) (Nat.le_refl _) (by omega) (fun l l1 l2 => by omega)
    rw [Int.toNat_of_nonneg foc.1] at this
    exact this
  refine b_Md_readsParameters_0 ⟨c1, by rw [c6]; exact c7, ?_⟩
  rw [c6, Int.toNat_natCast]
  refine ⟨H.1.1.wi rfl gm, ?_⟩
  intro h5
  have H5 : TW ρ k0 h5 T k tp (u2 S f_MdHost_parameters m 0) n m t := H.w rfl (by decide)
  rw [show hR h5 f_Md_making T = k from c6]
  refine ⟨c7, H.1.1.wt rfl (Or.inl rfl) gm, ?_⟩
  intro h8
  have H8 : TW ρ k0 h8 T k tp (u2 (u2 S f_MdHost_parameters m 0) f_MdHost_variable m 0) n m t := H5.w rfl (by decide)
  have P8 : PAR S (u2 (u2 S f_MdHost_parameters m 0) f_MdHost_variable m 0) m [] 0 := by
    refine ⟨fun f i n1 n2 n3 => by rw [u2_e, if_neg n2, u2_e, if_neg n1], ⟨by rw [u2_e, if_neg (fun x => absurd x.1 (by decide)), u2_e, if_pos ⟨rfl, rfl⟩]; rfl, by simp, fun i hi => by simp at hi⟩, by rw [u2_e, if_pos ⟨rfl, rfl⟩]⟩
  have sg : (41 : Int) = sgv 41 := by decide
  obtain ⟨d1, d2, d3, d4, d5, d6, d7⟩ := H8.1.kn
  rw [sg]
  refine t_isSign H8.1.2.2.2.2.2.2.2.2.1 (Or.inl (by unfold sgc; decide)) (fun e => ⟨fun _ => ?_, fun x => absurd x (by decide)⟩) (fun ne => ⟨fun x => absurd rfl x, fun _ => ?_⟩)
  · refine b_Md_readsParameters_35 ⟨fun _ => ⟨d1, ?_⟩, fun z => absurd rfl z⟩
    rw [sg]
    refine t_isSign H8.1.2.2.2.2.2.2.2.2.1 (Or.inl (by unfold sgc; decide)) (fun e => ⟨d1, t_mustQ H8.1 (fun _ => ⟨d1, by rw [d6]; exact d7, ?_⟩) (fun y => absurd y (by decide))⟩) (fun ne => absurd e ne)
    have gc : (0 : Int) ≤ (c : Int) ∧ (c : Int) < ((60 : Nat) : Int) := by omega
    have ef : hA h8 (hR h8 f_MdHost_first k) c = g.1 3 c := (H8.1.2.2.2.1.g rfl c).trans ((P8.hg hg) c hc).2.2.2.2.2.2.2.2.1
    rw [d6, Int.toNat_natCast, ef]
    exact ⟨H8.1.1.ri rfl gc, dup h8 _ [] 0 t (by rw [rdPar0, if_pos e]) H8 P8 e⟩
  · have er : rdPar0 tp g n t = rdPars tp g n (tp.length + 1) [] t := by rw [rdPar0, if_neg ne]
    exact t_pars hg df hnr hm4 (by omega) hc hd (tp.length + 1) [] t h8 _ (by omega) H8.1 H8.2.1 H8.2.2.1 H8.2.2.2.1 P8 (fun h' S' ps va t4 e Q' f' k' e' P' k41 => dup h' S' ps va t4 (er.trans e) ⟨Q', f', k', e', H.2.2.2.2⟩ P' k41) (fun h' w p e => q2 h' w p (Or.inl (er.trans e)))
/-- the rows of a member that is read -/
def ROW (tp : List Int) (S : Nat → Nat → Int) (m c : Nat) (so st ty va : Int) (ps nm : List Int) : Prop := S f_MdHost_itsClass m = (c : Int) ∧ S f_MdHost_sort m = so ∧ S f_MdHost_isStatic m = st ∧ S f_MdHost_type m = ty ∧ S f_MdHost_variable m = va ∧ mpr S m ps ∧ mnm tp S m nm
theorem ROW.mg (R : ROW tp S m c so st ty va ps nm) (H : MGS g m tp S) {v : Int} : MGS (gMem g c m so st ty va ps nm) (m + 1) tp (u2 S f_MdHost_many c v) := by
  have so' : ∀ f i, f ∈ mfs ∨ f = f_MdHost_parameter → u2 S f_MdHost_many c v f i = S f i := fun f i hf => by
    rw [u2_e, if_neg (fun x => by
      rcases hf with hf | hf
      · simp only [mfs, List.mem_cons, List.not_mem_nil, or_false] at hf
        rcases hf with y | y | y | y | y | y | y | y <;> rw [y] at x <;> exact absurd x.1 (by decide)
      · rw [hf] at x; exact absurd x.1 (by decide))]
  intro j hj
  rw [so' _ _ (Or.inl (by simp [mfs])), so' _ _ (Or.inl (by simp [mfs])), so' _ _ (Or.inl (by simp [mfs])), so' _ _ (Or.inl (by simp [mfs])), so' _ _ (Or.inl (by simp [mfs])), so' _ _ (Or.inl (by simp [mfs])), so' _ _ (Or.inl (by simp [mfs])), so' _ _ (Or.inl (by simp [mfs]))]
  by_cases e : j = m
  · subst e
    obtain ⟨r1, r2, r3, r4, r5, ⟨r6, r7, r8⟩, r9⟩ := R
    obtain ⟨m5, m6, m7, m8, m9, l2, l3⟩ := gMem_m (g := g) (c := c) (m := j) (so := so) (st := st) (ty := ty) (va := va) (ps := ps) (nm := nm)
    rw [m5, m6, m7, m8, m9, l2, l3]
    exact ⟨r1, r2, r3, r4, r5, r6, r7, fun i hi => by rw [so' _ _ (Or.inr rfl)]; exact r8 i hi, r9⟩
  · obtain ⟨a1, a2, a3, a4, a5, a6, a7, a8, a9⟩ := H j (by omega)
    rw [gMem_1 (by omega), gMem_1 (by omega), gMem_1 (by omega), gMem_1 (by omega), gMem_1 (by omega), gMem_2 (by omega), gMem_2 (by omega)]
    exact ⟨a1, a2, a3, a4, a5, a6, a7, fun i hi => by rw [so' _ _ (Or.inr rfl)]; exact a8 i hi, a9⟩
theorem HGS.mem (H : HGS g n N tp S) (hc : c < n) : HGS (gMem g c m so st ty va ps nm) n N tp (u2 S f_MdHost_many c (g.1 4 c + 1)) := by
  intro i hi
  obtain ⟨a1, a2, a3, a4, a5, a6, a7, a8, a9, a10, ⟨x, y, b1, b2, b3⟩, a12⟩ := H i hi
  have so' : ∀ f i, f ≠ f_MdHost_many → u2 S f_MdHost_many c (g.1 4 c + 1) f i = S f i := fun f i hf => by rw [u2_e, if_neg (fun x => hf x.1)]
  have o : ∀ j, (gMem g c m so st ty va ps nm).1 (100 + i) j = g.1 (100 + i) j := fun j => gMem_1 (by omega)
  rw [so' f_MdHost_isInterface _ (by decide), so' f_MdHost_above _ (by decide), so' f_MdHost_supers _ (by decide), so' f_MdHost_first _ (by decide), so' f_MdHost_nameFrom _ (by decide), so' f_MdHost_nameTo _ (by decide), gMem_1 (k := 1) (by omega), gMem_1 (k := 2) (by omega), gMem_1 (k := 3) (by omega), gMem_2 (k := 1) (by omega), gMem_2 (k := 0) (by omega)]
  refine ⟨a1, a2, a3, a4, a5, a6, a7, fun k hk => by rw [so' _ _ (by decide)]; exact a8 k hk, a9, ?_, ⟨x, y, b1, b2, b3⟩, fun j hj => by rw [o, so' _ _ (by decide)]; exact a12 j hj⟩
  by_cases e : i = c
  · rw [e, u2_e, if_pos ⟨rfl, rfl⟩, gMem_4]
  · rw [u2_e, if_neg (fun x => e x.2), gMem_1 (by omega)]; exact a10
/-- the end of a member: a sign, and the next token -/
theorem t_mend (H : TW ρ k0 h T k tp S n m t) (hg : HGS g n N tp S) (hc : c < n) (hn60 : n ≤ 60) (hm4 : m < 400) (h4 : 0 ≤ g.1 4 c ∧ g.1 4 c ≤ 400) (hd : 10 ≤ d)
    (q1 : ∀ h', t.2.1 = 59 → TW ρ k0 h' T k tp (u2 S f_MdHost_many c (g.1 4 c + 1)) n (m + 1) (nx tp 1 t) → Q (Sum.inl none) h')
    (q2 : ∀ h', ¬ t.2.1 = 59 → FLq k0 h' T k 1 t.1 → Q (Sum.inr (T + 1)) h') : wpB PGm ρ (d + 5) m_Md_readsMember 392 [(0, vR T), (1, vI (c : Int))] [] h Q := by
  obtain ⟨c1, c2, c3, c4, c5, c6, c7⟩ := H.1.kn
  have sg : (59 : Int) = sgv 59 := by decide
  refine b_Md_readsMember_392 ⟨c1, ?_⟩
  rw [sg]
  refine t_takes H.1.2.2.2.2.2.2.2.2.1 (Or.inl (by unfold sgc; decide)) (fun e => t_hnx H.1 (by rw [e]; decide) nx_ok (fun h1 f1 Q1 => ?_)) (fun ne h' a => ⟨H.1.hk a, by rw [H.2.2.2.1]; exact q2 h' ne (H.fl a)⟩)
  have H1 := H.nxt f1 Q1
  obtain ⟨d1, d2, d3, d4, d5, d6, d7⟩ := H1.1.kn
  obtain ⟨a1, a2, a3, a4, a5, a6, a7, a8, a9, b1, b2, b3, b4, b5⟩ := id H1.1
  have m9 : m ≤ 2000000000 := by omega
  have gc : (0 : Int) ≤ (c : Int) ∧ (c : Int) < ((60 : Nat) : Int) := by omega
  refine ⟨d1, by rw [d6]; exact d7, ?_⟩
  rw [d6, a6, w32_s m9]
  intro h12
  -- one member more
  have nk : T ≠ k := b5
  have Q12 : TQ ρ h12 T k tp S n (m + 1) (nx tp 1 t) := by
    have f12 : Fr [f_MdHost_members] [] 0 0 h1 h12 := Fr.wI (by decide) (Or.inl (by simp)) Fr.r0
    refine ⟨a1, a2, a3, a4, ?_, I_I _ _ _ _, a7, by omega, ?_, b1, b2, b3, b4, b5⟩
    · show hI (sI h1 f_MdHost_members k _) f_MdHost_classes k = _
      rw [I_Ine (by decide)]; exact a5
    · exact a9.fr f12 (nokAll rfl) (fun y c => by cases c)
  have H12 : TW ρ k0 h12 T k tp S n (m + 1) (nx tp 1 t) := ⟨Q12, H1.2.1.into ⟨0, 0, Fr.wI (L := []) (P := [(f_MdHost_members, k)]) (by decide) (Or.inr (by simp)) Fr.r0⟩ (fun f c => by cases c) (fun q hq => Or.inl (by simp at hq; subst hq; simp [PTq])), H1.2.2.1, H1.2.2.2⟩
  have em : hA h12 (hR h12 f_MdHost_many k) c = g.1 4 c := (a4.g rfl c).trans (hg c hc).2.2.2.2.2.2.2.2.2.1
  rw [show hR h12 f_Md_making T = k from a3, Int.toNat_natCast, em, w32_of (by omega) (by omega)]
  refine ⟨a2, a1.ri rfl gc, a1.wi rfl gc, ?_⟩
  exact q1 _ e (H12.w rfl (by decide))
end
