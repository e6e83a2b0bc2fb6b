/-! C reads a member -/
set_option maxRecDepth 20000
/-- before the next token: what the last one has paid for is not yet counted -/
def RCp (ρ : Nat → Nat) (h0 h : ah) (C ho : Nat) (tp : List Int) (g : HG) (n m : Nat) (ws : List (List Int)) (t : TKN) : Prop :=
  (∃ by_ fr sz nx, HC ρ h ho g n m ws by_ fr sz nx) ∧ CK h C tp 1 t ∧ SHO ρ h ∧ (∀ i, i ≤ 12 → ρ i < hz h ∧ ρ i ≠ 0 ∧ UNO h (ρ i)) ∧ FX LH (PH ho) h0 h ∧ C + 5 < ho ∧ ho + 12 < hz h0 ∧ WI ws t.2.2.1 ∧ HZ h ho ≤ HZ h0 ho + 12 * (t.1 + 1) ∧ HSl h ho ≤ HSl h0 ho + 3000 * (t.1 + 1)
section
variable {ρ : Nat → Nat} {d : Nat} {h h' h0 : ah} {F : Int → ah → Prop} {FR : Nat → ah → Prop} {G : ah → Prop} {E : Nat → ah → Prop} {Q : QT} {C ho a : Nat} {tp : List Int} {t t' : TKN} {g : HG} {n m c : Nat} {ws : List (List Int)} {so st ty va : Int} {ps nm : List Int}
theorem RCp.nxt (H : RCp ρ h0 h C ho tp g n m ws t) (hf : Fr SCM [] 0 0 h h') (hn : nxT tp 1 t t') (ht : t.1 < t.2.2.1) (K : CK h' C tp 1 t') : RC ρ h0 h' C ho tp g n m ws t' := by
  obtain ⟨⟨by_, fr, sz, nx, H1⟩, H2, H3, H4, H5, H6, H6', H7, H8, H9⟩ := H
  have le := nxT_le H2 hn
  have hz1 := HZ_SCM H1.2.2.2.2.2.2.2 hf (by decide)
  have z := hf.1
  refine ⟨⟨by_, fr, sz, nx, H1.frm hf ⟨⟨nokAll rfl, fun f hm c => nokAll (L := SCM) (P := []) (fs := fhos) rfl f hm _ (Or.inl c)⟩, (fun y c => by cases c), fun f hm => nokAll (L := SCM) (P := []) (fs := [f_Words_most, f_Words_mostBytes, f_Words_many, f_Words_used, f_Words_bytes, f_Words_from, f_Words_size, f_Words_next, f_Words_heads]) rfl f hm _⟩⟩, K, H3.frm ⟨_, _, hf⟩ (fun y c => by cases c) H4, fun i hi => ?_, H5.into ⟨_, _, hf⟩ (fun f hm => by simp [LH, hm]) (fun q c => by cases c), H6, H6', H7.mono (by omega), by omega, by omega⟩
  obtain ⟨r1, r2, r3⟩ := H4 i hi
  exact ⟨hf.lt r1, r2, r3.fr r1 r2 hf⟩
theorem RCp.fx (H : RCp ρ h0 h C ho tp g n m ws t) (hf : Fr SCM [] 0 0 h h') : FQ tp h0 h' ho := by
  obtain ⟨⟨by_, fr, sz, nx, H1⟩, H2, H3, H4, H5, H6, H6', H7, H8, H9⟩ := H
  have a := H2.2.2.2.2.2.2.1
  have b := H2.2.2.2.2.2.2.2.1
  exact FQ.mk' H5 H1.2.2.2.2.2.2.2 (by omega) (by omega) hf
theorem RCp.tysame (H : RCp ρ h0 h C ho tp g n m ws t) (hf : Fr SCM [] 0 0 h h') (i : Nat) : hB h' (ho + 2) i = hB h (ho + 2) i := by
  obtain ⟨⟨_, _, _, _, H1⟩, -⟩ := H
  exact (hf.ar H1.1.2.2.1 (own_of (f := f_Host_types) rfl) H1.1.2.1 H1.1.2.2.2.1 (by omega) (nok rfl rfl rfl rfl) (fun c => by cases c)).2.2 i
theorem c_isB {r : Nat} {w : List Int} (K : CK h C tp 1 t) (e1 : t.2.1 = 1) (s : STR h r w) (hd : 10 ≤ d) (q1 : tkB tp t = w → F 1 h) (q0 : ¬ tkB tp t = w → F 0 h) : wpB PGm ρ d m_Scanner_is 0 [(0, vR (C + 3)), (1, vR r)] [] h (cI F E) := by
  have bt : byt (hA h (C + 1)) t.1 t.2.2.1 = tkB tp t := by
    refine leq (by rw [tkB, byt_len, byt_len]) (fun i hi => ?_)
    rw [byt_len] at hi
    rw [byt_get hi, tkB, byt_get hi]
    exact K.2.1 _ (by have := K.2.2.2.2.2.2.2.1; omega)
  exact c_isw K.1 K.2.2.2.1 K.2.2.2.2.2.2.1 K.2.2.2.2.2.2.2.1 s hd (fun _ x => q1 (by rw [← bt]; exact x)) (fun x => q0 fun y => x ⟨e1, by rw [bt]; exact y⟩)
/-- the invariants of what was read -/
def mOK (g : HG) (n c m : Nat) : Prop := fOK g n m ∧ c < n ∧ (g.1 3 c).toNat + (g.1 4 c).toNat = m ∧ difN g n ∧ (∀ i, i < n → g.2 0 i ∉ plainW) ∧ g.1 10 c = 0 ∧ ∀ i, i < n → i ≠ c → g.1 3 i + g.1 4 i ≤ g.1 3 c
theorem hasM_d {i : Nat} (hm : (g.1 3 c).toNat + (g.1 4 c).toNat = m) (h : hasM g c m so nm ps) : ∃ l, l < (g.1 4 c).toNat ∧ g.1 6 ((g.1 3 c).toNat + l) = so ∧ g.2 3 ((g.1 3 c).toNat + l) = nm ∧ g.2 2 ((g.1 3 c).toNat + l) = ps := by
  obtain ⟨j, h1, h2, h3, h4, h5⟩ := h
  refine ⟨j - (g.1 3 c).toNat, by omega, ?_⟩
  rw [show (g.1 3 c).toNat + (j - (g.1 3 c).toNat) = j by omega]
  exact ⟨h3, h4, h5⟩
/-- the end: parameters are read, none is alike, ; and the next token -/
theorem c_mem2 {v : Int} (H : RC ρ h0 h C ho tp g n m ws t) (ok : mOK g n c m) (hm4 : m < 400) (hso : so = 1 ∨ so = 2) (hst : st = 0 ∨ st = 1) (hty : 0 ≤ ty ∧ ty < 9 + (n : Int)) (hnm : (so = 2 ∧ nm = [] ∧ v = -1) ∨ (¬ so = 2 ∧ NMO ws nm v)) (hd : 10 ≤ d) (ha0 : hz h0 ≤ hB h (ho + 2) c) (l4 : Int) (hl4 : (l4 = 0 ∧ so = 1) ∨ (¬ l4 = 0 ∧ so = 2))
    (q1 : ∀ h' g' t', rdMem2 tp g n c m so st ty nm t = Sum.inr (g', t') → RC ρ h0 h' C ho tp g' n (m + 1) ws t' → hB h' (ho + 2) c = hB h (ho + 2) c → g' = gMem g c m so st ty (g'.1 9 m) (g'.2 2 m) nm → t.1 < t'.1 → G h')
    (q2 : ∀ h' w p, (rdMem2 tp g n c m so st ty nm t = Sum.inl (w, p) ∨ ∃ g' t', rdMem2 tp g n c m so st ty nm t = Sum.inr (g', t') ∧ t'.2.1 = -1 ∧ w = 1 ∧ p = t'.1) → FQ tp h0 h' ho → hI h' f_Fault_told (C + 2) = w + 16 * (p : Int) → E (C + 2) h') :
    wpB PGm ρ (d + 4) m_Host_readParameters 0 [(0, vR ho), (1, vR (C + 3))] [] h (cV (fun h10 => ((l4 = 0 → wpB PGm ρ (d + 5) m_Host_readMember 238 [(0, vR ho), (1, vR (C + 3)), (2, vR (hB h (ho + 2) c)), (3, vI st), (5, vI ty), (6, vI v)] [vI 1] h10 (cV G E)) ∧ (¬ l4 = 0 → wpB PGm ρ (d + 5) m_Host_readMember 238 [(0, vR ho), (1, vR (C + 3)), (2, vR (hB h (ho + 2) c)), (3, vI st), (5, vI ty), (6, vI v)] [vI 2] h10 (cV G E)))) (fun e h' => hK h' e ≠ 0 ∧ E e h')) := by
  obtain ⟨fo, hc, hm, df, hnr, h10, -⟩ := ok
  refine c_par0 df hnr hd H (B := hB h (ho + 2)) (fun i => rfl) (fun h1 ps va t4 e1 R1 D1 hva le1 k41 hb1 => ?_) (fun h1 w p e1 fx told => ⟨?_, q2 h1 w p (Or.inl (by rw [rdMem2, e1])) fx told⟩)
  rotate_left
  · obtain ⟨⟨z, s, ff⟩, -⟩ := fx
    have l0 : C + 2 < hz h0 := by have := H.2.2.2.2.2.1; have := H.2.2.2.2.2.2.1; omega
    obtain ⟨z2, s2, f2⟩ := H.2.2.2.2.1
    have k2 := H.2.1.1.2.2.1
    rw [f2.K l0] at k2
    rw [ff.K l0, k2]; decide
  have hB1 : hB h1 (ho + 2) c = hB h (ho + 2) c := hb1 c
  have go : wpB PGm ρ (d + 5) m_Host_readMember 238 [(0, vR ho), (1, vR (C + 3)), (2, vR (hB h (ho + 2) c)), (3, vI st), (5, vI ty), (6, vI v)] [vI so] h1 (cV G E) := by
    obtain ⟨a1, k1, lho, hi⟩ := R1.hc
    obtain ⟨⟨by_, fr, sz, nx0, H1⟩, K1, S1, -⟩ := id R1
    have T := H1.2.2.2.2.2.1 c hc
    obtain ⟨d1, d2, d3, d4⟩ := T.mb fo hc
    rw [hB1] at T d1 d2 d3
    have nd := H1.2.2.2.2.2.2.2.2.2.2.2.2.2.2.2
    obtain ⟨c1, c2, c3⟩ := H1.1.2.2.2.2.2.2.2.2.2.1
    have eq0 : rdMem2 tp g n c m so st ty nm t = @ite _ (hasM g c m so nm ps) (Classical.propDecidable _) (Sum.inl (7, t4.1)) (if ¬ (nx tp 1 t4).2.1 = 59 then Sum.inl (1, (nx tp 1 t4).1) else Sum.inr (gMem g c m so st ty va ps nm, nx tp 1 (nx tp 1 t4))) := by rw [rdMem2, e1]
    have nmi : ∀ {J aM}, MEO h1 ho g ws n J aM → g.1 6 J = so → (hI h1 f_Member_name aM = v ↔ g.2 3 J = nm) := fun M ek => by
      rcases hnm with ⟨x1, x2, x3⟩ | ⟨x1, x2⟩
      · rcases M.2.2.2.2.2.2.2.2.2.1 with y | y
        · rw [y.2.2, x3, y.2.1, x2]; simp
        · exact absurd (ek.trans x1) y.1
      · rw [M.nam nd x2]
        exact ⟨fun y => y.2, fun y => ⟨by rw [ek]; exact x1, y⟩⟩
    refine b_Host_readMember_238 ?_
    have lp : ∀ mm j, (g.1 4 c).toNat - j < mm → j ≤ (g.1 4 c).toNat → (∀ l, l < j → ¬ (g.1 6 ((g.1 3 c).toNat + l) = so ∧ g.2 3 ((g.1 3 c).toNat + l) = nm ∧ g.2 2 ((g.1 3 c).toNat + l) = ps)) → wpB PGm ρ (d + 5) m_Host_readMember 243 [(0, vR ho), (1, vR (C + 3)), (2, vR (hB h (ho + 2) c)), (3, vI st), (5, vI ty), (6, vI v), (8, vI so), (9, vI (j : Int))] [] h1 (cV G E) := by
      intro mm
      induction mm with
      | zero => intro j hm; omega
      | succ mm ih =>
        intro j hmm hj no
        refine b_Host_readMember_243 (by omega) ⟨T.1.1, d1.1.1, d1.1, fun z => ?_, fun z => ⟨d1.1.1, ⟨d1.1, by omega, z⟩, ?_⟩⟩
        · rw [d2] at z
          have nM : ¬ hasM g c m so nm ps := fun x => by
            obtain ⟨l, l1, l2⟩ := hasM_d (i := 0) hm x
            exact no l (by omega) l2
          rw [if_neg nM] at eq0
          refine ⟨k1, c_nxf K1 (fun h2 f2 n2 b2 K2 => ?_) (fun h2 f2 n2 b2 e2 => ⟨kF K1 f2, q2 h2 1 _ (Or.inl (by rw [eq0, if_pos (by omega)])) (R1.fx f2) e2⟩)⟩
          have R2 := R1.nxt f2 n2 K2
          have D2 := D1.scm R1 f2
          refine ⟨R2.hc.2.1, c_dem K2 (fun e59 => ?_) (fun ne h' x y => ⟨kF K2 x, q2 h' 1 _ (Or.inl (by rw [eq0, if_pos ne])) (R2.fx x) y⟩)⟩
          rw [if_neg (by rw [e59]; simp)] at eq0
          obtain ⟨a12, k12, lho2, hi2⟩ := R2.hc
          obtain ⟨⟨by2, fr2, sz2, nx2, H2⟩, -⟩ := id R2
          obtain ⟨c12, c22, c32⟩ := H2.1.2.2.2.2.2.2.2.2.2.1
          have hB2 : hB h2 (ho + 2) c = hB h (ho + 2) c := (R1.tysame f2 c).trans hB1
          have l8 := D2.2.2.1
          rw [c12, D2.1, Int.toNat_natCast]
          refine ⟨a12, ⟨c22, by omega, by omega⟩, ?_⟩
          intro h3
          have z3 : hz h3 = hz h2 + 1 := rfl
          have F3 : Fr [] (PDr ho) 1 ps.length h2 h3 := ((Fr.r0 (h := h2)).cp (k := 1) (x := ho + 10) (n := ps.length)).le (by omega) (by omega)
          have K3 : CK h3 C tp 1 (nx tp 1 t4) := K2.fr F3 (fun x f hm => nokAll (L := []) (P := PDr ho) rfl f hm x) (nP0 rfl)
          have pos := tkE_pos (nx_ok (tp := tp) (host := 1) (t := t4)).2 b2 (by rw [e59]; decide)
          -- the state with the copy
          have W3 := H2.2.2.2.2.2.2.2.frm F3 (fun f hm => nokAll (L := []) (P := PDr ho) (fs := [f_Words_most, f_Words_mostBytes, f_Words_many, f_Words_used, f_Words_bytes, f_Words_from, f_Words_size, f_Words_next, f_Words_heads]) rfl f hm _) ⟨nP0 rfl _, nP0 rfl _, nP0 rfl _, nP0 rfl _, nP0 rfl _⟩
          have nD : nHC [] (PDr ho) ho := ⟨⟨nokAll rfl, fun f hm c => by
            simp only [fhos, List.mem_cons, List.not_mem_nil, or_false] at hm
            rcases hm with e | e | e | e | e | e | e <;> subst e <;> exact nokW rfl rfl c⟩, nP0 rfl, fun f hm => nokAll (L := []) (P := PDr ho) (fs := [f_Words_most, f_Words_mostBytes, f_Words_many, f_Words_used, f_Words_bytes, f_Words_from, f_Words_size, f_Words_next, f_Words_heads]) rfl f hm _⟩
          -- a step that is paid by the token ahead: count it at t4
          have le2 := nxT_le K1 n2
          have R2' := R1.2.2.2.2.2.2.2.2
          have zz2 := HZ_SCM H1.2.2.2.2.2.2.2 f2 (by decide)
          have zf2 := f2.1
          have zz3 := HZ_frm H2.2.2.2.2.2.2.2 W3 F3
          have pos4 : t4.1 < t4.2.2.1 := tkE_pos K1.2.2.2.2.1 (by rw [k41]; decide) (by rw [k41]; decide)
          have R3 : RC ρ h0 h3 C ho tp g n m ws (nx tp 1 t4) := by
            refine ⟨⟨by2, fr2, sz2, nx2, H2.frm F3 nD⟩, K3, R2.2.2.1.frm ⟨_, _, F3⟩ (nP0 rfl) R2.2.2.2.1, fun i hi => ?_, R2.2.2.2.2.1.into ⟨_, _, F3⟩ (fun f c => by cases c) (fun q hq => Or.inl (by simp [PDr] at hq; subst hq; simp [PH])), R2.2.2.2.2.2.1, R2.2.2.2.2.2.2.1, R2.2.2.2.2.2.2.2.1, by omega, by omega⟩
            obtain ⟨r1, r2, r3⟩ := R2.2.2.2.1 i hi
            exact ⟨F3.lt r1, r2, r3.fr r1 r2 F3⟩
          have hB3 : hB h3 (ho + 2) c = hB h (ho + 2) c := by
            rw [show hB h3 (ho + 2) c = hB h2 (ho + 2) c from if_neg (by have := H2.1.2.2.2.2.2.2.1.2.2; omega)]; exact hB2
          have pa : hz h2 ≠ 0 ∧ hz h2 < hz h3 ∧ UNO h3 (hz h2) ∧ hK h3 (hz h2) = 1 ∧ hl h3 (hz h2) = ps.length ∧ ps.length ≤ 8 ∧ ∀ k, k < ps.length → hA h3 (hz h2) k = ps.getD k 0 := by
            refine ⟨by have := hi2.2.2; omega, by omega, fun f x hx hf e => ?_, if_pos rfl, if_pos rfl, l8, fun k hk => ?_⟩
            · exact INJ.new (k := 1) (n := ps.length) (m := ps.length) hi2 f x hx hf e
            · rw [show hA h3 (hz h2) k = if k < hl h2 (ho + 10) ∧ k < ps.length then hA h2 (ho + 10) k else 0 from if_pos rfl, if_pos ⟨by omega, hk⟩]
              exact D2.2.2.2 k hk
          have dv : hI h3 f_Host_draftVariable ho = va := Eq.trans (if_neg (by omega)) D2.2.1
          rw [dv, ← hB3]
          refine ⟨R3.hc.1, c_add R3 fo hc hm hm4 h10 (Or.inr hso) hst hva hty hnm pa (by omega) (by rw [hB3]; exact ha0) (fun h4 HC4 fx4 F4 z4 s4 t24 => ?_)⟩
          have nPM : ∀ y, (0, y) ∉ PM (hB h3 (ho + 2) c) ho := nP0 rfl
          have K4 : CK h4 C tp 1 (nx tp 1 t4) := K3.fr F4 (fun x f hm => nokAll (L := []) (P := PM (hB h3 (ho + 2) c) ho) rfl f hm x) nPM
          have RP : RCp ρ h0 h4 C ho tp (gMem g c m so st ty va ps nm) n (m + 1) ws (nx tp 1 t4) := by
            refine ⟨HC4, K4, R3.2.2.1.frm ⟨_, _, F4⟩ nPM R3.2.2.2.1, fun i hi => ?_, fx4, R3.2.2.2.2.2.1, R3.2.2.2.2.2.2.1, R3.2.2.2.2.2.2.2.1.mono (by omega), ?_, ?_⟩
            · obtain ⟨r1, r2, r3⟩ := R3.2.2.2.1 i hi
              exact ⟨F4.lt r1, r2, r3.fr r1 r2 F4⟩
            · have := R3.2.2.2.2.2.2.2.2.1; omega
            · have := R3.2.2.2.2.2.2.2.2.2; omega
          refine b_Host_readMember_354 ⟨K4.1.1.1, c_nxf K4 (fun h5 f5 n5 b5 K5 => ?_) (fun h5 f5 n5 b5 e5 => ⟨kF K4 f5, q2 h5 1 _ (Or.inr ⟨_, _, eq0, b5, rfl, rfl⟩) (RP.fx f5) e5⟩)⟩
          obtain ⟨m5, m6, m7, m8, m9, l2, l3⟩ := gMem_m (g := g) (c := c) (m := m) (so := so) (st := st) (ty := ty) (va := va) (ps := ps) (nm := nm)
          have le5 := nxT_le K4 n5
          refine q1 h5 _ _ eq0 (RP.nxt f5 n5 pos K5) ?_ (by rw [m9, l2]) (by omega)
          rw [RP.tysame f5, t24, hB3]
        · rw [d2] at z
          have hj2 : j < (g.1 4 c).toNat := by omega
          have j9 : j ≤ 2000000000 := by have := H1.2.2.2.2.1; omega
          have M := H1.2.2.2.2.2.2.1 ((g.1 3 c).toNat + j) (by omega)
          rw [Int.toNat_natCast, d3 j hj2]
          have nxt : ¬ (g.1 6 ((g.1 3 c).toNat + j) = so ∧ g.2 3 ((g.1 3 c).toNat + j) = nm ∧ g.2 2 ((g.1 3 c).toNat + j) = ps) → wpB PGm ρ (d + 5) m_Host_readMember 243 [(0, vR ho), (1, vR (C + 3)), (2, vR (hB h (ho + 2) c)), (3, vI st), (5, vI ty), (6, vI v), (8, vI so), (9, vI (w32 ((j : Int) + 1)))] [] h1 (cV G E) := fun ne => by
            rw [w32_s j9]
            exact ih (j + 1) (by omega) (by omega) (fun l hl => by
              by_cases c : l = j
              · rw [c]; exact ne
              · exact no l (by omega))
          rw [M.2.2.1]
          refine ⟨Or.inr (by rw [M.1.1]; decide), M.1.1, fun z => nxt (fun x => z x.1), fun z => ⟨fun y => nxt (fun x => y ((nmi M z).mpr x.2.1)), fun y => ⟨a1, ?_⟩⟩⟩
          have enm := (nmi M z).mp y
          rw [c1, D1.1]
          refine c_hasTypes M (by rw [c2]; decide) (by rw [c3]; exact D1.2.2.1) D1.2.2.1 D1.2.2.2 (fun ep => ⟨fun x => absurd x (by decide), fun _ => ⟨k1, c_fl K1 (by omega) (fun h' x y => ⟨kF K1 x, q2 h' 7 _ (Or.inl (by rw [eq0, if_pos ⟨_, by omega, by omega, z, enm, ep⟩])) (R1.fx x) y⟩)⟩⟩) (fun ep => ⟨fun _ => nxt (fun x => ep x.2.2), fun x => absurd rfl x⟩)
    exact lp _ 0 (Nat.lt_succ_self _) (Nat.zero_le _) (fun l hl => by omega)
  rcases hl4 with ⟨x1, x2⟩ | ⟨x1, x2⟩
  · rw [x2] at go; exact ⟨fun _ => go, fun y => absurd x1 y⟩
  · rw [x2] at go; exact ⟨fun y => absurd y x1, fun _ => go⟩
end
