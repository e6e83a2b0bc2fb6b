/-! every step; the whole -/
section
variable {p : Program} {l : Launch} {e : Env} {G : GX} {d pc : Nat} {M : MT} {j : Instr} {r : List (Nat × Instr)} {lv : LV} {st : List AV} {h : ah} {Q : QT}
variable {R : Room} {s : State} {m : MethodId} {args : Array Value} {below : List Frame} {meth : Method} {c : Code} {σ : Nat}
theorem prm (hexec : p.tables.exec = Jvm.exec) (htr : l.stackTraces = false) {q : MR} (hM : q.1 = M) (hcfg : CFG G d q R s m meth c σ) (hcap : ∀ o h', Q o h' → hz h' ≤ gC G ∧ hs h' ≤ gZ8 G)
    {T : MT} {as rest : List AV} {n : Nat} (hrl : rest.length ≤ 14) (hlen : as.length = n) (hdg : decode c.code pc = .ok (j, 3)) (hps : PSND G M.1.cls j n (mOwn T)) (hnil : mCode T = [])
    (hx : xtgt PGm d T as h (xcont d M pc r lv rest Q (ZZ p l e G)) (ZZ p l e G))
    (nx : ∀ lv' st' h', ZZ p l e G d M r lv' st' h' Q → MG p l e G R s m args below meth c Q (mLoc M) σ (pc + 3) lv' st' h') : MG p l e G R s m args below meth c Q (mLoc M) σ pc lv (as.reverse ++ rest) h := by
  obtain ⟨hEV, hown, hb0, hml, hrt, hlocks, hnm, htab, hdR, hdL, hcc, hcs⟩ := hcfg
  rw [hM] at hown hml
  unfold xtgt at hx
  rw [hnil] at hx
  obtain ⟨hd, hpr⟩ := hx
  refine hps p l e R s m args below meth c _ (mLoc M) σ pc lv rest as h _ hexec htr hEV hown hml.symm hdg (by omega) (by omega) hrl hlen ?_ hpr (fun h' hk => nx _ _ _ hk) (fun v h' hk => nx _ _ _ hk)
  intro o h' hk
  have := xcont_cap hcap o h' hk
  omega
theorem xinv_e {n md : Nat} {ts : List (Nat × MT)} {rr : Nat} {F : MT → List AV → List AV → Prop} (e1 : mrf rr = (n, md, ts)) (hh : xinv PGm rr st h F) : ∃ as rest, st = as.reverse ++ rest ∧ as.length = n ∧ rest.length ≤ 14 ∧ xsel md as ts h (fun T as => F T as rest) := by
  unfold xinv at hh
  have e2 : PGm.2.1 rr = (n, md, ts) := e1
  rw [e2] at hh
  split at hh
  · rename_i hc
    simp only [Bool.and_eq_true, Nat.ble_eq] at hc
    refine ⟨(st.take n).reverse, st.drop n, by rw [List.reverse_reverse, List.take_append_drop], by rw [List.length_reverse, List.length_take]; omega, by rw [List.length_drop]; omega, hh⟩
  · exact hh.elim
theorem hcalls (hexec : p.tables.exec = Jvm.exec) (htr : l.stackTraces = false) (hP : ∀ s U : State, s.WarmedH U.vm → gP G s → gP G U) (hrows : ∀ q ∈ gT G, RowOK G q) {q : MR} (hq : q ∈ gT G) (hM : q.1 = M) (hcfg : CFG G d q R s m meth c σ) (hcap : ∀ o h', Q o h' → hz h' ≤ gC G ∧ hs h' ≤ gZ8 G)
    {rr x : Nat} (hj : (j = .invokestatic x ∧ SOK8 G M.1.cls x rr) ∨ (j = .invokespecial x ∧ POK G M.1.cls x rr) ∨ (j = .invokevirtual x ∧ VOK G M.1.cls x rr)) (hdg : decode c.code pc = .ok (j, 3))
    (nx : ∀ lv' st' h', ZZ p l e G d M r lv' st' h' Q → MG p l e G R s m args below meth c Q (mLoc M) σ (pc + 3) lv' st' h')
    (hh : xinv PGm rr st h fun T as s => xtgt PGm d T as h (xcont d M pc r lv s Q (ZZ p l e G)) (ZZ p l e G)) : MG p l e G R s m args below meth c Q (mLoc M) σ pc lv st h := by
  obtain ⟨hEV, hown, -⟩ := id hcfg
  obtain ⟨hE, hKn, hN, hC, hER, hPs⟩ := id hEV
  rw [hM] at hown
  rcases hj with ⟨rfl, n, k, T, ts, e1, hT⟩ | ⟨rfl, n, k, T, ts, e1, hT⟩ | ⟨rfl, n, x0, e1, e2, hl, hx0, hts⟩
  · obtain ⟨as, rest, rfl, hlen, hrl, hs'⟩ := xinv_e e1 hh
    have hs' : xtgt PGm d T as h (xcont d M pc r lv rest Q (ZZ p l e G)) (ZZ p l e G) := hs'
    rcases hT with ⟨hnil, hps⟩ | ⟨hl, w1, w2, hnp, hnl, bytes, ret, hsr, hin⟩
    · exact prm hexec htr hM hcfg hcap hrl hlen hdg hps hnil hs' nx
    · refine called hexec hP hrows hq hM hcfg hcap hrl hdg hnl hin ?_ hs' nx
      intro TT locs cells slots ls X hr mk methk ck hCK
      have hy := (hrows _ hin).2.1
      have := go_S (ls := ls) (argsL := as.map cv) (rest := rest.map cv) X hexec hown (hl.elim (fun z => Or.inl (hE.all z)) (fun z => z.elim fun host z => Or.inr ⟨host, hE _ z rfl _⟩)) (hE.all w1) (hE.all w2) hy hCK (fun sig hsig => by rw [List.length_map, hlen]; exact hnp sig hsig) hdg
      simpa only [List.map_append, List.map_reverse] using this
  · obtain ⟨as, rest, rfl, hlen, hrl, hs'⟩ := xinv_e e1 hh
    rcases as with _ | ⟨v, as⟩
    · cases hlen
    rcases v with v | v | a
    · exact hs'.elim
    · exact hs'.elim
    obtain ⟨hk0, hs'⟩ : hK h a ≠ 0 ∧ xtgt PGm d T (vR a :: as) h (xcont d M pc r lv rest Q (ZZ p l e G)) (ZZ p l e G) := hs'
    rcases hT with ⟨hnil, hps⟩ | ⟨hl, w1, w2, hnp, bytes, hin, hcd⟩
    · exact prm hexec htr hM hcfg hcap hrl hlen hdg hps hnil hs' nx
    · refine called hexec hP hrows hq hM hcfg hcap hrl hdg (by rw [w1]; decide) hin ?_ hs' nx
      intro TT locs cells slots ls X hr mk methk ck hCK
      have hy := (hrows _ hin).2.1
      have ha := (hr.2.1 a hk0).1
      obtain ⟨b, rfl⟩ : ∃ b, a = b + 1 := ⟨a - 1, by omega⟩
      have hcode : (Cond.code T.1 bytes (mLoc T) none).before args s = true := hE.all hcd
      have := go_I (ls := ls) (b := b) (argsL := as.map cv) (rest := rest.map cv) X hexec hown (hl.elim (fun z => Or.inl (hE.all z)) (fun z => z.elim fun host z => Or.inr ⟨host, hE _ z rfl _⟩)) w1 (hE.all w2) hy hCK hcode (fun sig hsig => by rw [List.length_map, ← hnp sig hsig]; simpa using hlen) hdg
      simpa only [List.map_append, List.map_reverse, List.reverse_cons, List.append_assoc, List.map_cons, List.map_nil, cv, List.cons_append, List.nil_append] using this
  · obtain ⟨as, rest, rfl, hlen, hrl, hs'⟩ := xinv_e (n := n + 1) (md := 2) (ts := (mrf rr).2.2) (by rw [← e1, ← e2]) hh
    rcases as with _ | ⟨v, as⟩
    · cases hlen
    rcases v with v | v | a
    · exact hs'.elim
    · exact hs'.elim
    have hs' : xvir (hK h a) (mrf rr).2.2 (fun T => xtgt PGm d T (vR a :: as) h (xcont d M pc r lv rest Q (ZZ p l e G)) (ZZ p l e G)) := hs'
    obtain ⟨⟨k, T⟩, hqt, hk, hs'⟩ := xvir_e hs'
    simp only at hk hs'
    rcases hts _ hqt with ⟨hnil, hps⟩ | ⟨h190, w1, hnp, ⟨hnl, bytes, ret, hsr, hin⟩, hsel⟩
    · exact prm hexec htr hM hcfg hcap hrl hlen hdg hps hnil hs' nx
    · refine called hexec hP hrows hq hM hcfg hcap hrl hdg hnl hin ?_ hs' nx
      intro TT locs cells slots ls X hr mk methk ck hCK
      simp only at h190 w1 hsel
      obtain ⟨b, cellB, rfl, y1, y2, y3, y4⟩ := anyCell hKn hN hr hk h190
      have hcls : s.vm.findClass (kName k) = some cellB.cls := by rw [y2]; exact y4.1
      have hln : ∀ sig, parseMethodDescriptor x0.desc = some sig → (as.map cv).length = sig.parameters.length := fun sig hsig => by rw [List.length_map, ← hnp sig hsig]; simpa using hlen
      have key : GO p l e R s m args below meth c TT locs cells slots (F0 m pc ls ((as.map cv).reverse ++ .ref b :: rest.map cv)) (rest.map cv) mk (Value.ref b :: as.map cv).toArray := by
        rcases hsel with ⟨ey, hse⟩ | ⟨ey, hpr, nn, hins⟩ | ⟨owner, hsm, how, hdc, hse⟩
        · rw [ey] at hCK w1
          exact go_V X hexec hown (hE.all hl) (hE.all w1) hx0 hCK (hE.all hse) y1 y3 hcls hln hdg
        · rw [ey] at hCK w1
          exact go_P X hexec hown (hE.all hl) (hE.all w1) hx0 hCK (hE _ hpr rfl _) (hE.all hins) y1 y3 hln hdg
        · refine go_U X hexec hown (hE.all hl) (hE.all hsm) ?_ how (hE.all w1) hCK (hE.all hse) y1 y3 hcls hln hdg
          rcases hdc with hdc | ⟨hi, b0, k0, r0, hcd⟩
          · exact va_Decl.abs (hE _ hdc rfl #[])
          · exact va_Decl.of (hE.all hi (A := #[])) (hE.all hcd (A := #[]))
      simpa only [List.map_append, List.map_reverse, List.reverse_cons, List.append_assoc, List.map_cons, List.map_nil, cv, List.cons_append, List.nil_append] using key
end
theorem great {p : Program} {l : Launch} {e : Env} {G : GX} (hexec : p.tables.exec = Jvm.exec) (htr : l.stackTraces = false) (hP : ∀ s U : State, s.WarmedH U.vm → gP G s → gP G U) (hrows : ∀ q ∈ gT G, RowOK G q) : XCl PGm (gρ G) (ZZ p l e G) := by
  intro d M pc i r lv st h Q hh
  refine ⟨wp_fold PGm_ok (XI_mono PGm_ok (fun d M is lv lv' st h Q Q' a b k => wp_mon d M is lv lv' st h Q Q' a b k.1) lsub_rfl (fun _ _ q => q) hh), ?_⟩
  intro pc' i' r' e1 hsuf q hq hM R s m args below meth c σ hcfg hcap
  cases e1
  have hrow := hrows q hq
  have hcode : c.code = q.2.1 := hcfg.2.2.1
  obtain ⟨j, len, hdg, hj, hnx⟩ := hrow.2.2.2.2.2.2.2 pc i r (by rw [hM]; exact hsuf)
  rw [hM] at hj
  rw [← hcode] at hdg
  have nx : ∀ lv' st' h', ZZ p l e G d M r lv' st' h' Q → nofall i = false → MG p l e G R s m args below meth c Q (mLoc M) σ (pc + len) lv' st' h' := by
    intro lv' st' h' hzz hnf
    rcases hnx with hn | rfl | ⟨i2, r2, e2⟩
    · rw [hn] at hnf; cases hnf
    · exact (wp_nil hzz.1).elim
    · exact ZZ_at hexec hq hM hcfg hcap e2 ((List.suffix_cons _ _).trans hsuf) hzz
  refine one hexec hq hM hcfg hcap hrow ?_ hdg hj nx hh
  intro rr x hjc hl3 hi
  subst hl3
  subst hi
  exact hcalls hexec htr hP hrows hq hM hcfg hcap hjc hdg (fun lv' st' h' z => nx lv' st' h' z rfl) hh
theorem sound {p : Program} {l : Launch} {e : Env} {G : GX} (hexec : p.tables.exec = Jvm.exec) (htr : l.stackTraces = false) (hP : ∀ s U : State, s.WarmedH U.vm → gP G s → gP G U) (hrows : ∀ q ∈ gT G, RowOK G q) {d : Nat} {M : MT} {is : List (Nat × Instr)} {lv : LV} {st : List AV} {h : ah} {Q : QT} (hw : wp PGm (gρ G) d M is lv st h Q) : ZZ p l e G d M is lv st h Q :=
  hw _ (ZZ_mon p l e G) (great hexec htr hP hrows)
