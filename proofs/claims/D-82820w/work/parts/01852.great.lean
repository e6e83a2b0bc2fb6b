/-! calls -/
theorem EV8.warm {G : GX} (hP : ∀ s U : State, s.WarmedH U.vm → gP G s → gP G U) {s U : State} (hW : s.WarmedH U.vm) (h : EV8 G s) : EV8 G U :=
  ⟨h.1.warm hW, h.2.1.moved hW.alike, classAt_moved hW.alike h.2.2.1, h.2.2.2.1.moved hW.alike, h.2.2.2.2.1.warm hW, hP _ _ hW h.2.2.2.2.2⟩
theorem xvir_e {k : Nat} {ts : List (Nat × MT)} {F : MT → Prop} (h : xvir k ts F) : ∃ q ∈ ts, k = q.1 ∧ F q.2 := by
  induction ts with
  | nil => exact h.elim
  | cons q ts ih =>
    by_cases e : k = q.1
    · exact ⟨q, List.mem_cons_self, e, h.1 e⟩
    · obtain ⟨q2, h1, h2⟩ := ih (h.2 e)
      exact ⟨q2, List.mem_cons_of_mem _ h1, h2⟩
section
variable {p : Program} {l : Launch} {e : Env} {G : GX} {d pc len : Nat} {M : MT} {i j : Instr} {r : List (Nat × Instr)} {lv : LV} {st : List AV} {h : ah} {Q : QT}
variable {R : Room} {s : State} {m : MethodId} {args : Array Value} {below : List Frame} {meth : Method} {c : Code} {σ : Nat}
theorem xcont_cap (hcap : ∀ o h', Q o h' → hz h' ≤ gC G ∧ hs h' ≤ gZ8 G) : ∀ o h', xcont d M pc r lv st Q (ZZ p l e G) o h' → hz h' ≤ gC G ∧ hs h' ≤ gZ8 G := by
  intro o h' hk
  rcases o with (_ | v) | x
  · exact ZZ_cap hk hcap
  · exact ZZ_cap hk hcap
  · exact hndl_elim (fun t ht => ZZ_cap ht hcap) (fun hq => hcap _ _ hq) hk.2
theorem called (hexec : p.tables.exec = Jvm.exec) (hP : ∀ s U : State, s.WarmedH U.vm → gP G s → gP G U) (hrows : ∀ q ∈ gT G, RowOK G q) {q : MR} (hq : q ∈ gT G) (hM : q.1 = M) (hcfg : CFG G d q R s m meth c σ) (hcap : ∀ o h', Q o h' → hz h' ≤ gC G ∧ hs h' ≤ gZ8 G)
    {T : MT} {as rest : List AV} (hrl : rest.length ≤ 14) (hdg : decode c.code pc = .ok (j, 3)) {bytes : ByteArray} {ret : Option FieldType} {hsr : List (Nat × Nat × Nat × Nat)} (hnl : T.1.name ≠ "law") (hin : (T, bytes, ret, hsr) ∈ gT G)
    (hgo : ∀ {TT : State} {locs : List Loc} {cells slots : Nat} {ls : Array Slot}, Stand p l e R s m args below meth c TT locs cells slots → Rep (gD G) (gA G) (gB G) (gH G) (gE G) h TT.heap → ∀ mk methk ck, CK8 s T.1 bytes (mLoc T) ret hsr mk methk ck → GO p l e R s m args below meth c TT locs cells slots (F0 m pc ls ((as.reverse ++ rest).map cv)) (rest.map cv) mk (as.map cv).toArray)
    (hx : xtgt PGm d T as h (xcont d M pc r lv rest Q (ZZ p l e G)) (ZZ p l e G))
    (nx : ∀ lv' st' h', ZZ p l e G d M r lv' st' h' Q → MG p l e G R s m args below meth c Q (mLoc M) σ (pc + 3) lv' st' h') : MG p l e G R s m args below meth c Q (mLoc M) σ pc lv (as.reverse ++ rest) h := by
  have to : ∀ lv' st' h' t, ZZ p l e G d M (sfx (mCode M) t) lv' st' h' Q → MG p l e G R s m args below meth c Q (mLoc M) σ t lv' st' h' := fun lv' st' h' t hzz => ZZ_to hexec hq hM hcfg hcap hzz
  have hrow := hrows q hq
  obtain ⟨hEV, hown, hb0, hml, hrt, hlocks, hnm, htab, hdR, hdL, hcc, hcs⟩ := id hcfg
  obtain ⟨hE, hKn, hN, hC, hER, hPs⟩ := id hEV
  obtain ⟨-, -, -, -, hret, hhr, -, -⟩ := hrow
  rw [hM] at hown hnm hret hhr hml
  rw [← htab] at hhr
  obtain ⟨hw, hnH, hpl, hlT, -, -, ⟨iT, rT, hcT⟩, -⟩ := hrows _ hin
  simp only at hw hnH hpl hlT hcT
  have hck : ∃ mk methk ck, CK8 s T.1 bytes (mLoc T) ret hsr mk methk ck := by
    rcases hw hnl with ⟨e1, hw⟩ | hw
    · rw [e1]; exact ck_code (hE.all hw (A := #[]))
    · exact ck_with (hE.all hw (A := #[]))
  obtain ⟨mk, methk, ck, hCK⟩ := hck
  obtain ⟨k1, k2, k3, k4, k5, k6, k7, k8, k9⟩ := id hCK
  unfold xtgt at hx
  rw [hcT] at hx
  cases d with
  | zero => exact hx.elim
  | succ d =>
  by_cases hbl : Nat.ble (asz as) (mLoc T) = true
  · simp only [hbl, if_true] at hx
    have hKcap := xcont_cap (p := p) (l := l) (e := e) (G := G) (d := d + 1) (M := M) (pc := pc) (r := r) (lv := lv) (st := rest) hcap
    obtain ⟨cap1, cap2⟩ := ZZ_cap hx hKcap
    intro H locs cells slots ls a1 a2 a3 a4 a5 a6 TT hT X
    have hst : ∀ v ∈ rest, can v := fun v hv => a3 v (List.mem_append_right _ hv)
    have has : ∀ v ∈ as, can v := fun v hv => a3 v (List.mem_append_left _ (List.mem_reverse.mpr hv))
    have hR0 : Rep (gD G) (gA G) (gB G) (gH G) (gE G) h TT.heap := by rw [hT]; exact a1
    have hsum := sum_cat rest
    refine enter X hlocks hE hKn hN hC hown (K := xcont (d + 1) M pc r lv rest Q (ZZ p l e G)) (lv := lv) a2 a4 hst hR0 a5 a6 hml.symm hhr.tbl k1 hpl k2 k3 k7 (hgo X hR0 mk methk ck hCK) hdg (R' := { frames := d, locals := 60 * d, cells := R.cells - cells, slots := R.slots - slots }) (by show d + 1 ≤ R.frames; exact hdR) (by show _ + (ck.maxLocals + 11) + 60 * d ≤ R.locals; rw [k5]; omega) (by show cells + (R.cells - cells) ≤ R.cells; omega) (by show slots + (R.slots - slots) ≤ R.slots; omega) ?_ (fun h' hk => nx _ _ _ hk) (fun v h' hk => nx _ _ _ hk) (fun x h' (hk : xthr (d + 1) M pc lv h' Q (ZZ p l e G) x) => hndl_mono (fun t => to _ _ _ _) hk.2)
    intro T1 hT1 hW1
    have hcfg' : CFG G d (T, bytes, ret, hsr) { frames := d, locals := 60 * d, cells := R.cells - cells, slots := R.slots - slots } (T1.calling (F0 m pc ls (rest.map cv)) mk (as.map cv).toArray) mk methk ck (hs h) := by
      refine ⟨hEV.warm hP hW1, ?_, k4, k5, k6, k7, ?_, k8, Nat.le_refl _, Nat.le_refl _, ?_, ?_⟩
      · show T1.vm.findClass T.1.cls = some mk.cls
        rw [hW1.alike.findClass]; exact findClass_of_methodNamed k1
      · exact (name_of_methodNamed k1 k2).1
      · show gC G ≤ T1.heap.size + 1 + (R.cells - cells)
        have := hR0.1.1
        rw [hT1]; omega
      · show gZ8 G ≤ hs h + (R.slots - slots)
        omega
    have hmw := hx.2 0 iT rT rfl (by rw [hcT]; exact List.suffix_refl _) (T, bytes, ret, hsr) hin rfl _ _ mk (as.map cv).toArray (.java (F0 m pc ls (rest.map cv)) :: below) methk ck (hs h) hcfg' hKcap
    rw [lg_entry_eq, k5]
    have hLR := LR_entry has (Nat.le_of_ble_eq_true hbl)
    exact hmw TT.heap [] 0 0 _ hR0 hLR (fun v hv => by cases hv) (fun q hq => by cases hq) (by show hz h = T1.heap.size + 1 + 0; have := hR0.1.1; rw [hT1]; omega) (by omega)
  · simp only [hbl] at hx
    exact hx.elim
end
