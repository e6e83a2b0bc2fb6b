/-! C: one class above, and the next token -/
set_option maxRecDepth 20000
theorem okC_ne {P : List (Nat × Nat)} {f a b : Nat} (h : ∀ q, q ∈ P → q.2 = a) (ne : b ≠ a) : ¬ okC [] P f b := by
  rintro ((k | k) | (k | k))
  · cases k
  · exact ne (h _ k)
  · cases k
  · exact ne (h _ k)
theorem PR_a {a : Nat} : ∀ q, q ∈ PR a → q.2 = a := by intro q hq; simp [PR] at hq; rcases hq with e | e | e <;> rw [e]
theorem PR_5 {a : Nat} : ∀ q, q ∈ PR a → 5 ≤ q.1 := by intro q hq; simp [PR] at hq; rcases hq with e | e | e <;> rw [e] <;> exact Nat.le_of_ble_eq_true rfl
theorem gSup_1 {g : HG} {n s k i : Nat} (h : (k < 100 ∧ ¬ (k = 2 ∧ i = n)) ∨ (100 ≤ k ∧ k ≠ 100 + n)) : (gSup g n s).1 k i = g.1 k i := by
  show (if k = 2 ∧ i = n ∧ g.1 1 s = 0 then (s : Int) else if k = 100 + n then _ else _) = _
  rw [if_neg (by omega), if_neg (by omega)]
theorem gSup_2 {g : HG} {n s k i : Nat} (h : ¬ (k = 1 ∧ i = n)) : (gSup g n s).2 k i = g.2 k i := by
  show u2 g.2 1 n _ k i = _
  rw [u2_e, if_neg h]
section
variable {ρ : Nat → Nat} {d : Nat} {h h' h0 : ah} {F : Int → ah → Prop} {FR : Nat → ah → Prop} {G : ah → Prop} {E : Nat → ah → Prop} {Q : QT} {C ho a : Nat} {tp : List Int} {t t' : TKN} {g : HG} {n m : Nat} {ws : List (List Int)} {by_ fr sz nx : Nat}
theorem RC.sup {s : Nat} {z1 s1 : Nat} (H : RC ρ h0 h C ho tp g n m ws t) (hf : Fr [] (PR a) z1 s1 h h') (ha : hz h0 ≤ a) (hna : ∀ i, i < n → hB h (ho + 2) i ≠ a) (hnm : ∀ j, j < m → hB h (ho + 3) j ≠ a) (hw : ho + 4 ≠ a) (hz1 : z1 ≤ 12) (hs1 : s1 ≤ 3000) (ht : t.1 < t'.1) (K : CK h' C tp 1 t) : (∃ by_ fr sz nx, HC ρ h' ho (gSup g n s) n m ws by_ fr sz nx) ∧ FX LH (PH ho) h0 h' ∧ SHO ρ h' ∧ (∀ i, i ≤ 12 → ρ i < hz h' ∧ ρ i ≠ 0 ∧ UNO h' (ρ i)) ∧ HZ h' ho ≤ HZ h0 ho + 12 * t'.1 ∧ HSl h' ho ≤ HSl h0 ho + 3000 * t'.1 := by
  obtain ⟨⟨by_, fr, sz, nx, H1⟩, H2, H3, H4, H5, H6, H6', H7, H8, H9⟩ := H
  have nP : ∀ y, (0, y) ∉ PR a := nP0 rfl
  have hi := H1.1.2.2.1
  have ho2 : ho ≠ a := by omega
  have z := hf.1
  obtain ⟨a1, a2, a3, a4, a5, a6, a7, a8⟩ := H1
  have s1' := hf.ar hi (own_of (f := f_Host_types) rfl) a1.2.1 a1.2.2.2.1 (by omega) (okC_ne PR_a ho2) (nP _)
  have s2' := hf.ar hi (own_of (f := f_Host_members) rfl) a1.2.1 a1.2.2.2.2.1 (by omega) (okC_ne PR_a ho2) (nP _)
  have W' := a8.frm hf (fun f _ => okC_ne PR_a hw) ⟨nP _, nP _, nP _, nP _, nP _⟩
  have e1 := a8.words
  have e2 := W'.words
  have ad := a8.addr
  have m1 := hf.la ad.1 (by rw [a8.2.2.1.1]; decide)
  have m2 := hf.la ad.2.1 (by rw [a8.2.2.1.2.1]; decide)
  refine ⟨⟨by_, fr, sz, nx, a1.frm hf (fun f _ c => okC_ne PR_a ho2 (Or.inl c)) (nP _), by rw [s1'.1]; exact a2, by rw [s2'.1]; exact a3, a4, a5, fun i hi2 => ?_, fun j hj => ?_, W'⟩, H5.into ⟨_, _, hf⟩ (fun f c => by cases c) (fun q c => Or.inr (Or.inr ⟨PR_5 q c, by rw [PR_a q c]; exact ha⟩)), H3.frm ⟨_, _, hf⟩ nP H4, fun i hi2 => ?_, ?_, ?_⟩
  · rw [s1'.2.2]
    obtain ⟨b0, b1, b2, b3, b4, b5, b6, b7, b8, b9, b10, b11⟩ := (a6 i hi2).frm hi hf (fun f _ => okC_ne PR_a (hna i hi2)) nP (fun k _ => s1'.2.2 k) (fun k _ => s2'.2.2 _)
    refine ⟨b0, b1, by rw [gSup_2 (by omega)]; exact b2, by rw [gSup_1 (by omega)]; exact b3, by rw [gSup_1 (by omega)]; exact b4, by rw [gSup_1 (by omega)]; exact b5, by rw [gSup_1 (by omega)]; exact b6, by rw [gSup_1 (by omega)]; exact b7, by rw [gSup_2 (by omega)]; exact b8, by rw [gSup_1 (by omega), gSup_1 (by omega)]; exact b9, ⟨b10.1, b10.2.1, b10.2.2.1, fun j hj => by rw [gSup_1 (by omega)]; exact b10.2.2.2 j hj⟩, by
      unfold SVA at b11 ⊢
      rw [gSup_1 (by omega), gSup_1 (by omega), gSup_1 (by omega)]
      exact b11.imp id (fun ⟨x1, x2, x3, x4, x5, x6, x7, x8⟩ => ⟨x1, x2, x3, x4, x5, x6, x7, fun k hk => by rw [gSup_1 (by omega), gSup_1 (by omega)]; exact x8 k hk⟩)⟩
  · rw [s2'.2.2]
    have := (a7 j hj).frm hf (fun f _ c => okC_ne PR_a (hnm j hj) (Or.inl c)) nP (fun k _ => s1'.2.2 k)
    unfold MEO at this ⊢
    rw [gSup_1 (by omega), gSup_1 (by omega), gSup_1 (by omega), gSup_1 (by omega), gSup_1 (by omega), gSup_2 (by omega), gSup_2 (by omega)]
    exact this
  · obtain ⟨r1, r2, r3⟩ := H4 i hi2
    exact ⟨hf.lt r1, r2, r3.fr r1 r2 hf⟩
  · have : HZ h' ho ≤ HZ h ho + z1 := by
      unfold HZ wpz
      rw [e1.1, e1.2, e2.1, e2.2, m1, m2]
      omega
    omega
  · have : HSl h' ho ≤ HSl h ho + s1 := by
      unfold HSl wps
      rw [e1.1, e1.2, e2.1, e2.2, m1, m2]
      omega
    omega
/-- where a fault is told of a class above -/
def supF (g : HG) (n : Nat) (tp : List Int) (t1 : TKN) (why : Int) (pl : Nat) : Prop :=
  (¬ t1.2.1 = 1 ∧ why = 1 ∧ pl = t1.1) ∨ (t1.2.1 = 1 ∧ (∀ i, i < n → g.2 0 i ≠ tkB tp t1) ∧ why = 3 ∧ pl = t1.1) ∨ (t1.2.1 = 1 ∧ ∃ s, s < n ∧ g.2 0 s = tkB tp t1 ∧ ((twice g n s ∧ why = 4 ∧ pl = t1.1) ∨ (¬ twice g n s ∧ ∃ t2, nxT tp 1 t1 t2 ∧ t2.2.1 = -1 ∧ why = 1 ∧ pl = t2.1)))
theorem TYO.len {i : Nat} (H : TYO h ho g ws i a) : (g.2 1 i).length = hl h (hR h f_HostType_supers a) := H.2.2.2.2.2.2.2.2.1.2.1.symm
theorem c_sup1 (H : RC ρ h0 h C ho tp g n m ws t) (TY : TYO h ho g ws n a) (h10 : g.1 10 n = 0) (hfi : (g.1 3 n).toNat + (g.1 4 n).toNat ≤ m) (ha : hz h0 ≤ a) (hd : 10 ≤ d) (hnr : ∀ i, i < n → g.2 0 i ∉ plainW) (hlen : (g.2 1 n).length ≤ n) (ht : t.1 < t.2.2.1) (hC : C + 5 < hz h0)
    (q1 : ∀ h' t1 t2 s, nxT tp 1 t t1 → t1.2.1 = 1 → s < n → g.2 0 s = tkB tp t1 → ¬ twice g n s → nxT tp 1 t1 t2 → RC ρ h0 h' C ho tp (gSup g n s) n m ws t2 → TYO h' ho (gSup g n s) ws n a → wpB PGm ρ (d + 4) m_Host_readSupers 2 [(0, vR ho), (1, vR (C + 3)), (2, vR a), (3, vI (if t2.2.1 = 44 then 1 else 0))] [] h' (cV G E))
    (q2 : ∀ h' t1 why pl, nxT tp 1 t t1 → supF g n tp t1 why pl → FQ tp h0 h' ho → hI h' f_Fault_told (C + 2) = why + 16 * (pl : Int) → E (C + 2) h') : wpB PGm ρ (d + 4) m_Host_readSupers 2 [(0, vR ho), (1, vR (C + 3)), (2, vR a), (3, vI 1)] [] h (cV G E) := by
  have fin : ∀ {h'}, Fr SCM [] 0 0 h h' → FQ tp h0 h' ho := fun hf => H.fx hf
  refine b_Host_readSupers_2 ⟨fun z => absurd z (by decide), fun _ => ⟨H.2.1.1.1.1, c_nx H.2.1 (fun h1 t1 f1 n1 K1 => ?_) (fun h1 t1 f1 n1 e1 e2 => ⟨kF H.2.1 f1, q2 h1 t1 1 t1.1 n1 (Or.inl ⟨by omega, rfl, rfl⟩) (fin f1) e2⟩)⟩⟩
  have R1 := H.nxt f1 n1 K1
  have TY1 := TY.nxt H (Nat.le_refl _) hfi f1
  obtain ⟨⟨by_, fr, sz, nx, H1⟩, -, S1, -⟩ := id R1
  have a1 := H1.1.1
  have k1 := K1.1.1.1
  have le1 := nxT_le H.2.1 n1
  have fin1 : ∀ {h'}, Fr SCM [] 0 0 h1 h' → FQ tp h0 h' ho := fun hf => R1.fx hf
  refine ⟨a1, c_type H1 K1 S1 (by omega) (fun k e1 tk => ?_) (fun ne h' a b => ⟨kF K1 a, q2 h' t1 1 t1.1 n1 (Or.inl ⟨ne, rfl, rfl⟩) (fin1 a) b⟩) (fun e1 e2 e3 h' a b => ⟨kF K1 a, q2 h' t1 3 t1.1 n1 (Or.inr (Or.inl ⟨e1, e3, rfl, rfl⟩)) (fin1 a) b⟩)⟩
  rcases tk with ⟨x1, x2⟩ | ⟨x1, s, hs, x2, x3⟩
  · -- a plain word: no class
    have pl8 : plc plainW (tkB tp t1) < 9 := by
      have := plc_nn.mp x1
      unfold plc
      split
      · next i e =>
        have := List.findIdx?_eq_some_iff_getElem.mp e
        obtain ⟨hh, -⟩ := this
        have : plainW.length = 9 := rfl
        omega
      · omega
    refine ⟨fun z => by omega, fun _ => ⟨k1, c_fl K1 (by omega) (fun h' a b => ⟨kF K1 a, q2 h' t1 3 t1.1 n1 (Or.inr (Or.inl ⟨e1, fun i hi e => ?_, rfl, rfl⟩)) (fin1 a) b⟩)⟩⟩
    exact hnr i hi (by rw [e]; exact plc_nn.mp x1)
  · refine ⟨fun _ => ?_, fun z => by omega⟩
    have hn60 := H1.2.2.2.1
    have ws9 : w32 (k - 9) = (s : Int) := by rw [x3, w32_of (by omega) (by omega)]; omega
    refine b_Host_readSupers_29 (by omega) ⟨a1, by rw [H1.1.2.2.2.1]; exact H1.1.2.2.2.2.2.2.1.1.1, ?_⟩
    rw [H1.1.2.2.2.1, ws9, Int.toNat_natCast]
    clear ws9
    have tys := H1.ty hs
    refine ⟨⟨H1.1.2.2.2.2.2.2.1.1, by omega, by rw [H1.2.1]; omega⟩, Or.inr (by rw [tys.1]; decide), ?_⟩
    obtain ⟨⟨b1, b2, b3⟩, b4, b5, b6, b7, b8, b9, b10, ⟨c1, c2, c3⟩, -⟩ := id TY1
    have TSs := H1.2.2.2.2.2.1 s hs
    have adr : ∀ i, i < n → (hB h1 (ho + 2) i = hB h1 (ho + 2) s ↔ i = s) := fun i hi => ⟨fun e => by have x := (H1.2.2.2.2.2.1 i hi).2.1; rw [e, TSs.2.1] at x; omega, fun e => by rw [e]⟩
    have bad : twice g n s → wpB PGm ρ (d + 4) m_Host_readSupers 123 [(0, vR ho), (1, vR (C + 3)), (2, vR a), (5, vR (hB h1 (ho + 2) s))] [] h1 (cV G E) := fun tw => b_Host_readSupers_123 ⟨k1, c_fl K1 (by omega) (fun h' a b => ⟨kF K1 a, q2 h' t1 4 t1.1 n1 (Or.inr (Or.inr ⟨e1, s, hs, x2, Or.inl ⟨tw, rfl, rfl⟩⟩)) (fin1 a) b⟩)⟩
    have good : ¬ twice g n s → wpB PGm ρ (d + 4) m_Host_readSupers 128 [(0, vR ho), (1, vR (C + 3)), (2, vR a), (5, vR (hB h1 (ho + 2) s))] [] h1 (cV G E) := fun tw => by
      refine b_Host_readSupers_128 ⟨b1, c_rise R1 TY1 h10 (by omega) hs (by omega) (fun h2 f2 TY2 => ?_)⟩
      have nPR : ∀ y, (0, y) ∉ PR a := nP0 rfl
      have K2 : CK h2 C tp 1 t1 := K1.fr f2 (fun x f hm => nokAll (L := []) (P := PR a) rfl f hm x) nPR
      have le2 : t1.1 < t1.2.2.1 := by have := tkB_len K1 e1; omega
      have hna : ∀ i, i < n → hB h1 (ho + 2) i ≠ a := fun i hi e => by have x := (H1.2.2.2.2.2.1 i hi).2.1; rw [e, b4] at x; omega
      have hnm : ∀ j, j < m → hB h1 (ho + 3) j ≠ a := fun j hj e => by have x := (H1.2.2.2.2.2.2.1 j hj).1.1; rw [e, b1] at x; exact absurd x (by decide)
      have hw : ho + 4 ≠ a := fun e => by have x := H1.2.2.2.2.2.2.2.1.1; rw [e, b1] at x; exact absurd x (by decide)
      refine ⟨K2.1.1.1, c_nx K2 (fun h3 t2 f3 n2 K3 => ?_) (fun h3 t2 f3 n2 e3 e4 => ⟨kF K2 f3, ?_⟩)⟩
      · have le3 := nxT_le K2 n2
        obtain ⟨⟨by2, fr2, sz2, nx2, X1⟩, X2, X3, X4, X5, X6⟩ := R1.sup (t' := t2) (s := s) f2 ha hna hnm hw (by omega) (by omega) (by omega) K2
        have hz3 := HZ_SCM X1.2.2.2.2.2.2.2 f3 (by decide)
        have z3 := f3.1
        have R3 : RC ρ h0 h3 C ho tp (gSup g n s) n m ws t2 := by
          refine ⟨⟨by2, fr2, sz2, nx2, X1.frm f3 ⟨⟨nokAll rfl, fun f hm c => nokAll (L := SCM) (P := []) (fs := fhos) rfl f hm _ (Or.inl c)⟩, (fun y c => by cases c), fun f hm => nokAll (L := SCM) (P := []) (fs := [f_Words_most, f_Words_mostBytes, f_Words_many, f_Words_used, f_Words_bytes, f_Words_from, f_Words_size, f_Words_next, f_Words_heads]) rfl f hm _⟩⟩, K3, X3.frm ⟨_, _, f3⟩ (fun y c => by cases c) X4, fun i hi => ?_, X2.into ⟨_, _, f3⟩ (fun f hm => by simp [LH, hm]) (fun q c => by cases c), R1.2.2.2.2.2.1, R1.2.2.2.2.2.2.1, R1.2.2.2.2.2.2.2.1.mono (by omega), by omega, by omega⟩
          obtain ⟨r1, r2, r3⟩ := X4 i hi
          exact ⟨f3.lt r1, r2, r3.fr r1 r2 f3⟩
        have hi2 := X1.1.2.2.1
        have s1 := f3.ar hi2 (own_of (f := f_Host_types) rfl) X1.1.2.1 X1.1.2.2.2.1 (by omega) (nok (by decide) (by decide) rfl rfl) (fun c => by cases c)
        have s2 := f3.ar hi2 (own_of (f := f_Host_members) rfl) X1.1.2.1 X1.1.2.2.2.2.1 (by omega) (nok (by decide) (by decide) rfl rfl) (fun c => by cases c)
        have TY3 := TY2.frm hi2 f3 (fun f hm => nokAll rfl f hm _) (fun y c => by cases c) (fun k _ => s1.2.2 k) (fun k _ => s2.2.2 _)
        have fin := q1 h3 t1 t2 s n1 e1 hs x2 tw n2 R3 TY3
        have kk := K3.2.2.2.1.1
        refine ⟨K3.1.1.1, fun z => ?_, fun z => ?_⟩
        · rw [kk] at z; rw [if_neg z] at fin; exact fin
        · rw [kk] at z; rw [if_pos z] at fin; exact fin
      · refine q2 h3 t1 1 t2.1 n1 (Or.inr (Or.inr ⟨e1, s, hs, x2, Or.inr ⟨tw, t2, n2, e3, rfl, rfl⟩⟩)) ?_ e4
        obtain ⟨⟨by2, fr2, sz2, nx2, X1⟩, X2, X3, X4, X5, X6⟩ := R1.sup (t' := (t1.1 + 1, t1.2)) (s := s) f2 ha hna hnm hw (by omega) (by omega) (Nat.lt_succ_self _) K2
        have lt := K1.2.2.2.2.2.2.2.1
        exact FQ.mk' X2 X1.2.2.2.2.2.2.2 (by simp only at X5; omega) (by simp only at X6; omega) f3
    have lp : ∀ mm j b, (g.2 1 n).length - j < mm → j ≤ (g.2 1 n).length → (b = 0 ∨ b = 1) → (b = 1 ↔ ∃ k, k < j ∧ (g.2 1 n).getD k 0 = (s : Int)) → wpB PGm ρ (d + 4) m_Host_readSupers 52 [(0, vR ho), (1, vR (C + 3)), (2, vR a), (5, vR (hB h1 (ho + 2) s)), (6, vI b), (7, vI (j : Int))] [] h1 (cV G E) := by
      intro mm
      induction mm with
      | zero => intro j b hm; omega
      | succ mm ih =>
        intro j b hm hj hb hiff
        have mem : (s : Int) ∈ g.2 1 n ↔ ∃ k, k < (g.2 1 n).length ∧ (g.2 1 n).getD k 0 = (s : Int) := by
          constructor
          · intro x
            obtain ⟨k, hk, e⟩ := List.getElem_of_mem x
            exact ⟨k, hk, by simp [List.getD, List.getElem?_eq_getElem hk, e]⟩
          · rintro ⟨k, hk, e⟩
            rw [← e]
            simp [List.getD, List.getElem?_eq_getElem hk]
        have hj9 : j ≤ 2000000000 := by clear hiff mem; omega
        have nxt : ∀ v : Int, (v = 0 ∨ v = 1) → (v = 1 ↔ ∃ k, k < j + 1 ∧ (g.2 1 n).getD k 0 = (s : Int)) → j < (g.2 1 n).length → wpB PGm ρ (d + 4) m_Host_readSupers 88 [(0, vR ho), (1, vR (C + 3)), (2, vR a), (5, vR (hB h1 (ho + 2) s)), (7, vI (j : Int))] [vI v] h1 (cV G E) := fun v hv hvi hj2 => by
          refine b_Host_readSupers_88 ?_
          rw [w32_s hj9]
          have x1 : (g.2 1 n).length - (j + 1) < mm := by clear hiff hvi mem; omega
          exact ih (j + 1) v x1 hj2 hv hvi
        refine b_Host_readSupers_52 (by omega) ⟨b1, c1.1.1, c1.1, fun z => ?_, fun z => ?_⟩
        · rw [c2] at z
          have ej : j = (g.2 1 n).length := by clear hiff mem; omega
          subst ej
          rw [← mem] at hiff
          refine ⟨fun y => bad (Or.inl (hiff.mp (hb.resolve_left y))), fun y => ⟨tys.1, ?_⟩⟩
          have nm : (s : Int) ∉ g.2 1 n := fun x => absurd (hiff.mpr x) (by rw [y]; decide)
          rw [TSs.2.2.2.1, b6]
          refine ⟨fun x => good (fun c => c.elim nm (fun c => x c.1)), fun x => ⟨fun y2 => bad (Or.inr ⟨x, Or.inl y2⟩), fun y2 => ⟨fun y3 => good (fun c => c.elim nm (fun c => c.2.elim (fun w => w y2) (fun w => ?_))), fun y3 => bad (Or.inr ⟨x, Or.inr ?_⟩)⟩⟩⟩
          · rcases b10 with b10 | b10
            · clear hiff mem; omega
            · rw [b10.2.2] at y3
              exact (H1.ty (by clear hiff mem; omega)).2 y3
          · rcases b10 with b10 | b10
            · exact absurd b10.2 y3
            · exact b10.1
        · rw [c2] at z
          have hj2 : j < (g.2 1 n).length := by clear hiff mem; omega
          obtain ⟨y1, y2, y3⟩ := c3 j hj2
          have eqv : hB h1 (hR h1 f_HostType_supers a) j = hB h1 (ho + 2) s ↔ (g.2 1 n).getD j 0 = (s : Int) := by
            rw [y3, adr _ (by clear hiff mem; omega)]; clear hiff mem; omega
          refine ⟨fun y => nxt 1 (Or.inr rfl) ⟨fun _ => ?_, fun _ => rfl⟩ hj2, fun y => ⟨c1.1.1, ⟨c1.1, Int.natCast_nonneg _, by rw [c2]; exact z⟩, ?_⟩⟩
          · obtain ⟨k, hk, e⟩ := hiff.mp (hb.resolve_left y)
            exact ⟨k, Nat.lt_succ_of_lt hk, e⟩
          · rw [Int.toNat_natCast]
            refine ⟨fun ne => nxt 0 (Or.inl rfl) ⟨fun c => absurd c (by decide), fun ⟨k, hk, e⟩ => ?_⟩ hj2, fun e => nxt 1 (Or.inr rfl) ⟨fun _ => ⟨j, Nat.lt_succ_self _, eqv.mp e⟩, fun _ => rfl⟩ hj2⟩
            by_cases c : k = j
            · rw [c] at e; exact absurd (eqv.mpr e) ne
            · exact absurd (hiff.mpr ⟨k, (by clear hiff mem; omega), e⟩) (by rw [y]; decide)
    exact lp _ 0 0 (Nat.lt_succ_self _) (Nat.zero_le _) (Or.inl rfl) ⟨fun c => absurd c (by decide), fun ⟨k, hk, _⟩ => by omega⟩
end
