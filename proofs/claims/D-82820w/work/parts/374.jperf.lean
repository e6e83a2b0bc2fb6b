set_option maxRecDepth 20000
section
variable {ρ : Nat → Nat} {d : Nat} {Q : QT} {Γ : GH} {h h' h1 h2 : ah} {C ho k i j N M a b z s x y r f o c t n m mn m0 rr k0 : Nat} {g : HG} {v w hd ty κ nm el La p st : Int} {S S' S1 : SS} {X X' X1 X2 : X3} {Y Y' Y1 Y2 : Y3} {e : ENT} {L : List Int} {ws hw : List (List Int)}
/-- the thing of a host that a site goes to -/
def INK (S : SS) (g : HG) (ty v : Int) (c0 : Nat) : Prop := ty = 7 → ∃ k : Nat, v = (k : Int) ∧ S f_Md_thingClass k = (c0 : Int) ∧ S f_Md_thingCount k = ((layG g c0).length : Int) ∧ (k : Int) < S f_Md_things 0
theorem gly (O : HSF g N M) (GL : GLY S g N) (hm : m < M) (k6 : g.1 6 m = 2) : S f_lay (g.1 5 m).toNat = ((layG g (g.1 5 m).toNat).length : Int) := by
  obtain ⟨W, WX, -, FQ, -⟩ := O
  obtain ⟨b1, b2, b3, b4, b5⟩ := (FQ m hm).2.1
  rw [GL _ (by omega), if_pos ?_]
  have := (W.1 (g.1 5 m).toNat (by omega)).1
  by_cases q : g.1 1 (g.1 5 m).toNat = 1
  · have hh := (WX.2.1 _ (by omega) q m (by
      unfold memG
      rw [List.mem_map]
      exact ⟨m - (g.1 3 (g.1 5 m).toNat).toNat, by rw [List.mem_range]; omega, by omega⟩)).1
    omega
  · omega
/-- what is done at the host -/
theorem j_phst (P : PFX Γ h C ho X Y S N t o n c r s a κ mn m0 rr) (U : HUS ρ Γ h ho S g N M hw) (MM : MMO h ho g M) (YH : YHO Y ho) (SM : STM ρ h) (O : HSF g N M) (IN : INL S g N) (GL : GLY S g N) (mz : ∀ i, i < 400 → X 32 f_Machine_marks i = 0) (F : FND g h C ho X Y S M κ nm L mn ty v el rr) (hty : ty = 7 ∨ ty = 8) (gt : S f_Md_pileType rr = ty) (gv : S f_Md_pileValue rr = v) (q : PFD ρ g N M hw Γ h C ho X Y S s Q) : wpB PGm ρ (d + 40) m_Machine_perform 0 [(0, vR (C + 32)), (1, vR a), (2, vI (m0 : Int))] [] (cc h C X Y) Q := by
  obtain ⟨e, EV, FO, ⟨f1, f2, f3, f4⟩, ST, GD⟩ := F
  have HC := P.1
  have hκ := P.2.2.2.2.2.1.2.2.2.2.1
  have m8 := P.2.2.2.2.2.1.2.2.2.2.2
  have V := P.pl (i := 0) (Nat.zero_le _)
  rw [Nat.add_zero, Nat.add_zero, gt, gv] at V
  have W := O.1
  have GD' : e f_Md_linker = ty - 6 ∧ e f_Md_guard = gdG S ty v ∧ ∀ k : Nat, (k : Int) < e f_Md_guardMany → gtA (e f_Md_guardTypes) k = tyT S (S f_Md_pileType (rr + 1 + k)) (S f_Md_pileValue (rr + 1 + k)) := by
    rcases GD with ⟨g1, -⟩ | ⟨-, g2, g3, g4⟩
    · omega
    · refine ⟨?_, g3, g4⟩
      rw [g2]
      unfold gdL
      rcases hty with z | z <;> simp [z]
  obtain ⟨l1, gu, gty⟩ := GD'
  have ⟨c0, hc0, ec0, ins⟩ : ∃ c0 : Nat, c0 < N ∧ gdG S ty v = (c0 : Int) ∧ INK S g ty v c0 := by
    obtain ⟨-, -, O⟩ := V
    unfold VO at O
    rcases hty with z | z
    · have O' : 0 ≤ v ∧ v < S f_Md_things 0 ∧ S f_Md_thingKind v.toNat = 7 := by omega
      obtain ⟨c0, c1, c2, c3, c4⟩ := IN v.toNat (by omega) O'.2.2
      refine ⟨c0, c1, ?_, fun _ => ⟨v.toNat, by omega, c2, c3, by omega⟩⟩
      unfold gdG
      rw [if_pos z, c2]
    · refine ⟨v.toNat, by omega, ?_, fun c => by omega⟩
      unfold gdG
      rw [if_neg (by omega), if_pos z]
      omega
  obtain ⟨h1, h2, h3, h4, h5⟩ := EV.2.2 (by omega)
  have egt : e f_Md_guard = (c0 : Int) := by rw [gu, ec0]
  rw [egt, Int.toNat_natCast, l1] at h4 h5
  have hk := h5 (tsT S rr (opC κ mn)) (fun z => ⟨by unfold tsT; simp, fun i hi => by rw [tsT_ge2 hi, gty i (by rw [h4 z]; omega)]⟩)
  have ⟨m, em⟩ : ∃ m : Nat, e f_Md_which = (m : Int) := ⟨(e f_Md_which).toNat, by omega⟩
  rw [em] at hk
  have K0 := hk_mem (mn := mn) W hc0 (by omega) (fun _ => by unfold tsT; simp) hk
  have hm := K0.1
  obtain ⟨-, -, -, p4⟩ := id FO
  obtain ⟨-, ymem⟩ := p4.1 (by omega)
  rw [em, Int.toNat_natCast] at ymem
  have ac : X 53 f_Found_action 0 = (if g.1 6 m = 0 then (if κ = 0 then 6 else 7) else 8) := by
    rw [FO.1]
    unfold acE
    rw [if_neg (by omega), if_neg (by omega), em, Int.toNat_natCast]
  have FQ := O.2.2.2.1 m hm
  have qr := q.toR HC U MM W
  have qh := q.toH HC U MM W
  have fl : S f_Md_foundLinker 0 = 1 ∨ S f_Md_foundLinker 0 = 2 := by omega
  have ew : S f_Md_foundWhich 0 = (m : Int) := by omega
  have insF : ∀ f : Nat, g.1 7 f = ty - 6 - 1 → (g.1 7 f = 0 → ∃ i, PLC g c0 f i) → ∃ k i : Nat, g.1 7 f = 0 → S f_Md_pileType rr = 7 ∧ S f_Md_pileValue rr = (k : Int) ∧ ∃ c, c < N ∧ S f_Md_thingClass k = (c : Int) ∧ PLC g c f i ∧ S f_Md_thingCount k = ((layG g c).length : Int) := fun f e7 pl => by
    by_cases z : g.1 7 f = 0
    · obtain ⟨k, k1, k2, k3, k4⟩ := ins (by omega)
      obtain ⟨i, hi⟩ := pl z
      exact ⟨k, i, fun _ => ⟨by omega, by omega, c0, hc0, k2, hi, k3⟩⟩
    · exact ⟨0, 0, fun y => absurd y z⟩
  clear GD FO EV ST h5
  rcases K0.2 with ⟨k6, kk, k7, pl⟩ | ⟨k6, kk, k7, ⟨k0, o1, o2⟩, ar⟩ | ⟨k6, kk, p1⟩
  · rw [if_pos k6] at ac
    obtain ⟨k, i, I⟩ := insF m k7 (fun z => pl (k7.symm.trans z))
    clear pl
    rcases kk with kk | kk
    · rw [if_pos kk] at ac
      refine perf_0 (d := d + 28) (k := 0) P ac (fun c => absurd c (by decide)) (fun c => absurd c (by decide)) (fun c => absurd c (by decide)) (fun c => absurd c (by decide)) (fun c => absurd c (by decide)) (fun _ => ?_) (fun c => absurd c (by decide)) (fun c => absurd c (by decide)) (fun c => absurd ⟨by decide, by decide⟩ c)
      exact pf_field (d := d + 24) (k := k) (i := i) P U W kk fl ew ymem hm k6 FQ.2.1 I qh
    · rw [if_neg (by omega)] at ac
      refine perf_0 (d := d + 28) (k := 0) P ac (fun c => absurd c (by decide)) (fun c => absurd c (by decide)) (fun c => absurd c (by decide)) (fun c => absurd c (by decide)) (fun c => absurd c (by decide)) (fun c => absurd c (by decide)) (fun _ => ?_) (fun c => absurd c (by decide)) (fun c => absurd ⟨by decide, by decide⟩ c)
      have e1 : esK κ mn = 1 := by unfold esK; rw [kk]; simp
      have pv : PVS S N rr 1 := P.pvs (by omega)
      have tb := tyT_b (pv.2.2.2 0 (by omega)).1 (pv.2.2.2 0 (by omega)).2
      rw [Nat.add_zero] at tb
      have t8 := FQ.1 k6
      have t9 : 1 ≤ g.1 8 m := by
        have := (U.1.me hm)
        omega
      exact pf_fwrite (d := d + 24) (k := k) (i := i) P U YH W kk fl ew ymem hm k6 t9 FQ.2.1 FQ.2.2 pv tb I (qh.q7)
  · rw [if_neg (by omega)] at ac
    refine perf_0 (d := d + 28) (k := 0) P ac (fun c => absurd c (by decide)) (fun c => absurd c (by decide)) (fun c => absurd c (by decide)) (fun c => absurd c (by decide)) (fun c => absurd c (by decide)) (fun c => absurd c (by decide)) (fun c => absurd c (by decide)) (fun _ => ?_) (fun c => absurd ⟨by decide, by decide⟩ c)
    refine pf_method (d := d + 23) P U MM YH SM W ⟨by omega, by omega⟩ fl ew ymem hm k6 O.2.2.1 O.2.2.2.1 ?_ (P.pvs (Nat.le_refl _)) ar (fun f ef => ?_) q
    · unfold GOS
      rw [gt, gv]
      rcases hty with z | z
      · obtain ⟨k, k1, k2, -⟩ := ins z
        rw [k1, Int.toNat_natCast, k2]
        exact Or.inl ⟨by omega, z, by omega, by omega⟩
      · exact Or.inr ⟨by omega, by omega⟩
    · obtain ⟨L', -, e7⟩ := kw_mem ef
      exact insF f (by omega) (fun z => kw_plc O hc0 o1 o2 ef z)
  · rw [if_neg (by omega)] at ac
    refine perf_0 (d := d + 28) (k := 0) P ac (fun c => absurd c (by decide)) (fun c => absurd c (by decide)) (fun c => absurd c (by decide)) (fun c => absurd c (by decide)) (fun c => absurd c (by decide)) (fun c => absurd c (by decide)) (fun c => absurd c (by decide)) (fun _ => ?_) (fun c => absurd ⟨by decide, by decide⟩ c)
    exact pf_maker (d := d + 23) P U MM W ⟨by omega, by omega⟩ fl ew ymem hm k6 (gly O GL hm k6) mz p1 (P.pvs (Nat.le_refl _)) q
/-- what was found is done, by both -/
theorem j_perf (P : PFX Γ h C ho X Y S N t o n c r s a κ mn m0 rr) (NM : NMR h C S ws) (U : HUS ρ Γ h ho S g N M hw) (MM : MMO h ho g M) (YH : YHO Y ho) (SM : STM ρ h) (O : HSF g N M) (IN : INL S g N) (GL : GLY S g N) (mz : ∀ i, i < 400 → X 32 f_Machine_marks i = 0) (F : FND g h C ho X Y S M κ nm L mn ty v el rr) (hty : 3 ≤ ty ∧ ty ≤ 8) (gt : S f_Md_pileType rr = ty) (gv : S f_Md_pileValue rr = v) (hb : bsS S t (c - 1) ≤ m0) (hc : S f_Md_changes 0 + 1 ≤ 1000000) (en : S f_Md_siteName s = nm) (ee : S f_Md_elementName 0 = el) (q : PFD ρ g N M hw Γ h C ho X Y S s Q) : wpB PGm ρ (d + 40) m_Machine_perform 0 [(0, vR (C + 32)), (1, vR a), (2, vI (m0 : Int))] [] (cc h C X Y) Q := by
  by_cases z1 : ty = 4 ∨ ty = 5
  · exact j_pobj P NM F z1 gt gv hb hc en ee (q.toR P.1 U MM O.1)
  · by_cases z2 : ty = 3 ∨ ty = 6
    · exact j_prow P F z2 gt gv hc (q.toR P.1 U MM O.1)
    · exact j_phst P U MM YH SM O IN GL mz F (by omega) gt gv q
end
