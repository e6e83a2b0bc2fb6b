/-! entries of sites at objects: hits, new ones -/
set_option maxRecDepth 20000
section
variable {ρ : Nat → Nat} {d : Nat} {Γ : GH} {h h' : ah} {C ho k n i j N M s sn r rr : Nat} {S S' S1 : SS} {X : X3} {Y : Y3} {g : HG} {nm w hd La κ p u ty v el : Int} {e : ENT}
theorem lk10_off {LL : Int} : OFF LFO S (lk1 S LL 0) := by
  unfold lk1
  rw [if_pos rfl]
  exact lk0_off.u (by decide)
theorem lkG0_off : OFF LFO S (lkG S 0 k) := by unfold lkG; exact lk10_off.u (by decide)
theorem lkG_w : lkG S 0 k f_Md_foundWhich 0 = -1 ∧ lkG S 0 k f_Md_foundHolder 0 = -1 ∧ lkG S 0 k f_Md_foundShape 0 = -1 ∧ lkG S 0 k f_Md_foundLinker 0 = 0 := by
  have A := lk1_w (S := S) (LL := 0) (cnt := 0)
  unfold lkG
  rw [u2_f (by decide), u2_f (by decide), u2_f (by decide), u2_f (by decide)]
  exact ⟨A.1, A.2.1, A.2.2.1, A.2.2.2.2⟩
/-- a hit at an object: T finds the same -/
theorem ENB.tlk (HC : CORE Γ h C ho X Y S N) (E : ENB S κ nm e) (st : STE S κ e 0) (hs : s < 4000) (ek : S f_Md_siteKind s = κ) (hκ : 0 ≤ κ ∧ κ ≤ 6) (ty1 : S f_Md_goesType 0 = ty) (hty : ty = 4 ∨ ty = 5) (v1 : S f_Md_goesValue 0 = (k : Int)) (hk : (k : Int) < S f_Md_things 0) (k8 : k < 8000) (kd : S f_Md_thingKind k = 4 ∨ S f_Md_thingKind k = 5) (gd : GDE S κ ty (k : Int) el rr e) (nme : ¬ (κ = 4 ∨ κ = 6) → SNM S s κ nm) : ∃ S1, TLK ρ g N M s 0 S (some none) S1 ∧ OFF LFO S S1 ∧ S1 f_Md_foundHolder 0 = e f_Md_holder ∧ S1 f_Md_foundWhich 0 = e f_Md_which ∧ S1 f_Md_foundShape 0 = e f_Md_toShape ∧ S1 f_Md_foundLinker 0 = e f_Md_linker := by
  obtain ⟨l0, gd⟩ : e f_Md_linker = 0 ∧ (((κ = 4 ∨ κ = 6) ∧ ty = 5 ∧ S f_Md_thingFunction k = e f_Md_guard) ∨ (¬ (κ = 4 ∨ κ = 6) ∧ S f_Md_thingShape k = e f_Md_guard ∧ e f_Md_guardName = el)) := by
    rcases gd with ⟨-, a, b⟩ | ⟨a, -⟩
    · rw [Int.toNat_natCast] at b; exact ⟨a, b⟩
    · exact absurd hty a
  obtain ⟨m1, m2, m3, m4⟩ := lkG_w (S := S) (k := k)
  obtain ⟨n, en⟩ := HC.cnt hk
  obtain ⟨⟨h1, -⟩, h2, h3⟩ := id E
  rw [l0]
  rcases gd with ⟨g1, g2, g3⟩ | ⟨g1, g2, g3⟩
  · obtain ⟨a1, a2, a3⟩ := h1 g1
    subst g2
    have A := lk1_w (S := S) (LL := 0) (cnt := 0)
    refine ⟨_, TLK.call hs ek g1 ty1 v1 k8 (Or.inl rfl), lk10_off.u (by decide), ?_, ?_, ?_, ?_⟩
    · rw [u2_f (by decide), a2]; exact A.2.1
    · rw [u2_f (by decide), a1]; exact A.1
    · rw [u2_f (by decide), a3]; exact A.2.2.1
    · rw [u2_f (by decide)]; exact A.2.2.2.2
  · have op := fun w => own_pls (nm := nm) (w := w) HC hk kd en
    rw [g2] at op
    by_cases kw : κ = 1 ∨ κ = 3
    · obtain ⟨a1, a2, a3⟩ := h2 kw
      rcases a3 with ⟨b1, b2, b3⟩ | ⟨b1, b2, r, b3, b4, b5, b6⟩
      · refine ⟨_, TLK.wr HC hs ek kw ty1 hty v1 hk k8 kd (Or.inl rfl) (nme g1) en ((op _).mpr b2) b1, lkG0_off.u (by decide), ?_, ?_, ?_, ?_⟩
        · rw [u2_f (by decide), a1]; exact m2
        · rw [u2_s]
        · rw [u2_f (by decide), b3]; exact m3
        · rw [u2_f (by decide)]; exact m4
      · refine ⟨_, TLK.ms HC hs ek kw ty1 hty v1 hk k8 kd (nme g1) en ((op _).mpr b2) b4 b5 ?_, (lkG0_off.u (by decide)).u (by decide), ?_, ?_, ?_, ?_⟩
        · rw [g2]; unfold prS; rw [g2]; exact b6
        · rw [u2_f (by decide), u2_f (by decide), a1]; exact m2
        · rw [u2_f (by decide), u2_s, b1]
        · rw [u2_s, b3]
        · rw [u2_f (by decide), u2_f (by decide)]; exact m4
    · have kr : rdK κ := by unfold rdK; omega
      obtain ⟨a1, -⟩ := h3 kr
      have lo := E.lko HC kr l0 st hk kd g2
      refine ⟨_, TLK.rd HC hs ek kr ty1 hty v1 hk k8 kd (Or.inl rfl) (nme g1) lo, (lkG0_off.u (by decide)).u (by decide), ?_, ?_, ?_, ?_⟩
      · rw [u2_s]
      · rw [u2_f (by decide), u2_s]
      · rw [u2_f (by decide), u2_f (by decide), a1]; exact m3
      · rw [u2_f (by decide), u2_f (by decide)]; exact m4
/-- a prototype of a shape is watched -/
theorem CORE.pwat (HC : CORE Γ h C ho X Y S N) : ∀ s : Nat, (s : Int) < S f_Md_shapes 0 → 0 ≤ S f_Md_shapeProto s → S f_Md_shapeProto s < S f_Md_things 0 ∧ S f_Md_isWatched (S f_Md_shapeProto s).toNat = 1 := fun s => by
  obtain ⟨tn, sn, sm', d1, d2, d5, d6', d3, d4, d6, d7, d8, -⟩ := HC.shp
  induction s using Nat.strongRecOn with
  | _ s ih =>
    intro hs hp
    obtain ⟨-, -, b1, b2, -⟩ := d8 s (by omega)
    have c1 : S f_Md_shapeProto s < (tn : Int) ∧ (S f_Md_thingKind (S f_Md_shapeProto s).toNat = 4 ∨ S f_Md_thingKind (S f_Md_shapeProto s).toNat = 5) := by
      rcases b1 with z | z
      · omega
      · exact ⟨z.2.1, z.2.2.1⟩
    refine ⟨by omega, ?_⟩
    rcases b2 with ⟨z1, -, -, -, z5⟩ | ⟨z1, z2, -, -, -, z6⟩
    · have s0 : s ≠ 0 := fun c => by have := z5.mp c; omega
      have T := (d7 (S f_Md_shapeProto s).toNat (by omega)).p.2.2.2.1 c1.2
      refine T.2.2.2.mpr (rooB_in sn s (by omega) (by omega) z1 (by omega))
    · have := ih (S f_Md_shapeBefore s).toNat (by omega) (by omega) (by rw [← z6]; exact hp)
      rw [← z6] at this
      exact this.2
theorem CORE.tsh (HC : CORE Γ h C ho X Y S N) (hk : (k : Int) < S f_Md_things 0) (kd : S f_Md_thingKind k = 4 ∨ S f_Md_thingKind k = 5) : 0 ≤ S f_Md_thingShape k ∧ S f_Md_thingShape k < S f_Md_shapes 0 := by
  obtain ⟨tn, sn, sm', d1, d2, d5, d6', d3, d4, d6, d7, d8, -⟩ := HC.shp
  have := (((d7 k (by omega)).p.2.2.1).1 kd).1
  omega
/-- what was found along prototypes -/
theorem WLK.new (HC : CORE Γ h C ho X Y S N) : ∀ j p, HLD S nm j p u → (p < 0 ∨ ∃ s : Nat, (s : Int) < S f_Md_shapes 0 ∧ S f_Md_shapeProto s = p) → ((u < 0 ∧ w = -1 ∧ hd = -1) ∨ (0 ≤ u ∧ hd = u ∧ 0 ≤ w ∧ ∃ n : Nat, S f_Md_thingCount u.toNat = (n : Int) ∧ OWN S u.toNat n nm w)) → WLK S La hd w nm j p := fun j => by
  induction j with
  | zero =>
    rintro p ⟨a1, a2⟩ - r
    rcases r with ⟨r1, r2, r3⟩ | ⟨r1, -⟩
    · exact ⟨a1, r3, r2⟩
    · omega
  | succ j ih =>
    intro p H ps r
    rcases H with ⟨a1, a2⟩ | ⟨a1, H⟩
    · rcases r with ⟨r1, r2, r3⟩ | ⟨r1, -⟩
      · exact Or.inl ⟨a1, r3, r2⟩
      · omega
    · obtain ⟨s, s1, s2⟩ := ps.resolve_left (by omega)
      obtain ⟨w1, w2⟩ := HC.pwat s s1 (by omega)
      rw [s2] at w1 w2
      have kd := HC.wat (k := p.toNat) (by omega) w2
      have ts := HC.tsh (k := p.toNat) (by omega) kd
      obtain ⟨n, en⟩ := HC.cnt (k := p.toNat) (by omega)
      have op := fun w => own_pls (nm := nm) (w := w) HC (k := p.toNat) (by omega) kd en
      refine Or.inr ⟨⟨a1, w1, w2⟩, Or.inr ⟨ts, ?_⟩⟩
      rcases H with ⟨b1, b2⟩ | ⟨b1, b2⟩
      · rcases r with ⟨r1, -⟩ | ⟨r1, r2, r3, n', r4, r5⟩
        · omega
        · rw [b2] at r4 r5 r2
          have : n' = n := by omega
          subst this
          exact Or.inl ⟨r2.symm, r3, (op w).mp r5⟩
      · have ow : OWN S p.toNat n nm (-1) := by
          obtain ⟨v, ov⟩ := OWN.ex (S := S) (k := p.toNat) (n := n) (nm := nm)
          have := (ov.ows en)
          have nv : ¬ 0 ≤ v := fun c => b1 (this.mp c)
          rcases ov with ⟨i, e1, -⟩ | ⟨e1, e2⟩
          · omega
          · exact Or.inr ⟨rfl, e2⟩
        refine Or.inr ⟨fun c => ?_, (op (-1)).mp ow, ih _ b2 (Or.inr ⟨(S f_Md_thingShape p.toNat).toNat, by omega, rfl⟩) r⟩
        rcases r with ⟨r1, r2, r3⟩ | ⟨r1, r2, r3, n', r4, r5⟩
        · omega
        · have e1 : u = p := by omega
          rw [e1] at r4 r5
          exact b1 ((r5.ows r4).mp r3)
theorem ENB.rd (HC : CORE Γ h C ho X Y S N) (hκ : rdK κ) (hk : (k : Int) < S f_Md_things 0) (kd : S f_Md_thingKind k = 4 ∨ S f_Md_thingKind k = 5) (lo : LKO S nm k (e f_Md_which) (e f_Md_holder)) (eg : e f_Md_guard = S f_Md_thingShape k) (et : e f_Md_toShape = -1) (la : e f_Md_linkedAt ≤ S f_Md_changes 0) (n0 : κ = 2 ∨ κ = 3 → 0 ≤ nm) : ENB S κ nm e := by
  have ts := HC.tsh hk kd
  obtain ⟨n, en⟩ := HC.cnt hk
  have op := fun w => own_pls (nm := nm) (w := w) HC hk kd en
  unfold rdK at hκ
  refine ⟨⟨fun c => by omega, n0⟩, fun c => by omega, fun _ => ⟨et, by rw [eg]; exact ts, la, ?_⟩⟩
  rw [eg]
  obtain ⟨j, u, H, r⟩ := lo
  match j, H with
  | 0, ⟨a, _⟩ => omega
  | j + 1, H =>
    rcases H with ⟨a1, -⟩ | ⟨a1, ⟨b1, b2⟩ | ⟨b1, b2⟩⟩
    · omega
    · rcases r with ⟨r1, -⟩ | ⟨r1, ⟨n', r2, r3⟩, r4, r5⟩
      · omega
      · rw [b2, Int.toNat_natCast] at r2 r3
        have : n' = n := by omega
        subst this
        rw [b2, if_pos rfl] at r5
        exact Or.inl ⟨r4, r5, (op _).mp r3⟩
    · rw [Int.toNat_natCast] at b1 b2
      have ow : OWN S k n nm (-1) := by
        obtain ⟨v, ov⟩ := OWN.ex (S := S) (k := k) (n := n) (nm := nm)
        have nv : ¬ 0 ≤ v := fun c => b1 ((ov.ows en).mp c)
        rcases ov with ⟨i, e1, -⟩ | ⟨e1, e2⟩
        · omega
        · exact Or.inr ⟨rfl, e2⟩
      have rr : (u < 0 ∧ e f_Md_which = -1 ∧ e f_Md_holder = -1) ∨ (0 ≤ u ∧ e f_Md_holder = u ∧ 0 ≤ e f_Md_which ∧ ∃ n : Nat, S f_Md_thingCount u.toNat = (n : Int) ∧ OWN S u.toNat n nm (e f_Md_which)) := by
        rcases r with ⟨r1, r2, r3⟩ | ⟨r1, ⟨n', r2, r3⟩, r4, r5⟩
        · exact Or.inl ⟨r1, r2, r3⟩
        · refine Or.inr ⟨r1, ?_, r4, n', r2, r3⟩
          rw [r5, if_neg]
          intro c
          rw [c, Int.toNat_natCast] at r2 r3
          exact b1 ((r3.ows r2).mp r4)
      refine Or.inr ⟨fun c => ?_, (op _).mp ow, j, WLK.new HC j _ b2 (Or.inr ⟨(S f_Md_thingShape k).toNat, by omega, rfl⟩) rr⟩
      rcases rr with ⟨r1, r2, r3⟩ | ⟨r1, r2, -⟩ <;> omega
theorem ENB.wr (HC : CORE Γ h C ho X Y S N) (hκ : κ = 1 ∨ κ = 3) (hk : (k : Int) < S f_Md_things 0) (kd : S f_Md_thingKind k = 4 ∨ S f_Md_thingKind k = 5) (en : S f_Md_thingCount k = (n : Int)) (ow : OWN S k n nm (e f_Md_which)) (eg : e f_Md_guard = S f_Md_thingShape k) (eh : e f_Md_holder = -1) (et : (0 ≤ e f_Md_which ∧ e f_Md_toShape = -1) ∨ (e f_Md_which = -1 ∧ ∃ r : Nat, e f_Md_toShape = (r : Int) ∧ 1 ≤ r ∧ (r : Int) < S f_Md_shapes 0 ∧ mtc S (S f_Md_thingShape k) (prS S k) nm r)) (n0 : κ = 2 ∨ κ = 3 → 0 ≤ nm) : ENB S κ nm e := by
  have ts := HC.tsh hk kd
  have op := fun w => own_pls (nm := nm) (w := w) HC hk kd en
  refine ⟨⟨fun c => by clear et ow; omega, n0⟩, fun _ => ⟨eh, by rw [eg]; exact ts, ?_⟩, fun c => by clear et ow; unfold rdK at c; omega⟩
  rw [eg]
  rcases et with ⟨e1, e2⟩ | ⟨e1, r, e2⟩
  · exact Or.inl ⟨e1, (op _).mp ow, e2⟩
  · rw [e1] at ow
    exact Or.inr ⟨e1, (op _).mp ow, r, e2⟩
theorem ENB.cl (hκ : κ = 4 ∨ κ = 6) (e1 : e f_Md_which = -1) (e2 : e f_Md_holder = -1) (e3 : e f_Md_toShape = -1) : ENB S κ nm e := ⟨⟨fun _ => ⟨e1, e2, e3⟩, fun c => by omega⟩, fun c => by omega, fun c => by unfold rdK at c; omega⟩
end
