/-! C: a look at an object -/
set_option maxRecDepth 20000
section
variable {ρ : Nat → Nat} {d : Nat} {Q : QT} {Γ : GH} {h h' h0 h1 h2 H : ah} {C ho T k n m f i j N M b a rr mn sn tn row e t z s s0 c o at_ r m0 E : Nat} {S S' S1 S2 SX : SS} {X X' X1 X2 : X3} {Y Y' Y1 Y2 : Y3} {g : HG} {v p x y nm ty κ hd w La bv el now : Int} {ws hw : List (List Int)} {l : List Int}
theorem u3_id {α : Type} {X : Nat → Nat → Nat → α} {o f i : Nat} {v : α} (e : X o f i = v) : u3 X o f i v = X := by
  funext a b c
  rw [u3_e]
  split
  · next w => rw [w.1, w.2.1, w.2.2]; exact e.symm
  · rfl
/-- C's found holds what a name leads to -/
def opX (X : X3) (w : Int) : X3 := u3 X 53 f_Found_place 0 w
def ohY (h : ah) (C : Nat) (Y : Y3) (hd : Int) : Y3 := u3 Y 53 f_Found_holder 0 (prA h C hd)
theorem opX_fnd (HC : CORE Γ h C ho X Y S N) : CORE Γ h C ho (opX X w) Y S N := (HC.fzz (L := []) (Pp := []) (h' := h) (X' := opX X w) (Y' := Y) Fr.r0 (by unfold DJ; decide +kernel) (fun y c => by simp at c) (fun _ _ _ => rfl) (Int.le_refl _) (EXX.u (by decide +kernel) EXX.rf) (fun o f hf i => rfl)).1.1
theorem CORE.xo (HC : CORE Γ h C ho X Y S N) (hf : LXA.elem f = false) : CORE Γ h C ho (u3 X o f i v) Y S N := (HC.fzz (L := []) (Pp := []) (h' := h) (X' := u3 X o f i v) (Y' := Y) Fr.r0 (by unfold DJ; decide +kernel) (fun y c => by simp at c) (fun _ _ _ => rfl) (Int.le_refl _) (EXX.u hf EXX.rf) (fun o f hf i => rfl)).1.1
theorem CORE.yo (HC : CORE Γ h C ho X Y S N) (hf : L7.elem f = false) : CORE Γ h C ho X (u3 Y o f i k) S N := (HC.fzz (L := []) (Pp := []) (h' := h) (X' := X) (Y' := u3 Y o f i k) Fr.r0 (by unfold DJ; decide +kernel) (fun y c => by simp at c) (fun _ _ _ => rfl) (Int.le_refl _) EXX.rf (fun o' f' hf' i' => u3_f (by rintro rfl; rw [hf] at hf'; cases hf'))).1.1
/-- along the prototypes -/
theorem r_obj210 (HC : CORE Γ h C ho X Y S N) (fe : X 53 f_Found_element 0 = nm) (pl : X 53 f_Found_place 0 = -1) (fh : Y 53 f_Found_holder 0 = 0) : ∀ j p, pcS S j p < 0 → PVL S p → (∀ u w hd, HLD S nm j p u → ((u < 0 ∧ w = -1 ∧ hd = -1) ∨ (0 ≤ u ∧ (∃ n : Nat, S f_Md_thingCount u.toNat = (n : Int) ∧ OWN S u.toNat n nm w) ∧ 0 ≤ w ∧ hd = u ∧ PVL S u)) → Q (Sum.inl none) (cc h C (opX X w) (ohY h C Y hd))) → wpB PGm ρ (d + 1) m_Lookup_object 210 [(2, vR (C + 53)), (3, vR (prA h C p))] [] (cc h C X Y) Q := by
  obtain ⟨tn, sn, sm, c1, c2, c5, c6', c3, c4, c6, c7, c8, U, m1, m2, m3, m4⟩ := HC.shp
  have wf := prS_wf c1 c7 c8
  have ko : hK h (C + 53) = k_Found := HC.1.2.1.2.2.2.2.2.2.1
  have eX : opX X (-1) = X := u3_id pl
  have eY : ohY h C Y (-1) = Y := u3_id (by rw [fh]; rfl)
  have x1 : hI (cc h C X Y) f_Found_place (C + 53) = -1 := by rw [ccI (by decide)]; exact pl
  have x2 : hI (cc h C X Y) f_Found_element (C + 53) = nm := by rw [ccI (by decide)]; exact fe
  intro j
  induction j with
  | zero =>
    intro p hj hp q
    have hj' : p < 0 := hj
    have e : prA h C p = 0 := if_pos hj'
    rw [e]
    have := q (-1) (-1) (-1) ⟨hj', rfl⟩ (Or.inl ⟨by decide, rfl, rfl⟩)
    rw [eX, eY] at this
    exact b_Lookup_object_210 ⟨fun _ => this, fun w => absurd rfl w⟩
  | succ j ih =>
    intro p hj hp q
    by_cases pz : p < 0
    · have e : prA h C p = 0 := if_pos pz
      rw [e]
      have := q (-1) (-1) (-1) (Or.inl ⟨pz, rfl⟩) (Or.inl ⟨by decide, rfl, rfl⟩)
      rw [eX, eY] at this
      exact b_Lookup_object_210 ⟨fun _ => this, fun w => absurd rfl w⟩
    · have p0 : 0 ≤ p := by omega
      unfold pcS at hj
      rw [if_neg pz] at hj
      have hp' := hp
      rcases hp with e | ⟨a1, a2, a3⟩
      · omega
      have hk : ((p.toNat : Nat) : Int) < S f_Md_things 0 := by omega
      obtain ⟨n', sn', s0, e1, L, e2, e3, e4, e5, hnm, dn, nmn, SF, b0, kk, nz⟩ := HC.sth hk a3
      have ks : hK h (hR h f_Obj_shape (hB h (C + 51) p.toNat)) = k_Shape := by rw [e5]; exact (SF s0 e3).1
      have ep0 : prA h C p = hB h (C + 51) p.toNat := if_neg pz
      have SH := c8 s0 (by omega)
      have ep : hR h f_Shape_prototype (hB h (C + 52) s0) = prA h C (prS S p.toNat) := by
        unfold prA prS
        rw [e2, Int.toNat_natCast]
        rcases SH.2.2.1 with y | ⟨y1, y2, y3, y4⟩
        · rw [y.1, y.2, if_pos (by decide)]
        · rw [if_neg (by omega)]; exact y4
      have r1 : ∀ {X' : X3} {Y' : Y3}, hR (cc h C X' Y') f_Obj_shape (hB h (C + 51) p.toNat) = hR h f_Obj_shape (hB h (C + 51) p.toNat) := ccRo (by decide)
      have r2 : ∀ {X' : X3} {Y' : Y3}, hR (cc h C X' Y') f_Shape_prototype (hB h (C + 52) s0) = prA h C (prS S p.toNat) := (ccRo (by decide)).trans ep
      rw [ep0]
      refine b_Lookup_object_210 ⟨fun w => absurd w nz, fun _ => ⟨ko, ?_⟩⟩
      rw [x1, x2]
      refine ⟨fun c => absurd c (by decide), fun _ => ⟨kk, by rw [r1]; exact ks, ?_⟩⟩
      rw [r1]
      refine r_findT (f := fun _ => 0) HC hk a3 L.2.2.1 (fun v hv => ⟨ko, ?_⟩)
      show (0 ≤ hI (sI (cc h C X Y) f_Found_place (C + 53) v) f_Found_place (C + 53) → wpB PGm ρ (d + 1) m_Lookup_object 249 [(2, vR (C + 53)), (3, vR (hB h (C + 51) p.toNat))] [vR (hB h (C + 51) p.toNat), vR (C + 53)] (sI (cc h C X Y) f_Found_place (C + 53) v) Q) ∧ (hI (sI (cc h C X Y) f_Found_place (C + 53) v) f_Found_place (C + 53) < 0 → wpB PGm ρ (d + 1) m_Lookup_object 249 [(2, vR (C + 53)), (3, vR (hB h (C + 51) p.toNat))] [vR 0, vR (C + 53)] (sI (cc h C X Y) f_Found_place (C + 53) v) Q)
      rw [cc_sI (by decide), ccI (by decide), u3_s]
      refine ⟨fun v0 => ?_, fun v0 => ?_⟩
      · -- it is here
        have ow : OWs S p.toNat nm := by
          rcases hv with ⟨i, h1, h2, h3⟩ | ⟨h1, -⟩
          · exact ⟨n', L.2.2.1, i, h2, h3⟩
          · omega
        have g := q p v p (Or.inr ⟨p0, Or.inl ⟨ow, rfl⟩⟩) (Or.inr ⟨p0, ⟨n', L.2.2.1, hv⟩, v0, rfl, hp'⟩)
        unfold ohY at g
        rw [ep0] at g
        refine b_Lookup_object_249 ⟨ko, ?_⟩
        rw [cc_sR (by decide)]
        refine ⟨kk, by rw [r1]; exact ks, ?_⟩
        rw [r1, e5, r2]
        have x3 : hI (cc h C (u3 X 53 f_Found_place 0 v) (u3 Y 53 f_Found_holder 0 (hB h (C + 51) p.toNat))) f_Found_place (C + 53) = v := by rw [ccI (by decide)]; exact u3_s
        exact b_Lookup_object_210 ⟨fun _ => g, fun _ => ⟨ko, fun _ => g, fun c => absurd c (by rw [x3]; omega)⟩⟩
      · have v1 : v = -1 := by
          rcases hv with ⟨i, h1, -, -⟩ | ⟨h1, -⟩
          · omega
          · exact h1
        subst v1
        have now' : ¬ OWs S p.toNat nm := fun ⟨n2, h1, i, h2, h3⟩ => by
          rcases hv with ⟨i, h4, -, -⟩ | ⟨-, h5⟩
          · omega
          · have h6 := L.2.2.1
            exact h5 i (by omega) h3
        rw [show u3 X 53 f_Found_place 0 (-1) = X from eX]
        refine b_Lookup_object_249 ⟨ko, ?_⟩
        rw [cc_sR (by decide), u3_id fh]
        refine ⟨kk, by rw [r1]; exact ks, ?_⟩
        rw [r1, e5, r2]
        exact ih (prS S p.toNat) hj (PVL.of wf p0 hp') (fun u w hd h1 h2 => q u w hd (Or.inr ⟨p0, Or.inr ⟨now', h1⟩⟩) h2)
theorem r_sigL (HC : CORE Γ h C ho X Y S N) (q : Q (Sum.inr (C + 33)) (cc h C (erX X v) Y)) : hK (cc h C X Y) (C + 98) = k_Lookup ∧ hK (cc h C X Y) (hR (cc h C X Y) f_Lookup_signal (C + 98)) = k_Signal ∧ wpB PGm ρ d m_Signal_of 0 [(0, vR (hR (cc h C X Y) f_Lookup_signal (C + 98))), (1, vI v)] [] (cc h C X Y) (cR (fun x24 h19 => hK h19 x24 ≠ 0 ∧ Q (Sum.inr x24) h19) (fun e22 h21 => hK h21 e22 ≠ 0 ∧ Q (Sum.inr e22) h21)) := by
  have F := HC.1.2
  have e : hR (cc h C X Y) f_Lookup_signal (C + 98) = C + 33 := by
    rw [ccRo (by decide)]
    exact F.2.2.1.2.2.2.2.1
  rw [e]
  exact ⟨F.1.2.2.2.2.2.2.2.2, F.1.2.1, r_sigQ HC.1.1 F q⟩
/-- C looks at an object: read -/
theorem r_objR (HC : CORE Γ h C ho X Y S N) (hk : (k : Int) < S f_Md_things 0) (kd : S f_Md_thingKind k = 4 ∨ S f_Md_thingKind k = 5) (fs : Y 53 f_Found_shape 0 = hB h (C + 52) (S f_Md_thingShape k).toNat) (fe : X 53 f_Found_element 0 = nm) (pl : X 53 f_Found_place 0 = -1) (fh : Y 53 f_Found_holder 0 = 0) (ka : hK h a = k_Site) (ek : hI h f_Site_kind a = κ) (q0 : nm < 0 → Q (Sum.inr (C + 33)) (cc h C (erX X 6) Y)) (q1 : 0 ≤ nm → ∀ w hd, LKO S nm k w hd → PVL S hd → (hd < 0 → w < 0 ∨ 0 ≤ w) → Q (Sum.inl none) (cc h C (opX (u3 X 53 f_Found_action 0 (if κ = 5 then 3 else 0)) w) (ohY h C Y hd))) : wpB PGm ρ (d + 1) m_Lookup_object 153 [(0, vR (C + 98)), (1, vR a), (2, vR (C + 53))] [] (cc h C X Y) Q := by
  obtain ⟨tn, sn, sm, c1, c2, c5, c6', c3, c4, c6, c7, c8, U, m1, m2, m3, m4⟩ := HC.shp
  have wf := prS_wf c1 c7 c8
  have AY : ACY S := by obtain ⟨_, _, _, _, _, _, _, _, _, _, _, _, a⟩ := HC.2.2.2.2.2.2.2.2.2.1; exact a.2
  have ko : hK h (C + 53) = k_Found := HC.1.2.1.2.2.2.2.2.2.1
  have x2 : hI (cc h C X Y) f_Found_element (C + 53) = nm := by rw [ccI (by decide)]; exact fe
  have ik : hI (cc h C X Y) f_Site_kind a = κ := by rw [ccIo (by decide)]; exact ek
  obtain ⟨n', sn', s0, e1, L, e2, e3, e4, e5, hnm, dn, nmn, SF, b0, kk, nz⟩ := HC.sth hk kd
  have es : (S f_Md_thingShape k).toNat = s0 := by omega
  rw [es] at fs
  have ks : hK h (hB h (C + 52) s0) = k_Shape := (SF s0 e3).1
  have SH := c8 s0 (by omega)
  have ep : hR h f_Shape_prototype (hB h (C + 52) s0) = prA h C (prS S k) := by
    unfold prA prS
    rw [e2, Int.toNat_natCast]
    rcases SH.2.2.1 with y | ⟨y1, y2, y3, y4⟩
    · rw [y.1, y.2, if_pos (by decide)]
    · rw [if_neg (by omega)]; exact y4
  have pvk : PVL S (k : Int) := Or.inr ⟨by omega, hk, by rw [Int.toNat_natCast]; exact kd⟩
  have pvp : PVL S (prS S k) := by have := PVL.of wf (p := (k : Int)) (by omega) pvk; rw [Int.toNat_natCast] at this; exact this
  have g184 : 0 ≤ nm → ∀ ac : Int, ac = (if κ = 5 then 3 else 0) → wpB PGm ρ (d + 1) m_Lookup_object 184 [(2, vR (C + 53))] [vI ac, vR (C + 53)] (cc h C X Y) Q := fun nz0 ac eac => by
    have q2 := q1 nz0
    rw [← eac] at q2
    have HC1 := HC.xo (o := 53) (f := f_Found_action) (i := 0) (v := ac) (by decide +kernel)
    have y1 : ∀ {X' : X3}, hR (cc h C X' Y) f_Found_shape (C + 53) = hB h (C + 52) s0 := fun {X'} => by rw [ccR (by decide)]; exact fs
    have r1 : ∀ {X' : X3}, hR (cc h C X' Y) f_Shape_prototype (hB h (C + 52) s0) = prA h C (prS S k) := fun {X'} => (ccRo (by decide)).trans ep
    have x3 : hI (cc h C (u3 X 53 f_Found_action 0 ac) Y) f_Found_element (C + 53) = nm := by rw [ccI (by decide), u3_f (by decide)]; exact fe
    refine b_Lookup_object_184 ⟨ko, ?_⟩
    rw [cc_sI (by decide)]
    refine ⟨ko, by rw [y1]; exact ks, ?_⟩
    rw [y1, x3, ← e5]
    refine r_findT (f := fun _ => 0) HC1 hk kd L.2.2.1 (fun v hv => ⟨ko, ?_⟩)
    show hK (sI (cc h C (u3 X 53 f_Found_action 0 ac) Y) f_Found_place (C + 53) v) (hR (sI (cc h C (u3 X 53 f_Found_action 0 ac) Y) f_Found_place (C + 53) v) f_Found_shape (C + 53)) = k_Shape ∧ wpB PGm ρ (d + 1) m_Lookup_object 210 [(2, vR (C + 53)), (3, vR (hR (sI (cc h C (u3 X 53 f_Found_action 0 ac) Y) f_Found_place (C + 53) v) f_Shape_prototype (hR (sI (cc h C (u3 X 53 f_Found_action 0 ac) Y) f_Found_place (C + 53) v) f_Found_shape (C + 53))))] [] (sI (cc h C (u3 X 53 f_Found_action 0 ac) Y) f_Found_place (C + 53) v) Q
    rw [cc_sI (by decide), y1, r1]
    refine ⟨ks, ?_⟩
    have exj : ∃ j, pcS S j (prS S k) < 0 := by
      rcases pvp with z | ⟨a1, a2, a3⟩
      · exact ⟨0, by show prS S k < 0; omega⟩
      · obtain ⟨j, hj⟩ := AY (prS S k).toNat (by omega) a3
        exact ⟨j, by rw [show (((prS S k).toNat : Nat) : Int) = prS S k by omega] at hj; exact hj⟩
    obtain ⟨j, hj⟩ := exj
    have eY : ohY h C Y (-1) = Y := u3_id (by rw [fh]; rfl)
    by_cases v0 : 0 ≤ v
    · have ow : OWs S k nm := by
        rcases hv with ⟨i, h1, h2, h3⟩ | ⟨h1, -⟩
        · exact ⟨n', L.2.2.1, i, h2, h3⟩
        · omega
      have g := q2 v (-1) ⟨1, (k : Int), Or.inr ⟨by omega, Or.inl ⟨by rw [Int.toNat_natCast]; exact ow, rfl⟩⟩, Or.inr ⟨by omega, ⟨n', by rw [Int.toNat_natCast]; exact L.2.2.1, by rw [Int.toNat_natCast]; exact hv⟩, v0, by rw [if_pos rfl]⟩⟩ (Or.inl rfl) (fun _ => Or.inr v0)
      rw [eY] at g
      have x4 : hI (cc h C (u3 (u3 X 53 f_Found_action 0 ac) 53 f_Found_place 0 v) Y) f_Found_place (C + 53) = v := by rw [ccI (by decide)]; exact u3_s
      exact b_Lookup_object_210 ⟨fun _ => g, fun _ => ⟨ko, fun _ => g, fun c => absurd c (by rw [x4]; omega)⟩⟩
    · have v1 : v = -1 := by
        rcases hv with ⟨i, h1, -, -⟩ | ⟨h1, -⟩
        · omega
        · exact h1
      subst v1
      have now' : ¬ OWs S k nm := fun ⟨n2, h1, i, h2, h3⟩ => by
        rcases hv with ⟨i, h4, -, -⟩ | ⟨-, h5⟩
        · omega
        · have h6 := L.2.2.1
          exact h5 i (by omega) h3
      rw [u3_id (show u3 X 53 f_Found_action 0 ac 53 f_Found_place 0 = -1 by rw [u3_f (by decide)]; exact pl)]
      refine r_obj210 (d := d) (nm := nm) HC1 (by rw [u3_f (by decide)]; exact fe) (by rw [u3_f (by decide)]; exact pl) fh j _ hj pvp (fun u w hd h1 h2 => ?_)
      refine q2 w hd ⟨j + 1, u, Or.inr ⟨by omega, Or.inr ⟨by rw [Int.toNat_natCast]; exact now', by rw [Int.toNat_natCast]; exact h1⟩⟩, ?_⟩ ?_ (fun _ => by omega)
      · rcases h2 with h2 | ⟨h2, h3, h4, h5, h6⟩
        · exact Or.inl h2
        · refine Or.inr ⟨h2, h3, h4, ?_⟩
          rw [h5, if_neg]
          intro c
          obtain ⟨n2, h7, h8⟩ := h3
          rw [c, Int.toNat_natCast] at h7 h8
          rcases h8 with ⟨i, h9, h10, h11⟩ | ⟨h9, -⟩
          · exact now' ⟨n2, h7, i, h10, h11⟩
          · omega
      · rcases h2 with ⟨-, -, h2⟩ | ⟨h2, h3, h4, h5, h6⟩
        · exact Or.inl h2
        · rw [h5]; exact h6
  refine b_Lookup_object_153 ⟨ko, ?_⟩
  rw [x2, ik]
  exact ⟨fun n0 => ⟨ka, fun c => g184 n0 0 (by rw [if_neg c]), fun c => g184 n0 3 (by rw [if_pos c])⟩, fun n0 => r_sigL HC (q0 n0)⟩
end
