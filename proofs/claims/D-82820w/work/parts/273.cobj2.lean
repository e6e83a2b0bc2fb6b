/-! C: a look at an object, whole -/
set_option maxRecDepth 20000
section
variable {ρ : Nat → Nat} {d : Nat} {Q : QT} {Γ : GH} {h h' h0 h1 h2 H : ah} {C ho T k n m f i j N M b a rr mn sn tn row e t z s s0 c o at_ r m0 E : Nat} {S S' S1 S2 SX : SS} {X X' X1 X2 : X3} {Y Y' Y1 Y2 : Y3} {g : HG} {v p x y nm ty κ hd w La bv el now : Int} {ws hw : List (List Int)} {l : List Int}
theorem cV_id {Q : QT} {r : Sum (Option AV) Nat} {h : ah} (kh : ∀ x, r = Sum.inr x → hK h x ≠ 0) (nv : ∀ v, r ≠ Sum.inl (some v)) (q : Q r h) : cV (fun h18 => Q (Sum.inl none) h18) (fun e21 h20 => hK h20 e21 ≠ 0 ∧ Q (Sum.inr e21) h20) r h := by
  match r, kh, nv, q with
  | Sum.inl none, _, _, q => exact q
  | Sum.inl (some v), _, nv, _ => exact absurd rfl (nv v)
  | Sum.inr x, kh, _, q => exact ⟨kh x rfl, q⟩
/-- a property is to be written -/
theorem r_objW (HC : CORE Γ h C ho X Y S N) (HC2 : CORE Γ h C ho (u3 X 53 f_Found_action 0 2) Y S2 N) (e2 : EXS LTS S S2) (hk : (k : Int) < S f_Md_things 0) (kd : S f_Md_thingKind k = 4 ∨ S f_Md_thingKind k = 5) (fs : Y 53 f_Found_shape 0 = hB h (C + 52) (S f_Md_thingShape k).toNat) (fe : X 53 f_Found_element 0 = nm) (pl : X 53 f_Found_place 0 = -1) (en : S f_Md_thingCount k = (n : Int))
    (q6 : nm < 0 → Q (Sum.inr (C + 33)) (cc h C (erX X 6) Y)) (q1 : 0 ≤ nm → ∀ w, OWN S k n nm w → 0 ≤ w → Q (Sum.inl none) (cc h C (u3 (opX X w) 53 f_Found_action 0 1) Y))
    (q2 : 0 ≤ nm → OWN S k n nm (-1) → TMD ρ S2 (S f_Md_thingShape k) (prS S k) nm none → Q (Sum.inr (C + 33)) (cc h C (erX (u3 X 53 f_Found_action 0 2) 0) Y))
    (q3 : 0 ≤ nm → OWN S k n nm (-1) → ∀ r S' h' X', TMD ρ S2 (S f_Md_thingShape k) (prS S k) nm (some (r, S')) → SHR Γ h C ho (u3 X 53 f_Found_action 0 2) Y S2 N h' X' S' → (1 ≤ r ∧ (r : Int) < S' f_Md_shapes 0) → S' f_Md_shapeProto r = prS S k → S' f_Md_shapeBefore r = S f_Md_thingShape k → S' f_Md_shapeName r = nm → S' f_Md_shapeCount r = (n : Int) + 1 → Q (Sum.inl none) (cc h' C X' (u3 Y 53 f_Found_to 0 (hB h' (C + 52) r)))) : wpB PGm ρ (d + 17) m_Lookup_object 78 [(0, vR (C + 98)), (2, vR (C + 53))] [] (cc h C X Y) Q := by
  have F := HC.1.2
  have ko : hK h (C + 53) = k_Found := F.1.2.2.2.2.2.2.1
  have x2 : hI (cc h C X Y) f_Found_element (C + 53) = nm := by rw [ccI (by decide)]; exact fe
  obtain ⟨n', sn', s0, e1, L, e2', e3, e4, e5, hnm, dn, nmn, SF, b0, kk, nz⟩ := HC.sth hk kd
  have enn : n' = n := by have := L.2.2.1; omega
  subst enn
  have es : (S f_Md_thingShape k).toNat = s0 := by omega
  rw [es] at fs
  have ks : hK h (hB h (C + 52) s0) = k_Shape := (SF s0 e3).1
  have y1 : ∀ {X' : X3}, hR (cc h C X' Y) f_Found_shape (C + 53) = hB h (C + 52) s0 := fun {X'} => by rw [ccR (by decide)]; exact fs
  refine b_Lookup_object_78 (d := d + 16) ⟨ko, ?_⟩
  rw [x2, y1]
  refine ⟨fun n0 => ⟨ks, ?_⟩, fun n0 => r_sigL HC (q6 n0)⟩
  rw [← e5]
  refine r_findT (f := fun _ => 0) HC hk kd L.2.2.1 (fun v hv => ⟨ko, ?_⟩)
  show (0 ≤ hI (sI (cc h C X Y) f_Found_place (C + 53) v) f_Found_place (C + 53) → wpB PGm ρ (d + 17) m_Lookup_object 123 [(0, vR (C + 98)), (2, vR (C + 53))] [vI 1, vR (C + 53)] (sI (cc h C X Y) f_Found_place (C + 53) v) Q) ∧ (hI (sI (cc h C X Y) f_Found_place (C + 53) v) f_Found_place (C + 53) < 0 → wpB PGm ρ (d + 17) m_Lookup_object 123 [(0, vR (C + 98)), (2, vR (C + 53))] [vI 2, vR (C + 53)] (sI (cc h C X Y) f_Found_place (C + 53) v) Q)
  rw [cc_sI (by decide), ccI (by decide), u3_s]
  refine ⟨fun v0 => ?_, fun v0 => ?_⟩
  · have g := q1 n0 v hv v0
    have x4 : hI (cc h C (u3 (u3 X 53 f_Found_place 0 v) 53 f_Found_action 0 1) Y) f_Found_place (C + 53) = v := by rw [ccI (by decide), u3_f (by decide)]; exact u3_s
    refine b_Lookup_object_123 (d := d + 16) ⟨ko, ?_⟩
    rw [cc_sI (by decide)]
    refine ⟨ko, fun _ => g, fun c => absurd c (by rw [x4]; omega)⟩
  · have v1 : v = -1 := by
      rcases hv with ⟨i, h1, -, -⟩ | ⟨h1, -⟩
      · omega
      · exact h1
    subst v1
    rw [u3_id pl]
    have x4 : hI (cc h C (u3 X 53 f_Found_action 0 2) Y) f_Found_place (C + 53) = -1 := by rw [ccI (by decide), u3_f (by decide)]; exact pl
    have x5 : hI (cc h C (u3 X 53 f_Found_action 0 2) Y) f_Found_element (C + 53) = nm := by rw [ccI (by decide), u3_f (by decide)]; exact fe
    have eh : hR (cc h C (u3 X 53 f_Found_action 0 2) Y) f_Lookup_heap (C + 98) = C + 50 := by rw [ccRo (by decide)]; exact F.2.2.1.2.2.2.2.2
    have eP : S2 f_Md_shapeProto s0 = prS S k := by unfold prS; rw [e2', Int.toNat_natCast]; exact e2 _ (by decide) _
    have ec : S2 f_Md_shapeCount s0 = (n' : Int) := by rw [e2 _ (by decide)]; exact e4
    have ea : ∀ j, anc S2 s0 j = anc S s0 j := fun j => by
      induction j with
      | zero => rfl
      | succ j ih => show (S2 f_Md_shapeBefore (anc S2 s0 j)).toNat = (S f_Md_shapeBefore (anc S s0 j)).toNat; rw [ih, e2 _ (by decide)]
    have tS : ((s0 : Nat) : Int) = S f_Md_thingShape k := e2'.symm
    have kS : ∀ {h' : ah} {X' : X3}, FC h' C → hK (cc h' C X' Y) (C + 33) ≠ 0 := fun {h' X'} F' => by rw [ccK, F'.1.2.1]; decide
    refine b_Lookup_object_123 (d := d + 16) ⟨ko, ?_⟩
    rw [cc_sI (by decide)]
    refine ⟨ko, fun c => absurd c (by rw [x4]; decide), fun _ => ⟨F.1.2.2.2.2.2.2.2.2, by rw [eh]; exact F.1.2.2.2.2.2.1, ?_⟩⟩
    rw [eh, y1, x5]
    refine j_after (d := d + 13) HC2 (b := s0) (by rw [e2 _ (by decide)]; omega) n0 (fun j hj => ?_) (by omega) (fun tm => ⟨kS F, ?_⟩) (fun r S' h' X' tm B r1 p1 p2 p3 p4 => ⟨?_, ?_⟩)
    · rw [ec] at hj
      have := hnm (n' - 1 - j) (by omega)
      rw [show n' - 1 - (n' - 1 - j) = j by omega] at this
      rw [e2 _ (by decide), ea, this]
      rcases hv with ⟨i, h1, -, -⟩ | ⟨-, h2⟩
      · omega
      · exact h2 _ (by omega)
    · rw [tS, eP] at tm
      exact q2 n0 hv tm
    · exact B.1.1.1.2.1.2.2.2.2.2.2.1
    · rw [tS, eP] at tm
      rw [eP] at p1
      rw [tS] at p2
      rw [ec] at p4
      have g := q3 n0 hv r S' h' X' tm B r1 p1 p2 p3 p4
      show Q (Sum.inl none) (sR (cc h' C X' Y) f_Found_to (C + 53) (hB h' (C + 52) r))
      rw [cc_sR (by decide)]
      exact g
/-- a call -/
theorem r_objC (HC : CORE Γ h C ho X Y S N) (ka : hK h a = k_Site) (ek : hI h f_Site_kind a = κ) (hκ : κ = 4 ∨ κ = 6) (q5 : Y 53 f_Found_code 0 = 0 → Q (Sum.inr (C + 33)) (cc h C (erX X 5) Y)) (q1 : ¬ Y 53 f_Found_code 0 = 0 → Q (Sum.inl none) (cc h C (u3 X 53 f_Found_action 0 (if κ = 4 then 4 else 5)) Y)) : wpB PGm ρ (d + 1) m_Lookup_object 44 [(0, vR (C + 98)), (1, vR a), (2, vR (C + 53))] [] (cc h C X Y) Q := by
  have ko : hK h (C + 53) = k_Found := HC.1.2.1.2.2.2.2.2.2.1
  have y1 : hR (cc h C X Y) f_Found_code (C + 53) = Y 53 f_Found_code 0 := ccR (by decide)
  have ik : hI (cc h C X Y) f_Site_kind a = κ := by rw [ccIo (by decide)]; exact ek
  refine b_Lookup_object_44 ⟨ko, ?_⟩
  rw [y1, ik]
  refine ⟨fun c => ⟨ka, fun c4 => ?_, fun c4 => ?_⟩, fun c => r_sigL HC (q5 c)⟩
  · have g := q1 c
    rw [if_neg c4] at g
    show Q (Sum.inl none) (sI (cc h C X Y) f_Found_action (C + 53) 5)
    rw [cc_sI (by decide)]; exact g
  · have g := q1 c
    rw [if_pos c4] at g
    show Q (Sum.inl none) (sI (cc h C X Y) f_Found_action (C + 53) 4)
    rw [cc_sI (by decide)]; exact g
theorem r_obj0 (ka : hK h a = k_Site) (ek : hI h f_Site_kind a = κ) (hκ : 0 ≤ κ ∧ κ ≤ 6) (g78 : κ = 1 ∨ κ = 3 → wpB PGm ρ d m_Lookup_object 78 [(0, vR (C + 98)), (2, vR (C + 53))] [] (cc h C X Y) Q) (g153 : κ = 0 ∨ κ = 2 ∨ κ = 5 → wpB PGm ρ d m_Lookup_object 153 [(0, vR (C + 98)), (1, vR a), (2, vR (C + 53))] [] (cc h C X Y) Q) (g44 : κ = 4 ∨ κ = 6 → wpB PGm ρ d m_Lookup_object 44 [(0, vR (C + 98)), (1, vR a), (2, vR (C + 53))] [] (cc h C X Y) Q) : wpB PGm ρ d m_Lookup_object 0 [(0, vR (C + 98)), (1, vR a), (2, vR (C + 53))] [] (cc h C X Y) Q := by
  have ik : hI (cc h C X Y) f_Site_kind a = κ := by rw [ccIo (by decide)]; exact ek
  refine b_Lookup_object_0 ⟨ka, ?_⟩
  rw [ik]
  exact ⟨fun c => g78 (Or.inl c), fun c1 => ⟨fun c => g153 (Or.inr (Or.inl c)), fun c2 => ⟨fun c => g78 (Or.inr c), fun c3 => ⟨fun c => g44 (Or.inl c), fun c4 => ⟨fun c => g153 (Or.inr (Or.inr c)), fun c5 => ⟨fun c => g44 (Or.inr c), fun c6 => g153 (Or.inl (by omega))⟩⟩⟩⟩⟩⟩
end
