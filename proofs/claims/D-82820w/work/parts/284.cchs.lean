/-! C: choices that are kept -/
set_option maxRecDepth 20000
/-- what a choice goes by: class, kind, static, word, setter, classes of values -/
abbrev KEY : Type := Int × Int × Int × Int × Int × List Int
def hs0 (K : KEY) : Int := w32 (w32 (w32 (w32 (31 * K.1) + w32 (7 * K.2.1)) + K.2.2.2.1) + (if K.2.2.1 = 0 then 0 else 3))
def hsF (x : Int) : Int := o32 (· &&& ·) (o32 (· ^^^ ·) x (o32 (fun a b => (a.toUInt32 >>> (b.toUInt32 &&& Int32.toUInt32 31)).toInt32) x 8)) 255
def hsK (K : KEY) : Int := hsF (K.2.2.2.2.2.foldl (fun h x => w32 (w32 (31 * h) + x)) (hs0 K))
/-- a choice of C -/
def CHO (h : ah) (ho N M : Nat) (K : KEY) (v : Int) (a : Nat) : Prop := (hK h a = k_Choice ∧ a < hz h ∧ a ≠ 0) ∧ (0 ≤ K.1 ∧ K.1 < (N : Int) ∧ hR h f_Choice_type a = hB h (ho + 2) K.1.toNat) ∧ (hI h f_Choice_kind a = K.2.1 ∧ hI h f_Choice_isStatic a = K.2.2.1 ∧ hI h f_Choice_name a = K.2.2.2.1 ∧ hI h f_Choice_setter a = K.2.2.2.2.1) ∧ (hR h f_Choice_classes a ≠ 0 ∧ hR h f_Choice_classes a < hz h ∧ UNO h (hR h f_Choice_classes a) ∧ hK h (hR h f_Choice_classes a) = 1 ∧ hl h (hR h f_Choice_classes a) = K.2.2.2.2.2.length ∧ ∀ i, i < K.2.2.2.2.2.length → hA h (hR h f_Choice_classes a) i = K.2.2.2.2.2.getD i 0) ∧ ((0 ≤ v ∧ v < (M : Int) ∧ hR h f_Choice_member a = hB h (ho + 3) v.toNat) ∨ ((v = -8 ∨ v = -9) ∧ hR h f_Choice_member a = 0 ∧ hI h f_Choice_why a = -v))
/-- the first of a row of choices, of the first k -/
def chA' (CK : Nat → KEY) (ca : Nat → Nat) : Nat → Nat → Nat
  | 0, _ => 0
  | k + 1, b => if (hsK (CK k)).toNat = b then ca k else chA' CK ca k b
def LKH (h : ah) (ho : Nat) (X : X3) (Y : Y3) (N M kn ac : Nat) (CK : Nat → KEY) (CV : Nat → Int) (ca : Nat → Nat) : Prop := (X 98 f_Lookup_kept 0 = (kn : Int) ∧ X 98 f_Lookup_allKept 0 = (ac : Int) ∧ kn ≤ ac ∧ ac ≤ 2000) ∧ (∀ k, k < kn → CHO h ho N M (CK k) (CV k) (ca k) ∧ hR h f_Choice_next (ca k) = chA' CK ca k (hsK (CK k)).toNat) ∧ ∀ b, b < 256 → Y 98 f_Lookup_choices b = chA' CK ca kn b
section
variable {ρ : Nat → Nat} {d : Nat} {Q : QT} {Γ : GH} {h h' h1 h2 : ah} {C ho k n m i j N M a b z s x y nw r f o kn ac : Nat} {g : HG} {v p es lo sb st c kd : Int} {ws hw : List (List Int)} {L ts cl : List Int} {S : SS} {X X' : X3} {Y Y' : Y3} {K K0 : KEY} {CK : Nat → KEY} {CV : Nat → Int} {ca : Nat → Nat} {Lf : List Nat} {Pp : List (Nat × Nat)}
theorem and255 (x : Int) : 0 ≤ o32 (· &&& ·) x 255 ∧ o32 (· &&& ·) x 255 < 256 := by
  unfold o32
  show 0 ≤ (Int32.ofInt x &&& 255).toInt ∧ (Int32.ofInt x &&& 255).toInt < 256
  generalize Int32.ofInt x = a
  have e : (a &&& 255).toInt = (a &&& 255).toBitVec.toInt := rfl
  have e2 : (a &&& 255).toBitVec = a.toBitVec &&& 255#32 := rfl
  rw [e, e2]
  have l : (a.toBitVec &&& 255#32).toNat < 256 := by
    rw [BitVec.toNat_and]
    exact Nat.lt_of_le_of_lt Nat.and_le_right (by decide)
  rw [BitVec.toInt_eq_toNat_of_lt (by omega)]
  omega
theorem hsF_b (x : Int) : 0 ≤ hsF x ∧ hsF x < 256 := and255 _
theorem UNO.cA (G : AC h C) (u : UNO h x) : hA (cc h C X Y) x i = hA h x i := ccA0 (fun q hq => by
  have o1 := ownA' hq
  exact u q.1 (C + q.2.1) (by have := G.1; have := o1.2; omega) o1.1)
/-- a choice stays -/
theorem CHO.fr (H : CHO h ho N M K v a) (fr : Fr Lf Pp z s h h') (d1 : DJ [f_Choice_type, f_Choice_kind, f_Choice_isStatic, f_Choice_name, f_Choice_setter, f_Choice_classes, f_Choice_member, f_Choice_why] Lf Pp) (p0 : ∀ y, (0, y) ∉ Pp) (b2 : ∀ i, i < N → hB h' (ho + 2) i = hB h (ho + 2) i) (b3 : ∀ i, i < M → hB h' (ho + 3) i = hB h (ho + 3) i) : CHO h' ho N M K v a := by
  obtain ⟨⟨k1, k2, k3⟩, ⟨t1, t2, t3⟩, ⟨i1, i2, i3, i4⟩, ⟨c1, c2, c3, c4, c5, c6⟩, m⟩ := H
  have rc : hR h' f_Choice_classes a = hR h f_Choice_classes a := fr.R k2 (by decide) (d1.w (by decide))
  have sc := fr.ar0 c2 c1 (p0 _) (fun f x hx hf => c3 f x hx hf)
  refine ⟨⟨by rw [fr.K k2]; exact k1, fr.lt k2, k3⟩, ⟨t1, t2, by rw [fr.R k2 (by decide) (d1.w (by decide)), b2 _ (by omega)]; exact t3⟩, ⟨by rw [fr.I k2 (by decide) (d1.w (by decide))]; exact i1, by rw [fr.I k2 (by decide) (d1.w (by decide))]; exact i2, by rw [fr.I k2 (by decide) (d1.w (by decide))]; exact i3, by rw [fr.I k2 (by decide) (d1.w (by decide))]; exact i4⟩, ⟨by rw [rc]; exact c1, by rw [rc]; exact fr.lt c2, by rw [rc]; exact c3.fr c2 c1 fr, by rw [rc, fr.K c2]; exact c4, by rw [rc, sc.1]; exact c5, fun i hi => by rw [rc, sc.2.1]; exact c6 i hi⟩, ?_⟩
  rcases m with ⟨m1, m2, m3⟩ | ⟨m1, m2, m3⟩
  · exact Or.inl ⟨m1, m2, by rw [fr.R k2 (by decide) (d1.w (by decide)), b3 _ (by omega)]; exact m3⟩
  · exact Or.inr ⟨m1, by rw [fr.R k2 (by decide) (d1.w (by decide))]; exact m2, by rw [fr.I k2 (by decide) (d1.w (by decide))]; exact m3⟩
theorem LKH.fr (H : LKH h ho X Y N M kn ac CK CV ca) (fr : Fr Lf Pp z s h h') (d1 : DJ [f_Choice_type, f_Choice_kind, f_Choice_isStatic, f_Choice_name, f_Choice_setter, f_Choice_classes, f_Choice_member, f_Choice_why, f_Choice_next] Lf Pp) (p0 : ∀ y, (0, y) ∉ Pp) (b2 : ∀ i, i < N → hB h' (ho + 2) i = hB h (ho + 2) i) (b3 : ∀ i, i < M → hB h' (ho + 3) i = hB h (ho + 3) i) (x1 : X' 98 f_Lookup_kept 0 = X 98 f_Lookup_kept 0) (x2 : X' 98 f_Lookup_allKept 0 = X 98 f_Lookup_allKept 0) (y1 : ∀ b, Y' 98 f_Lookup_choices b = Y 98 f_Lookup_choices b) : LKH h' ho X' Y' N M kn ac CK CV ca := by
  obtain ⟨⟨a1, a2, a3⟩, a4, a5⟩ := H
  refine ⟨⟨by rw [x1]; exact a1, by rw [x2]; exact a2, a3⟩, fun k hk => ⟨(a4 k hk).1.fr fr (d1.sb (by decide)) p0 b2 b3, ?_⟩, fun b hb => by rw [y1]; exact a5 b hb⟩
  rw [fr.R (a4 k hk).1.1.2.1 (by decide) (d1.w (by decide))]
  exact (a4 k hk).2
/-- a choice is asked for or not -/
theorem r_is (HC : CORE Γ h C ho X Y S N) (HX : HCX ρ h ho g N M hw) (A : CHO h ho N M K v a) (hc : 0 ≤ K0.1 ∧ K0.1 < (N : Int)) (eo : K0.2.2.2.2.2.length ≤ 8) (ec : ∀ i, i < K0.2.2.2.2.2.length → X 53 f_Found_classes i = K0.2.2.2.2.2.getD i 0) (q1 : K = K0 → Q (Sum.inl (some (vI 1))) (cc h C X Y)) (q0 : ¬ K = K0 → Q (Sum.inl (some (vI 0))) (cc h C X Y)) : wpB PGm ρ d m_Choice_is 0 [(0, vR a), (1, vR (hB h (ho + 2) K0.1.toNat)), (2, vI K0.2.1), (3, vI K0.2.2.1), (4, vI K0.2.2.2.1), (5, vI K0.2.2.2.2.1), (6, vR (hR h f_Found_classes (C + 53))), (7, vI (K0.2.2.2.2.2.length : Int))] [] (cc h C X Y) Q := by
  obtain ⟨⟨k1, k2, k3⟩, ⟨t1, t2, t3⟩, ⟨i1, i2, i3, i4⟩, ⟨c1, c2, c3, c4, c5, c6⟩, -⟩ := A
  have G := HC.1.1
  have F := HC.1.2
  obtain ⟨kc, kk, ks, kn', kb, kl⟩ := K
  obtain ⟨qc, qk, qs, qn, qb, ql⟩ := K0
  simp only at t1 t2 t3 i1 i2 i3 i4 c5 c6 hc eo ec q1 q0 ⊢
  have j1 : hI (cc h C X Y) f_Choice_kind a = kk := (ccIo (by decide)).trans i1
  have j2 : hI (cc h C X Y) f_Choice_isStatic a = ks := (ccIo (by decide)).trans i2
  have j3 : hI (cc h C X Y) f_Choice_name a = kn' := (ccIo (by decide)).trans i3
  have j4 : hI (cc h C X Y) f_Choice_setter a = kb := (ccIo (by decide)).trans i4
  have jt : hR (cc h C X Y) f_Choice_type a = hB h (ho + 2) kc.toNat := (ccRo (by decide)).trans t3
  have jc : hR (cc h C X Y) f_Choice_classes a = hR h f_Choice_classes a := ccRo (by decide)
  have kf : hK h (hR h f_Found_classes (C + 53)) = 1 := (KC G).2.2.2.2.2.2.2.2.2.2.2.2.2.1
  have lf : hl h (hR h f_Found_classes (C + 53)) = 9 := by
    have f2 := F
    unfold FC at f2
    exact f2.2.2.2.2.2.2.1.1
  have z57 : ¬ (kc, kk, ks, kn', kb, kl) = (qc, qk, qs, qn, qb, ql) → wpB PGm ρ d m_Choice_is 57 [(0, vR a), (6, vR (hR h f_Found_classes (C + 53))), (7, vI (ql.length : Int))] [vI 0] (cc h C X Y) Q := fun ne => b_Choice_is_57 (b_Choice_is_62 ⟨fun _ => ⟨Or.inl rfl, q0 ne⟩, fun _ => ⟨fun _ => ⟨Or.inl rfl, q0 ne⟩, fun c => absurd rfl c⟩⟩)
  have z62 : ¬ (kc, kk, ks, kn', kb, kl) = (qc, qk, qs, qn, qb, ql) → ∀ t : Int, wpB PGm ρ d m_Choice_is 62 [(0, vR a), (6, vR (hR h f_Found_classes (C + 53))), (7, vI (ql.length : Int)), (8, vI 0), (9, vI t)] [] (cc h C X Y) Q := fun ne t => b_Choice_is_62 ⟨fun _ => ⟨Or.inl rfl, q0 ne⟩, fun _ => ⟨fun _ => ⟨Or.inl rfl, q0 ne⟩, fun c => absurd rfl c⟩⟩
  refine b_Choice_is_0 ⟨k1, ?_⟩
  rw [jt, j1, j2, j3, j4, jc]
  refine ⟨fun ne => z57 (fun e => ne (by rw [(Prod.mk.inj e).1])), fun e1 => ⟨fun ne => z57 (fun e => ne (by cases e; rfl)), fun e2 => ⟨fun ne => z57 (fun e => ne (by cases e; rfl)), fun e3 => ⟨fun ne => z57 (fun e => ne (by cases e; rfl)), fun e4 => ⟨fun ne => z57 (fun e => ne (by cases e; rfl)), fun e5 => ⟨by rw [ccK, c4]; decide, ?_⟩⟩⟩⟩⟩⟩
  rw [ccl, c5]
  refine ⟨fun ne => z57 (fun e => ne (by cases e; rfl)), fun e6 => b_Choice_is_57 ?_⟩
  have el : kl.length = ql.length := by omega
  have e1' : kc = qc := by have := HX.tad _ _ (by omega) (by omega) e1; omega
  have lp : ∀ mm j, j + mm = ql.length → (∀ i, i < j → kl.getD i 0 = ql.getD i 0) → wpB PGm ρ d m_Choice_is 62 [(0, vR a), (6, vR (hR h f_Found_classes (C + 53))), (7, vI (ql.length : Int)), (8, vI 1), (9, vI (j : Int))] [] (cc h C X Y) Q := fun mm => by
    induction mm with
    | zero =>
      intro j hj hp
      have e7 : kl = ql := list_ext0 el (fun i hi => hp i (by omega))
      exact b_Choice_is_62 ⟨fun _ => ⟨Or.inr rfl, q1 (by rw [e1', e2, e3, e4, e5, e7])⟩, fun c => by omega⟩
    | succ mm ih =>
      intro j hj hp
      have jl : j < ql.length := by omega
      have z0 : ¬ (ql.length : Int) ≤ (j : Int) ∧ 0 ≤ (j : Int) ∧ (j : Int) < (kl.length : Int) ∧ (j : Int) < ((9 : Nat) : Int) ∧ j ≤ 2000000000 := by omega
      refine b_Choice_is_62 ⟨fun c => absurd c z0.1, fun _ => ⟨fun c => absurd c (by decide), fun _ => ⟨k1, ?_⟩⟩⟩
      rw [jc, Int.toNat_natCast, c3.cA G, c6 j (by omega), ccA G (by decide), ec j jl]
      refine ⟨⟨by rw [ccK, c4]; decide, z0.2.1, by rw [ccl, c5]; exact z0.2.2.1⟩, ⟨by rw [ccK, kf]; decide, z0.2.1, by rw [ccl, lf]; exact z0.2.2.2.1⟩, fun ne => b_Choice_is_94 (z62 (fun e => ne (by cases e; rfl)) _), fun eq => b_Choice_is_94 ?_⟩
      rw [w32_p1 z0.2.2.2.2]
      exact ih (j + 1) (by omega) (fun i hi => by
        by_cases c : i = j
        · rw [c]; exact eq
        · exact hp i (by omega))
  exact lp ql.length 0 (by omega) (fun i hi => absurd hi (Nat.not_lt_zero _))
/-- a row of choices is gone through -/
theorem r_cho97 (HC : CORE Γ h C ho X Y S N) (HX : HCX ρ h ho g N M hw) (A : LKH h ho X Y N M kn ac CK CV ca) (hc : 0 ≤ K0.1 ∧ K0.1 < (N : Int)) (ety : Y 53 f_Found_type 0 = hB h (ho + 2) K0.1.toNat) (eop : X 53 f_Found_operands 0 = (K0.2.2.2.2.2.length : Int)) (eo : K0.2.2.2.2.2.length ≤ 8) (ec : ∀ i, i < K0.2.2.2.2.2.length → X 53 f_Found_classes i = K0.2.2.2.2.2.getD i 0) (q1 : ∀ k, k < kn → CK k = K0 → (∀ j, k < j → j < kn → ¬ CK j = K0) → wpB PGm ρ (d + 1) m_Lookup_chosen 138 [(0, vR (C + 98)), (1, vR (C + 53)), (2, vI K0.2.1), (3, vI K0.2.2.1), (4, vI K0.2.2.2.1), (5, vI K0.2.2.2.2.1), (6, vI (hsK K0)), (7, vR (ca k))] [] (cc h C X Y) Q) (q0 : (∀ k, k < kn → ¬ CK k = K0) → wpB PGm ρ (d + 1) m_Lookup_chosen 138 [(0, vR (C + 98)), (1, vR (C + 53)), (2, vI K0.2.1), (3, vI K0.2.2.1), (4, vI K0.2.2.2.1), (5, vI K0.2.2.2.2.1), (6, vI (hsK K0)), (7, vR 0)] [] (cc h C X Y) Q) : ∀ j, j ≤ kn → (∀ k, j ≤ k → k < kn → ¬ CK k = K0) → wpB PGm ρ (d + 1) m_Lookup_chosen 97 [(0, vR (C + 98)), (1, vR (C + 53)), (2, vI K0.2.1), (3, vI K0.2.2.1), (4, vI K0.2.2.2.1), (5, vI K0.2.2.2.2.1), (6, vI (hsK K0)), (7, vR (chA' CK ca j (hsK K0).toNat))] [] (cc h C X Y) Q := fun j => by
  have ko : hK h (C + 53) = k_Found := HC.1.2.1.2.2.2.2.2.2.1
  have y1 : hR (cc h C X Y) f_Found_type (C + 53) = hB h (ho + 2) K0.1.toNat := by rw [ccR (by decide)]; exact ety
  have y2 : hR (cc h C X Y) f_Found_classes (C + 53) = hR h f_Found_classes (C + 53) := ccRo (by decide)
  have x1 : hI (cc h C X Y) f_Found_operands (C + 53) = (K0.2.2.2.2.2.length : Int) := by rw [ccI (by decide)]; exact eop
  induction j with
  | zero =>
    intro _ no
    exact b_Lookup_chosen_97 ⟨fun _ => q0 (fun k hk => no k (by omega) hk), fun c => absurd rfl c⟩
  | succ j ih =>
    intro hj no
    have A1 := (A.2.1 j (by omega))
    by_cases e : (hsK (CK j)).toNat = (hsK K0).toNat
    · have ea : chA' CK ca (j + 1) (hsK K0).toNat = ca j := if_pos e
      rw [ea]
      refine b_Lookup_chosen_97 ⟨fun c => absurd c A1.1.1.2.2, fun _ => ⟨ko, A1.1.1.1, ?_⟩⟩
      rw [y1, y2, x1]
      refine r_is HC HX A1.1 hc eo ec (fun eq => ⟨fun _ => q1 j (by omega) eq (fun k h1 h2 => no k (by omega) h2), fun c => absurd c (by decide)⟩) (fun ne => ⟨fun c => absurd rfl c, fun _ => ⟨A1.1.1.1, ?_⟩⟩)
      rw [ccRo (by decide), A1.2, e]
      exact ih (by omega) (fun k h1 h2 => by
        by_cases c : k = j
        · rw [c]; exact ne
        · exact no k (by omega) h2)
    · have ea : chA' CK ca (j + 1) (hsK K0).toNat = chA' CK ca j (hsK K0).toNat := if_neg e
      rw [ea]
      refine ih (by omega) (fun k h1 h2 => ?_)
      by_cases c : k = j
      · rw [c]; intro z; exact e (by rw [z])
      · exact no k (by omega) h2
end
