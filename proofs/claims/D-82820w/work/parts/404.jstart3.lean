set_option maxRecDepth 20000
section
variable {ρ : Nat → Nat} {d : Nat} {Q : QT} {Γ Γ' Γ1 Γ2 : GH} {h h' h1 h2 H : ah} {C ho N M z s t o n c r i j k p a T cd fn ck mk vs rk np : Nat} {g g' : HG} {S S' S1 S2 : SS} {X X' X1 X2 : X3} {Y Y' Y1 Y2 : Y3} {ws ws' hw : List (List Int)} {x y ty v fl l1 l2 : Int} {h0 : ah}
/-- start, by both -/
theorem j_start (A : ALL ρ Γ h C ho X Y S g N M hw ws) (W : HWF g N M) (LT : LTM h C)
    (q : ∀ fl Γ' S' h' X' Y', (fl = 0 ∨ fl = 1) → TSU ρ (PTO ρ g N M) S l1 l2 fl S' → STW ρ Γ h C ho S g N M hw Γ' h' X' Y' S' ws 0 0 → Q (Sum.inl (some (vI fl))) (cc h' C X' Y')) : wpB PGm ρ (d + 20) m_LT_start 0 [(0, vR C), (1, vI l1), (2, vI l2)] [] (cc h C X Y) Q := by
  obtain ⟨HC, E, MS⟩ := id A
  have G := HC.1.1
  have F := HC.1.2
  have gz := G.1
  obtain ⟨un, u1, u2', u16, um⟩ := MS.2.2.1
  obtain ⟨mk, rm', sm, tk, ck, sk', vk, hk', gk, ⟨m1, m2, m3⟩, ⟨m4, m5, m6⟩, -, ⟨m10, m11, m12, m13⟩, ⟨m14, m15, m16⟩, -⟩ := HC.2.2.2.2.2.2.2.2.1
  obtain ⟨fnn, fe, f400, flen, FN⟩ := id HC.2.2.2.1
  have fu : ∀ u, u < un → ∃ fn np : Nat, S f_Md_unitFunction u = (fn : Int) ∧ fn < 400 ∧ S f_Md_variablesOf fn = 0 ∧ S f_Md_parametersOf fn = (np : Int) := fun u hu => by
    obtain ⟨a1, a2, a3, a4⟩ := um u hu
    have F1 := FN (S f_Md_unitFunction u).toNat (by omega)
    obtain ⟨-, -, -, -, -, -, -, -, ⟨pv1, pv2, pv3⟩, ⟨-, go⟩, -⟩ := F1
    exact ⟨(S f_Md_unitFunction u).toNat, (S f_Md_parametersOf (S f_Md_unitFunction u).toNat).toNat, by omega, by omega, go a4, by omega⟩
  have TS := fun {d' h0 T' Q'} (PT : PTO ρ g N M h0 T') => s_start (ρ := ρ) (d := d') (h0 := h0) (T := T') (Q := Q') (l1 := l1) (l2 := l2) PT.1.1 u2' u16 fu m11 m2 m15 m5 ⟨by omega, m3, by omega, m6⟩
  have STt : STW ρ Γ h C ho S g N M hw Γ h X Y (u2 S f_Md_thrown 0 0) ws 0 0 := by
    have C1 : CORE Γ h C ho X Y (u2 S f_Md_thrown 0 0) N := HC.fz (L := [f_Md_thrown]) (OFF.rf.u (by decide)) (by decide +kernel)
    exact STW.any A C1 OFX.rf OFX.rf (OFF.rf.u (by decide +kernel)) E.1.2.2.2.2.2.2.2.1
  have no : ¬ (0 ≤ l1 ∧ l1 ≤ 1 ∧ 0 ≤ l2 ∧ l2 < (un : Int) ∧ ¬ S f_Md_state l1.toNat = 1 ∧ mk < 8000) → Q (Sum.inl (some (vI 0))) (cc h C X Y) := fun nn => by
    refine q 0 Γ _ h X Y (Or.inl rfl) (fun d' h0 T' Q' PT q' => TS PT (fun _ => q') (fun t u fn np e1 e2 ht hu st mk8 _ _ => ?_)) STt
    exact absurd ⟨by omega, by omega, by omega, by omega, by rw [e1, Int.toNat_natCast]; exact st, mk8⟩ nn
  have rm : hR (cc h C X Y) f_LT_machine C = C + 32 := by rw [ccRo (by decide)]; exact LT.2.1
  refine b_LT_start_0 (d := d + 19) ⟨LT.1, ?_⟩
  rw [rm]
  refine ⟨F.1.1, ?_⟩
  have iu : hI (cc h C X Y) f_Machine_units (C + 32) = (un : Int) := by rw [ccI (by decide)]; exact u1
  have rT : hR (cc h C X Y) f_Machine_tasks (C + 32) = C + 61 := by rw [ccRo (by decide)]; exact F.2.1.2.2.2.2.2.2.2.2.2.2.1
  have rh : hR (cc h C X Y) f_Machine_heap (C + 32) = C + 50 := by rw [ccRo (by decide)]; exact F.2.1.2.2.2.2.1
  have im : hI (cc h C X Y) f_Heap_made (C + 50) = (mk : Int) := by rw [ccI (by decide)]; exact m1
  have eT : ∀ {h : ah} {X : X3} {Y : Y3} {t o : Nat}, AC h C → FC h C → isTO t o → hB (cc h C X Y) (C + 61) t = C + o := fun {h X Y t o} G F hto => by
    have : hB (cc h C X Y) (C + 61) t = hB h (C + 61) t := ccB0 (fun q hq c => by
      have U := F.2.2.2.2.2.2.2.2.2.1.1
      have g1 := G.1
      have w : raC.all (fun q => ownF.elem q.1 && Nat.ble q.2.1 101) = true := by decide
      have w := List.all_eq_true.mp w q hq
      simp only [Bool.and_eq_true] at w
      have w2 := Nat.le_of_ble_eq_true w.2
      exact U q.1 (C + q.2.1) (by omega) (own_of w.1) c)
    rw [this]
    rcases hto with ⟨rfl, rfl⟩ | ⟨rfl, rfl⟩
    · exact F.2.2.2.2.1.2.2.1
    · exact F.2.2.2.2.1.2.2.2
  refine b_Machine_start_0 (d := d + 18) (by omega) ⟨fun c => ⟨Or.inl rfl, no (by omega)⟩, fun a1 => ⟨fun c => ⟨Or.inl rfl, no (by omega)⟩, fun a2 => ⟨fun c => ⟨Or.inl rfl, no (by omega)⟩, fun a3 => ⟨F.1.1, ?_⟩⟩⟩⟩
  rw [iu, rT, rh, im]
  refine ⟨fun c => ⟨Or.inl rfl, no (by omega)⟩, fun a4 => ?_⟩
  have ⟨t, et⟩ : ∃ t : Nat, l1 = (t : Int) := ⟨l1.toNat, by omega⟩
  have ⟨u, eu2⟩ : ∃ u : Nat, l2 = (u : Int) := ⟨l2.toNat, by omega⟩
  subst et eu2
  rw [Int.toNat_natCast, Int.toNat_natCast]
  have ⟨o, hto⟩ : ∃ o, isTO t o := by
    by_cases z : t = 0
    · exact ⟨62, Or.inl ⟨z, rfl⟩⟩
    · exact ⟨75, Or.inr ⟨by omega, rfl⟩⟩
  obtain ⟨ht, io⟩ := hto.le
  obtain ⟨n0, c0, r0, K⟩ := A.ct hto
  rw [eT G F hto]
  have es : hI (cc h C X Y) f_Task_state (C + o) = S f_Md_state t := by rw [ccIt io (by decide)]; exact K.2.1.1
  have kT : hK (cc h C X Y) (C + o) = k_Task := (F.t io).1
  have kl : 20 ≤ hK (cc h C X Y) (C + 61) ∧ hK (cc h C X Y) (C + 61) < 100 ∧ 0 ≤ (t : Int) ∧ (t : Int) < (hl (cc h C X Y) (C + 61) : Int) := by
    have k1 : hK (cc h C X Y) (C + 61) = 26 := F.2.2.2.2.1.1
    have k2 : hl (cc h C X Y) (C + 61) = 2 := F.2.2.2.2.1.2.1
    rw [k1, k2]
    exact ⟨by decide, by decide, by omega, by omega⟩
  refine ⟨kl, kT, ?_⟩
  rw [es]
  refine ⟨fun c => ⟨Or.inl rfl, no (fun z => z.2.2.2.2.1 (by rw [Int.toNat_natCast]; exact c))⟩, fun ns => ⟨F.1.2.2.2.2.2.1, fun m8 => ?_, fun m8 => ⟨Or.inl rfl, no (by omega)⟩⟩⟩
  -- it begins
  obtain ⟨b1, b2, b3, b4⟩ := um u (by omega)
  have ⟨fn, ef⟩ : ∃ fn : Nat, S f_Md_unitFunction u = (fn : Int) := ⟨(S f_Md_unitFunction u).toNat, by omega⟩
  rw [ef, Int.toNat_natCast] at b4
  rw [ef] at b1 b3
  obtain ⟨⟨ka, az, a0⟩, -⟩ := FN fn (by omega)
  have mb : mk ≤ 2000000000 := by omega
  have cb : ck ≤ 2000000000 := by omega
  have mk1 : w32 ((mk : Int) + 1) = ((mk + 1 : Nat) : Int) := w32_p1 mb
  have ck1 : w32 ((ck : Int) + 1) = ((ck + 1 : Nat) : Int) := w32_p1 cb
  refine b_Heap_noteCall_0 ⟨F.1.2.2.2.2.2.1, ?_⟩
  dsimp only
  rw [im, mk1, cc_sI (by decide)]
  have ic : hI (cc h C (u3 X 50 f_Heap_made 0 ((mk + 1 : Nat) : Int)) Y) f_Heap_calls (C + 50) = (ck : Int) := by rw [ccI (by decide), u3_f (by decide)]; exact m12
  rw [ic, ck1, cc_sI (by decide)]
  clear mk1 ck1
  rw [show u3 (u3 X 50 f_Heap_made 0 ((mk + 1 : Nat) : Int)) 50 f_Heap_calls 0 ((ck + 1 : Nat) : Int) = ncX X mk ck from rfl]
  dsimp only [cV]
  have rT1 : hR (cc h C (ncX X mk ck) Y) f_Machine_tasks (C + 32) = C + 61 := by rw [ccRo (by decide)]; exact F.2.1.2.2.2.2.2.2.2.2.2.2.1
  have rf1 : hR (cc h C (ncX X mk ck) Y) f_Machine_functions (C + 32) = C + 56 := by rw [ccRo (by decide)]; exact F.2.1.2.2.2.2.2.2.2.1
  have rm1 : hR (cc h C (ncX X mk ck) Y) f_Machine_mains (C + 32) = hR h f_Machine_mains (C + 32) := ccRo (by decide)
  have am1 : hA (cc h C (ncX X mk ck) Y) (hR h f_Machine_mains (C + 32)) u = (fn : Int) := by
    rw [ccA G (by decide)]; unfold ncX; rw [u3_f (by decide), u3_f (by decide)]; exact b1
  have eF : hB (cc h C (ncX X mk ck) Y) (C + 56) fn = hB h (C + 56) fn := by
    have := ccBo (X := ncX X mk ck) (Y := Y) (i := fn) G (f := f_Machine_functions) (b := C + 32) (by decide) (by omega)
    rw [F.2.1.2.2.2.2.2.2.2.1] at this
    exact this
  have lk : lok (cc h C (ncX X mk ck) Y) (C + 56) := by rw [cclok]; exact F.2.2.2.1.2.2.1
  have kmn : hK (cc h C (ncX X mk ck) Y) (hR h f_Machine_mains (C + 32)) = 1 := (KC G).1
  have lmn : hl (cc h C (ncX X mk ck) Y) (hR h f_Machine_mains (C + 32)) = 16 := F.2.2.2.2.2.2.1.2.2.2.2.1
  have lfn : hl (cc h C (ncX X mk ck) Y) (C + 56) = fnn := flen
  rw [rT1, rf1, rm1, am1, Int.toNat_natCast, eF, eT G F hto, kmn, lmn, lfn]
  have kl1 : 20 ≤ hK (cc h C (ncX X mk ck) Y) (C + 61) ∧ hK (cc h C (ncX X mk ck) Y) (C + 61) < 100 ∧ 0 ≤ (t : Int) ∧ (t : Int) < (hl (cc h C (ncX X mk ck) Y) (C + 61) : Int) := kl
  refine ⟨F.1.1, kl1, ⟨by decide, by omega, by omega⟩, lk.1, ⟨lk, by omega, by omega⟩, Or.inr (by rw [ccK, ka]; decide), kT, ?_⟩
  refine r_begin (d := d + 6) G F io ka az (fun H G2 F2 NVv => ?_)
  have B := j_begin (np := (S f_Md_parametersOf fn).toNat) A W hto ns (by omega) b4 m11 m2 m15 m5 ⟨by omega, m6⟩ G2 F2 NVv
  refine ⟨Or.inr rfl, q 1 _ _ _ _ _ (Or.inr rfl) (fun d' h0 T' Q' PT q' => TS PT (fun nn => ?_) (fun t' u' fn' np' e1 e2 ht' hu' st' mk8 f1 f2 => ?_)) B⟩
  · exact absurd ⟨by omega, by omega, by omega, by omega, by rw [Int.toNat_natCast]; exact ns, by omega⟩ nn
  · have z1 : t' = t := by omega
    have z2 : u' = u := by omega
    subst z1 z2
    have z3 : fn' = fn := by omega
    subst z3
    have z4 : np' = (S f_Md_parametersOf fn').toNat := by omega
    rw [z4]
    exact q'
end
