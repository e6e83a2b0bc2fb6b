set_option maxRecDepth 20000
section
variable {ρ : Nat → Nat} {d : Nat} {Q : QT} {Γ Γ' : GH} {h h' h1 h2 H : ah} {C ho k i j N M a z s r f o c t n mn m0 rr sk rk l cd ar nv np E va ma mk ck jm vs fm : Nat} {g : HG} {v w hd ty κ nm x y x1 : Int} {S S' S1 : SS} {X X' X1 X2 : X3} {Y Y' Y1 Y2 : Y3} {b : Bool} {tg wd : Nat → Int} {L : List Nat} {P : List (Nat × Nat)}
theorem CORE.ncm {X2 : X3} {Y2 : Y3} (HC : CORE Γ h C ho X Y S N) (G1 : AC H C) (F1 : FC H C) (A : NV (cc h C X2 Y2) H 0 nv (min E np) tg wd) (fl : (f : Int) < S f_Md_functions 0) (ev : S f_Md_variablesOf f = (nv : Int)) (hnv : nv ≤ 60) (hof : gou Γ f = f) (ek : S f_Md_calls 0 = (ck : Int)) (em : S f_Md_allMade 0 = (mk : Int)) (es : S f_Md_variables 0 = (vs : Int)) (er : S f_Md_allSlots 0 = (rk : Int)) (hr : mk + 1 ≤ 8000 ∧ rk + nv ≤ 60000) (V : ∀ i, i < min E np → VR Γ S N (tg i) (wd i) (S f_Md_pileType (fm + i)) (S f_Md_pileValue (fm + i))) : (CORE (gcal Γ ck (hz h) f) H C ho (nclX X mk ck rk nv) Y (ncS S ck mk vs rk (-1) fm E np nv) N ∧ ∀ {t o n c r' : Nat}, CT Γ h C X Y S N t o n c r' → CT (gcal Γ ck (hz h) f) H C (nclX X mk ck rk nv) Y (ncS S ck mk vs rk (-1) fm E np nv) N t o n c r') ∧ GRO Γ (gcal Γ ck (hz h) f) h H C S (ncS S ck mk vs rk (-1) fm E np nv) ∧ BND h C S H (ncS S ck mk vs rk (-1) fm E np nv) 0 0 ∧ Fr LCC [] 3 (3 + nv + nv) h H := by
  have HC0 := HC
  obtain ⟨⟨G, F⟩, -, -, -, q2', q3, q4, q5, q6, q7, q8⟩ := HC0
  have gz := G.1
  obtain ⟨-, -, -, R⟩ := mat G F A.1 (by unfold DJ; decide)
  rw [List.append_nil] at R
  have o0 : ∀ f i, LNC.elem f = false → ncS S ck mk vs rk (-1) fm E np nv f i = S f i := fun f i hf => ncS_off f i hf
  have x0 : ∀ o f i, [f_Heap_made, f_Heap_calls, f_Heap_room].elem f = false → nclX X mk ck rk nv o f i = X o f i := fun o f i hf => by
    unfold nclX
    rw [u3_f (by rintro rfl; exact absurd hf (by decide)), u3_f (by rintro rfl; exact absurd hf (by decide)), u3_f (by rintro rfl; exact absurd hf (by decide))]
  have p0 : ∀ y, (0, y) ∉ ([] : List (Nat × Nat)) := fun y c => by simp at c
  obtain ⟨n1, n2, n3, n4⟩ := ncS_1 (S := S) (ck := ck) (mk := mk) (vs := vs) (rk := rk) (v := -1) (fm := fm) (n := E) (np := np) (j := nv)
  have n5 := ncS_v (S := S) (ck := ck) (mk := mk) (vs := vs) (rk := rk) (ar := -1) (fm := fm) (n := E) (np := np) (j := nv)
  have n6 := ncS_s (S := S) (ck := ck) (mk := mk) (vs := vs) (rk := rk) (ar := -1) (fm := fm) (n := E) (np := np) (j := nv)
  have kk : ∀ k, k ≠ ck → ncS S ck mk vs rk (-1) fm E np nv f_Md_around k = S f_Md_around k ∧ ncS S ck mk vs rk (-1) fm E np nv f_Md_variablesFrom k = S f_Md_variablesFrom k := fun k hk => ncS_k hk
  have ko : ∀ i, i < vs → ncS S ck mk vs rk (-1) fm E np nv f_Md_variableTypes i = S f_Md_variableTypes i ∧ ncS S ck mk vs rk (-1) fm E np nv f_Md_variableValue i = S f_Md_variableValue i := fun i hi => ncS_o hi
  have kn : ∀ i, i < nv → ncS S ck mk vs rk (-1) fm E np nv f_Md_variableTypes (vs + i) = (if i < min E np then S f_Md_pileType (fm + i) else 0) ∧ ncS S ck mk vs rk (-1) fm E np nv f_Md_variableValue (vs + i) = (if i < min E np then S f_Md_pileValue (fm + i) else 0) := fun i hi => ncS_n hi
  generalize ncS S ck mk vs rk (-1) fm E np nv = S1 at *
  have s56 : sameArr h H (C + 56) := R.ar G.2.1 (f := f_Machine_functions) (by unfold own; decide) (x := C + 32) (by omega) F.2.1.2.2.2.2.2.2.2.1 (by omega) (fun c => c.elim ((show DJ [f_Machine_functions] LCC [] by unfold DJ; rfl).w (by decide)) ((show DJ [f_Machine_functions + 1] LCC [] by unfold DJ; rfl).w (by decide))) (p0 _)
  have s51 : sameArr h H (C + 51) := R.ar G.2.1 (f := f_Heap_things) (by unfold own; decide) (x := C + 50) (by omega) F.2.2.1.2.1 (by omega) (fun c => c.elim ((show DJ [f_Heap_things] LCC [] by unfold DJ; rfl).w (by decide)) ((show DJ [f_Heap_things + 1] LCC [] by unfold DJ; rfl).w (by decide))) (p0 _)
  have gc : ∀ i : Nat, (i : Int) < S f_Md_calls 0 → gva (gcal Γ ck (hz h) f) i = gva Γ i ∧ gcf (gcal Γ ck (hz h) f) i = gcf Γ i := fun i hi => by
    have ne : i ≠ ck := by omega
    show (if i = ck then _ else _) = _ ∧ (if i = ck then _ else _) = _
    rw [if_neg ne, if_neg ne]; exact ⟨rfl, rfl⟩
  have g : GRO Γ (gcal Γ ck (hz h) f) h H C S S1 := by
    refine ⟨⟨Int.le_of_eq (o0 _ _ (by decide)).symm, fun i _ => ⟨o0 _ _ (by decide), s56.2.2 i, rfl, rfl, rfl⟩⟩, ⟨by rw [n1, ek]; omega, gc⟩, ⟨Int.le_of_eq (o0 _ _ (by decide)).symm, fun i _ => ⟨o0 _ _ (by decide), s51.2.2 i⟩⟩, Int.le_of_eq (o0 _ _ (by decide)).symm, Int.le_of_eq (o0 _ _ (by decide)).symm, fun _ _ => rfl, fun x _ => ⟨o0 _ _ (by decide), o0 _ _ (by decide)⟩, fun j _ => o0 _ _ (by decide)⟩
  have q3' := q3
  obtain ⟨kn', vn, a1, a2, a3, a4, a5, a6, a7⟩ := q3'
  have ekn : kn' = ck := by omega
  have evn : vn = vs := by omega
  subst ekn evn
  have mem := q6
  obtain ⟨mk', rm, sm, tk, ck', sk', vk, hk', gk, ⟨m1, m2, m3⟩, ⟨m4, m5, m6⟩, ⟨m7, m8, m9⟩, ⟨m10, m11, m12, m13⟩, ⟨m14, m15, m16⟩, ⟨m17, m18, m19⟩, ⟨m20, m21, m22⟩⟩ := mem
  have km : MEM (nclX X mk kn' rk nv) S1 := by
    refine ⟨mk + 1, rk + nv, sm, tk, kn' + 1, sk', vn + nv, hk', gk, ⟨?_, n2, by omega⟩, ⟨?_, n6, by omega⟩, ⟨by rw [x0 _ _ _ (by decide)]; exact m7, by rw [o0 _ _ (by decide)]; exact m8, m9⟩, ⟨by rw [o0 _ _ (by decide)]; exact m10, n1, ?_, by omega⟩, ⟨by rw [o0 _ _ (by decide)]; exact m14, n5, by omega⟩, ⟨by rw [o0 _ _ (by decide)]; exact m17, m18, m19⟩, ⟨by rw [o0 _ _ (by decide)]; exact m20, by rw [x0 _ _ _ (by decide)]; exact m21, m22⟩⟩
    · unfold nclX; rw [u3_f (by decide), u3_f (by decide), u3_s]
    · unfold nclX; rw [u3_s]
    · unfold nclX; rw [u3_f (by decide), u3_s]
  obtain ⟨v1, v2, v3, v4, v5, v6, ⟨v7, v8, v9, v10⟩, v11, v12⟩ := A
  have zc : hz (cc h C X2 Y2) = hz h := rfl
  rw [zc] at v2 v3 v4 v5 v6 v7 v8 v9 v10 v11 v12
  have kv : VRC (gcal Γ kn' (hz h) f) H S1 N := by
    refine ⟨kn' + 1, vn + nv, n1, by omega, n5, by omega, fun k hk => ?_, fun k k' hk hk' e => ?_, fun k k' hk hk' => ?_⟩
    · by_cases w : k = kn'
      · subst w
        have e1 : gva (gcal Γ k (hz h) f) k = hz h := by show (if k = k then _ else _) = _; rw [if_pos rfl]
        have e2 : gcf (gcal Γ k (hz h) f) k = f := by show (if k = k then _ else _) = _; rw [if_pos rfl]
        unfold VC1
        rw [e1, e2, v4, v5, v6, n3, n4, n5, o0 f_Md_variablesOf f (by decide), ev, o0 f_Md_functions 0 (by decide), v9, v10]
        refine ⟨⟨v3, by omega, by omega⟩, fl, by omega, by omega, Or.inl ⟨hof, rfl, rfl⟩, ⟨by omega, v8, by omega, v7, rfl, rfl⟩, fun j hj => ?_⟩
        obtain ⟨z1, z2⟩ := kn j (by omega)
        rw [Int.toNat_natCast, z1, z2, v11, v12]
        by_cases w : j < min E np
        · rw [if_pos w, if_pos w, if_pos w, if_pos w]; exact g.vr (V j w)
        · rw [if_neg w, if_neg w, if_neg w, if_neg w]; exact VR.nil trivial
      · obtain ⟨k1, k2⟩ := kk k w
        exact (a5 k (by omega)).keep (C := C) G.2.1 (by omega) g R (by unfold DJ; rfl) (by unfold DJ; rfl) p0 (fun i => o0 _ _ (by decide)) k2 k1 (by rw [n5, es]; omega) (fun i hi => ko i (by omega))
    · have lt : ∀ k, k < kn' → gva Γ k < hz h := fun k hk => (a5 k hk).1.2.1
      have c1 : ∀ k, gva (gcal Γ kn' (hz h) f) k = if k = kn' then hz h else gva Γ k := fun k => rfl
      rw [c1, c1] at e
      by_cases w1 : k = kn' <;> by_cases w2 : k' = kn'
      · omega
      · rw [if_pos w1, if_neg w2] at e; have := lt k' (by omega); omega
      · rw [if_neg w1, if_pos w2] at e; have := lt k (by omega); omega
      · rw [if_neg w1, if_neg w2] at e; exact a6 k k' (by omega) (by omega) e
    · have w1 : k ≠ kn' := by omega
      rw [(kk k w1).2, (gc k (by omega)).2, o0 f_Md_variablesOf _ (by decide)]
      by_cases w2 : k' = kn'
      · rw [w2, n4]
        have := (a5 k (by omega)).2.2.2.1
        omega
      · rw [(kk k' w2).2]
        exact a7 k k' hk (by omega)
  have b0 : BND h C S H S 3 ((3 + nv + nv : Nat) : Int) := BND.fr G F (q7.thk G) EXS.rf R (by unfold DJ; rfl) (by unfold DJ; rfl) p0
  have bd : BND h C S H S1 0 0 := by
    obtain ⟨b1, b2, b3, b4, b5⟩ := b0
    refine ⟨?_, ?_, Int.le_of_eq (by rw [o0 _ _ (by decide)]; omega), CHG.ex5 (exs_of o0 (by decide)), b5⟩
    · unfold WZ at b1 ⊢
      rw [n2, n6, o0 f_Md_allShapes 0 (by decide), o0 f_Md_allChoices 0 (by decide)]
      omega
    · unfold WS at b2 ⊢
      rw [n2, n6, o0 f_Md_allShapes 0 (by decide), o0 f_Md_allChoices 0 (by decide), o0 f_Md_slots 0 (by decide), o0 f_Md_things 0 (by decide)]
      omega
  exact ⟨HC.mv (S' := S1) (X' := nclX X mk kn' rk nv) R g (exs_of o0 (by decide)) (exx_of x0 (by decide)) p0 (by unfold DJ; rfl) (by unfold DJ; rfl) (by unfold DJ; rfl) (by unfold DJ; rfl) (exs_of o0 (by decide)) (Int.le_of_eq (o0 _ _ (by decide)).symm) (q2'.ext g (exs_of o0 (by decide)) (exx_of x0 (by decide)) (ac_len G R (by decide) (by unfold DJ; rfl)) (ac_len G R (by decide) (by unfold DJ; rfl)) (ac_len G R (by decide) (by unfold DJ; rfl))) kv (q4.ext g (exs_of o0 (by decide)) (exx_of x0 (by decide)) (ac_len G R (by decide) (by unfold DJ; rfl)) (ac_len G R (by decide) (by unfold DJ; rfl)) (ac_len G R (by decide) (by unfold DJ; rfl))) (q5.ext (exs_of o0 (by decide)) (exx_of x0 (by decide)) (ac_len G R (by decide) (by unfold DJ; rfl)) (ac_len G R (by decide) (by unfold DJ; rfl)) (ac_len G R (by decide) (by unfold DJ; rfl))) km (q7.ext G F g (exs_of o0 (by decide)) R (by unfold DJ; rfl) (by unfold DJ; rfl) p0 (fun i _ => q8.eq G.2.1 R (by unfold DJ; rfl) p0 i)) (by unfold DJ; rfl), g, bd, R⟩
end
