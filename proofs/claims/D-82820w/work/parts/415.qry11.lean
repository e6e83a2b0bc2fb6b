set_option maxRecDepth 20000
section
variable {ρ : Nat → Nat} {d : Nat} {Q K : QT} {Γ Γ' Γ1 Γ2 : GH} {h h' h1 h2 H : ah} {C ho N M z s t o n c r i j k p a T cd fn ck mk vs rk np sn tn : Nat} {g g' : HG} {S S' S1 S2 : SS} {X X' X1 X2 : X3} {Y Y' Y1 Y2 : Y3} {ws ws' hw : List (List Int)} {x y ty v fl l1 l2 l3 l4 kd : Int} {h0 : ah}
/-- what is counted -/
def ctS (S : SS) (N M : Nat) : SS := u2 (u2 (u2 (u2 (u2 (u2 (u2 (u2 (u2 (u2 (u2 (u2 (u2 (u2 (u2 (u2 (u2 (u2 (thZ S) f_Md_counted 0 (S f_Md_taped 0)) f_Md_counted 1 ((N : Int))) f_Md_counted 2 ((M : Int))) f_Md_counted 3 (S f_Md_units 0)) f_Md_counted 4 (S f_Md_functions 0)) f_Md_counted 5 (S f_Md_instructions 0)) f_Md_counted 6 (S f_Md_sites 0)) f_Md_counted 7 (S f_Md_descriptors 0)) f_Md_counted 8 (S f_Md_names 0)) f_Md_counted 9 (S f_Md_sourceTexts 0)) f_Md_counted 10 (S f_Md_things 0)) f_Md_counted 11 (S f_Md_calls 0)) f_Md_counted 12 (S f_Md_shapes 0)) f_Md_counted 13 (S f_Md_choices 0)) f_Md_counted 14 (S f_Md_workedOut 0)) f_Md_counted 15 (S f_Md_shown 0)) f_Md_counted 16 (S f_Md_traced 0)) f_Md_counted 17 (S f_Md_wrong 0)
def ct9 (S : SS) (N M : Nat) : SS := u2 (u2 (u2 (u2 (u2 (u2 (u2 (u2 (u2 (thZ S) f_Md_counted 0 (S f_Md_taped 0)) f_Md_counted 1 ((N : Int))) f_Md_counted 2 ((M : Int))) f_Md_counted 3 (S f_Md_units 0)) f_Md_counted 4 (S f_Md_functions 0)) f_Md_counted 5 (S f_Md_instructions 0)) f_Md_counted 6 (S f_Md_sites 0)) f_Md_counted 7 (S f_Md_descriptors 0)) f_Md_counted 8 (S f_Md_names 0)
theorem ctS_o {f : Nat} (h1 : f ≠ f_Md_counted) (h2 : f ≠ f_Md_thrown) : ctS S N M f i = S f i := by
  unfold ctS
  rw [u2_f h1, u2_f h1, u2_f h1, u2_f h1, u2_f h1, u2_f h1, u2_f h1, u2_f h1, u2_f h1, u2_f h1, u2_f h1, u2_f h1, u2_f h1, u2_f h1, u2_f h1, u2_f h1, u2_f h1, u2_f h1]
  exact thZ_o h2
def ctA (S : SS) (N M : Nat) (l1 : Int) : Int := if 20 ≤ l1 ∧ l1 ≤ 23 then S f_Md_asked (l1 - 20).toNat else if 0 ≤ l1 ∧ l1 ≤ 17 then ctS S N M f_Md_counted l1.toNat else -1
theorem ctS_0 : ctS S N M f_Md_counted 0 = S f_Md_taped 0 := by
  unfold ctS
  rw [u2_e, if_neg (by decide), u2_e, if_neg (by decide), u2_e, if_neg (by decide), u2_e, if_neg (by decide), u2_e, if_neg (by decide), u2_e, if_neg (by decide), u2_e, if_neg (by decide), u2_e, if_neg (by decide), u2_e, if_neg (by decide), u2_e, if_neg (by decide), u2_e, if_neg (by decide), u2_e, if_neg (by decide), u2_e, if_neg (by decide), u2_e, if_neg (by decide), u2_e, if_neg (by decide), u2_e, if_neg (by decide), u2_e, if_neg (by decide), u2_s]
theorem ctS_1 : ctS S N M f_Md_counted 1 = (N : Int) := by
  unfold ctS
  rw [u2_e, if_neg (by decide), u2_e, if_neg (by decide), u2_e, if_neg (by decide), u2_e, if_neg (by decide), u2_e, if_neg (by decide), u2_e, if_neg (by decide), u2_e, if_neg (by decide), u2_e, if_neg (by decide), u2_e, if_neg (by decide), u2_e, if_neg (by decide), u2_e, if_neg (by decide), u2_e, if_neg (by decide), u2_e, if_neg (by decide), u2_e, if_neg (by decide), u2_e, if_neg (by decide), u2_e, if_neg (by decide), u2_s]
theorem ctS_2 : ctS S N M f_Md_counted 2 = (M : Int) := by
  unfold ctS
  rw [u2_e, if_neg (by decide), u2_e, if_neg (by decide), u2_e, if_neg (by decide), u2_e, if_neg (by decide), u2_e, if_neg (by decide), u2_e, if_neg (by decide), u2_e, if_neg (by decide), u2_e, if_neg (by decide), u2_e, if_neg (by decide), u2_e, if_neg (by decide), u2_e, if_neg (by decide), u2_e, if_neg (by decide), u2_e, if_neg (by decide), u2_e, if_neg (by decide), u2_e, if_neg (by decide), u2_s]
theorem ctS_3 : ctS S N M f_Md_counted 3 = S f_Md_units 0 := by
  unfold ctS
  rw [u2_e, if_neg (by decide), u2_e, if_neg (by decide), u2_e, if_neg (by decide), u2_e, if_neg (by decide), u2_e, if_neg (by decide), u2_e, if_neg (by decide), u2_e, if_neg (by decide), u2_e, if_neg (by decide), u2_e, if_neg (by decide), u2_e, if_neg (by decide), u2_e, if_neg (by decide), u2_e, if_neg (by decide), u2_e, if_neg (by decide), u2_e, if_neg (by decide), u2_s]
theorem ctS_4 : ctS S N M f_Md_counted 4 = S f_Md_functions 0 := by
  unfold ctS
  rw [u2_e, if_neg (by decide), u2_e, if_neg (by decide), u2_e, if_neg (by decide), u2_e, if_neg (by decide), u2_e, if_neg (by decide), u2_e, if_neg (by decide), u2_e, if_neg (by decide), u2_e, if_neg (by decide), u2_e, if_neg (by decide), u2_e, if_neg (by decide), u2_e, if_neg (by decide), u2_e, if_neg (by decide), u2_e, if_neg (by decide), u2_s]
theorem ctS_5 : ctS S N M f_Md_counted 5 = S f_Md_instructions 0 := by
  unfold ctS
  rw [u2_e, if_neg (by decide), u2_e, if_neg (by decide), u2_e, if_neg (by decide), u2_e, if_neg (by decide), u2_e, if_neg (by decide), u2_e, if_neg (by decide), u2_e, if_neg (by decide), u2_e, if_neg (by decide), u2_e, if_neg (by decide), u2_e, if_neg (by decide), u2_e, if_neg (by decide), u2_e, if_neg (by decide), u2_s]
theorem ctS_6 : ctS S N M f_Md_counted 6 = S f_Md_sites 0 := by
  unfold ctS
  rw [u2_e, if_neg (by decide), u2_e, if_neg (by decide), u2_e, if_neg (by decide), u2_e, if_neg (by decide), u2_e, if_neg (by decide), u2_e, if_neg (by decide), u2_e, if_neg (by decide), u2_e, if_neg (by decide), u2_e, if_neg (by decide), u2_e, if_neg (by decide), u2_e, if_neg (by decide), u2_s]
theorem ctS_7 : ctS S N M f_Md_counted 7 = S f_Md_descriptors 0 := by
  unfold ctS
  rw [u2_e, if_neg (by decide), u2_e, if_neg (by decide), u2_e, if_neg (by decide), u2_e, if_neg (by decide), u2_e, if_neg (by decide), u2_e, if_neg (by decide), u2_e, if_neg (by decide), u2_e, if_neg (by decide), u2_e, if_neg (by decide), u2_e, if_neg (by decide), u2_s]
theorem ctS_8 : ctS S N M f_Md_counted 8 = S f_Md_names 0 := by
  unfold ctS
  rw [u2_e, if_neg (by decide), u2_e, if_neg (by decide), u2_e, if_neg (by decide), u2_e, if_neg (by decide), u2_e, if_neg (by decide), u2_e, if_neg (by decide), u2_e, if_neg (by decide), u2_e, if_neg (by decide), u2_e, if_neg (by decide), u2_s]
theorem ctS_9 : ctS S N M f_Md_counted 9 = S f_Md_sourceTexts 0 := by
  unfold ctS
  rw [u2_e, if_neg (by decide), u2_e, if_neg (by decide), u2_e, if_neg (by decide), u2_e, if_neg (by decide), u2_e, if_neg (by decide), u2_e, if_neg (by decide), u2_e, if_neg (by decide), u2_e, if_neg (by decide), u2_s]
theorem ctS_10 : ctS S N M f_Md_counted 10 = S f_Md_things 0 := by
  unfold ctS
  rw [u2_e, if_neg (by decide), u2_e, if_neg (by decide), u2_e, if_neg (by decide), u2_e, if_neg (by decide), u2_e, if_neg (by decide), u2_e, if_neg (by decide), u2_e, if_neg (by decide), u2_s]
theorem ctS_11 : ctS S N M f_Md_counted 11 = S f_Md_calls 0 := by
  unfold ctS
  rw [u2_e, if_neg (by decide), u2_e, if_neg (by decide), u2_e, if_neg (by decide), u2_e, if_neg (by decide), u2_e, if_neg (by decide), u2_e, if_neg (by decide), u2_s]
theorem ctS_12 : ctS S N M f_Md_counted 12 = S f_Md_shapes 0 := by
  unfold ctS
  rw [u2_e, if_neg (by decide), u2_e, if_neg (by decide), u2_e, if_neg (by decide), u2_e, if_neg (by decide), u2_e, if_neg (by decide), u2_s]
theorem ctS_13 : ctS S N M f_Md_counted 13 = S f_Md_choices 0 := by
  unfold ctS
  rw [u2_e, if_neg (by decide), u2_e, if_neg (by decide), u2_e, if_neg (by decide), u2_e, if_neg (by decide), u2_s]
theorem ctS_14 : ctS S N M f_Md_counted 14 = S f_Md_workedOut 0 := by
  unfold ctS
  rw [u2_e, if_neg (by decide), u2_e, if_neg (by decide), u2_e, if_neg (by decide), u2_s]
theorem ctS_15 : ctS S N M f_Md_counted 15 = S f_Md_shown 0 := by
  unfold ctS
  rw [u2_e, if_neg (by decide), u2_e, if_neg (by decide), u2_s]
theorem ctS_16 : ctS S N M f_Md_counted 16 = S f_Md_traced 0 := by
  unfold ctS
  rw [u2_e, if_neg (by decide), u2_s]
theorem ctS_17 : ctS S N M f_Md_counted 17 = S f_Md_wrong 0 := by
  unfold ctS
  rw [u2_s]
theorem c_count (A : ALL ρ Γ h C ho X Y S g N M hw ws) (LT : LTM h C) (tp : hI h f_LT_taped C = S f_Md_taped 0) (eh : hR h f_LT_host C = ho) (q : Q (Sum.inl (some (vI (ctA S N M l1)))) (cc h C X Y)) : wpB PGm ρ (d + 12) m_LT_count 0 [(0, vR C), (1, vI l1)] [] (cc h C X Y) Q := by
  have G := A.1.1.1
  have F := A.1.1.2
  have HX := A.2.1.1.1.1.1
  obtain ⟨k1, k2, k3, k4, k5, k6, k7, k8, k9, k10, k11⟩ := HX.hh
  obtain ⟨tn, sn, et, es, lt, ls, -⟩ := id A.1.2.2.2.2.2.2.2.2.2.1
  obtain ⟨fnn, fe, f400, flen, -⟩ := id A.1.2.2.2.1
  obtain ⟨ea, sp, ⟨s0, s4, sl⟩, -⟩ := A.2.1.2.2.1
  obtain ⟨kn, ac, CK, CV, ca, ⟨⟨⟨lk1, -⟩, -⟩, ⟨lk2, -⟩, lk3, -⟩, -⟩ := A.2.1.2.2.2.2
  obtain ⟨⟨w1, lo1, o1, o2, -⟩, ⟨w2, lo2, o3, o4, -⟩, -⟩ := A.1.2.2.2.2.2.2.2.1
  obtain ⟨mk, rm', sm, tk, ck, sk', vk, hk', gk, -, -, -, ⟨m10, m11, m12, m13⟩, -⟩ := A.1.2.2.2.2.2.2.2.2.1
  obtain ⟨-, -, ⟨un, u1, u2', -⟩, ins, ⟨dl, d1, d2, -⟩, lits, ⟨lb, lf, lsz, lnx, lhd, LW⟩, li2, -⟩ := A.2.2
  obtain ⟨⟨nb, nf, nsz, nnx, nhd, NW⟩, -, nn, -⟩ := A.2.1.2.1.1
  have asq := A.2.1.1.2.2.2.2.2.1
  have wr := A.2.1.1.2.2.2.2.2.2.2.2
  have rm : hR (cc h C X Y) f_LT_machine C = C + 32 := by rw [ccRo (by decide)]; exact LT.2.1
  have rho : hR (cc h C X Y) f_LT_host C = ho := by rw [ccRo (by decide)]; exact eh
  have rh : hR (cc h C X Y) f_Machine_heap (C + 32) = C + 50 := by rw [ccRo (by decide)]; exact F.2.1.2.2.2.2.1
  have rlk : hR (cc h C X Y) f_Machine_lookup (C + 32) = C + 98 := by rw [ccRo (by decide)]; exact F.2.1.2.2.2.2.2.2.2.2.2.2.2.1
  have rn : hR (cc h C X Y) f_Machine_names (C + 32) = C + 34 := by rw [ccRo (by decide)]; exact F.2.1.2.1
  have rl : hR (cc h C X Y) f_Machine_literals (C + 32) = C + 40 := by rw [ccRo (by decide)]; exact F.2.1.2.2.1
  have rf : hR (cc h C X Y) f_Machine_functions (C + 32) = C + 56 := by rw [ccRo (by decide)]; exact F.2.1.2.2.2.2.2.2.2.1
  have rs : hR (cc h C X Y) f_Machine_sites (C + 32) = C + 57 := by rw [ccRo (by decide)]; exact F.2.1.2.2.2.2.2.2.2.2.1
  have rd : hR (cc h C X Y) f_Machine_descriptors (C + 32) = C + 58 := by rw [ccRo (by decide)]; exact F.2.1.2.2.2.2.2.2.2.2.2.1
  have rth : hR (cc h C X Y) f_Heap_things (C + 50) = C + 51 := by rw [ccRo (by decide)]; exact F.2.2.1.2.1
  have rsh : hR (cc h C X Y) f_Heap_shapes (C + 50) = C + 52 := by rw [ccRo (by decide)]; exact F.2.2.1.2.2.1
  have rty : hR (cc h C X Y) f_Host_types ho = ho + 2 := by rw [ccRo (by decide)]; exact k3
  have rme : hR (cc h C X Y) f_Host_members ho = ho + 3 := by rw [ccRo (by decide)]; exact k4
  have ras : hR (cc h C X Y) f_Lookup_asked (C + 98) = hR h f_Lookup_asked (C + 98) := ccRo (by decide)
  have l51 : lok (cc h C X Y) (C + 51) := by rw [cclok]; exact F.2.2.2.1.1
  have l52 : lok (cc h C X Y) (C + 52) := by rw [cclok]; exact F.2.2.2.1.2.1
  have l56 : lok (cc h C X Y) (C + 56) := by rw [cclok]; exact F.2.2.2.1.2.2.1
  have l57 : lok (cc h C X Y) (C + 57) := by rw [cclok]; exact F.2.2.2.1.2.2.2.1
  have l58 : lok (cc h C X Y) (C + 58) := by rw [cclok]; exact F.2.2.2.1.2.2.2.2
  have lty : lok (cc h C X Y) (ho + 2) := by rw [cclok]; exact k6.1
  have lme : lok (cc h C X Y) (ho + 3) := by rw [cclok]; exact k7.1
  have c0 : ¬ (20 ≤ l1 ∧ l1 ≤ 23) → 0 ≤ l1 ∧ l1 ≤ 17 → Q (Sum.inl (some (vI (ctS S N M f_Md_counted l1.toNat)))) (cc h C X Y) := fun a b => by
    unfold ctA at q
    rw [if_neg a, if_pos b] at q; exact q
  have e : ∀ k : Nat, k ≤ 17 → l1 = (k : Int) → Q (Sum.inl (some (vI (ctS S N M f_Md_counted k)))) (cc h C X Y) := fun k hk z => by
    subst z
    exact c0 (by omega) (by omega)
  clear c0
  refine b_LT_count_0 (d := d + 12) (by omega) ?_
  rw [rm, rho, rh, rlk, rn, rl, rf, rs, rd, rth, rsh, rty, rme, ras]
  refine ⟨fun z => ⟨LT.1, by have := e 0 (by decide) z; rw [ctS_0] at this; rw [show hI (cc h C X Y) f_LT_taped C = S f_Md_taped 0 by rw [ccIo (by decide)]; exact tp]; exact this⟩, fun z0 => ⟨fun z => ⟨LT.1, k1, lty.1, lty, by have := e 1 (by decide) z; rw [ctS_1] at this; rw [show hl (cc h C X Y) (ho + 2) = N from k8]; exact this⟩, fun z1 => ⟨fun z => ⟨LT.1, k1, lme.1, lme, by have := e 2 (by decide) z; rw [ctS_2] at this; rw [show hl (cc h C X Y) (ho + 3) = M from k9]; exact this⟩, fun z2 => ⟨fun z => ⟨LT.1, F.1.1, by have := e 3 (by decide) z; rw [ctS_3] at this; rw [show hI (cc h C X Y) f_Machine_units (C + 32) = S f_Md_units 0 by rw [ccI (by decide), u1, u2']]; exact this⟩, fun z3 => ⟨fun z => ⟨LT.1, F.1.1, l56.1, l56, by have := e 4 (by decide) z; rw [ctS_4] at this; rw [show (hl (cc h C X Y) (C + 56) : Int) = S f_Md_functions 0 by rw [fe]; show (hl h (C + 56) : Int) = _; rw [flen]]; exact this⟩, fun z4 => ⟨fun z => ⟨LT.1, F.1.1, by have := e 5 (by decide) z; rw [ctS_5] at this; rw [show hI (cc h C X Y) f_Machine_instructions (C + 32) = S f_Md_instructions 0 by rw [ccI (by decide)]; exact ins]; exact this⟩, fun z5 => ⟨fun z => ⟨LT.1, F.1.1, l57.1, l57, by have := e 6 (by decide) z; rw [ctS_6] at this; rw [show (hl (cc h C X Y) (C + 57) : Int) = S f_Md_sites 0 from sl]; exact this⟩, fun z6 => ⟨fun z => ⟨LT.1, F.1.1, l58.1, l58, by have := e 7 (by decide) z; rw [ctS_7] at this; rw [show (hl (cc h C X Y) (C + 58) : Int) = S f_Md_descriptors 0 by rw [d2]; show (hl h (C + 58) : Int) = _; rw [d1]]; exact this⟩, fun z7 => ⟨fun z => ⟨LT.1, F.1.1, F.1.2.2.1, by have := e 8 (by decide) z; rw [ctS_8] at this; rw [show hI (cc h C X Y) f_Words_many (C + 34) = S f_Md_names 0 by rw [ccIo (by decide), nn]; exact NW.1.2.2.2.2.2.1]; exact this⟩, fun z8 => ⟨fun z => ⟨LT.1, F.1.1, F.1.2.2.2.1, by have := e 9 (by decide) z; rw [ctS_9] at this; rw [show hI (cc h C X Y) f_Words_many (C + 40) = S f_Md_sourceTexts 0 by rw [ccIo (by decide), li2]; exact LW.1.2.2.2.2.2.1]; exact this⟩, fun z9 => ⟨fun z => ⟨LT.1, F.1.1, F.1.2.2.2.2.2.1, l51.1, l51, by have := e 10 (by decide) z; rw [ctS_10] at this; rw [show (hl (cc h C X Y) (C + 51) : Int) = S f_Md_things 0 by rw [et]; show (hl h (C + 51) : Int) = _; rw [lt]]; exact this⟩, fun z10 => ⟨fun z => b_LT_count_200 ⟨LT.1, by have := e 11 (by decide) z; rw [ctS_11] at this; rw [rm, rh, show hI (cc h C X Y) f_Heap_calls (C + 50) = S f_Md_calls 0 by rw [ccI (by decide), m12, m11]]; exact ⟨F.1.1, F.1.2.2.2.2.2.1, this⟩⟩, fun z11 => ⟨fun z => ⟨LT.1, F.1.1, F.1.2.2.2.2.2.1, l52.1, l52, by have := e 12 (by decide) z; rw [ctS_12] at this; rw [show (hl (cc h C X Y) (C + 52) : Int) = S f_Md_shapes 0 by rw [es]; show (hl h (C + 52) : Int) = _; rw [ls]]; exact this⟩, fun z12 => ⟨fun z => ⟨LT.1, F.1.1, F.1.2.2.2.2.2.2.2.2, by have := e 13 (by decide) z; rw [ctS_13] at this; rw [show hI (cc h C X Y) f_Lookup_kept (C + 98) = S f_Md_choices 0 by rw [ccI (by decide), lk1, lk2]]; exact this⟩, fun z13 => ⟨fun z => ⟨LT.1, F.1.1, F.1.2.2.2.2.2.2.2.2, by have := e 14 (by decide) z; rw [ctS_14] at this; rw [show hI (cc h C X Y) f_Lookup_workedOut (C + 98) = S f_Md_workedOut 0 by rw [ccI (by decide), lk3]]; exact this⟩, fun z14 => ⟨fun z => ⟨LT.1, F.1.1, by have := e 15 (by decide) z; rw [ctS_15] at this; rw [show hI (cc h C X Y) f_Machine_outputSize (C + 32) = S f_Md_shown 0 by rw [ccI (by decide), o1, o2]]; exact this⟩, fun z15 => ⟨fun z => ⟨LT.1, F.1.1, by have := e 16 (by decide) z; rw [ctS_16] at this; rw [show hI (cc h C X Y) f_Machine_traceSize (C + 32) = S f_Md_traced 0 by rw [ccI (by decide), o3, o4]]; exact this⟩, fun z16 => ⟨fun z => by have := e 17 (by decide) z; rw [ctS_17] at this; rw [wr] at this; exact this, fun z17 => ⟨fun z => ?_, fun z20 => ⟨fun z => ?_, fun z => ?_⟩⟩⟩⟩⟩⟩⟩⟩⟩⟩⟩⟩⟩⟩⟩⟩⟩⟩⟩⟩
  · unfold ctA at q
    rw [if_neg (by omega), if_neg (by omega)] at q; exact q
  · unfold ctA at q
    rw [if_pos ⟨z20, z⟩] at q
    have ⟨w, ew⟩ : ∃ w : Nat, l1 - 20 = (w : Int) := ⟨(l1 - 20).toNat, by omega⟩
    have w4 : w < 4 := by omega
    have x1 : -2147483648 ≤ l1 - 20 ∧ l1 - 20 < 2147483648 := by omega
    have ks : hK (cc h C X Y) (hR h f_Lookup_asked (C + 98)) = 1 := (G.2.2.2.1 (f_Lookup_asked, 98, 1) (by decide)).2
    have la : hl (cc h C X Y) (hR h f_Lookup_asked (C + 98)) = 4 := F.2.2.2.2.2.2.1.2.1
    have aa : hA (cc h C X Y) (hR h f_Lookup_asked (C + 98)) w = S f_Md_asked w := by rw [ccA G (by decide)]; exact asq w w4
    rw [w32_of x1.1 x1.2, ew, Int.toNat_natCast, ks, la, aa]
    rw [ew, Int.toNat_natCast] at q
    exact ⟨LT.1, F.1.1, F.1.2.2.2.2.2.2.2.2, ⟨by decide, by omega, by omega⟩, q⟩
  · unfold ctA at q
    rw [if_neg (by omega), if_neg (by omega)] at q; exact q
theorem t_count (O : TOK h0 T) (hh : hK h0 (hR h0 f_Md_host T) = k_MdHost ∧ hI h0 f_MdHost_classes (hR h0 f_Md_host T) = (N : Int) ∧ hI h0 f_MdHost_members (hR h0 f_Md_host T) = (M : Int)) (q : Q (Sum.inl (some (vI (ctA S N M l1)))) (cn h0 T (ctS S N M))) : wpB PGm ρ (d + 1) m_Md_count 0 [(0, vR T), (1, vI l1)] [] (cn h0 T S) Q := by
  obtain ⟨kT, G, kH⟩ := O
  obtain ⟨hk, hc, hm⟩ := hh
  have e2 : ∀ f, f ≠ f_Md_thrown → thZ S f 0 = S f 0 := fun f hf => thZ_o hf
  have c1 : ∀ S : SS, hI (cn h0 T S) f_MdHost_classes (hR h0 f_Md_host T) = (N : Int) := fun S => by rw [cnIo (by decide)]; exact hc
  have c2 : ∀ S : SS, hI (cn h0 T S) f_MdHost_members (hR h0 f_Md_host T) = (M : Int) := fun S => by rw [cnIo (by decide)]; exact hm
  have c3 : ∀ S : SS, hK (cn h0 T S) (hR h0 f_Md_host T) = k_MdHost := fun S => by rw [cnK]; exact hk
  have g168 : 20 ≤ l1 → l1 ≤ 23 → wpB PGm ρ (d + 1) m_Md_count 168 [(0, vR T), (1, vI l1)] [] (cn h0 T (ctS S N M)) Q := fun a1 a2 => by
    unfold ctA at q
    rw [if_pos ⟨a1, a2⟩] at q
    have ⟨w, ew⟩ : ∃ w : Nat, l1 - 20 = (w : Int) := ⟨(l1 - 20).toNat, by omega⟩
    have bw : 0 ≤ (w : Int) ∧ (w : Int) < ((4 : Nat) : Int) := by omega
    have x1 : -2147483648 ≤ l1 - 20 ∧ l1 - 20 < 2147483648 := by omega
    have e3 : ctS S N M f_Md_asked w = S f_Md_asked w := ctS_o (by decide) (by decide)
    refine b_Md_count_168 ?_
    rw [w32_of x1.1 x1.2, ew]
    rw [ew, Int.toNat_natCast] at q
    simp (decide := true) (disch := first | decide | omega) only [cnI, cnIe, cnR, cnK, cnl, cnA' G, cn_sI, cn_sIe, cn_sA' G, kT, kH, KN G, LN G, u2_f, u2_s, w32_aa, w32_ss, w32_p1, w32_m1, Int.toNat_natCast, true_and, and_true, false_and, and_false, or_false, false_or, ne_eq, not_false_eq_true, forall_const, implies_true, not_true_eq_false, false_implies, e3, bw]
    exact q
  have fin : wpB PGm ρ d m_Md_in 0 [(0, vL l1), (2, vL 20), (4, vL 23)] [] (cn h0 T (ctS S N M)) (cI (fun x19 h14 => ((x19 = 0 → wpB PGm ρ d m_Md_in 0 [(0, vL l1), (2, vL 0), (4, vL 17)] [] h14 (cI (fun x29 h24 => ((x29 = 0 → Q (Sum.inl (some (vI (-1)))) h24) ∧ (¬ x29 = 0 → (hK h24 (hR h0 f_Md_counted T) ∈ [1, 11] ∧ 0 ≤ l1 ∧ l1 < (hl h24 (hR h0 f_Md_counted T) : Int)) ∧ Q (Sum.inl (some (vI (hA h24 (hR h0 f_Md_counted T) (l1).toNat)))) h24))) (fun e27 h26 => hK h26 e27 ≠ 0 ∧ Q (Sum.inr e27) h26))) ∧ (¬ x19 = 0 → wpB PGm ρ (d + 1) m_Md_count 168 [(0, vR T), (1, vI l1)] [] h14 Q))) (fun e17 h16 => hK h16 e17 ≠ 0 ∧ Q (Sum.inr e17) h16)) := by
    refine t_inF (fun a1 a2 => ⟨fun c => absurd c (by decide), fun _ => g168 a1 a2⟩) (fun a1 => ⟨fun _ => ?_, fun c => absurd rfl c⟩)
    unfold ctA at q
    rw [if_neg a1] at q
    refine t_inF (fun b1 b2 => ⟨fun c => absurd c (by decide), fun _ => ?_⟩) (fun b1 => ⟨fun _ => ?_, fun c => absurd rfl c⟩)
    · rw [if_pos ⟨b1, b2⟩] at q
      have ⟨w, ew⟩ : ∃ w : Nat, l1 = (w : Int) := ⟨l1.toNat, by omega⟩
      subst ew
      have bw : 0 ≤ (w : Int) ∧ (w : Int) < ((18 : Nat) : Int) := by omega
      rw [Int.toNat_natCast] at q
      generalize ctS S N M = Sc at *
      clear g168
      simp (decide := true) (disch := first | decide | omega) only [cnI, cnIe, cnR, cnK, cnl, cnA' G, cn_sI, cn_sIe, cn_sA' G, kT, kH, KN G, LN G, u2_f, u2_s, w32_aa, w32_ss, w32_p1, w32_m1, Int.toNat_natCast, true_and, and_true, false_and, and_false, or_false, false_or, ne_eq, not_false_eq_true, forall_const, implies_true, not_true_eq_false, false_implies, bw]
      exact q
    · rw [if_neg b1] at q; exact q
  have eq9 : ctS S N M = u2 (u2 (u2 (u2 (u2 (u2 (u2 (u2 (u2 (ct9 S N M) f_Md_counted 9 (S f_Md_sourceTexts 0)) f_Md_counted 10 (S f_Md_things 0)) f_Md_counted 11 (S f_Md_calls 0)) f_Md_counted 12 (S f_Md_shapes 0)) f_Md_counted 13 (S f_Md_choices 0)) f_Md_counted 14 (S f_Md_workedOut 0)) f_Md_counted 15 (S f_Md_shown 0)) f_Md_counted 16 (S f_Md_traced 0)) f_Md_counted 17 (S f_Md_wrong 0) := rfl
  have e9 : ∀ f, f ≠ f_Md_counted → f ≠ f_Md_thrown → ct9 S N M f 0 = S f 0 := fun f h1 h2 => by
    unfold ct9
    rw [u2_f h1, u2_f h1, u2_f h1, u2_f h1, u2_f h1, u2_f h1, u2_f h1, u2_f h1, u2_f h1]
    exact thZ_o h2
  have g82 : wpB PGm ρ (d + 1) m_Md_count 82 [(0, vR T), (1, vI l1), (2, vR (hR h0 f_Md_counted T))] [] (cn h0 T (ct9 S N M)) Q := by
    refine b_Md_count_82 ?_
    rw [eq9] at fin
    clear eq9 g168 q
    generalize ct9 S N M = S9 at *
    simp (decide := true) (disch := first | decide | omega) only [cnI, cnIe, cnR, cnK, cnl, cnA' G, cn_sI, cn_sIe, cn_sA' G, kT, kH, KN G, LN G, u2_f, u2_s, w32_aa, w32_ss, w32_p1, w32_m1, Int.toNat_natCast, true_and, and_true, false_and, and_false, or_false, false_or, ne_eq, not_false_eq_true, forall_const, implies_true, not_true_eq_false, false_implies, e9]
    exact fin
  clear fin g168 q eq9 e9
  unfold ct9 at g82
  refine b_Md_count_0 ?_
  simp (decide := true) (disch := first | decide | omega) only [cnI, cnIe, cnR, cnK, cnl, cnA' G, cn_sI, cn_sIe, cn_sA' G, kT, kH, KN G, LN G, u2_f, u2_s, w32_aa, w32_ss, w32_p1, w32_m1, Int.toNat_natCast, true_and, and_true, false_and, and_false, or_false, false_or, ne_eq, not_false_eq_true, forall_const, implies_true, not_true_eq_false, false_implies, e2, c1, c2, c3, cn_th]
  exact g82
end
