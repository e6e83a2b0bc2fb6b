/-! the primitive calls, as the pools name them -/
set_option maxRecDepth 100000
section
variable {D : va_G} {aC : Nat → ClassId} {B0 : Nat} {H0 : Heap} {eE : Nat} {ρ : Nat → Nat} {C0 S0 : Nat} {ow : String} {idx : Nat}
theorem g0k : GOK (G0 D aC B0 H0 eE ρ C0 S0) := ⟨G0P, fun _ h => h⟩
theorem rec_l {pr : Nat} {F : Nat → List AV → Prop} {as : List AV} {h : ah} (hp : pR as F) (hk : ∀ a s, F a s → hK h a = 190) : ∃ a r, as = vR a :: r ∧ 190 ≤ hK h a ∧ kName (hK h a) = "java/util/ArrayList" := by
  obtain ⟨a, s, rfl, hf⟩ := pR_e hp
  have := hk a s hf
  exact ⟨a, s, rfl, by omega, by rw [this]; decide +kernel⟩
theorem rec_s {pr : Nat} {F : Nat → List AV → Prop} {as : List AV} {h : ah} (hp : pR as F) (hk : ∀ a s, F a s → hK h a = 191) : ∃ a r, as = vR a :: r ∧ 190 ≤ hK h a ∧ kName (hK h a) = "java/lang/String" := by
  obtain ⟨a, s, rfl, hf⟩ := pR_e hp
  have := hk a s hf
  exact ⟨a, s, rfl, by omega, by rw [this]; decide +kernel⟩
theorem pI_f {F : Int → List AV → Prop} {as : List AV} {R : Prop} (hp : pI as F) (hk : ∀ a s, F a s → R) : R := by
  obtain ⟨a, s, -, hf⟩ := pI_e hp
  exact hk a s hf
theorem pR_f {F : Nat → List AV → Prop} {as : List AV} {R : Prop} (hp : pR as F) (hk : ∀ a s, F a s → R) : R := by
  obtain ⟨a, s, -, hf⟩ := pR_e hp
  exact hk a s hf
theorem psnd1_1 {y : MethodName} (hy : y ∈ ([⟨"java/util/ArrayList", "<init>", "()V"⟩] : List MethodName)) (hw : Cond.methodLink ow idx y ∈ lw_all) : PSND (G0 D aC B0 H0 eE ρ C0 S0) ow (.invokespecial idx) 1 1 := by
  cases List.mem_singleton.mp hy
  exact psnd_XI G0P (jx_li g0k) hw rfl q530 q531 ⟨by decide, by decide⟩ (by decide +kernel) (np0 (n := 0) (by decide +kernel)) (by omega) (by omega) (fun as h K _ hp => by
    obtain ⟨a, s, rfl, hf⟩ := pR_e hp
    exact ⟨a, s, rfl, by rw [hf.1.1]; decide⟩) (ph_1 g0k)
theorem psnd2_1 {y : MethodName} (hy : y ∈ ([⟨"java/util/ArrayList", "<init>", "(I)V"⟩] : List MethodName)) (hw : Cond.methodLink ow idx y ∈ lw_all) : PSND (G0 D aC B0 H0 eE ρ C0 S0) ow (.invokespecial idx) 2 2 := by
  cases List.mem_singleton.mp hy
  exact psnd_XI G0P (jx_ln g0k) hw rfl q2085 q2086 ⟨by decide, by decide⟩ (by decide +kernel) (np0 (n := 1) (by decide +kernel)) (by omega) (by omega) (fun as h K _ hp => by
    obtain ⟨a, s, rfl, hf⟩ := pR_e hp
    exact ⟨a, s, rfl, by rw [pI_f hf (fun _ _ z => z.1.1)]; decide⟩) ph_2
theorem psnd3_2 (hw : Cond.methodLink ow idx ⟨"java/util/ArrayList", "add", "(Ljava/lang/Object;)Z"⟩ ∈ lw_all) : PSND (G0 D aC B0 H0 eE ρ C0 S0) ow (.invokevirtual idx) 2 3 :=
  psnd_XV G0P (jx_add g0k) hw q1029 q1030 q1031 ⟨by decide, by decide⟩ (by decide +kernel) (np0 (n := 1) (by decide +kernel)) (by omega) (by omega) (fun as h K _ hp => rec_l (pr := 3) hp (fun a s z => pR_f z (fun _ _ z => z.1.1.1))) ph_3
theorem psnd4_2 (hw : Cond.methodLink ow idx ⟨"java/util/ArrayList", "get", "(I)Ljava/lang/Object;"⟩ ∈ lw_all) : PSND (G0 D aC B0 H0 eE ρ C0 S0) ow (.invokevirtual idx) 2 4 :=
  psnd_XV G0P (jx_lg g0k) hw q1139 q1140 q1141 ⟨by decide, by decide⟩ (by decide +kernel) (np0 (n := 1) (by decide +kernel)) (by omega) (by omega) (fun as h K _ hp => rec_l (pr := 4) hp (fun a s z => pI_f z (fun _ _ z => z.1.1.1))) ph_4
theorem psnd5_2 (hw : Cond.methodLink ow idx ⟨"java/util/ArrayList", "size", "()I"⟩ ∈ lw_all) : PSND (G0 D aC B0 H0 eE ρ C0 S0) ow (.invokevirtual idx) 1 5 :=
  psnd_XV G0P jx_lz hw q1135 q1136 q1137 ⟨by decide, by decide⟩ (by decide +kernel) (np0 (n := 0) (by decide +kernel)) (by omega) (by omega) (fun as h K _ hp => rec_l (pr := 5) hp (fun a s z => z.1.1)) ph_5
theorem psnd6_2 (hw : Cond.methodLink ow idx ⟨"java/util/ArrayList", "clear", "()V"⟩ ∈ lw_all) : PSND (G0 D aC B0 H0 eE ρ C0 S0) ow (.invokevirtual idx) 1 6 :=
  psnd_XV G0P jx_cl hw q986 q987 q988 ⟨by decide, by decide⟩ (by decide +kernel) (np0 (n := 0) (by decide +kernel)) (by omega) (by omega) (fun as h K _ hp => rec_l (pr := 6) hp (fun a s z => z.1.1)) ph_6
theorem cpS {k : Nat} {as : List AV} {h : ah} {K : QT} (hp : pR as fun a s => pI s fun n _ => (hK h a = k ∧ 0 ≤ n ∧ n ≤ 67108864) ∧ K (Sum.inl (some (vR (hz h)))) (hcp h k a n.toNat)) : ∃ a n, as.length = 2 → as = [vR a, vI n] ∧ (hK h a = k ∧ 0 ≤ n ∧ n ≤ 67108864) ∧ K (Sum.inl (some (vR (hz h)))) (hcp h k a n.toNat) := by
  obtain ⟨a, s, rfl, hf⟩ := pR_e hp
  obtain ⟨n, s2, rfl, hf⟩ := pI_e hf
  refine ⟨a, n, fun hl => ⟨?_, hf⟩⟩
  obtain rfl : s2 = [] := List.length_eq_zero_iff.mp (by simpa using hl)
  rfl
theorem fit_b {z : Int} (h : acan 3 z) : fits .byte (aval 3 z) = true := by
  have h1 : -128 ≤ z ∧ z ≤ 127 := h
  have e1 := i32_of (show in32 z from ⟨by omega, by omega⟩)
  show fits .byte (.int (Int32.ofInt z)) = true
  exact (nf_val (ty := .byte) (ft := 1) (v := vI z) rfl (h := ((0, 0), fun _ => 0, fun _ _ => 0, fun _ _ => 0, fun _ => 0, fun _ _ => 0, fun _ _ => 0)) (f := 1) (a := 0) (F := fun _ => True) ⟨h1, trivial⟩ ⟨by omega, by omega⟩).2
theorem fit_z {z : Int} (h : acan 4 z) : fits .boolean (aval 4 z) = true := by
  have h1 : z = 0 ∨ z = 1 := h
  rcases h1 with rfl | rfl <;> rfl
theorem psnd7_0 (hw : Cond.methodLink ow idx ⟨"java/util/Arrays", "copyOf", "([II)[I"⟩ ∈ lw_all) : PSND (G0 D aC B0 H0 eE ρ C0 S0) ow (.invokestatic idx) 2 7 :=
  psnd_XS G0P (jx_cp g0k (k := 1) (ty := .int) (at_ := .int) (ad := "[I") (by simp [arrT]) rfl (fun s h => va_nm_int h) (by decide +kernel) q601 (by decide) q1473 q1474 q1475 q1476 q1477 d_cI_0 d_cI_1 d_cI_2 d_cI_3 d_cI_6 d_cI_7 d_cI_10 d_cI_13 d_cI_14 d_cI_15 d_cI_17 d_cI_18 d_cI_19 d_cI_20 d_cI_21 d_cI_22 d_cI_23 d_cI_24 d_cI_25 d_cI_28 d_cI_31 d_cI_32) hw q1471 q324 q1472 ⟨by decide, by decide⟩ (by decide +kernel) (np0 (n := 2) (by decide +kernel)) (by omega) (by omega) (ph_cp (Or.inl rfl) rfl (fun as h K hp => cpS hp) (fun z hz => rfl))
theorem psnd8_0 (hw : Cond.methodLink ow idx ⟨"java/util/Arrays", "copyOf", "([BI)[B"⟩ ∈ lw_all) : PSND (G0 D aC B0 H0 eE ρ C0 S0) ow (.invokestatic idx) 2 8 :=
  psnd_XS G0P (jx_cp g0k (k := 3) (ty := .byte) (at_ := .byte) (ad := "[B") (by simp [arrT]) rfl (fun s h => va_nm_byte h) (by decide +kernel) q461 (by decide) q1316 q1317 q1320 q1321 q1322 d_cB_0 d_cB_1 d_cB_2 d_cB_3 d_cB_6 d_cB_7 d_cB_10 d_cB_13 d_cB_14 d_cB_15 d_cB_17 d_cB_18 d_cB_19 d_cB_20 d_cB_21 d_cB_22 d_cB_23 d_cB_24 d_cB_25 d_cB_28 d_cB_31 d_cB_32) hw q1314 q324 q1315 ⟨by decide, by decide⟩ (by decide +kernel) (np0 (n := 2) (by decide +kernel)) (by omega) (by omega) (ph_cp (Or.inr (Or.inr (Or.inl rfl))) rfl (fun as h K hp => cpS hp) (fun z hz => fit_b hz))
theorem psnd9_0 (hw : Cond.methodLink ow idx ⟨"java/util/Arrays", "copyOf", "([JI)[J"⟩ ∈ lw_all) : PSND (G0 D aC B0 H0 eE ρ C0 S0) ow (.invokestatic idx) 2 9 :=
  psnd_XS G0P (jx_cp g0k (k := 2) (ty := .long) (at_ := .long) (ad := "[J") (by simp [arrT]) rfl (fun s h => va_nm_long h) (by decide +kernel) q915 (by decide) q2967 q2968 q2969 q2970 q2971 d_cJ_0 d_cJ_1 d_cJ_2 d_cJ_3 d_cJ_6 d_cJ_7 d_cJ_10 d_cJ_13 d_cJ_14 d_cJ_15 d_cJ_17 d_cJ_18 d_cJ_19 d_cJ_20 d_cJ_21 d_cJ_22 d_cJ_23 d_cJ_24 d_cJ_25 d_cJ_28 d_cJ_31 d_cJ_32) hw q2965 q324 q2966 ⟨by decide, by decide⟩ (by decide +kernel) (np0 (n := 2) (by decide +kernel)) (by omega) (by omega) (ph_cp (Or.inr (Or.inl rfl)) rfl (fun as h K hp => cpS hp) (fun z hz => rfl))
theorem psnd10_0 (hw : Cond.methodLink ow idx ⟨"java/util/Arrays", "copyOf", "([ZI)[Z"⟩ ∈ lw_all) : PSND (G0 D aC B0 H0 eE ρ C0 S0) ow (.invokestatic idx) 2 10 :=
  psnd_XS G0P (jx_cp g0k (k := 4) (ty := .boolean) (at_ := .boolean) (ad := "[Z") (by simp [arrT]) rfl (fun s h => va_nm_boolean h) (by decide +kernel) q639 (by decide) q2976 q2977 q2978 q2979 q2980 d_cZ_0 d_cZ_1 d_cZ_2 d_cZ_3 d_cZ_6 d_cZ_7 d_cZ_10 d_cZ_13 d_cZ_14 d_cZ_15 d_cZ_17 d_cZ_18 d_cZ_19 d_cZ_20 d_cZ_21 d_cZ_22 d_cZ_23 d_cZ_24 d_cZ_25 d_cZ_28 d_cZ_31 d_cZ_32) hw q2974 q324 q2975 ⟨by decide, by decide⟩ (by decide +kernel) (np0 (n := 2) (by decide +kernel)) (by omega) (by omega) (ph_cp (Or.inr (Or.inr (Or.inr rfl))) rfl (fun as h K hp => cpS hp) (fun z hz => fit_z hz))
theorem psnd11_2 (hw : Cond.methodLink ow idx ⟨"java/lang/String", "length", "()I"⟩ ∈ lw_all) : PSND (G0 D aC B0 H0 eE ρ C0 S0) ow (.invokevirtual idx) 1 11 :=
  psnd_XV G0P (jx_le g0k) hw q1392 q1393 q1394 ⟨by decide, by decide⟩ (by decide +kernel) (np0 (n := 0) (by decide +kernel)) (by omega) (by omega) (fun as h K _ hp => rec_s (pr := 11) hp (fun a s z => z.1)) ph_11
theorem psnd12_2 (hw : Cond.methodLink ow idx ⟨"java/lang/String", "charAt", "(I)C"⟩ ∈ lw_all) : PSND (G0 D aC B0 H0 eE ρ C0 S0) ow (.invokevirtual idx) 2 12 :=
  psnd_XV G0P (jx_ch g0k) hw q1402 q1403 q1404 ⟨by decide, by decide⟩ (by decide +kernel) (np0 (n := 1) (by decide +kernel)) (by omega) (by omega) (fun as h K _ hp => rec_s (pr := 12) hp (fun a s z => pI_f z (fun _ _ z => z.1.1))) ph_12
theorem psnd13_0 (hw : Cond.methodLink ow idx ⟨"java/lang/Math", "max", "(II)I"⟩ ∈ lw_all) : PSND (G0 D aC B0 H0 eE ρ C0 S0) ow (.invokestatic idx) 2 13 :=
  psnd_XS G0P jx_max hw q1048 q323 q1049 ⟨by decide, by decide⟩ (by decide +kernel) (np0 (n := 2) (by decide +kernel)) (by omega) (by omega) ph_13
theorem psnd14_0 (hw : Cond.methodLink ow idx ⟨"java/lang/Math", "min", "(II)I"⟩ ∈ lw_all) : PSND (G0 D aC B0 H0 eE ρ C0 S0) ow (.invokestatic idx) 2 14 :=
  psnd_XS G0P jx_min hw q1126 q323 q1127 ⟨by decide, by decide⟩ (by decide +kernel) (np0 (n := 2) (by decide +kernel)) (by omega) (by omega) ph_14
theorem psnd15_0 (hw : Cond.methodLink ow idx ⟨"java/lang/Math", "abs", "(J)J"⟩ ∈ lw_all) : PSND (G0 D aC B0 H0 eE ρ C0 S0) ow (.invokestatic idx) 1 15 :=
  psnd_XS G0P jx_ab hw q3643 q323 q3644 ⟨by decide, by decide⟩ (by decide +kernel) (np0 (n := 1) (by decide +kernel)) (by omega) (by omega) ph_15
theorem psnd16_0 (hw : Cond.methodLink ow idx ⟨"java/lang/Long", "compare", "(JJ)I"⟩ ∈ lw_all) : PSND (G0 D aC B0 H0 eE ρ C0 S0) ow (.invokestatic idx) 2 16 :=
  psnd_XS G0P jx_lcmp hw q3710 q374 q3711 ⟨by decide, by decide⟩ (by decide +kernel) (np0 (n := 2) (by decide +kernel)) (by omega) (by omega) ph_16
theorem chE {G : GX} {s : State} (hEV : EV8 G s) {args : Array Value} : ∀ c ∈ Bundle.chain0Atoms "java/lang/Exception" [], c.before args s = true := by
  intro c hc
  simp only [Bundle.chain0Atoms, Bundle.passAtoms, List.mem_cons, List.not_mem_nil, or_false] at hc
  rcases hc with rfl | rfl | rfl | rfl | rfl
  · exact hEV.1.all q2906
  · exact hEV.1.all q2907
  · exact hEV.1.all q2908
  · exact hEV.1.all q409
  · exact hEV.1 _ q393 rfl _
theorem chR {G : GX} {s : State} (hEV : EV8 G s) {args : Array Value} : ∀ c ∈ Bundle.chain0Atoms "java/lang/RuntimeException" ["java/lang/Exception"], c.before args s = true := by
  intro c hc
  unfold Bundle.chain0Atoms at hc
  rcases List.mem_append.mp hc with hc | hc
  · simp only [Bundle.passAtoms, List.mem_cons, List.not_mem_nil, or_false] at hc
    rcases hc with rfl | rfl | rfl | rfl | rfl
    · exact hEV.1.all q2903
    · exact hEV.1.all q2904
    · exact hEV.1.all q2905
    · exact hEV.1.all q2906
    · exact hEV.1 _ q391 rfl _
  · exact chE hEV c hc
theorem chX {G : GX} {s : State} (hEV : EV8 G s) {args : Array Value} {X : String} {b : ByteArray} (hb : b = Bundle.five) (w1 : Cond.instanceMethod (Bundle.init0 X) ∈ lw_all) (w2 : Cond.code (Bundle.init0 X) b 1 none ∈ lw_all) (w3 : Cond.methodLink X 1 (Bundle.init0 "java/lang/RuntimeException") ∈ lw_all) : ∀ c ∈ Bundle.chain0Atoms X ["java/lang/RuntimeException", "java/lang/Exception"], c.before args s = true := by
  subst hb
  intro c hc
  unfold Bundle.chain0Atoms at hc
  rcases List.mem_append.mp hc with hc | hc
  · simp only [Bundle.passAtoms, List.mem_cons, List.not_mem_nil, or_false] at hc
    rcases hc with rfl | rfl | rfl | rfl | rfl
    · exact hEV.1.all w1
    · exact hEV.1.all w2
    · exact hEV.1.all w3
    · exact hEV.1.all q2903
    · exact hEV.1 _ q389 rfl _
  · exact chR hEV c hc
theorem psnd17_1 {y : MethodName} (hy : y ∈ ([⟨"java/lang/RuntimeException", "<init>", "()V"⟩, ⟨"java/lang/IllegalArgumentException", "<init>", "()V"⟩, ⟨"java/lang/IllegalStateException", "<init>", "()V"⟩, ⟨"java/lang/IndexOutOfBoundsException", "<init>", "()V"⟩, ⟨"java/util/NoSuchElementException", "<init>", "()V"⟩] : List MethodName)) (hw : Cond.methodLink ow idx y ∈ lw_all) : PSND (G0 D aC B0 H0 eE ρ C0 S0) ow (.invokespecial idx) 1 17 := by
  have nm2 : ∀ n ∈ ["java/lang/RuntimeException", "java/lang/Exception"], Bundle.fit n = true := by decide +kernel
  simp only [List.mem_cons, List.not_mem_nil, or_false] at hy
  rcases hy with rfl | rfl | rfl | rfl | rfl
  · exact psnd_17 g0k (cls := "java/lang/RuntimeException") (names := ["java/lang/Exception"]) (by decide +kernel) (by decide +kernel) (by decide) (fun s args hEV => chR hEV) hw q2903 q2904
  · exact psnd_17 g0k (cls := "java/lang/IllegalArgumentException") (names := ["java/lang/RuntimeException", "java/lang/Exception"]) (by decide +kernel) nm2 (by decide) (fun s args hEV => chX hEV rfl q2900 q2901 q2902) hw q2900 q2901
  · exact psnd_17 g0k (cls := "java/lang/IllegalStateException") (names := ["java/lang/RuntimeException", "java/lang/Exception"]) (by decide +kernel) nm2 (by decide) (fun s args hEV => chX hEV rfl q2919 q2920 q2921) hw q2919 q2920
  · exact psnd_17 g0k (cls := "java/lang/IndexOutOfBoundsException") (names := ["java/lang/RuntimeException", "java/lang/Exception"]) (by decide +kernel) nm2 (by decide) (fun s args hEV => chX hEV rfl q3752 q3753 q3754) hw q3752 q3753
  · exact psnd_17 g0k (cls := "java/util/NoSuchElementException") (names := ["java/lang/RuntimeException", "java/lang/Exception"]) (by decide +kernel) nm2 (by decide) (fun s args hEV => chX hEV rfl q3780 q3781 q3782) hw q3780 q3781
theorem psnd18_1 {y : MethodName} (hy : y ∈ ([⟨"java/lang/RuntimeException", "<init>", "(Ljava/lang/String;Ljava/lang/Throwable;ZZ)V"⟩] : List MethodName)) (hw : Cond.methodLink ow idx y ∈ lw_all) : PSND (G0 D aC B0 H0 eE ρ C0 S0) ow (.invokespecial idx) 5 18 := by
  cases List.mem_singleton.mp hy
  exact psnd_XI G0P (jx_r4 g0k) hw rfl q436 q437 ⟨by decide, by decide⟩ (by decide +kernel) (np0 (n := 4) (by decide +kernel)) (by omega) (by omega) (fun as h K _ hp => by
    obtain ⟨a, s, rfl, hf⟩ := pR_e hp
    refine ⟨a, s, rfl, fun z => ?_⟩
    have := hf.1.1
    rw [z] at this
    cases this) ph_18
theorem psnd19_1 {y : MethodName} (hy : y ∈ ([⟨"java/lang/Object", "<init>", "()V"⟩] : List MethodName)) (hw : Cond.methodLink ow idx y ∈ lw_all) : PSND (G0 D aC B0 H0 eE ρ C0 S0) ow (.invokespecial idx) 1 19 := by
  cases List.mem_singleton.mp hy
  exact psnd_19 hw
theorem psnd20_2 (hw : Cond.methodLink ow idx ⟨"java/util/ArrayList", "remove", "(I)Ljava/lang/Object;"⟩ ∈ lw_all) : PSND (G0 D aC B0 H0 eE ρ C0 S0) ow (.invokevirtual idx) 2 20 := by
  intro p l e R s m args below meth c P nL σ pc lv st as h K hexec htr hEV hown hnL hdg hfr hlo hst hlen hcap hpr kn kv
  exact hpr.elim
end
