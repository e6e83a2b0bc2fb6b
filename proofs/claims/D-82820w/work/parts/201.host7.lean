/-! the builtin host -/
set_option maxRecDepth 20000
/-- C's host, while C runs -/
def HCM (ρ : Nat → Nat) (h : ah) (ho : Nat) (g : HG) (N m : Nat) (ws : List (List Int)) : Prop := ∃ by_ fr sz nx, HC ρ h ho g N m ws by_ fr sz nx
/-- the host is a machine's -/
def YHO (Y : Y3) (ho : Nat) : Prop := Y 32 f_Machine_host 0 = ho ∧ Y 98 f_Lookup_host 0 = ho
/-- what T runs on, with its host -/
def PTH (ρ : Nat → Nat) (g : HG) (N m : Nat) (h0 : ah) (T : Nat) : Prop := TKS ρ h0 T ∧ HRW h0 T (hR h0 f_Md_host T) g N m
def fhcm : List Nat := [f_Host_types, f_Host_members, f_Host_words, f_Host_plainWords, f_Host_draft, f_Host_meant, f_Host_met, f_Host_types + 1, f_Host_members + 1, f_HostType_number, f_HostType_name, f_HostType_isInterface, f_HostType_firstMember, f_HostType_above, f_HostType_supers, f_HostType_members, f_HostType_over, f_HostType_words, f_HostType_tags, f_Member_number, f_Member_kind, f_Member_type, f_Member_owner, f_Member_isStatic, f_Member_name, f_Member_parameters, f_Member_variable, f_HostType_number + 1, f_HostType_name + 1, f_HostType_isInterface + 1, f_HostType_firstMember + 1, f_HostType_above + 1, f_HostType_supers + 1, f_HostType_members + 1, f_HostType_over + 1, f_HostType_words + 1, f_HostType_tags + 1, f_Member_number + 1, f_Member_kind + 1, f_Member_type + 1, f_Member_owner + 1, f_Member_isStatic + 1, f_Member_name + 1, f_Member_parameters + 1, f_Member_variable + 1, f_Words_most, f_Words_mostBytes, f_Words_many, f_Words_used, f_Words_bytes, f_Words_from, f_Words_size, f_Words_next, f_Words_heads, f_Words_most + 1, f_Words_mostBytes + 1, f_Words_many + 1, f_Words_used + 1, f_Words_bytes + 1, f_Words_from + 1, f_Words_size + 1, f_Words_next + 1, f_Words_heads + 1]
section
variable {ρ : Nat → Nat} {P : ah → Nat → Prop} {d : Nat} {Q : QT} {Γ Γ' : GH} {h h0 h1 h' : ah} {C ho T : Nat} {X X' X1 X2 : X3} {Y Y' : Y3} {S S' S1 S2 : SS} {N t o n c r f i j k m z s n' pu po tn w sn sm l1 s0 nn p0 kk kx by_ fr_ sz nx_ at_ M : Nat} {ty v x y op a b p : Int} {L : List Nat} {ws : List (List Int)} {l : List Int} {g : HG} {FR E : Nat → ah → Prop} {Pp : List (Nat × Nat)}
theorem HCM.fr {s1 z1 : Nat} (H : HCM ρ h ho g N m ws) (fr : Fr L Pp z1 s1 h h') (dj : DJ fhcm L Pp) (p0 : ∀ y, (0, y) ∉ Pp) : HCM ρ h' ho g N m ws := by
  obtain ⟨b, f, z, n, H⟩ := H
  have w : ∀ f, fhcm.elem f = true → ∀ a, ¬ okW L Pp f a := fun f hf a => dj.w hf
  have c : ∀ f, fhcm.elem f = true → fhcm.elem (f + 1) = true → ∀ a, ¬ okC L Pp f a := fun f h1 h2 a z => z.elim (w f h1 a) (w (f + 1) h2 a)
  refine ⟨b, f, z, n, H.frm2 fr (fun f hm a => ?_) (fun f hm => ?_) ⟨c _ (by decide) (by decide) _, c _ (by decide) (by decide) _⟩ p0 (fun f hm => ?_)⟩
  · have e : (ftyp ++ fmem).all (fun f => fhcm.elem f && fhcm.elem (f + 1)) = true := by decide
    have := List.all_eq_true.mp e f hm
    simp only [Bool.and_eq_true] at this
    exact c f this.1 this.2 a
  · have e : fhos.all (fun f => fhcm.elem f) = true := by decide
    exact w f (List.all_eq_true.mp e f hm) ho
  · have e : [f_Words_most, f_Words_mostBytes, f_Words_many, f_Words_used, f_Words_bytes, f_Words_from, f_Words_size, f_Words_next, f_Words_heads].all (fun f => fhcm.elem f && fhcm.elem (f + 1)) = true := by decide
    have := List.all_eq_true.mp e f hm
    simp only [Bool.and_eq_true] at this
    exact c f this.1 this.2 _
theorem HCM.cc (H : HCM ρ h ho g N m ws) (G : AC h C) : HCM ρ (cc h C X Y) ho g N m ws := H.fr (cc_fr G) (by unfold DJ; decide) (by simp)
theorem c_hfind2 (H : HC ρ h ho g n m ws by_ fr_ sz nx_) (r2 : hK h r ∈ [3, 4, 13]) (r1 : RW h r at_ l) (r3 : at_ + l.length ≤ 1000000) (hd : 10 ≤ d + 1) (q1 : ∀ i, i < n → g.2 0 i = l → (∀ j, j < i → g.2 0 j ≠ l) → FR (hB h (ho + 2) i) h) (q0 : (∀ i, i < n → g.2 0 i ≠ l) → FR 0 h) : wpB PGm ρ (d + 2) m_Host_find 0 [(0, vR ho), (1, vR r), (2, vI (at_ : Int)), (3, vI (l.length : Int))] [] h (cR FR E) := by
  obtain ⟨⟨a1, a2, a3, a4, a5, a6, a7, -⟩, b1, b2, b3, b4, b5, b6, b7⟩ := id H
  have no : (∀ i, i < n → g.2 0 i ≠ l) → ∀ j : Nat, wpB PGm ρ (d + 2) m_Host_find 15 [(0, vR ho), (4, vI (-1)), (5, vI (j : Int))] [] h (cR FR E) := fun ne j => b_Host_find_15 (by omega) ⟨a1, by rw [a4]; exact a7.1.1, by rw [a4]; exact a7.1, fun _ => q0 ne, fun _ => ⟨fun _ => q0 ne, fun z => absurd z (by decide)⟩⟩
  refine b_Host_find_0 ⟨a1, by rw [a6]; exact b7.1.1, ?_⟩
  rw [a6]
  refine c_find b7 r2 r1 r3 (fun k hk ek => ?_) (fun hn => no (fun i hi e => ?_) 0)
  · have lp : ∀ mm j, n - j < mm → j ≤ n → (∀ i, i < j → g.2 0 i ≠ l) → wpB PGm ρ (d + 2) m_Host_find 15 [(0, vR ho), (4, vI (k : Int)), (5, vI (j : Int))] [] h (cR FR E) := by
      intro mm
      induction mm with
      | zero => intro j hm; omega
      | succ mm ih =>
        intro j hm hj hno
        refine b_Host_find_15 (by omega) ⟨a1, by rw [a4]; exact a7.1.1, by rw [a4]; exact a7.1, fun z => ?_, fun z => ⟨fun z => by omega, fun _ => ?_⟩⟩
        · rw [a4, b1] at z
          exact q0 (fun i hi => hno i (by omega))
        · rw [a4, b1] at z
          have hj2 : j < n := by omega
          have ty := H.ty hj2
          have nm := (b5 j hj2).2.2.1.iff b7.2.2.2.2.2.2.2.2 hk ek
          rw [a4, Int.toNat_natCast]
          refine ⟨a7.1.1, ⟨a7.1, by omega, by omega⟩, Or.inr (by rw [ty.1]; decide), ty.1, fun ne => ?_, fun e => ⟨a7.1.1, ⟨a7.1, by omega, by omega⟩, Or.inr (by rw [ty.1]; decide), q1 j hj2 (nm.mp e) hno⟩⟩
          rw [w32_s (by omega)]
          exact ih (j + 1) (by omega) (by omega) (fun i hi => by
            by_cases c : i = j
            · rw [c]; exact fun x => ne (nm.mpr x)
            · exact hno i (by omega))
    exact lp _ 0 (Nat.lt_succ_self _) (Nat.zero_le _) (fun i hi => by omega)
  · obtain ⟨w, w1, w2, -⟩ := (b5 i hi).2.2.1
    exact hn (by rw [← e, ← w2]; exact getD_mem w1)
theorem HC.num (H : HC ρ h ho g n m ws by_ fr_ sz nx_) (hi : i < n) : hI h f_HostType_number (hB h (ho + 2) i) = (i : Int) := (H.2.2.2.2.2.1 i hi).2.1
/-- C: the builtin host -/
theorem r_HOST (I : IX h C X Y o n c) (HH : HCM ρ h ho g N M ws) (yh : YHO Y ho) (n1 : 1 ≤ n) (c3 : hl h (C + 51) = tn) (c6 : tn ≤ 8000) (VV : X o f_Task_tags (n - 1) = 4 ∨ X o f_Task_tags (n - 1) = 5 → 0 ≤ X o f_Task_words (n - 1) ∧ X o f_Task_words (n - 1) < (tn : Int) ∧ hK h (hB h (C + 51) (X o f_Task_words (n - 1)).toNat) ∈ [244, 245]) (V2 : X o f_Task_tags (n - 1) = 3 → CTX h C X (X o f_Task_words (n - 1)) l) (q1 : X o f_Task_tags (n - 1) = 3 → ∀ i, i < N → CNV g N l (i : Int) → Q (Sum.inl none) (cc h C (ansX X o (n - 1) c 8 (i : Int)) Y)) (q0 : (X o f_Task_tags (n - 1) = 3 → CNV g N l (-1)) → Q (Sum.inr (C + 33)) (cc h C (erX X 12) Y)) : wpB PGm ρ (d + 60) m_Machine_instruct 0 [(0, vR (C + 32)), (1, vI 28), (2, vI 7), (3, vI b)] [] (cc h C X Y) Q := by
  obtain ⟨G, F, ht, ⟨e1, e2, e3⟩, hn, hc1, hc2⟩ := I
  obtain ⟨by_, fr, sz, nx, HX⟩ := HH.cc (X := X) (Y := Y) G
  have kS : hK h (C + 33) ≠ 0 := by rw [F.1.2.1]; decide
  have w1 : w32 ((n : Int) - ((1 : Nat) : Int)) = ((n - 1 : Nat) : Int) := w32_m1 (by omega)
  have b1 : 0 ≤ ((n - 1 : Nat) : Int) ∧ ((n - 1 : Nat) : Int) < ((2001 : Nat) : Int) := by omega
  have n12 : n - 1 ≤ 2000 := by omega
  have es : hR (cc h C X Y) f_Machine_signal (C + 32) = C + 33 := by rw [ccRo (by decide)]; exact F.2.1.1
  have eH : hR (cc h C X Y) f_Machine_host (C + 32) = ho := by rw [ccR (by decide)]; exact yh.1
  refine r_BLT (w := 1) (d := d + 40) ⟨G, F, ht, ⟨e1, e2, e3⟩, hn, hc1, hc2⟩ n1 (Or.inr ⟨by decide, rfl⟩) (b_Machine_builtin_27 ?_)
  generalize hx : X o f_Task_tags (n - 1) = x at *
  generalize hy : X o f_Task_words (n - 1) = y at *
  have no : (x = 3 → CNV g N l (-1)) → wpB PGm ρ (d + 59) m_Machine_builtin 386 [(0, vR (C + 32)), (2, vI ((n - 1 : Nat) : Int))] [vR 0] (cc h C X Y) (cV (fun h3 => Q (Sum.inl none) h3) (fun e h' => hK h' e ≠ 0 ∧ Q (Sum.inr e) h')) := fun z => by
    refine b_Machine_builtin_386 ⟨fun z => absurd rfl z, fun _ => ⟨F.1.1, ?_⟩⟩
    rw [es]
    exact ⟨F.1.2.1, r_sigQ G F ⟨kS, q0 z⟩⟩
  have yes : x = 3 → ∀ i, i < N → CNV g N l (i : Int) → wpB PGm ρ (d + 59) m_Machine_builtin 386 [(0, vR (C + 32)), (2, vI ((n - 1 : Nat) : Int))] [vR (hB h (ho + 2) i)] (cc h C X Y) (cV (fun h3 => Q (Sum.inl none) h3) (fun e h' => hK h' e ≠ 0 ∧ Q (Sum.inr e) h')) := fun z i hi hv => by
    obtain ⟨_, _, _, _, H0⟩ := HH
    have ty := H0.ty hi
    refine b_Machine_builtin_386 ⟨fun _ => ⟨ty.1, F.1.1, ?_⟩, fun z => absurd z ty.2⟩
    rw [ccIo (by decide), H0.num hi]
    exact r_answer (d := d + 57) (n := n - 1) (c := c) G F ht e1 e3 n12 ⟨hc1, hc2⟩ (by decide) (q1 z i hi hv)
  have f1 := F.t ht
  unfold FCt at f1
  have f2 := F
  unfold FC at f2
  simp (decide := true) only [ccI, ccR, ccRo, ccK, ccl, ccA G, ccAt G ht, KC G, KCt G ht, f1, f2, e1, w1, hx, hy, Int.toNat_natCast, true_and, and_true, false_implies, forall_const]
  refine ⟨b1, b1, r_objectOf G F (by omega) c3 c6 VV ?_⟩
  show (¬ x = 3 → _) ∧ (x = 3 → _)
  refine ⟨fun z => no (fun c => absurd c z), fun z => ?_⟩
  obtain ⟨xx, bb, y1, y2', y3, y4, y5, y6, y7, y8, y9⟩ := V2 z
  have kB : hK h (hR h f_Texts_bytes (C + 46)) ∈ [3, 4, 13] := by rw [(G.2.2.2.1 (f_Texts_bytes, 46, 3) (by decide)).2]; decide
  have rw' : RW (cc h C X Y) (hR h f_Texts_bytes (C + 46)) bb l := ⟨y7, fun i hi => by rw [ccA G (by decide)]; exact y9 i hi⟩
  have d1 : 0 ≤ (xx : Int) ∧ (xx : Int) < (hl h (hR h f_Texts_from (C + 46)) : Int) := ⟨Int.natCast_nonneg xx, Int.ofNat_lt.mpr y4⟩
  have d2 : 0 ≤ (xx : Int) ∧ (xx : Int) < (hl h (hR h f_Texts_size (C + 46)) : Int) := ⟨Int.natCast_nonneg xx, Int.ofNat_lt.mpr y3⟩
  have kho : hK h ho = k_Host := by obtain ⟨_, _, _, _, H0⟩ := HH; exact H0.1.1
  have fin : wpB PGm ρ (d + 58) m_Host_find 0 [(0, vR ho), (1, vR (hR h f_Texts_bytes (C + 46))), (2, vI (bb : Int)), (3, vI (l.length : Int))] [] (cc h C X Y) (cR (fun x138 h133 => wpB PGm ρ (d + 59) m_Machine_builtin 386 [(0, vR (C + 32)), (2, vI ((n - 1 : Nat) : Int))] [vR x138] h133 (cV (fun h3 => Q (Sum.inl none) h3) (fun e h' => hK h' e ≠ 0 ∧ Q (Sum.inr e) h'))) (fun e136 h135 => hK h135 e136 ≠ 0 ∧ cV (fun h3 => Q (Sum.inl none) h3) (fun e h' => hK h' e ≠ 0 ∧ Q (Sum.inr e) h') (Sum.inr e136) h135)) := by
    refine c_hfind2 (d := d + 56) HX kB rw' y8 (by omega) (fun i hi e hj => ?_) (fun hno => no (fun _ => Or.inr ⟨rfl, hno⟩))
    have eb : hB (cc h C X Y) (ho + 2) i = hB h (ho + 2) i := by
      obtain ⟨_, _, _, _, H0⟩ := HH
      exact ((cc_fr (X := X) (Y := Y) G).ar G.2.1 (f := f_Host_types) (by unfold own; decide) H0.1.2.1 H0.1.2.2.2.1 (by omega) (fun c => by rcases c with (c | c) | (c | c) <;> first | exact absurd c (by decide) | exact absurd c (by simp)) (by simp)).2.2 i
    rw [eb]
    exact yes z i hi (Or.inl ⟨i, rfl, hi, e, hj⟩)
  have w3 : w32 (xx : Int) = (xx : Int) := w32_of (by omega) (by omega)
  clear yes no q1 q0 VV V2
  subst y1
  simp (decide := true) only [ccR, ccRo, ccK, ccl, ccA G, KC G, f1, f2, yh.1, kho, w3, y5, y6, Int.toNat_natCast, true_and, and_true]
  exact ⟨d1, d2, fin⟩
/-- T: the builtin host -/
theorem s_HOST (K : PTH ρ g N M h0 T) (D : DF S t n c f p0 kk 28 7 b) (n1 : 1 ≤ n) (tx : S f_Md_pileType (2100 * t + (n - 1)) = 3 → S f_Md_pileValue (2100 * t + (n - 1)) = (kx : Int) ∧ TTX S kx l) (hv : S f_Md_pileType (2100 * t + (n - 1)) = 3 ∧ CNV g N l v ∨ ¬ S f_Md_pileType (2100 * t + (n - 1)) = 3 ∧ v = -1) (q1 : 0 ≤ v → Q (Sum.inl none) (cn h0 T (atS (putS S (2100 * t + (n - 1)) 8 v) t c ((p0 + 1 : Nat) : Int)))) (q0 : v < 0 → Q (Sum.inr (hR h0 f_Md_halt T)) (cn h0 T (erS S 12))) : wpB PGm ρ (d + 60) m_Md_does 0 [(0, vR T)] [] (cn h0 T S) Q := by
  have O' := K.1.1
  have d2 := D.2.1
  have w2 : w32 (((2100 * t + n : Nat) : Int) - 1) = ((2100 * t + (n - 1) : Nat) : Int) := by
    have : 2100 * t + (n - 1) = 2100 * t + n - 1 := by omega
    rw [this]; exact w32_m1 (by omega)
  have c1' : 0 ≤ ((2100 * t + (n - 1) : Nat) : Int) ∧ ((2100 * t + (n - 1) : Nat) : Int) < ((4200 : Nat) : Int) := by omega
  have l42 : 2100 * t + (n - 1) < 4200 := by omega
  have hb : n ≤ 2100 := by omega
  have kT := O'.1
  have G0 := O'.2.1
  have kH : hK h0 (hR h0 f_Md_halt T) ≠ 0 := by rw [O'.2.2]; decide
  have g402 : wpB PGm ρ (d + 58) m_Md_builtins 402 [(0, vR T), (2, vI ((2100 * t + (n - 1) : Nat) : Int))] [vI v] (cn h0 T S) (bK ρ (d + 52) T Q) := by
    refine b_Md_builtins_402 ⟨fun z => b_Md_builtins_415 ⟨kT, s_putP O' l42 (bK_fin O' D ?_ ?_ (q1 z))⟩, fun z => ⟨kT, s_error O' ⟨kH, bK_er O' (q0 z)⟩⟩⟩
    · unfold putS; rw [u2_f (by decide), u2_f (by decide)]
    · unfold putS; rw [u2_f (by decide), u2_f (by decide)]
  have gn : S f_Md_pileType (2100 * t + (n - 1)) = 3 → wpB PGm ρ (d + 57) m_Md_classNamed 0 [(0, vR T), (1, vI (kx : Int))] [] (cn h0 T S) (cI (fun x147 h142 => wpB PGm ρ (d + 58) m_Md_builtins 402 [(0, vR T), (2, vI ((2100 * t + (n - 1) : Nat) : Int))] [vI x147] h142 (bK ρ (d + 52) T Q)) (fun e145 h144 => hK h144 e145 ≠ 0 ∧ bK ρ (d + 52) T Q (Sum.inr e145) h144)) := fun z => by
    rcases hv with ⟨-, hv⟩ | ⟨c, -⟩
    · exact s_classNamed O' K.2 (tx z).2 hv g402
    · exact absurd z c
  have gx : ¬ S f_Md_pileType (2100 * t + (n - 1)) = 3 → wpB PGm ρ (d + 58) m_Md_builtins 402 [(0, vR T), (2, vI ((2100 * t + (n - 1) : Nat) : Int))] [vI (-1)] (cn h0 T S) (bK ρ (d + 52) T Q) := fun z => by
    rcases hv with ⟨c, -⟩ | ⟨-, e⟩
    · exact absurd c z
    · rw [e] at g402; exact g402
  have ev : S f_Md_pileType (2100 * t + (n - 1)) = 3 → w32 (S f_Md_pileValue (2100 * t + (n - 1))) = (kx : Int) := fun z => by
    obtain ⟨e, -, h, -⟩ := tx z
    rw [e]; exact w32_of (by omega) (by omega)
  refine s_BLT (d := d + 52) O' D (b_Md_builtins_0 ⟨O'.1, s_h O' D.1 d2.1 hb ?_⟩)
  clear q1 q0 hv tx d2 g402
  simp (decide := true) only [cI, cnI, cnR, cnK, cnl, cnA' G0, kT, KN G0, LN G0, w2, Int.toNat_natCast, true_and, and_true, false_implies, forall_const]
  refine ⟨c1', fun z => gx z, fun z => ⟨c1', ?_⟩⟩
  rw [ev z]; exact gn z
theorem op_HOST (hP : ∀ h0 T, P h0 T → PTH ρ g N M h0 T) (HH : HCM ρ h ho g N M ws) (yh : YHO Y ho) (HC : CORE Γ h C ho X Y S N) (H : OPH Γ h C X Y S N t o n c r) (O : OPT Γ S (fsS S t (c - 1)) (psS S t (c - 1)) 28 7 b) (D : DF S t n c (fsS S t (c - 1)) (psS S t (c - 1)) k 28 7 b) (hh : n = bsS S t (c - 1) + ghs Γ (fsS S t (c - 1)) (psS S t (c - 1))) : OPF ρ P Γ h C ho X Y S N 28 7 b := by
  obtain ⟨-, -, v1, nx⟩ := O.2.2.2.2.2.2.2.2.2.2.2.2.2.2.2.2.2.1 rfl
  have bw : bwN 7 = 1 := rfl
  rw [bw] at v1 nx
  have d2 := D.2.1
  have n1 : 1 ≤ n := by omega
  have V := H.pl (i := n - 1) (by omega)
  have VE := V.1
  obtain ⟨VO1, -⟩ := V.obj HC.2.2.2.2.2.2.2.2.2.1 (h := h) (C := C)
  obtain ⟨tn, sn, sm, c1, c2, c5, c6', c3, c4, c6, c7, c8, U, m1, m2, m3, m4⟩ := HC.shp
  have VV : X o f_Task_tags (n - 1) = 4 ∨ X o f_Task_tags (n - 1) = 5 → 0 ≤ X o f_Task_words (n - 1) ∧ X o f_Task_words (n - 1) < (tn : Int) ∧ hK h (hB h (C + 51) (X o f_Task_words (n - 1)).toNat) ∈ [244, 245] := fun w => by
    obtain ⟨a1, a2, a3, a4, a5, a6⟩ := VO1 w
    exact ⟨by omega, by omega, a5⟩
  have et : ∃ (m : Nat) (l : List Int), (X o f_Task_tags (n - 1) = 3 → S f_Md_pileValue (2100 * t + (n - 1)) = (m : Int) ∧ TTX S m l ∧ CTX h C X (X o f_Task_words (n - 1)) l) := by
    by_cases w : X o f_Task_tags (n - 1) = 3
    · obtain ⟨m, l, h1, h2, h3⟩ := HC.2.2.2.2.1.find V (by rw [← VE]; exact w)
      exact ⟨m, l, fun _ => ⟨h1, h2, h3⟩⟩
    · exact ⟨0, [], fun c => absurd c w⟩
  obtain ⟨m, l, et⟩ := et
  have I := H.ix
  intro d Q q
  refine r_HOST (l := l) I HH yh n1 c3 c6 VV (fun w => (et w).2.2) (fun w i hi hv => ?_) (fun hv => ?_)
  · refine q none (atS (pshA S t (n - 1) 8 (i : Int)) t c ((psS S t (c - 1) + 1 : Nat) : Int)) _ _ _ (fun d h0 T Q pp qq => s_HOST (v := (i : Int)) (hP _ _ pp) D n1 (fun z => ⟨(et (by rw [VE]; exact z)).1, (et (by rw [VE]; exact z)).2.1⟩) (Or.inl ⟨by rw [← VE]; exact w, hv⟩) (fun _ => ?_) (fun z => absurd z (by omega))) (RLC.ans H nx HC H.2.2.1 GRO.rf EXS.rf (fun _ _ _ => rfl) (fun _ _ _ _ => rfl) (Fr.r0 (L := LHc) (P := [])) (BND.rf.le (by decide) (by decide)) ⟨rfl, by unfold cw; rw [if_neg (by decide)], Or.inr (Or.inr (Or.inr (Or.inr (Or.inr ⟨rfl, by omega, by omega⟩))))⟩ (by omega) (by omega))
    rw [pshA_e D.1.2.2.2.1 n1]; exact qq
  · refine q (some 12) (erS S 12) _ _ _ (fun d h0 T Q pp qq => s_HOST (v := -1) (hP _ _ pp) D n1 (fun z => ⟨(et (by rw [VE]; exact z)).1, (et (by rw [VE]; exact z)).2.1⟩) ?_ (fun z => absurd z (by decide)) (fun _ => qq)) (RLC.mem (v := 12) (x := 12) H HC H.2.2.1 GRO.rf (BND.rf.le (by decide) (by decide)) (fun _ _ _ => rfl) (fun _ _ _ _ => rfl) (Fr.r0 (L := LHc) (P := [])) (Or.inr ⟨by decide, rfl⟩))
    by_cases w : X o f_Task_tags (n - 1) = 3
    · exact Or.inl ⟨by rw [← VE]; exact w, hv w⟩
    · exact Or.inr ⟨by rw [← VE]; exact w, rfl⟩
end
