/-! an instance is made on both sides -/
set_option maxRecDepth 20000
/-- T's state with a new instance of class c -/
def niS (S : SS) (tn mk sk rk c n : Nat) (vt : Nat → Int) : SS := lsvS (u2 (nthS S tn mk 7) f_Md_thingClass tn (c : Int)) tn sk rk vt (fun _ => 0) n
def niX (X : X3) (mk rm n : Nat) : X3 := u3 (u3 X 50 f_Heap_made 0 ((mk + 1 : Nat) : Int)) 50 f_Heap_room 0 ((rm + n : Nat) : Int)
section
variable {ρ : Nat → Nat} {d : Nat} {Q : QT} {Γ Γ' : GH} {h h' h1 h2 H H1 : ah} {C ho k i j N M a z s r f o c t n m mn m0 rr l l1 l2 la p E mk rm sk tn sn : Nat} {g : HG} {v w hd ty κ x y : Int} {S S' S1 S2 : SS} {X X' X1 X2 : X3} {Y Y' Y1 Y2 : Y3} {hw : List (List Int)} {e : Option Int} {tyv vt : Nat → Int}
theorem TH1.ins (B : NRW C h h' tn a k_Instance m l) (hm : m ≤ 60000) (k1 : S' f_Md_thingKind tn = 7) (k3 : S' f_Md_thingCount tn = (m : Int)) (k4 : S' f_Md_isWatched tn = 0) (k5 : S' f_Md_epoch tn = 0) (k6 : S' f_Md_changedAt tn = 0) (k7 : S' f_Md_thingClass tn = (c : Int)) (hc : c < N) (ek : hR h' f_Instance_type a = hB h' (ho + 2) c) (k8 : 0 ≤ S' f_Md_changes 0) (k9 : S' f_Md_thingFunction tn = -1) (v1 : ∀ i, i < m → (slS S' tn i : Int) < S' f_Md_slots 0 ∧ VR Γ' S' N (hA h' (hR h' f_Thing_tags a) i) (hA h' (hR h' f_Thing_words a) i) (S' f_Md_slotType (slS S' tn i)) (S' f_Md_slotValue (slS S' tn i)) ∧ S' f_Md_slotName (slS S' tn i) = -1) (v2 : m ≠ 0 → 0 ≤ S' f_Md_thingFirst tn ∧ S' f_Md_thingLast tn = (slS S' tn (m - 1) : Int)) (v3 : ∀ i, i + 1 < m → 0 ≤ S' f_Md_slotNext (slS S' tn i)) : TH1 Γ' h' C ho S' N (tn + 1) sn tn := by
  obtain ⟨n1, n2, ⟨n3, n3'⟩, n4, n5, t1, t2, t3, ⟨t4, t5, t6⟩, ⟨t7, t8, t9⟩, t10, t11⟩ := B
  have ea : hB h' (C + 51) tn = a := by rw [n2, if_pos rfl]
  unfold TH1
  rw [ea, k1, k3, k4, k5, k6, k7, k9]
  refine ⟨by omega, ⟨n4, t2, n3'⟩, n5, t3, by omega, ⟨t4, t5, t7, t8, by rw [t9, t6], by rw [t6]; omega, by rw [t6]; exact t11⟩, fun i hi => ⟨(v1 i (by omega)).1, (v1 i (by omega)).2.1⟩, fun q => v2 (by omega), fun i hi => v3 i (by omega), fun q => by omega, Or.inl rfl, fun _ => ⟨rfl, fun i hi => (v1 i (by omega)).2.2⟩, by omega, by omega, Or.inl ⟨by omega, rfl⟩, Or.inr ⟨rfl, by omega, by omega, by rw [Int.toNat_natCast]; exact ek⟩⟩
def LNI : List Nat := LNT ++ LAS
theorem niS_off : OFF LNI S (niS S tn mk sk rm c n vt) := by
  unfold niS
  exact ((nthS_off.le (by decide)).u (by decide)).tr (lsvS_off.le (by decide))
theorem CORE.ins (HC : CORE Γ h C ho X Y S N) (lay : S f_lay c = (n : Int)) (hc : c < N) (r1 : mk + 1 ≤ 8000) (r2 : rm + n ≤ 60000) (a1 : X 50 f_Heap_made 0 = (mk : Int)) (b1 : X 50 f_Heap_room 0 = (rm : Int)) (c1 : S f_Md_things 0 = (tn : Int)) (s1 : S f_Md_slots 0 = (sk : Int)) (R1 : Fr (LCC ++ [f_Heap_things + 1]) [] z s h h1) (kp : KEP C h h1 4 (20 + n + n)) (B : NRW C h h1 tn (hz h) k_Instance n n) (ety : hR h1 f_Instance_type (hz h) = hB h (ho + 2) c) (ct : ∀ i, i < n → hA h1 (hR h1 f_Thing_words (hz h)) i = 0 ∧ hA h1 (hR h1 f_Thing_tags (hz h)) i = firT (tyv i)) : (CORE Γ h1 C ho (niX X mk rm n) Y (niS S tn mk sk rm c n (fun i => firT (tyv i))) N ∧ ∀ {t o n' c' r' : Nat}, CT Γ h C X Y S N t o n' c' r' → CT Γ h1 C (niX X mk rm n) Y (niS S tn mk sk rm c n (fun i => firT (tyv i))) N t o n' c' r') ∧ GRO Γ Γ h h1 C S (niS S tn mk sk rm c n (fun i => firT (tyv i))) ∧ BND h C S h1 (niS S tn mk sk rm c n (fun i => firT (tyv i))) 0 0 ∧ Fr LHc [] z s h h1 ∧ (niS S tn mk sk rm c n (fun i => firT (tyv i)) f_Md_things 0 = ((tn + 1 : Nat) : Int) ∧ niS S tn mk sk rm c n (fun i => firT (tyv i)) f_Md_thingKind tn = 7 ∧ niS S tn mk sk rm c n (fun i => firT (tyv i)) f_Md_thingCount tn = (n : Int) ∧ ∀ i, i < n → slS (niS S tn mk sk rm c n (fun i => firT (tyv i))) tn i = sk + i) := by
  have HC0 := HC
  obtain ⟨⟨G, F⟩, -, -, -, q2', q3, q4, q5, q6, q7, q8⟩ := HC
  have q6' := q6
  obtain ⟨mk0, rm0, sm, tk, ck, sk0, vk, hk, gk, ⟨a1', a2, a3⟩, ⟨b1', b2, b3⟩, -, ⟨d1, -, -, d4⟩, ⟨s1', -, s3⟩, -, ⟨m1, -, m3⟩⟩ := q6'
  obtain rfl : mk0 = mk := by omega
  obtain rfl : rm0 = rm := by omega
  obtain rfl : sk0 = sk := by omega
  have q7' := q7
  obtain ⟨tn0, sn, c1', c2, c3, c4, c5, c6, -, -, c8, -⟩ := q7'
  obtain rfl : tn0 = tn := by omega
  clear c1' a1' b1' s1'
  obtain ⟨f1, f2, f3, f4, f5, f6, f7, f8, f9⟩ := lsvS_1 (S := u2 (nthS S tn0 mk0 7) f_Md_thingClass tn0 (c : Int)) (l := tn0) (sk := sk0) (rk := rm0) (vt := fun i => firT (tyv i)) (vv := fun _ => 0) (by rw [u2_f (by decide), nthS_o (by decide)]; exact s1) (by rw [u2_f (by decide), nthS_o (by decide)]; exact b2) (by rw [u2_f (by decide)]; unfold nthS; simp (decide := true) (disch := first | decide | omega) only [u2_f, u2_s]) n
  have oo := niS_off (S := S) (tn := tn0) (mk := mk0) (sk := sk0) (rm := rm0) (c := c) (n := n) (vt := fun i => firT (tyv i))
  have o1 : ∀ f k, LTT.elem f = true → k ≠ tn0 → niS S tn0 mk0 sk0 rm0 c n (fun i => firT (tyv i)) f k = S f k := fun f k hf hk => by
    unfold niS
    rw [lsvS_t hf hk, u2_e, if_neg (fun c => hk c.2), nthS_t hf hk]
  have o2 : niS S tn0 mk0 sk0 rm0 c n (fun i => firT (tyv i)) f_Md_things 0 = ((tn0 + 1 : Nat) : Int) := by unfold niS; rw [lsvS_o (by decide), u2_f (by decide)]; unfold nthS; simp (decide := true) (disch := first | decide | omega) only [u2_f, u2_s]
  have o3 : niS S tn0 mk0 sk0 rm0 c n (fun i => firT (tyv i)) f_Md_allMade 0 = ((mk0 + 1 : Nat) : Int) := by unfold niS; rw [lsvS_o (by decide), u2_f (by decide)]; unfold nthS; simp (decide := true) (disch := first | decide | omega) only [u2_f, u2_s]
  have k1 : niS S tn0 mk0 sk0 rm0 c n (fun i => firT (tyv i)) f_Md_thingKind tn0 = 7 := by unfold niS; rw [lsvS_o (by decide), u2_f (by decide)]; unfold nthS; simp (decide := true) (disch := first | decide | omega) only [u2_f, u2_s]
  have k4 : niS S tn0 mk0 sk0 rm0 c n (fun i => firT (tyv i)) f_Md_isWatched tn0 = 0 := by unfold niS; rw [lsvS_o (by decide), u2_f (by decide)]; unfold nthS; simp (decide := true) (disch := first | decide | omega) only [u2_f, u2_s]
  have k5 : niS S tn0 mk0 sk0 rm0 c n (fun i => firT (tyv i)) f_Md_epoch tn0 = 0 := by unfold niS; rw [lsvS_o (by decide), u2_f (by decide)]; unfold nthS; simp (decide := true) (disch := first | decide | omega) only [u2_f, u2_s]
  have k6 : niS S tn0 mk0 sk0 rm0 c n (fun i => firT (tyv i)) f_Md_changedAt tn0 = 0 := by unfold niS; rw [lsvS_o (by decide), u2_f (by decide)]; unfold nthS; simp (decide := true) (disch := first | decide | omega) only [u2_f, u2_s]
  have k7 : niS S tn0 mk0 sk0 rm0 c n (fun i => firT (tyv i)) f_Md_thingClass tn0 = (c : Int) := by unfold niS; rw [lsvS_o (by decide), u2_s]
  have k9 : niS S tn0 mk0 sk0 rm0 c n (fun i => firT (tyv i)) f_Md_thingFunction tn0 = -1 := by unfold niS; rw [lsvS_o (by decide), u2_f (by decide)]; unfold nthS; simp (decide := true) (disch := first | decide | omega) only [u2_f, u2_s]
  have f7' : ∀ f i, LSL.elem f = true → i < sk0 → niS S tn0 mk0 sk0 rm0 c n (fun i => firT (tyv i)) f i = S f i := fun f i hf hi => by
    unfold niS
    rw [f7 f i hf hi, u2_f (by rintro rfl; exact absurd hf (by decide)), nthS_o]
    have : LSL.all (fun f => !(LNT.elem f)) = true := by decide
    simpa using List.all_eq_true.mp this f (by simpa using hf)
  change niS S tn0 mk0 sk0 rm0 c n (fun i => firT (tyv i)) _ _ = _ at f1 f2 f3
  have f4' : n ≠ 0 → niS S tn0 mk0 sk0 rm0 c n (fun i => firT (tyv i)) f_Md_thingLast tn0 = ((sk0 + (n - 1) : Nat) : Int) := f4
  have f5' : ∀ i, i < n → slS (niS S tn0 mk0 sk0 rm0 c n (fun i => firT (tyv i))) tn0 i = sk0 + i := f5
  have f6' : ∀ i, i < n → niS S tn0 mk0 sk0 rm0 c n (fun i => firT (tyv i)) f_Md_slotType (sk0 + i) = firT (tyv i) ∧ niS S tn0 mk0 sk0 rm0 c n (fun i => firT (tyv i)) f_Md_slotValue (sk0 + i) = 0 ∧ niS S tn0 mk0 sk0 rm0 c n (fun i => firT (tyv i)) f_Md_slotName (sk0 + i) = -1 := f6
  have f8' : n ≠ 0 → niS S tn0 mk0 sk0 rm0 c n (fun i => firT (tyv i)) f_Md_thingFirst tn0 = (sk0 : Int) := f8
  have f9' : ∀ i, i + 1 < n → niS S tn0 mk0 sk0 rm0 c n (fun i => firT (tyv i)) f_Md_slotNext (sk0 + i) = ((sk0 + i + 1 : Nat) : Int) := f9
  clear f4 f5 f6 f7 f8 f9
  generalize niS S tn0 mk0 sk0 rm0 c n (fun i => firT (tyv i)) = S1 at *
  have o0 : ∀ f i, LNI.elem f = false → S1 f i = S f i := oo
  have eB : ∀ i, i < tn0 → hB h1 (C + 51) i = hB h (C + 51) i := fun i hi => by rw [B.2.1, if_neg (by omega)]
  have g : GRO Γ Γ h h1 C S S1 := GRO.th (exs_of o0 (by decide)) G F R1 (by unfold DJ; decide) (by simp) (by omega) (fun i hi => ⟨o1 _ _ (by decide) (by omega), eB i (by omega)⟩)
  have x0 : ∀ o f i, [f_Heap_made, f_Heap_room].elem f = false → niX X mk0 rm0 n o f i = X o f i := fun o f i hf => by
    unfold niX
    rw [u3_f (by rintro rfl; revert hf; decide), u3_f (by rintro rfl; revert hf; decide)]
  have eo : ∀ i, hB h1 (ho + 2) i = hB h (ho + 2) i := fun i => q8.eq G.2.1 R1 (by unfold DJ; decide) (by simp) i
  have kt : THC Γ h1 C ho S1 N := by
    refine q7.add G F g R1 (by unfold DJ; decide) (by unfold DJ; decide) (by simp) (fun i _ => eo i) c1 o2 (by omega) B.1 eB (fun k hk f hf => o1 f k hf (by omega)) (fun i hi f hf => f7' f i hf (by omega)) (by omega) (exs_of o0 (by decide)) (Int.le_of_eq (o0 _ _ (by decide)).symm) (fun sn _ _ _ _ _ => ?_) (fun i hi => ?_) (fun i i' hi hi' e => ?_)
    · refine TH1.ins B (by omega) k1 f3 k4 k5 k6 k7 hc (by rw [eo]; exact ety) (by rw [o0 _ _ (by decide)]; omega) k9 (fun i hi => ?_) (fun w => ?_) (fun i hi => ?_)
      · obtain ⟨w1, w2, w3⟩ := f6' i hi
        obtain ⟨u1, u2⟩ := ct i hi
        rw [f5' i hi, w1, w2, w3, u1, u2]
        refine ⟨by omega, ⟨rfl, ?_, ?_⟩, rfl⟩
        · unfold cw
          have : ¬ firT (tyv i) = 3 := by unfold firT; split <;> (try split) <;> omega
          rw [if_neg this]
        · unfold firT VO
          split
          · omega
          · split <;> omega
      · rw [f8' w, f4' w, f5' _ (by omega)]; exact ⟨by omega, rfl⟩
      · rw [f5' _ (by omega), f9' i hi]; omega
    · rw [f3] at hi; rw [f5' _ (by omega)]; omega
    · rw [f3] at hi hi'; rw [f5' _ (by omega), f5' _ (by omega)] at e; omega
  have km : MEM (niX X mk0 rm0 n) S1 := q6.list a1 b1 r1 r2 c1 s1 (by unfold niX; rw [u3_f (by decide), u3_s]) u3_s (exx_of x0 (by decide)) o2 o3 f2 f1 (exs_of o0 (by decide))
  have M12 := HC0.mv (S' := S1) (X' := niX X mk0 rm0 n) R1 g (exs_of o0 (by decide)) (exx_of x0 (by decide)) (by simp) (by unfold DJ; decide) (by unfold DJ; decide) (by unfold DJ; decide) (by unfold DJ; decide) (exs_of o0 (by decide)) (Int.le_of_eq (o0 _ _ (by decide)).symm) (q2'.ext g (exs_of o0 (by decide)) (exx_of x0 (by decide)) (ac_len G R1 (by decide) (by unfold DJ; decide)) (ac_len G R1 (by decide) (by unfold DJ; decide)) (ac_len G R1 (by decide) (by unfold DJ; decide))) (q3.ext (C := C) G.2.1 g (exs_of o0 (by decide)) R1 (by unfold DJ; decide) (by unfold DJ; decide) (by simp)) (q4.ext g (exs_of o0 (by decide)) (exx_of x0 (by decide)) (ac_len G R1 (by decide) (by unfold DJ; decide)) (ac_len G R1 (by decide) (by unfold DJ; decide)) (ac_len G R1 (by decide) (by unfold DJ; decide))) (q5.ext (exs_of o0 (by decide)) (exx_of x0 (by decide)) (ac_len G R1 (by decide) (by unfold DJ; decide)) (ac_len G R1 (by decide) (by unfold DJ; decide)) (ac_len G R1 (by decide) (by unfold DJ; decide))) km kt (by unfold DJ; decide)
  have bd : BND h C S h1 S1 0 0 := BND.thing (m := n) (l := n) G F (q7.thk G) R1 kp eB c1 o2 (by omega) (o0 _ _ (by decide)) (by omega) (by omega) (o0 _ _ (by decide)) (o0 _ _ (by decide)) (by rw [B.2.1, if_pos rfl]; exact B.2.2.2.2.2.2.2.2.1.2.2) (by decide) (by omega) (CHG.th c1 o2 (exs_of o0 (by decide)) o1 (fun _ => by rw [f3, k7, Int.toNat_natCast, o0 f_lay c (by decide)]; exact lay.symm))
  exact ⟨M12, g, bd, R1.mono (fun f hf => by
    have : (LCC ++ [f_Heap_things + 1]).all (fun f => LHc.elem f) = true := by decide
    simpa using List.all_eq_true.mp this f hf) (fun _ q => q), o2, k1, f3, f5'⟩
end
