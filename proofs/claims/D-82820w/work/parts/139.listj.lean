/-! LIST: joined -/
set_option maxRecDepth 20000
section
variable {ρ : Nat → Nat} {P : ah → Nat → Prop} {d : Nat} {Q : QT} {Γ Γ' : GH} {h h' h1 : ah} {C ho : Nat} {X X' X1 X2 : X3} {Y Y' : Y3} {S S' S1 S2 : SS} {N t o n c r f g i j k m z s l tn sn mk n' pu po sk rk a b : Nat} {L : List Nat} {Pp : List (Nat × Nat)} {ty v x y op kd aa bb w nm : Int}
theorem u2_cm (ne : f ≠ g) : u2 (u2 S f i v) g j w = u2 (u2 S g j w) f i v := by
  funext a b
  simp only [u2_e]
  by_cases q : a = g ∧ b = j
  · rw [if_pos q, if_neg (fun c => ne (c.1.symm.trans q.1)), if_pos q]
  · rw [if_neg q, if_neg q]
theorem u2_ch (ne : f_Md_height ≠ g) : u2 (u2 S f_Md_height i v) g j w = u2 (u2 S g j w) f_Md_height i v := u2_cm ne
theorem adsS_h : adsS (u2 S f_Md_height t v) k sk rk m nm ty w = u2 (adsS S k sk rk m nm ty w) f_Md_height t v := by
  unfold adsS
  rw [u2_f (show f_Md_thingLast ≠ f_Md_height by decide)]
  by_cases q : m = 0
  · rw [if_pos q, if_pos q]; simp (disch := decide) only [u2_ch]
  · rw [if_neg q, if_neg q]; simp (disch := decide) only [u2_ch]
theorem lstS_h : ∀ m, lstS (u2 S f_Md_height t v) l sk rk b m = u2 (lstS S l sk rk b m) f_Md_height t v
  | 0 => rfl
  | m + 1 => by
    unfold lstS
    rw [lstS_h m, adsS_h, u2_f (by decide), u2_f (by decide)]
/-- a new list -/
theorem TH1.row (B : NRW C h h' tn a k_Row m l) (hm : m ≤ 60000) (k1 : S' f_Md_thingKind tn = 6) (k3 : S' f_Md_thingCount tn = (m : Int)) (k4 : S' f_Md_isWatched tn = 0) (k5 : S' f_Md_epoch tn = 0) (k6 : S' f_Md_changedAt tn = 0) (k7 : S' f_Md_thingClass tn = -1) (k8 : 0 ≤ S' f_Md_changes 0) (k9 : S' f_Md_thingFunction tn = -1) (v1 : ∀ i, i < m → (slS S' tn i : Int) < S' f_Md_slots 0 ∧ VR Γ' S' N (hA h' (hR h' f_Thing_tags a) i) (hA h' (hR h' f_Thing_words a) i) (S' f_Md_slotType (slS S' tn i)) (S' f_Md_slotValue (slS S' tn i)) ∧ S' f_Md_slotName (slS S' tn i) = -1) (v2 : m ≠ 0 → 0 ≤ S' f_Md_thingFirst tn ∧ S' f_Md_thingLast tn = (slS S' tn (m - 1) : Int)) (v3 : ∀ i, i + 1 < m → 0 ≤ S' f_Md_slotNext (slS S' tn i)) : TH1 Γ' h' C ho S' N (tn + 1) sn tn := by
  obtain ⟨n1, n2, ⟨n3, n3'⟩, n4, n5, t1, t2, t3, ⟨t4, t5, t6⟩, ⟨t7, t8, t9⟩, t10, t11⟩ := B
  have ea : hB h' (C + 51) tn = a := by rw [n2, if_pos rfl]
  unfold TH1
  rw [ea, k1, k3, k4, k5, k6, k7, k9]
  refine ⟨by omega, ⟨n4, t2, n3'⟩, n5, t3, by omega, ⟨t4, t5, t7, t8, by rw [t9, t6], by rw [t6]; omega, by rw [t6]; exact t11⟩, fun i hi => ⟨(v1 i (by omega)).1, (v1 i (by omega)).2.1⟩, fun q => v2 (by omega), fun i hi => v3 i (by omega), fun q => by omega, Or.inl rfl, fun _ => ⟨rfl, fun i hi => (v1 i (by omega)).2.2⟩, by omega, by omega, Or.inl ⟨by omega, rfl⟩, Or.inl ⟨by omega, rfl⟩⟩
theorem MEM.list {mk rm m : Nat} (H : MEM X S) (e1 : X 50 f_Heap_made 0 = (mk : Int)) (e2 : X 50 f_Heap_room 0 = (rm : Int)) (hm : mk + 1 ≤ 8000) (hr : rm + m ≤ 60000) (et : S f_Md_things 0 = (tn : Int)) (es : S f_Md_slots 0 = (sk : Int)) (x1 : X' 50 f_Heap_made 0 = ((mk + 1 : Nat) : Int)) (x3 : X' 50 f_Heap_room 0 = ((rm + m : Nat) : Int)) (x2 : EXX [f_Heap_shapesMade, f_Heap_calls, f_Heap_ticks] X X') (s1 : S' f_Md_things 0 = ((tn + 1 : Nat) : Int)) (s2 : S' f_Md_allMade 0 = ((mk + 1 : Nat) : Int)) (s4 : S' f_Md_allSlots 0 = ((rm + m : Nat) : Int)) (s5 : S' f_Md_slots 0 = ((sk + m : Nat) : Int)) (s3 : EXS [f_Md_allShapes, f_Md_calls, f_Md_variables, f_Md_shapes, f_Md_changes] S S') : MEM X' S' := by
  obtain ⟨mk0, rm0, sm, tk, ck, sk0, vk, hk, gk, ⟨a1, a2, a3⟩, ⟨b1, b2, b3⟩, ⟨c1, c2, c3⟩, ⟨d1, d2, d3, d4⟩, ⟨f1, f2, f3⟩, ⟨g1, g2, g3⟩, h1, h2, h3⟩ := H
  have : mk0 = mk := by omega
  have : tk = tn := by omega
  have : rm0 = rm := by omega
  have : sk0 = sk := by omega
  refine ⟨mk + 1, rm + m, sm, tn + 1, ck, sk + m, vk, hk, gk, ⟨x1, s2, hm⟩, ⟨x3, s4, hr⟩, ⟨by rw [x2 _ (by decide)]; exact c1, by rw [s3 _ (by decide)]; exact c2, c3⟩, ⟨s1, by rw [s3 _ (by decide)]; exact d2, by rw [x2 _ (by decide)]; exact d3, by omega⟩, ⟨s5, by rw [s3 _ (by decide)]; exact f2, by omega⟩, ⟨by rw [s3 _ (by decide)]; exact g1, g2, g3⟩, by rw [s3 _ (by decide)]; exact h1, by rw [x2 _ (by decide)]; exact h2, h3⟩
def LLS : List Nat := LNT ++ LAS
theorem op_LIST (hP : ∀ h0 T, P h0 T → TOK h0 T) (HC : CORE Γ h C ho X Y S N) (H : OPH Γ h C X Y S N t o n c r) (O : OPT Γ S (fsS S t (c - 1)) (psS S t (c - 1)) 25 aa bb) (D : DF S t n c (fsS S t (c - 1)) (psS S t (c - 1)) k 25 aa bb) (hh : n = bsS S t (c - 1) + ghs Γ (fsS S t (c - 1)) (psS S t (c - 1))) : OPE ρ P Γ h C ho X Y S N 25 aa bb := by
  obtain ⟨v1, v2, nx⟩ := O.2.2.2.2.2.2.2.2.2.2.2.2.2.2.1 rfl
  have HC0 := HC
  obtain ⟨-, -, -, -, q2', q3, q4, q5, q6, q7, q8⟩ := HC
  have q6' := q6
  obtain ⟨mk, rm, sm, tk, ck, sk, vk, hk, gk, ⟨a1, a2, a3⟩, ⟨b1, b2, b3⟩, -, ⟨d1, -, -, d4⟩, ⟨s1, -, s3⟩, -, ⟨m1, -, m3⟩⟩ := q6'
  have q7' := q7
  obtain ⟨tn, sn, c1, c2, c3, c4, c5, c6, -, -, c8, -⟩ := q7'
  have : tk = tn := by omega
  have hn := D.2.1.2.1
  have ea : aa = (aa.toNat : Int) := by omega
  have hm : aa.toNat ≤ n := by omega
  generalize aa.toNat = m at *
  subst ea
  have tg : ∀ i, i < n → -128 ≤ X o f_Task_tags i ∧ X o f_Task_tags i ≤ 127 := fun i hi => by
    have V := H.pl hi
    rw [V.1]; exact V.2.2.tag
  by_cases n1 : m = 0 ∧ n = 2000
  · exact (OPC.er (x := 11) HC0 H (by decide) (fun d Q q => r_LIST (d := d + 20) H.ix a1 b1 a3 b3 c3 c6 hm tg (fun w => by omega) (fun _ _ => q) (fun w => by omega)) (fun d h0 T Q p q => s_LIST (d := d + 46) (hP _ _ p) D hm c1 (by omega) a2 a3 s1 b2 (by omega) b3 (fun w => by omega) (fun _ _ => q) (fun w => by omega))).e
  have n1' : m = 0 → n < 2000 := fun w => by omega
  by_cases n2 : mk + 1 ≤ 8000 ∧ rm + m ≤ 60000
  · refine ⟨none, _, fun d h0 T Q p q => s_LIST (d := d + 46) (hP _ _ p) D hm c1 (by omega) a2 a3 s1 b2 (by omega) b3 (fun _ _ _ => q) (fun w1 w2 => absurd ⟨w1, w2⟩ n1) (fun _ w => absurd n2 w), fun d Q q => r_LIST (d := d + 20) H.ix a1 b1 a3 b3 c3 c6 hm tg (fun _ _ _ h1 z s G1 F1 R1 kp B ct => ?_) (fun w1 w2 => absurd ⟨w1, w2⟩ n1) (fun _ w => absurd n2 w)⟩
    refine q _ _ _ ?_
    have el : lisS S tn mk sk rm t n m = pshS (u2 (lstS (nthS S tn mk 6) tn sk rm (2100 * t + (n - m)) m) f_Md_height t ((n - m : Nat) : Int)) t (n - m) 6 (tn : Int) := by unfold lisS; rw [lstS_h]
    rw [el]
    clear el q
    -- the rows
    have pT : ∀ i, nthS S tn mk 6 f_Md_pileType i = S f_Md_pileType i := fun i => nthS_o (by decide)
    have pV : ∀ i, nthS S tn mk 6 f_Md_pileValue i = S f_Md_pileValue i := fun i => nthS_o (by decide)
    obtain ⟨f1, f2, f3, f4, f5, f6, f7, f8, f9⟩ := lstS_1 (S := nthS S tn mk 6) (l := tn) (sk := sk) (rk := rm) (b := 2100 * t + (n - m)) (by rw [nthS_o (by decide)]; exact s1) (by rw [nthS_o (by decide)]; exact b2) (by unfold nthS; simp (decide := true) (disch := first | decide | omega) only [u2_f, u2_s]) m
    have o0 : ∀ f i, LLS.elem f = false → lstS (nthS S tn mk 6) tn sk rm (2100 * t + (n - m)) m f i = S f i := fun f i hf => by
      have hf2 : LNT.elem f = false ∧ LAS.elem f = false := by
        have e : ∀ L : List Nat, (∀ g, g ∈ L → g ∈ LLS) → L.elem f = false := fun L q => by
          cases w : L.elem f with
          | false => rfl
          | true =>
            have : LLS.elem f = true := by simpa using q f (by simpa using w)
            rw [this] at hf; cases hf
        exact ⟨e _ (fun g hg => by unfold LLS; exact List.mem_append_left _ hg), e _ (fun g hg => by unfold LLS; exact List.mem_append_right _ hg)⟩
      rw [lstS_o hf2.2, nthS_o hf2.1]
    have o1 : ∀ f k, LTT.elem f = true → k ≠ tn → lstS (nthS S tn mk 6) tn sk rm (2100 * t + (n - m)) m f k = S f k := fun f k hf hk => by
      rw [lstS_t hf hk, nthS_t hf hk]
    have o2 : lstS (nthS S tn mk 6) tn sk rm (2100 * t + (n - m)) m f_Md_things 0 = ((tn + 1 : Nat) : Int) := by rw [lstS_o (by decide)]; unfold nthS; simp (decide := true) (disch := first | decide | omega) only [u2_f, u2_s]
    have o3 : lstS (nthS S tn mk 6) tn sk rm (2100 * t + (n - m)) m f_Md_allMade 0 = ((mk + 1 : Nat) : Int) := by rw [lstS_o (by decide)]; unfold nthS; simp (decide := true) (disch := first | decide | omega) only [u2_f, u2_s]
    have k1 : lstS (nthS S tn mk 6) tn sk rm (2100 * t + (n - m)) m f_Md_thingKind tn = 6 := by rw [lstS_o (by decide)]; unfold nthS; simp (decide := true) (disch := first | decide | omega) only [u2_f, u2_s]
    have k4 : lstS (nthS S tn mk 6) tn sk rm (2100 * t + (n - m)) m f_Md_isWatched tn = 0 := by rw [lstS_o (by decide)]; unfold nthS; simp (decide := true) (disch := first | decide | omega) only [u2_f, u2_s]
    have k5 : lstS (nthS S tn mk 6) tn sk rm (2100 * t + (n - m)) m f_Md_epoch tn = 0 := by rw [lstS_o (by decide)]; unfold nthS; simp (decide := true) (disch := first | decide | omega) only [u2_f, u2_s]
    have k6 : lstS (nthS S tn mk 6) tn sk rm (2100 * t + (n - m)) m f_Md_changedAt tn = 0 := by rw [lstS_o (by decide)]; unfold nthS; simp (decide := true) (disch := first | decide | omega) only [u2_f, u2_s]
    have k7 : lstS (nthS S tn mk 6) tn sk rm (2100 * t + (n - m)) m f_Md_thingClass tn = -1 := by rw [lstS_o (by decide)]; unfold nthS; simp (decide := true) (disch := first | decide | omega) only [u2_f, u2_s]
    have k9 : lstS (nthS S tn mk 6) tn sk rm (2100 * t + (n - m)) m f_Md_thingFunction tn = -1 := by rw [lstS_o (by decide)]; unfold nthS; simp (decide := true) (disch := first | decide | omega) only [u2_f, u2_s]
    simp only [pT, pV] at f6
    have f7' : ∀ f i, LSL.elem f = true → i < sk → lstS (nthS S tn mk 6) tn sk rm (2100 * t + (n - m)) m f i = S f i := fun f i hf hi => by
      rw [f7 f i hf hi, nthS_o]
      have : LSL.all (fun f => !(LNT.elem f)) = true := by decide
      simpa using List.all_eq_true.mp this f (by simpa using hf)
    clear pT pV f7
    generalize lstS (nthS S tn mk 6) tn sk rm (2100 * t + (n - m)) m = S1 at *
    have G := H.1
    have F := H.2.1
    have eB : ∀ i, i < tn → hB h1 (C + 51) i = hB h (C + 51) i := fun i hi => by rw [B.2.1, if_neg (by omega)]
    have g : GRO Γ Γ h h1 C S S1 := GRO.th (exs_of o0 (by decide)) G F R1 (by unfold DJ; decide) (by simp) (by omega) (fun i hi => ⟨o1 _ _ (by decide) (by omega), eB i (by omega)⟩)
    let X1 : X3 := u3 (u3 X 50 f_Heap_made 0 ((mk + 1 : Nat) : Int)) 50 f_Heap_room 0 ((rm + m : Nat) : Int)
    have x0 : ∀ o f i, [f_Heap_made, f_Heap_room].elem f = false → X1 o f i = X o f i := fun o f i hf => by
      show u3 (u3 X 50 f_Heap_made 0 ((mk + 1 : Nat) : Int)) 50 f_Heap_room 0 ((rm + m : Nat) : Int) o f i = _
      rw [u3_f (by rintro rfl; revert hf; decide), u3_f (by rintro rfl; revert hf; decide)]
    have kt : THC Γ h1 C ho S1 N := by
      refine q7.add G F g R1 (by unfold DJ; decide) (by unfold DJ; decide) (by simp) (fun i _ => q8.eq G.2.1 R1 (by unfold DJ; decide) (by simp) i) c1 o2 (by omega) B.1 eB (fun k hk f hf => o1 f k hf (by omega)) (fun i hi f hf => f7' f i hf (by omega)) (by omega) (exs_of o0 (by decide)) (Int.le_of_eq (o0 _ _ (by decide)).symm) (fun sn _ _ _ _ _ => ?_) (fun i hi => ?_) (fun i i' hi hi' e => ?_)
      · refine TH1.row B (by omega) k1 f3 k4 k5 k6 k7 (by rw [o0 _ _ (by decide)]; omega) k9 (fun i hi => ?_) (fun w => ?_) (fun i hi => ?_)
        · obtain ⟨w1, w2, w3⟩ := f6 i hi
          obtain ⟨u1, u2⟩ := ct i hi
          rw [f5 i hi, w1, w2, w3, u1, u2]
          have V := H.pl (i := n - m + i) (by omega)
          rw [← Nat.add_assoc] at V
          exact ⟨by omega, g.vr V, rfl⟩
        · rw [f8 w, f4 w, f5 _ (by omega)]; exact ⟨by omega, rfl⟩
        · rw [f5 _ (by omega), f9 i hi]; omega
      · rw [f3] at hi; rw [f5 _ (by omega)]; omega
      · rw [f3] at hi hi'; rw [f5 _ (by omega), f5 _ (by omega)] at e; omega
    have km : MEM X1 S1 := q6.list a1 b1 n2.1 n2.2 c1 s1 (by show u3 _ _ _ _ _ _ _ _ = _; rw [u3_f (by decide), u3_s]) u3_s (exx_of x0 (by decide)) o2 o3 f2 f1 (exs_of o0 (by decide))
    obtain ⟨M1, M2⟩ := HC0.mv (S' := S1) (X' := X1) R1 g (exs_of o0 (by decide)) (exx_of x0 (by decide)) (by simp) (by unfold DJ; decide) (by unfold DJ; decide) (by unfold DJ; decide) (by unfold DJ; decide) (exs_of o0 (by decide)) (Int.le_of_eq (o0 _ _ (by decide)).symm) (q2'.ext g (exs_of o0 (by decide)) (exx_of x0 (by decide)) (ac_len G R1 (by decide) (by unfold DJ; decide)) (ac_len G R1 (by decide) (by unfold DJ; decide)) (ac_len G R1 (by decide) (by unfold DJ; decide))) (q3.ext (C := C) G.2.1 g (exs_of o0 (by decide)) R1 (by unfold DJ; decide) (by unfold DJ; decide) (by simp)) (q4.ext g (exs_of o0 (by decide)) (exx_of x0 (by decide)) (ac_len G R1 (by decide) (by unfold DJ; decide)) (ac_len G R1 (by decide) (by unfold DJ; decide)) (ac_len G R1 (by decide) (by unfold DJ; decide))) (q5.ext (exs_of o0 (by decide)) (exx_of x0 (by decide)) (ac_len G R1 (by decide) (by unfold DJ; decide)) (ac_len G R1 (by decide) (by unfold DJ; decide)) (ac_len G R1 (by decide) (by unfold DJ; decide))) km kt (by unfold DJ; decide)
    have bd : BND h C S h1 S1 1 8 := (BND.thing (m := m) (l := m) G F (q7.thk G) R1 kp eB c1 o2 (by omega) (o0 _ _ (by decide)) (by omega) (by omega) (o0 _ _ (by decide)) (o0 _ _ (by decide)) (by rw [B.2.1, if_pos rfl]; exact B.2.2.2.2.2.2.2.2.1.2.2) (by decide) (by omega) (CHG.th c1 o2 (exs_of o0 (by decide)) o1 (fun w => by omega))).le (by decide) (by decide)
    have K1 := M2 H.2.2.1
    have V : VR Γ (u2 S1 f_Md_height t ((n - m : Nat) : Int)) N 6 (tn : Int) 6 (tn : Int) := ⟨rfl, by unfold cw; rw [if_neg (by omega)], Or.inr (Or.inr (Or.inr (Or.inr (Or.inl ⟨by omega, by omega, by omega, by rw [u2_f (by decide)]; omega, by rw [u2_f (by decide), Int.toNat_natCast]; exact k1⟩))))⟩
    have ns0 : NSt t S1 (u2 S1 f_Md_height t ((n - m : Nat) : Int)) := NSt.u (tk1 (by decide)) NSt.rf
    have pl0 : PIL Γ (u3 X1 o f_Task_size 0 ((n - m : Nat) : Int)) (u2 S1 f_Md_height t ((n - m : Nat) : Int)) N o t (n - m) := (K1.2.2.2.2.2.1.le (Nat.sub_le _ _)).ext (fun i _ => u3_f (by decide)) (fun i _ => u3_f (by decide)) (fun i _ => u2_f (by decide)) (fun i _ => u2_f (by decide)) (fun V => ns0.vo V)
    refine RLC.fin (S1 := S1) (X1 := X1) (S2 := pshS (u2 S1 f_Md_height t ((n - m : Nat) : Int)) t (n - m) 6 (tn : Int)) (X2 := pshX (liX X o mk rm n m) o (n - m) 6 (tn : Int)) (n' := n - m + 1) H nx M1 K1 g (exs_of o0 (by decide)) (fun f i hf => o0 f i ?_) (fun a' f i hf => x0 a' f i ?_) R1 (fun f hf => ?_) bd (ns0.tr (psh_ns (by omega))) ?_ ?_ ?_ (by unfold pshX; rw [u3_s]) (by unfold pshS; rw [u2_s]) (by omega) (by omega) (pl0.psh (by omega) V)
    · cases q : LLS.elem f with
      | false => rfl
      | true =>
        have : ∀ f, f ∈ LLS → LSc.elem f = true := by
          have : LLS.all (fun f => LSc.elem f) = true := by decide
          exact fun f hf => List.all_eq_true.mp this f hf
        rw [this f (by simpa using q)] at hf; cases hf
    · cases q : [f_Heap_made, f_Heap_room].elem f with
      | false => rfl
      | true =>
        have : f = f_Heap_made ∨ f = f_Heap_room := by simpa using q
        rcases this with rfl | rfl <;> (revert hf; decide)
    · unfold LHc
      simp only [List.mem_append] at hf ⊢
      rcases hf with hf | hf
      · exact Or.inl (Or.inl (Or.inl (Or.inl (Or.inl hf))))
      · refine Or.inl (Or.inr ?_)
        unfold LHH1
        simp only [List.mem_cons, List.not_mem_nil, or_false] at hf ⊢
        simp [hf]
    · unfold pshS
      exact EXS.u (by decide) (EXS.u (by decide) (EXS.u (by decide) (EXS.u (by decide) EXS.rf)))
    · unfold pshX liX
      exact EXX.u (by decide) (EXX.u (by decide) (EXX.u (by decide) (EXX.u (by decide) EXX.rf)))
    · unfold pshX liX
      exact NXo.u (by decide) (NXo.u (by decide) (NXo.u (by decide) (NXo.u (by decide) NXo.rf)))
  · exact (OPC.mem HC0 H (fun d Q q => r_LIST (d := d + 20) H.ix a1 b1 a3 b3 c3 c6 hm tg (fun _ w1 w2 => absurd ⟨w1, w2⟩ n2) (fun w1 w2 => absurd ⟨w1, w2⟩ n1) (fun _ _ => q)) (fun d h0 T Q p q => s_LIST (d := d + 46) (hP _ _ p) D hm c1 (by omega) a2 a3 s1 b2 (by omega) b3 (fun _ w1 w2 => absurd ⟨w1, w2⟩ n2) (fun w1 w2 => absurd ⟨w1, w2⟩ n1) (fun _ _ => q))).e
end
