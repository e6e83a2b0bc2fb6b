/-! perform: NEW -/
set_option maxRecDepth 20000
section
variable {ρ : Nat → Nat} {d : Nat} {Q : QT} {Γ Γ' : GH} {h h' h1 h2 H : ah} {C ho k i j N M a z s r f o c t n mn m0 rr sk rk l cd nv np E va ma mk ck jm vs fm po fn pp tn wi : Nat} {g : HG} {v w hd ty κ nm x y x1 nw ac p u ar : Int} {S S' S1 : SS} {X X' X1 X2 : X3} {Y Y' Y1 Y2 : Y3} {b : Bool} {tg wd : Nat → Int} {L : List Nat} {fi ca m q : Int} {ws : List (List Int)} {l1 : List Int}
theorem enS_top : enS S t c fi ca ty v nw m q f_Md_top 0 = ((200 * t + c : Nat) : Int) := by
  unfold enS
  simp (decide := true) (disch := first | decide | omega) only [u2_f, u2_s]
theorem enS_nw : u2 (enS S t c fi ca ty v nw m q) f_Md_frameNew (200 * t + c) w = enS S t c fi ca ty v w m q := by
  unfold enS
  funext f i
  simp only [u2_e]
  by_cases w1 : f = f_Md_frameNew
  · subst w1
    by_cases w2 : i = 200 * t + c
    · simp (decide := true) [w2]
    · simp (decide := true) [w2]
  · simp (decide := true) [w1]
theorem mobS_1 : mobS S tn mk r f_Md_allMade 0 = ((mk + 1 : Nat) : Int) ∧ mobS S tn mk r f_Md_thingKind tn = 4 ∧ mobS S tn mk r f_Md_things 0 = ((tn + 1 : Nat) : Int) := by
  unfold mobS nthS
  refine ⟨?_, ?_, ?_⟩ <;> simp (decide := true) (disch := first | decide | omega) only [u2_f, u2_s]
theorem pf_new (P : PFX Γ h C ho X Y S N t o n c r s a κ mn m0 rr) (NM : NMR h C S ws) (hκ : κ = 6) (hb : bsS S t (c - 1) ≤ m0) (fl : S f_Md_foundLinker 0 = 0) (gt : S f_Md_pileType rr = 5) (gv : S f_Md_pileValue rr = (k : Int)) (q : PFR ρ g N M Γ h C ho X Y S s Q) : wpB PGm ρ (d + 30) m_Machine_make 0 [(0, vR (C + 32)), (1, vR a), (2, vI (m0 : Int))] [] (cc h C X Y) (pK Q) := by
  have HC := P.1
  have G := HC.1.1
  have F := HC.1.2
  obtain ⟨tn, sn, sm', d1, d2, d5, d6', d3, d4, d6, d7, d8, U, m1, m2, m3, m4⟩ := HC.shp
  obtain ⟨o1, o2, o3, o4, o5, o6, o7, o8⟩ := P.obj (Or.inr gt) gv
  have V0 := P.pl (i := 0) (by omega)
  rw [Nat.add_zero, Nat.add_zero] at V0
  have kd : S f_Md_thingKind k = 5 := by
    rcases V0.2.2 with z | z | z | z | z | z <;> first | omega | skip
    obtain ⟨z1, z2, z3, z4⟩ := z
    rw [gv, Int.toNat_natCast] at z4
    rw [z4.2, gt]
  have eE : esK κ mn = mn := by unfold esK; rw [if_neg (by omega), if_neg (by omega), if_neg (by omega)]
  have ees : S f_Md_es 0 = (mn : Int) := by
    rw [P.2.2.2.2.2.1.2.2.2.1, eE]
  have hm := P.2.2.2.2.1
  rw [eE] at hm
  have nx := P.2.2.2.1
  rw [eE] at nx
  obtain ⟨fn, ar, ck, mk, vs, rk, np, nv, Z, fl1, har, hcf, hof, ea, u1, u2', u4⟩ := FNQ.co HC o1 kd
  obtain ⟨z1, z2, z3, z4, z5, z6, z7, z8, z9, z10, z11, z12⟩ := id Z
  have er : rr = 2100 * t + m0 := P.2.2.1.2.2.2.1
  have ht1 := P.2.2.1.2.1
  have hn2 := P.2.2.1.2.2.2.2.2.1
  have ath : ATQ S s k κ := ⟨P.2.2.2.2.2.1.1, P.2.2.2.2.2.1.2.1, fl, by rw [P.2.2.2.2.2.2.1.2]; exact gv, o2⟩
  obtain ⟨ka, za, sk1, so1⟩ := P.2.2.2.2.2.2.2
  have PA : ∀ i, i < mn → VR Γ S N (X o f_Task_tags (m0 + 1 + i)) (X o f_Task_words (m0 + 1 + i)) (S f_Md_pileType (rr + 1 + i)) (S f_Md_pileValue (rr + 1 + i)) := fun i hi => by
    have := P.pl (i := 1 + i) (by rw [eE]; omega)
    rw [← Nat.add_assoc, ← Nat.add_assoc] at this
    exact this
  have et : S f_Md_tries t = (r : Int) := P.2.1.2.2.1.2.2.2.2.1.2
  have tck : tn + ck ≤ mk := by
    obtain ⟨mk', rm', sm, tk, ck', sk, vk, hk', gk, ⟨y1, y2, y3⟩, ⟨y4, y5, y6⟩, -, ⟨y7, y8, y9, y10⟩, -⟩ := HC.2.2.2.2.2.2.2.2.1
    omega
  refine r_make (d := d) (ρ := ρ) (g := g) (N := N) (M := M) P NM gt gv Z (fun w => ?_) (fun w1 w2 => ?_) (fun w1 w2 w3 l6 pT pr hl6 => ?_)
  · exact ⟨kSg F, q (some 11) _ h _ Y (TAC.new (Or.inl rfl) ath hκ (TNW.full P.2.2.1 w)) (P.err (by decide))⟩
  · obtain ⟨p, hp⟩ := PRE.ex (ρ := ρ) (g := g) (M := M) HC NM o1 (Or.inr kd)
    exact ⟨kSg F, kSg F, q (some 0) _ h _ Y (TAC.new (Or.inl rfl) ath hκ (TNW.nomem P.2.2.1 w1 Z hp w2)) P.full⟩
  · refine r_make140 (tn := tn) (mk := mk) (mn := mn) HC (by omega) hl6 u1 (by omega) d1 ⟨ka, za⟩ so1 (fun r1 S1 h' X' tm oS mo V eB ek zl => ?_) (fun tm => ?_)
    · obtain ⟨⟨M1, K1⟩, g1, bd1, ⟨z9', s9', f9⟩, o9, x9⟩ := id mo
      obtain ⟨q1, q2, q3⟩ := mobS_1 (S := S1) (tn := tn) (mk := mk) (r := r1)
      have o9' : OFF (LSH ++ LNT) S (mobS S1 tn mk r1) := o9
      have kS2 : ∀ f i, LNT.elem f = true → i ≠ tn → mobS S1 tn mk r1 f i = S1 f i ∨ (f = f_Md_things ∨ f = f_Md_allMade) := fun f i hf hi => by
        by_cases c1 : f = f_Md_things
        · exact Or.inr (Or.inl c1)
        · by_cases c2 : f = f_Md_allMade
          · exact Or.inr (Or.inr c2)
          · left
            unfold mobS nthS
            simp only [u2_e, hi, c1, c2, and_false, false_and, if_false]
      have kne : k ≠ tn := by omega
      have k2 : mobS S1 tn mk r1 f_Md_thingKind k = 5 := by
        rcases kS2 f_Md_thingKind k (by decide) kne with e | e | e
        · rw [e, oS _ _ (by decide)]; exact kd
        · exact absurd e (by decide)
        · exact absurd e (by decide)
      have k3 : mobS S1 tn mk r1 f_Md_thingFunction k = (fn : Int) := by
        rcases kS2 f_Md_thingFunction k (by decide) kne with e | e | e
        · rw [e, oS _ _ (by decide)]; exact z2
        · exact absurd e (by decide)
        · exact absurd e (by decide)
      have k4 : mobS S1 tn mk r1 f_Md_thingAround k = (ar : Int) := by
        rcases kS2 f_Md_thingAround k (by decide) kne with e | e | e
        · rw [e, oS _ _ (by decide)]; exact z4
        · exact absurd e (by decide)
        · exact absurd e (by decide)
      have Z2 : FNQ (mobS S1 tn mk r1) k fn ck (mk + 1) vs rk np nv (ar : Int) := ⟨z1, k3, z3, k4, by rw [o9 _ _ (by decide)]; exact z5, q1, by rw [o9 _ _ (by decide)]; exact z7, by rw [o9 _ _ (by decide)]; exact z8, by omega, by rw [o9 _ _ (by decide)]; exact z10, z11, by rw [o9 _ _ (by decide)]; exact z12⟩
      have e0 := o9'.ex (L' := LTK ++ [f_Md_t, f_Md_p0, f_Md_f0, f_Md_top, f_Md_after, f_Md_codeSize]) (by decide)
      have GF2 := P.2.2.1.ex (o9'.ex (L' := LGF) (by decide))
      have CT1 := K1 P.2.1.2.2.1
      have H2 := P.2.1.mv M1 CT1 e0
      have e51 : hB h' (C + 51) k = hB h (C + 51) k := (g1.2.2.1.2 k o1).2
      have v1 : X' 50 f_Heap_made 0 = ((mk + 1 : Nat) : Int) := by
        obtain ⟨mk', rm', sm, tk, ck', sk, vk, hk', gk, ⟨y1, y2, y3⟩, -⟩ := M1.2.2.2.2.2.2.2.2.1
        rw [y1, ← y2]; exact q1
      have cf := TCL.ok (ρ := ρ) (g := g) (N := N) (M := M) (ty := 4) (v := (tn : Int)) (E := mn) (q0 := (r : Int)) GF2 w1 Z2 ⟨by omega, w3⟩ (by omega) (by rw [o9 _ _ (by decide)]; exact et)
      have tp : clS (mobS S1 tn mk r1) t c m0 (psS S t (c - 1)) (fn : Int) ck (mk + 1) vs rk (ar : Int) rr mn np nv 4 (tn : Int) (r : Int) f_Md_top 0 = ((200 * t + c : Nat) : Int) := enS_top
      have T := TAC.new (s := s) (Or.inr rfl) ath hκ (TNW.ok P.2.2.1 w1 Z pr ⟨w2, w3⟩ tm (by rw [oS _ _ (by decide)]; exact d1) (by omega) (by rw [oS _ _ (by decide)]; exact z6) (by rw [oS _ _ (by decide)]; exact ees) cf tp)
      have PA2 : ∀ i, i < mn → VR Γ (mobS S1 tn mk r1) N (X' o f_Task_tags (m0 + 1 + i)) (X' o f_Task_words (m0 + 1 + i)) (mobS S1 tn mk r1 f_Md_pileType (rr + 1 + i)) (mobS S1 tn mk r1 f_Md_pileValue (rr + 1 + i)) := fun i hi => by
        rw [x9 _ _ _ (by decide), x9 _ _ _ (by decide), o9 _ _ (by decide), o9 _ _ (by decide)]
        exact g1.vr (PA i hi)
      have fl2 : (fn : Int) < mobS S1 tn mk r1 f_Md_functions 0 := by rw [o9 _ _ (by decide)]; exact fl1
      have har2 : (ar : Int) < mobS S1 tn mk r1 f_Md_calls 0 := by rw [o9 _ _ (by decide)]; exact har
      have ea2 : hR h' f_Fun_around (hB h' (C + 51) k) = gva Γ ar := by
        obtain ⟨tn2, sn2, sm2, c1, -, -, -, -, -, -, c7, -⟩ := M1.shp
        obtain ⟨-, -, -, tf, -⟩ := (c7 k (by omega)).p.1
        obtain ⟨-, t1, t2, t3, t4, t5, t6, t7, t8⟩ := tf.resolve_left (fun z => z.1 k2)
        rw [t6, k4, Int.toNat_natCast]
      have ge := r_enter (d := d + 17) (ρ := ρ) (k := k) (f := fn) (mk := mk + 1) (ck := ck) (rk := rk) (np := np) (nv := nv) (E := mn) (m0 := m0) (ma := hz h) (x := 4) (y := (tn : Int)) (Q := pK (pK Q)) M1 H2.ix (by rw [q3]; omega) k2 k3 Z2.2.2.2.2.2.2.2.2.2.1 Z2.2.2.2.2.2.2.2.2.2.2.2 (by omega) (fun i hi => (PA2 i hi).tg) v1 (by rw [x9 _ _ _ (by decide)]; exact u2') (by rw [x9 _ _ _ (by decide)]; exact u4) (by omega) (Or.inr ⟨by rw [ek]; decide, zl⟩) (by decide) (fun w => by omega) (fun _ w => absurd ⟨by omega, w3⟩ w) (fun _ _ _ H G2 F2 A => by
        rw [ea2] at A
        have e56 : hB h' (C + 56) fn = hB h (C + 56) fn := (g1.1.2 fn fl1).2.1
        have RL := RLC.call (Γ0 := Γ) (h0 := h') (X0 := X') (S0 := mobS S1 tn mk r1) (fm := rr + 1) (nw := (tn : Int)) (ma := hz h) P.2.1 nx hm hb w1 M1 CT1 g1 e0 (o9'.le (by decide)) (fun o f i hf => x9 o f i (by
          cases w : [f_Heap_shapesMade, f_Heap_made].elem f with
          | false => rfl
          | true =>
            have : f = f_Heap_shapesMade ∨ f = f_Heap_made := by simpa using w
            rcases this with rfl | rfl <;> exact absurd hf (by decide))) f9 bd1 G2 F2 A fl2 Z2.2.2.2.2.2.2.2.2.2.1 z11 har2 hcf hof Z2.2.2.2.2.1 q1 Z2.2.2.2.2.2.2.1 Z2.2.2.2.2.2.2.2.1 ⟨by omega, w3⟩ (fun i hi => PA2 i (by omega)) V (Or.inr ⟨by omega, by rw [q3]; omega, by rw [Int.toNat_natCast]; exact q2, by rw [Int.toNat_natCast]; exact eB.symm⟩)
        rw [← enS_nw (nw := -1)] at RL
        exact q none _ H _ _ T RL)
      rw [e51] at ge
      exact ge
    · have fr0 : Fr [] [] 1 8 h (hn h k_Obj 8 0) := (Fr.r0.new (k := k_Obj) (n := 8) (m := 0)).le (by omega) (by omega)
      obtain ⟨⟨c0, c0'⟩, g0, bd0⟩ := HC.al fr0
      have RL : RLC Γ h C ho X Y S N (some 0) (erS S 99) (hn h k_Obj 8 0) (erX X 0) Y := RLC.mem (v := 0) (x := 99) P.2.1 c0 (c0' P.2.1.2.2.1) g0 (bd0.le (by decide) (by decide)) (fun _ _ _ => rfl) (fun _ _ _ _ => rfl) (fr0.mono (fun f q => by cases q) (fun q hq => hq)) (Or.inl ⟨rfl, rfl⟩)
      have T := TAC.new (ρ := ρ) (g := g) (N := N) (M := M) (s := s) (Or.inl rfl) ath hκ (TNW.nosh P.2.2.1 w1 Z pr ⟨w2, w3⟩ tm)
      exact ⟨kSg c0.1.2, kSg c0.1.2, q (some 0) _ _ _ Y T RL⟩
end
