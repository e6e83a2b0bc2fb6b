/-! perform: a property is written or added -/
set_option maxRecDepth 20000
section
variable {ρ : Nat → Nat} {d : Nat} {Q : QT} {Γ : GH} {h h' h1 h2 : ah} {C ho k i j N M a z s r f o c t n mn m0 rr sk rk l : Nat} {g : HG} {v w hd ty κ nm x y : Int} {S S' S1 : SS} {X X' X1 X2 : X3} {Y Y' Y1 Y2 : Y3} {b : Bool}
theorem adpS_off : OFF LA7 S (adpS S k sk rk n nm ty v w) := by
  have oa : OFF LAS S (adsS S k sk rk n nm ty v) := adsS_off'
  have ob : OFF LA7 S (u2 (adsS S k sk rk n nm ty v) f_Md_thingShape k w) := (oa.le (by decide)).u (by decide)
  unfold adpS grwS
  split
  · exact ob
  · exact ((ob.u (by decide)).u (by decide)).u (by decide)
theorem SLG.co (HC : CORE Γ h C ho X Y S N) (hk : (k : Int) < S f_Md_things 0) : ∃ n, SLG S k n ∧ S f_Md_thingCount k = (n : Int) := by
  obtain ⟨tn, sn, sm, d1, d2, d5, d6', d3, d4, d6, d7, d8, U, m1, m2, m3, m4⟩ := HC.shp
  have TB := (d7 k (by omega)).p.2.1
  have t0 := TB.2.1
  have mem := HC.2.2.2.2.2.2.2.2.1
  obtain ⟨-, rm0, -, -, -, sk, vk, -, gk, -, ⟨-, -, r3⟩, -, -, ⟨s1, -, s3⟩, -⟩ := mem
  refine ⟨(S f_Md_thingCount k).toNat, ?_, by have := TB.2.1; omega⟩
  exact ⟨by omega, by omega, by omega, fun w => (TB.2.2.2.2.1 (by omega)).1, fun x hx => by have := (TB.2.2.2.1 x (by omega)).1; omega, fun x hx => TB.2.2.2.2.2 x (by omega)⟩
theorem perf_69 (P : PFX Γ h C ho X Y S N t o n c r s a κ mn m0 rr) (hm : m0 < n) (q : wpB PGm ρ d m_Machine_write 0 [(0, vR (C + 32)), (1, vI (m0 : Int)), (2, vI ((n - 1 : Nat) : Int))] [] (cc h C X Y) (pK Q)) : wpB PGm ρ (d + 1) m_Machine_perform 69 [(0, vR (C + 32)), (2, vI (m0 : Int))] [] (cc h C X Y) Q := by
  have G := P.1.1.1
  have F := P.1.1.2
  have I := P.2.1.ix
  have ht := I.2.2.1
  have e1 : Y 32 f_Machine_t 0 = C + o := I.2.2.2.1.1
  have e2 : X o f_Task_size 0 = (n : Int) := I.2.2.2.1.2.1
  have b1 : 1 ≤ n ∧ n ≤ 2000000000 := by have := I.2.2.2.2.1; omega
  have w1 : w32 ((n : Int) - 1) = ((n - 1 : Nat) : Int) := w32_m1 b1
  refine b_Machine_perform_69 ?_
  have f1 := F.t ht
  unfold FCt at f1
  have f2 := F
  unfold FC at f2
  simp (decide := true) only [ccI, ccIt ht, ccR, ccRo, ccK, ccl, f1, f2, e1, e2, w1, true_and, and_true]
  exact q
/-- a property that is there is written -/
theorem pf_write (P : PFX Γ h C ho X Y S N t o n c r s a κ mn m0 rr) (hκ : κ = 1 ∨ κ = 3) (eac : X 53 f_Found_action 0 = 1) (fl : S f_Md_foundLinker 0 = 0) (ew : S f_Md_foundWhich 0 = (i : Int)) (es : S f_Md_foundShape 0 = -1) (epl : X 53 f_Found_place 0 = (i : Int)) (gt : S f_Md_pileType rr = 4 ∨ S f_Md_pileType rr = 5) (gv : S f_Md_pileValue rr = (k : Int)) (hi : (i : Int) < S f_Md_thingCount k) (q : PFR ρ g N M Γ h C ho X Y S s Q) : wpB PGm ρ (d + 15) m_Machine_perform 69 [(0, vR (C + 32)), (2, vI (m0 : Int))] [] (cc h C X Y) Q := by
  have HC := P.1
  have G := HC.1.1
  have F := HC.1.2
  have hm : m0 < n := P.2.2.1.2.2.2.2.1
  have ht1 := P.2.2.1.2.2.2.1
  obtain ⟨hk, k8, kd, wk, tk, kk, nz, zz⟩ := P.obj gt gv
  have V := P.2.1.pl (i := n - 1) (by omega)
  obtain ⟨cnt, L, ec⟩ := SLG.co HC hk
  have T := TAC.sets (ρ := ρ) (g := g) (N := N) (M := M) (S := S) (s := s) (k := k) (nm := if κ = 1 then S f_Md_siteName s else S f_Md_elementName 0) (Or.inr rfl) ⟨P.2.2.2.2.2.1.1, P.2.2.2.2.2.1.2.1, fl, by rw [P.2.2.2.2.2.2.1.2]; exact gv, k8⟩ hκ (hκ.elim (fun w => Or.inl (by rw [if_pos w])) Or.inr) (hκ.elim Or.inr (fun w => Or.inl (by rw [if_neg (by omega)]))) (s_setsW P.2.2.1 L (i := i) (by omega) ew es)
  obtain ⟨⟨M1, K1⟩, g1, bd, fr⟩ := HC.slw (i := i) hk hi V
  have e0 : ∀ f i', [f_Md_slotType, f_Md_slotValue].elem f = false → slwS S k i (S f_Md_pileType (2100 * t + (n - 1))) (S f_Md_pileValue (2100 * t + (n - 1))) f i' = S f i' := fun f i' hf => slwS_o (by rintro rfl; exact absurd hf (by decide)) (by rintro rfl; exact absurd hf (by decide))
  have CT1 := K1 P.2.1.2.2.1
  have V1 := g1.vr V
  have RL := P.ach M1 CT1 g1 (exs_of e0 (by decide)) (fun f i' hf => e0 f i' (by
    cases w : [f_Md_slotType, f_Md_slotValue].elem f with
    | false => rfl
    | true =>
      have : f = f_Md_slotType ∨ f = f_Md_slotValue := by simpa using w
      rcases this with rfl | rfl <;> exact absurd hf (by decide))) (fun _ _ _ _ => rfl) fr (bd.le (by decide) (by decide)) V1
  have gq := q none _ _ _ Y T RL
  refine perf_69 (d := d + 14) P hm (r_write0 (d := d + 3) P gt gv hm (fun _ => ?_) (fun w => absurd eac w) (fun w => absurd eac w))
  rw [epl]
  refine r_slw HC hk hi V.tg ?_
  exact r_write116 (d := d + 3) M1.1.1 M1.1.2 (P.2.1.mv M1 CT1 (exs_of e0 (by decide))).ix hm V.tg gq
/-- a property is added -/
theorem pf_append (P : PFX Γ h C ho X Y S N t o n c r s a κ mn m0 rr) (hκ : κ = 1 ∨ κ = 3) (eac : X 53 f_Found_action 0 = 2) (fl : S f_Md_foundLinker 0 = 0) (es : S f_Md_foundShape 0 = (j : Int)) (hj : (j : Int) < S f_Md_shapes 0) (eto : Y 53 f_Found_to 0 = hB h (C + 52) j) (gt : S f_Md_pileType rr = 4 ∨ S f_Md_pileType rr = 5) (gv : S f_Md_pileValue rr = (k : Int)) (eb : S f_Md_shapeBefore j = S f_Md_thingShape k) (en : S f_Md_shapeName j = if κ = 1 then S f_Md_siteName s else S f_Md_elementName 0) (hc : S f_Md_changes 0 + 1 ≤ 1000000) (q : PFR ρ g N M Γ h C ho X Y S s Q) : wpB PGm ρ (d + 15) m_Machine_perform 69 [(0, vR (C + 32)), (2, vI (m0 : Int))] [] (cc h C X Y) Q := by
  have HC := P.1
  have G := HC.1.1
  have F := HC.1.2
  have hm : m0 < n := P.2.2.1.2.2.2.2.1
  have ht1 := P.2.2.1.2.2.2.1
  obtain ⟨hk, k8, kd, wk, tk, kk, nz, zz⟩ := P.obj gt gv
  have V := P.2.1.pl (i := n - 1) (by omega)
  obtain ⟨cnt, L, ec⟩ := SLG.co HC hk
  obtain ⟨tn, sn, sm, d1, d2, d5, d6', d3, d4, d6, d7, d8, U, m1, m2, m3, m4⟩ := HC.shp
  have TH := (d7 k (by omega)).p
  have tb1 := TH.2.1.1
  have tbl := TH.2.1.2.2.2.2.1
  have n64 := (TH.2.2.1.1 kd).2.2.2.1
  obtain ⟨te1, te2⟩ := TH.2.2.2.2.2.2
  have mem := HC.2.2.2.2.2.2.2.2.1
  obtain ⟨mk, rk, -, -, -, sk, vk, -, gk, -, ⟨-, r2, r3⟩, -, -, ⟨s1, -, s3⟩, -, ⟨g1, -, g3⟩⟩ := mem
  have ath : ATQ S s k κ := ⟨P.2.2.2.2.2.1.1, P.2.2.2.2.2.1.2.1, fl, by rw [P.2.2.2.2.2.2.1.2]; exact gv, k8⟩
  have el : cnt ≠ 0 → S f_Md_thingLast k = (slS S k (cnt - 1) : Int) ∧ slS S k (cnt - 1) < 60000 := fun n0 => by
    have := (tbl (by omega)).2
    rw [ec, Int.toNat_natCast] at this
    exact ⟨this, L.2.2.2.2.1 (cnt - 1) (by omega)⟩
  have TF : ¬ (rk < 60000 ∧ cnt < 64) → TAC ρ g N M s S none (erS S 99) := fun nr => TAC.sets (nm := if κ = 1 then S f_Md_siteName s else S f_Md_elementName 0) (Or.inl rfl) ath hκ (hκ.elim (fun w => Or.inl (by rw [if_pos w])) Or.inr) (hκ.elim Or.inr (fun w => Or.inl (by rw [if_neg (by omega)]))) (s_setsF P.2.2.1 k8 r2 ec (by rw [es]; omega) nr)
  have full : ¬ (rk < 60000 ∧ cnt < 64) → hK (cc h C (erX X 0) Y) (C + 33) ≠ 0 ∧ pK Q (Sum.inr (C + 33)) (cc h C (erX X 0) Y) := fun nr => ⟨kSg F, kSg F, q (some 0) _ h _ Y (TF nr) P.full⟩
  refine perf_69 (d := d + 14) P hm (r_write0 (d := d + 3) P gt gv hm (fun w => by omega) (fun _ w => full (fun z => by omega)) (fun _ w => ?_))
  have cn : cnt < 64 := by omega
  rw [eto]
  refine r_addp (d := d + 1) HC hk kd ec cn s1 r2 hc V hj eb en (fun rr1 h3 X3 z9 s9 A ex => ?_) (fun w => full (fun z => by omega))
  obtain ⟨⟨M1, K1⟩, g1, bd, fr⟩ := A
  have T := TAC.sets (ρ := ρ) (g := g) (N := N) (M := M) (Or.inr rfl) ath hκ (hκ.elim (fun w => Or.inl (by rw [if_pos w])) Or.inr) (hκ.elim Or.inr (fun w => Or.inl (by rw [if_neg (by omega)]))) (s_setsA (nm := if κ = 1 then S f_Md_siteName s else S f_Md_elementName 0) P.2.2.1 k8 s1 (by omega) r2 ec el es ⟨rr1, cn⟩ (by omega) (by omega))
  have oc : OFF LA7 S (adpS S k sk rk cnt (if κ = 1 then S f_Md_siteName s else S f_Md_elementName 0) (S f_Md_pileType (2100 * t + (n - 1))) (S f_Md_pileValue (2100 * t + (n - 1))) (j : Int)) := adpS_off
  have CT1 := K1 P.2.1.2.2.1
  have V1 := g1.vr V
  have e0 := oc.ex (L' := LTK ++ [f_Md_t, f_Md_p0, f_Md_f0, f_Md_top, f_Md_after, f_Md_codeSize]) (by decide)
  have xt : ∀ i, X3 o f_Task_tags i = X o f_Task_tags i := fun i => ex _ _ _ (by decide)
  have xw : ∀ i, X3 o f_Task_words i = X o f_Task_words i := fun i => ex _ _ _ (by decide)
  have RL := P.ach M1 CT1 g1 e0 (oc.le (L' := LSc) (by decide)) (fun o f i hf => ex o f i (by
    cases w : [f_Heap_ticks, f_Heap_room].elem f with
    | false => rfl
    | true =>
      have : f = f_Heap_ticks ∨ f = f_Heap_room := by simpa using w
      rcases this with rfl | rfl <;> exact absurd hf (by decide))) fr (bd.le (by decide) (by decide)) V1
  have gq := q none _ _ _ Y T RL
  refine r_write116 (d := d + 3) M1.1.1 M1.1.2 (P.2.1.mv M1 CT1 e0).ix hm (by rw [xt]; exact V.tg) ?_
  rw [xt, xw]
  exact gq
end
