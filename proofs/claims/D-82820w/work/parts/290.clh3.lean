/-! C: a look at a host, whole -/
set_option maxRecDepth 20000
def BYH (Y Y2 : Y3) : Prop := ∀ o f i, f ≠ f_Found_member → f ≠ f_Lookup_choices → Y2 o f i = Y o f i
/-- what a choice at a site goes by -/
def KEQ (hw : List (List Int)) (κ st : Int) (c : Nat) (L ts : List Int) (K : KEY) : Prop := ∃ nm : Int, K = ((c : Int), (if κ = 6 then 2 else 1), (if κ = 6 then 0 else st), nm, (if κ = 1 then 1 else 0), ts.map clA) ∧ (κ = 6 → nm = -1) ∧ (¬ κ = 6 → ∃ nw : Nat, nm = (nw : Int) ∧ nw < hw.length ∧ hw.getD nw [] = (if κ = 1 then wtL xSET L else L))
/-- how choices are afterwards -/
def CEV (kn ac : Nat) (CK : Nat → KEY) (CV : Nat → Int) (ca : Nat → Nat) (K0 : KEY) (vs : Int) (kn2 ac2 : Nat) (CK2 : Nat → KEY) (CV2 : Nat → Int) (ca2 : Nat → Nat) (wo wo2 : Int) (e : Nat) : Prop := (∃ k, k < kn ∧ CK k = K0 ∧ (∀ j, k < j → j < kn → ¬ CK j = K0) ∧ vs = CV k ∧ kn2 = kn ∧ ac2 = ac ∧ CK2 = CK ∧ CV2 = CV ∧ ca2 = ca ∧ wo2 = wo ∧ e = 0) ∨ ((∀ k, k < kn → ¬ CK k = K0) ∧ wo2 = w32 (wo + 1) ∧ ((ac < 2000 ∧ kn2 = kn + 1 ∧ ac2 = ac + 1 ∧ CK2 = upF CK kn K0 ∧ CV2 = upF CV kn vs ∧ (∃ a, ca2 = upF ca kn a) ∧ e = 1) ∨ (ac = 2000 ∧ kn2 = kn ∧ ac2 = ac ∧ CK2 = CK ∧ CV2 = CV ∧ ca2 = ca ∧ e = 0)))
def CEQ (g : HG) (hw : List (List Int)) (κ st : Int) (c : Nat) (L ts : List Int) (X X2 : X3) (kn ac : Nat) (CK : Nat → KEY) (CV : Nat → Int) (ca : Nat → Nat) (kn2 ac2 : Nat) (CK2 : Nat → KEY) (CV2 : Nat → Int) (ca2 : Nat → Nat) (e : Nat) : Prop := (hkB g κ st c L = true ∧ X2 53 f_Found_byClasses 0 = 1 ∧ ∃ K0, KEQ hw κ st c L ts K0 ∧ CEV kn ac CK CV ca K0 (sglG g ts (hkC g κ st c L)) kn2 ac2 CK2 CV2 ca2 (X 98 f_Lookup_workedOut 0) (X2 98 f_Lookup_workedOut 0) e) ∨ (hkB g κ st c L = false ∧ X2 53 f_Found_byClasses 0 = X 53 f_Found_byClasses 0 ∧ kn2 = kn ∧ ac2 = ac ∧ CK2 = CK ∧ CV2 = CV ∧ ca2 = ca ∧ X2 98 f_Lookup_workedOut 0 = X 98 f_Lookup_workedOut 0 ∧ e = 0)
section
variable {ρ : Nat → Nat} {d : Nat} {Q : QT} {Γ : GH} {h h' h1 h2 B : ah} {C ho k n m i j N M a b z s x y nw r f o kn ac e c D mn : Nat} {g : HG} {v p es lo sb st kd nm κ : Int} {ws hw : List (List Int)} {L ts cl pf bs Wd : List Int} {S : SS} {X X' X1 X2 : X3} {Y Y' Y1 Y2 : Y3} {w : Nat → Bool} {cs o' : List Nat} {CK : Nat → KEY} {CV : Nat → Int} {ca : Nat → Nat} {K0 : KEY}
theorem ph_mem {ph : Nat} (H : phG g ts cs ph = some v) : (∃ m : Nat, v = (m : Int) ∧ m ∈ cs) ∨ v = -8 := by
  unfold phG at H
  split at H
  · injection H with H
    split at H
    · rename_i l1
      refine Or.inl ⟨_, H.symm, ?_⟩
      have : (cs.filter (mstB g ph ts cs)).getLastD 0 ∈ cs.filter (mstB g ph ts cs) := by
        revert l1
        generalize cs.filter (mstB g ph ts cs) = l
        intro l1
        match l, l1 with
        | [y], _ => simp
      exact (List.mem_filter.mp this).1
    · exact Or.inr H.symm
  · cases H
theorem sgl_mem : (∃ m : Nat, sglG g ts cs = (m : Int) ∧ m ∈ cs) ∨ sglG g ts cs = -8 ∨ sglG g ts cs = -9 := by
  unfold sglG
  cases e1 : phG g ts cs 1 with
  | some v => exact (ph_mem e1).imp id Or.inl
  | none =>
    cases e2 : phG g ts cs 2 with
    | some v => exact (ph_mem e2).imp id Or.inl
    | none =>
      cases e3 : phG g ts cs 3 with
      | some v => exact (ph_mem e3).imp id Or.inl
      | none => exact Or.inr (Or.inr rfl)
theorem hkC_k (hκ : κ = 1 ∨ κ = 5 ∨ κ = 6) : ∀ m, m ∈ hkC g κ st c L → ¬ g.1 6 m = 0 := fun m hm => by
  unfold hkC at hm
  by_cases k1 : κ = 1
  · rw [if_pos k1] at hm
    have := wtB_k (colG_w m hm); omega
  · rw [if_neg k1] at hm
    by_cases k5 : κ = 5
    · rw [if_pos k5] at hm
      have := wtB_k (colG_w m hm); omega
    · rw [if_neg k5] at hm
      unfold mkrG at hm
      have := (List.mem_filter.mp hm).2
      simp only [decide_eq_true_eq] at this
      omega
/-- one is chosen by classes -/
theorem r_hchosen (A : LHP ρ Γ g h C ho X Y S N M ws hw k c L st) (K : LKH h ho X Y N M kn ac CK CV ca) (hκ : κ = 1 ∨ κ = 5 ∨ (κ = 6 ∧ st = 1)) (ne : ¬ hkC g κ st c L = []) (KE : KEQ hw κ st c L ts K0) (et : K0 = ((c : Int), kd, p, nm, sb, ts.map clA)) (eop : X 53 f_Found_operands 0 = (ts.length : Int)) (ht : ts.length ≤ 8) (hts : ∀ i, i < ts.length → 0 ≤ ts.getD i 0 ∧ ts.getD i 0 < 9 + (N : Int)) (ec : ∀ i, i < ts.length → X 53 f_Found_classes i = clA (ts.getD i 0)) (val : ∀ k, k < kn → CK k = K0 → CV k = sglG g ts (hkC g κ st c L))
    (q1 : ∀ h2 X2 Y2 e kn2 ac2 CK2 CV2 ca2 (m : Nat), CHF h C ho e h2 → BXH X X2 → BYH Y Y2 → LKH h2 ho X2 Y2 N M kn2 ac2 CK2 CV2 ca2 → CEQ g hw κ st c L ts X X2 kn ac CK CV ca kn2 ac2 CK2 CV2 ca2 e → hkG g κ st c L ts = (m : Int) → m < M → X2 53 f_Found_action 0 = (if g.1 6 m = 0 then (if κ = 0 then 6 else 7) else 8) → Y2 53 f_Found_member 0 = hB h2 (ho + 3) m → Q (Sum.inl none) (cc h2 C X2 Y2))
    (q0 : ∀ h2 X2 Y2 e kn2 ac2 CK2 CV2 ca2, CHF h C ho e h2 → BXH X X2 → BYH Y Y2 → LKH h2 ho X2 Y2 N M kn2 ac2 CK2 CV2 ca2 → CEQ g hw κ st c L ts X X2 kn ac CK CV ca kn2 ac2 CK2 CV2 ca2 e → hkG g κ st c L ts < 0 → Q (Sum.inr (C + 33)) (cc h2 C (erX X2 (-(hkG g κ st c L ts))) Y2)) : wpB PGm ρ (d + 73) m_Lookup_chosen 0 [(0, vR (C + 98)), (1, vR (C + 53)), (2, vI kd), (3, vI p), (4, vI nm), (5, vI sb)] [] (cc h C X Y) Q := by
  obtain ⟨a1, a2, a3, a4, a5, ⟨w1, w2, w3, w4⟩, bb, ⟨a8, a9⟩, a10, a11⟩ := A
  obtain ⟨nm', eK, kn6, kw⟩ := id KE
  have inj := et.symm.trans eK
  have i2 : kd = (if κ = 6 then 2 else 1) := by injection inj with _ i; injection i
  have i3 : p = (if κ = 6 then 0 else st) := by injection inj with _ i; injection i with _ i; injection i
  have i4 : nm = nm' := by injection inj with _ i; injection i with _ i; injection i with _ i; injection i
  have i5 : sb = (if κ = 1 then 1 else 0) := by injection inj with _ i; injection i with _ i; injection i with _ i; injection i with _ i; injection i
  have hBt : hkB g κ st c L = true := by
    unfold hkB
    rw [decide_eq_true hκ, Bool.true_and]
    cases e : hkC g κ st c L with
    | nil => exact absurd e ne
    | cons x l => rfl
  have hG : hkG g κ st c L ts = sglG g ts (hkC g κ st c L) := by
    unfold hkG
    rcases hκ with k1 | k5 | ⟨k6, s1⟩
    · rw [if_neg (by omega), if_pos k1, if_neg ne]
    · rw [if_neg (by omega), if_neg (by omega), if_pos k5, if_neg ne]
    · rw [if_neg (by omega), if_neg (by omega), if_neg (by omega), if_pos ⟨k6, s1⟩, if_neg ne]
  have ecs : hkC g κ st c L = ((if kd = 1 then colG g (wtB g p (if κ = 1 then wtL xSET L else L) (-1)) (ordG g c) else mkrG g c).filter (fsB g sb)) := by
    have f0 : ∀ l : List Nat, l.filter (fsB g 0) = l := fun l => List.filter_eq_self.mpr (fun x _ => by unfold fsB; simp)
    unfold hkC
    rcases hκ with k1 | k5 | ⟨k6, s1⟩
    · have e2 : kd = 1 := by rw [i2, if_neg (by omega)]
      have e3 : p = st := by rw [i3, if_neg (by omega)]
      have e5 : sb = 1 := by rw [i5, if_pos k1]
      rw [if_pos k1, e2, e3, e5, if_pos (rfl : (1 : Int) = 1), if_pos k1, colG_p (by decide)]
      congr 1
    · have e2 : kd = 1 := by rw [i2, if_neg (by omega)]
      have e3 : p = st := by rw [i3, if_neg (by omega)]
      have e5 : sb = 0 := by rw [i5, if_neg (by omega)]
      have n1 : ¬ κ = 1 := by omega
      rw [if_neg n1, if_pos k5, e2, e3, e5, if_pos (rfl : (1 : Int) = 1), if_neg n1, f0]
    · have e2 : kd = 2 := by rw [i2, if_pos k6]
      have e5 : sb = 0 := by rw [i5, if_neg (by omega)]
      have n1 : ¬ κ = 1 := by omega
      have n5 : ¬ κ = 5 := by omega
      rw [if_neg n1, if_neg n5, e2, e5, if_neg (by decide : ¬ (2 : Int) = 1), f0]
  have hκ' : κ = 1 ∨ κ = 5 ∨ κ = 6 := hκ.imp id (fun z => z.imp id And.left)
  have mk : ∀ (m : Nat), sglG g ts (hkC g κ st c L) = (m : Int) → ¬ g.1 6 m = 0 := fun m em => by
    rcases sgl_mem (g := g) (ts := ts) (cs := hkC g κ st c L) with ⟨m', e', hm⟩ | c | c
    · have : m' = m := Int.ofNat.inj (e'.symm.trans em)
      rw [← this]; exact hkC_k hκ' m' hm
    · omega
    · omega
  -- how it ends
  have fin : ∀ h2 X2 Y2 e kn2 ac2 CK2 CV2 ca2, CHF h C ho e h2 → BXH X X2 → BYH Y Y2 → LKH h2 ho X2 Y2 N M kn2 ac2 CK2 CV2 ca2 → CEV kn ac CK CV ca K0 (sglG g ts (hkC g κ st c L)) kn2 ac2 CK2 CV2 ca2 (X 98 f_Lookup_workedOut 0) (X2 98 f_Lookup_workedOut 0) e → X2 53 f_Found_byClasses 0 = 1 → X2 53 f_Found_action 0 = 8 → FIN Q h2 C ho X2 Y2 (sglG g ts (hkC g κ st c L)) := fun h2 X2 Y2 e kn2 ac2 CK2 CV2 ca2 CF bx bY LK CE e1 e8 => by
    have ce : CEQ g hw κ st c L ts X X2 kn ac CK CV ca kn2 ac2 CK2 CV2 ca2 e := Or.inl ⟨hBt, e1, K0, KE, CE⟩
    refine ⟨fun v0 => ?_, fun v0 => ?_⟩
    · rcases sgl_mem (g := g) (ts := ts) (cs := hkC g κ st c L) with ⟨m, em, hm⟩ | c | c
      · rw [em, Int.toNat_natCast]
        have mM : m < M := by
          have N60 := a3.hh
          unfold hkC at hm
          by_cases k1 : κ = 1
          · rw [if_pos k1] at hm
            exact col_lt w1 w2 a8 m hm
          · rw [if_neg k1] at hm
            by_cases k5 : κ = 5
            · rw [if_pos k5] at hm
              exact col_lt w1 w2 a8 m hm
            · rw [if_neg k5] at hm
              unfold mkrG at hm
              exact mem_lt w2 a8 m (List.mem_filter.mp hm).1
        have LK2 : LKH h2 ho X2 (u3 Y2 53 f_Found_member 0 (hB h2 (ho + 3) m)) N M kn2 ac2 CK2 CV2 ca2 := LK.fr (Lf := []) (Pp := []) Fr.r0 (by unfold DJ; decide) (by simp) (fun _ _ => rfl) (fun _ _ => rfl) rfl rfl (fun b => u3_f (by decide))
        refine q1 h2 X2 _ e kn2 ac2 CK2 CV2 ca2 m CF bx (fun o f i h1 h2 => by rw [u3_f h1]; exact bY o f i h1 h2) LK2 ce (by rw [hG]; exact em) mM ?_ u3_s
        rw [e8, if_neg (mk m em)]
      · omega
      · omega
    · have := q0 h2 X2 Y2 e kn2 ac2 CK2 CV2 ca2 CF bx bY LK ce (by rw [hG]; exact v0)
      rw [hG] at this
      exact this
  have bxc : BXH X (xcX X) := (BXH.rf.u (by decide)).u (by decide)
  have bxw : BXH X (wkX (xcX X)) := bxc.u (by decide)
  have K1 : LKH h ho (xcX X) Y N M kn ac CK CV ca := K.fr (Lf := []) (Pp := []) Fr.r0 (by unfold DJ; decide) (by simp) (fun _ _ => rfl) (fun _ _ => rfl) (xcX_o (by decide) (by decide)) (xcX_o (by decide) (by decide)) (fun _ => rfl)
  have G := a1.1.1
  have F := a1.1.2
  have wo0 : xcX X 98 f_Lookup_workedOut 0 = X 98 f_Lookup_workedOut 0 := xcX_o (by decide) (by decide)
  have wo1 : wkX (xcX X) 98 f_Lookup_workedOut 0 = w32 (X 98 f_Lookup_workedOut 0 + 1) := by unfold wkX; rw [u3_s, wo0]
  have by0 : xcX X 53 f_Found_byClasses 0 = 1 := by unfold xcX; rw [u3_f (by decide), u3_s]
  have ac0 : xcX X 53 f_Found_action 0 = 8 := u3_s
  refine r_chosen (d := d) (cs := hkC g κ st c L) (nw := nm.toNat) (L := if κ = 1 then wtL xSET L else L) a1 a3 a4 w1 w2 w3 w4 K a8 (by rw [i3]; split; exact Or.inl rfl; exact a10) (by rw [i5]; split; exact Or.inr rfl; exact Or.inl rfl) (fun k1 s0 => ?_) (by rw [i2]; split; exact Or.inr rfl; exact Or.inl rfl) (fun k1 => ?_) a9 eop ht hts ec ecs et (fun k hk ek nk => ?_) (fun no a2' h2 a CF LK HX2 => ?_) (fun no a2' h2 CF LK HX2 => ?_)
  · have n6 : ¬ κ = 6 := fun c => by rw [i2, if_pos c] at k1; exact absurd k1 (by decide)
    rw [i3, if_neg n6] at s0
    exact a11 s0
  · have n6 : ¬ κ = 6 := fun c => by rw [i2, if_pos c] at k1; exact absurd k1 (by decide)
    obtain ⟨nw, e1, e2, e3⟩ := kw n6
    rw [i4, e1, Int.toNat_natCast]
    exact ⟨e2, e3, rfl⟩
  · rw [val k hk ek]
    exact fin h (xcX X) Y 0 kn ac CK CV ca (CHF.rf G F) bxc (fun _ _ _ _ _ => rfl) K1 (Or.inl ⟨k, hk, ek, nk, (val k hk ek).symm, rfl, rfl, rfl, rfl, rfl, wo0, rfl⟩) by0 ac0
  · refine fin h2 _ _ 1 (kn + 1) (ac + 1) _ _ _ CF ((bxw.u (by decide)).u (by decide)) (fun o f i h1 h2 => u3_f h2) LK (Or.inr ⟨no, ?_, Or.inl ⟨a2', rfl, rfl, rfl, rfl, ⟨a, rfl⟩, rfl⟩⟩) ?_ ?_
    · unfold kpX; rw [u3_f (by decide), u3_f (by decide)]; exact wo1
    · unfold kpX; rw [u3_f (by decide), u3_f (by decide), wkX_o (by decide)]; exact by0
    · unfold kpX; rw [u3_f (by decide), u3_f (by decide), wkX_o (by decide)]; exact ac0
  · exact fin h2 _ _ 0 kn ac _ _ _ CF bxw (fun _ _ _ _ _ => rfl) LK (Or.inr ⟨no, wo1, Or.inr ⟨a2', rfl, rfl, rfl, rfl, rfl, rfl⟩⟩) (by rw [wkX_o (by decide)]; exact by0) (by rw [wkX_o (by decide)]; exact ac0)
end
