set_option maxRecDepth 20000
section
variable {ρ : Nat → Nat} {d : Nat} {Q : QT} {Γ : GH} {h h' h1 h2 : ah} {C ho k i j N M a b z s x y r f o c t n mn m0 rr : Nat} {g : HG} {v w hd ty κ nm el La p : Int} {S S' S1 : SS} {X X' X1 X2 : X3} {Y Y' Y1 Y2 : Y3} {e : ENT} {L : List Int} {ws hw : List (List Int)}
/-- what was found at a site, and that it is right -/
def FND (g : HG) (h : ah) (C ho : Nat) (X : X3) (Y : Y3) (S : SS) (M : Nat) (κ nm : Int) (L : List Int) (mn : Nat) (ty v el : Int) (rr : Nat) : Prop := ∃ e : ENT, ENV g S κ nm L mn e ∧ FDO g h C ho X Y S M κ mn e ∧ (S f_Md_foundLinker 0 = e f_Md_linker ∧ S f_Md_foundWhich 0 = e f_Md_which ∧ S f_Md_foundHolder 0 = e f_Md_holder ∧ S f_Md_foundShape 0 = e f_Md_toShape) ∧ STE S κ e 0 ∧ GDE S κ ty v el rr e
theorem CORE.cha (HC : CORE Γ h C ho X Y S N) (hk : (k : Int) < S f_Md_things 0) : S f_Md_changedAt k ≤ S f_Md_changes 0 := by
  obtain ⟨-, -, -, -, -, -, -, -, -, q7, -⟩ := HC
  obtain ⟨tn, sn, c1, c2, c3, c4, c5, c6, c6', c7, c8, c9, c10⟩ := q7
  exact (c7 k (by omega)).p.2.2.2.2.2.2.2.2
theorem WLK.stl (HC : CORE Γ h C ho X Y S N) (hL : S f_Md_changes 0 ≤ La) : ∀ j p, WLK S La hd w nm j p → ∃ j', STL S La hd j' p 0 := fun j => by
  induction j with
  | zero => exact fun p H => ⟨0, H.1, rfl⟩
  | succ j ih =>
    intro p H
    rcases H with H | ⟨⟨a1, a2, a3⟩, H⟩
    · exact ⟨0, H.1, rfl⟩
    · have ch := HC.cha (k := p.toNat) (by omega)
      rcases H with H | ⟨-, ⟨b1, -⟩ | ⟨b1, -, b3⟩⟩
      · omega
      · exact ⟨1, Or.inr ⟨a1, Or.inr (Or.inl ⟨by omega, b1, rfl⟩)⟩⟩
      · obtain ⟨j', q⟩ := ih _ b3
        exact ⟨j' + 1, Or.inr ⟨a1, Or.inr (Or.inr ⟨by omega, b1, q⟩)⟩⟩
/-- an entry that was just made is not stale -/
theorem STE.new (HC : CORE Γ h C ho X Y S N) (E : ENV g S κ nm L mn e) (la : e f_Md_linkedAt = S f_Md_changes 0) : STE S κ e 0 := by
  by_cases q : e f_Md_linker = 0 ∧ rdK κ ∧ ¬ (0 ≤ e f_Md_which ∧ e f_Md_holder < 0)
  · obtain ⟨q1, q2, q3⟩ := q
    obtain ⟨-, -, e3⟩ := E.1 q1
    obtain ⟨-, -, -, ⟨z1, z2, -⟩ | ⟨-, -, j, W⟩⟩ := e3 q2
    · exact absurd ⟨z1, by omega⟩ q3
    · exact Or.inl ⟨q1, q2, q3, WLK.stl HC (by omega) _ _ W⟩
  · exact Or.inr ⟨q, rfl⟩
theorem CORE.pwf (HC : CORE Γ h C ho X Y S N) : ∀ k : Nat, (k : Int) < S f_Md_things 0 → S f_Md_thingKind k = 4 ∨ S f_Md_thingKind k = 5 → prS S k = -1 ∨ (0 ≤ prS S k ∧ prS S k < S f_Md_things 0 ∧ (S f_Md_thingKind (prS S k).toNat = 4 ∨ S f_Md_thingKind (prS S k).toNat = 5)) := by
  obtain ⟨-, -, -, -, -, -, -, -, -, q7, -⟩ := HC
  obtain ⟨tn, sn, c1, c2, c3, c4, c5, c6, c6', c7, c8, c9, c10⟩ := q7
  exact prS_wf c1 c7 c8
theorem LKO.rdv (HC : CORE Γ h C ho X Y S N) (hk : (k : Int) < S f_Md_things 0) (kd : S f_Md_thingKind k = 4 ∨ S f_Md_thingKind k = 5) (lo : LKO S nm k w hd) : (∃ ty v, RDV S k w hd ty v) ∧ (w < 0 → hd < 0) := by
  obtain ⟨j, u, H, H2⟩ := lo
  rcases H2 with ⟨a1, a2, a3⟩ | ⟨a1, ⟨n, en, ow⟩, a3, a4⟩
  · exact ⟨⟨0, 0, Or.inl ⟨by omega, rfl, rfl⟩⟩, fun _ => by omega⟩
  · refine ⟨?_, fun _ => by omega⟩
    rcases HLD.pv HC.pwf j _ _ (Or.inr ⟨by omega, hk, by rw [Int.toNat_natCast]; exact kd⟩) H with q | ⟨q1, q2, q3, q4⟩
    · omega
    · rcases ow with ⟨i, e1, e2, e3⟩ | ⟨e1, -⟩
      · obtain ⟨m, L1, e4⟩ := SLG.co HC (k := u.toNat) (by omega)
        have : n = m := by omega
        subst this
        refine ⟨_, _, Or.inr ⟨u.toNat, n, i, e1, ?_, L1, e2, rfl, rfl⟩⟩
        by_cases q : u = (k : Int)
        · rw [if_pos q] at a4
          exact Or.inl ⟨by omega, by omega⟩
        · rw [if_neg q] at a4
          exact Or.inr (by omega)
      · omega
/-- the name that an object is asked for -/
theorem j_pobj (P : PFX Γ h C ho X Y S N t o n c r s a κ mn m0 rr) (NM : NMR h C S ws) (F : FND g h C ho X Y S M κ nm L mn ty v el rr) (hty : ty = 4 ∨ ty = 5) (gt : S f_Md_pileType rr = ty) (gv : S f_Md_pileValue rr = v) (hb : bsS S t (c - 1) ≤ m0) (hc : S f_Md_changes 0 + 1 ≤ 1000000) (en : S f_Md_siteName s = nm) (ee : S f_Md_elementName 0 = el) (q : PFR ρ g N M Γ h C ho X Y S s Q) : wpB PGm ρ (d + 40) m_Machine_perform 0 [(0, vR (C + 32)), (1, vR a), (2, vI (m0 : Int))] [] (cc h C X Y) Q := by
  obtain ⟨e, EV, FO, ⟨f1, f2, f3, f4⟩, ST, GD⟩ := F
  have HC := P.1
  have hκ := P.2.2.2.2.2.1.2.2.2.2.1
  have V := P.pl (i := 0) (Nat.zero_le _)
  rw [Nat.add_zero, Nat.add_zero, gt, gv] at V
  have ⟨k, ek⟩ : ∃ k : Nat, v = (k : Int) := by
    obtain ⟨-, -, O⟩ := V
    unfold VO at O
    exact ⟨v.toNat, by omega⟩
  subst ek
  obtain ⟨o1, o2, o3, o4, o5, o6, o7, o8⟩ := P.obj (k := k) (by omega) gv
  have l0 : e f_Md_linker = 0 := by
    rcases GD with ⟨-, g2, -⟩ | ⟨g1, -⟩
    · exact g2
    · exact absurd hty g1
  have EB := EV.1 l0
  obtain ⟨p1, p2, p4, -⟩ := id FO
  obtain ⟨p3, p4', p5', p6', p7'⟩ := p4 l0
  have GD' : ((κ = 4 ∨ κ = 6) ∧ ty = 5 ∧ S f_Md_thingFunction k = e f_Md_guard) ∨ (¬ (κ = 4 ∨ κ = 6) ∧ S f_Md_thingShape k = e f_Md_guard ∧ e f_Md_guardName = el) := by
    rcases GD with ⟨-, -, g3⟩ | ⟨g1, -⟩
    · rw [Int.toNat_natCast] at g3
      exact g3
    · exact absurd hty g1
  have ac : X 53 f_Found_action 0 = (if κ = 4 then 4 else if κ = 6 then 5 else if κ = 1 ∨ κ = 3 then (if e f_Md_which < 0 then 2 else 1) else if κ = 5 then 3 else 0) := by
    rw [p1]
    unfold acE
    rw [if_pos l0]
  have cn : ∃ n : Nat, S f_Md_thingCount k = (n : Int) ∧ S f_Md_shapeCount (S f_Md_thingShape k).toNat = S f_Md_thingCount k := by
    obtain ⟨-, -, -, -, -, -, -, -, -, q7, -⟩ := HC
    obtain ⟨tn, sn, c1, c2, c3, c4, c5, c6, c6', c7, c8, c9, c10⟩ := q7
    have T := (c7 k (by omega)).p
    have t1 := T.2.1.2.1
    have t2 := (T.2.2.1.1 o3).2.2.1
    exact ⟨(S f_Md_thingCount k).toNat, by omega, t2⟩
  clear GD FO EV
  refine perf_0 (d := d + 28) (k := k) P rfl (fun c0 => ?_) (fun c1 => ?_) (fun c4 => ?_) (fun c4 => ?_) (fun c5 => ?_) (fun c6 => ?_) (fun c7 => ?_) (fun c8 => ?_) (fun c9 => ?_)
  · -- it is read
    have kk : κ = 0 ∨ κ = 2 ∨ κ = 5 := by
      rw [ac] at c0
      split at c0
      · omega
      · split at c0
        · omega
        · split at c0
          · split at c0 <;> omega
          · omega
    have LO := ENB.lko HC EB kk l0 ST o1 o3 (by omega)
    obtain ⟨⟨ty1, v1, R⟩, wh⟩ := LKO.rdv HC o1 o3 LO
    by_cases k5 : κ = 5
    · have na : ¬ X 53 f_Found_action 0 = 0 := by
        rw [ac, if_neg (by omega), if_neg (by omega), if_neg (by omega), if_pos k5]; decide
      by_cases t5 : ty1 = 5
      · subst t5
        exact pf_send (d := d + 26) P k5 hb na (by omega) f2 f3 p3 p4' p5' (by omega) gv o2 R wh q
      · exact pf_nofun (d := d + 27) P k5 na (by omega) f2 f3 p3 p4' p5' (by omega) gv o2 R wh t5 q
    · have a0 : X 53 f_Found_action 0 = 0 := by
        rw [ac, if_neg (by omega), if_neg (by omega), if_neg (by omega), if_neg k5]
      exact pf_read (d := d + 27) P (by omega) a0 (by omega) f2 f3 p3 p4' p5' (by omega) gv o2 R wh q
  · -- it is written
    have kk : κ = 1 ∨ κ = 3 := by
      rw [ac] at c1
      split at c1
      · omega
      · split at c1
        · omega
        · split at c1
          · assumption
          · split at c1 <;> omega
    have nn : ¬ (κ = 4 ∨ κ = 6) := by omega
    rw [if_neg (by omega), if_neg (by omega), if_pos kk] at ac
    have gd := GD'.resolve_left (fun z => nn z.1)
    obtain ⟨b1, ⟨b2, b3⟩, b4⟩ := EB.2.1 kk
    rcases b4 with ⟨w1, w2, w3⟩ | ⟨w1, w2, r', w3, w4, w5, w6⟩
    · have ⟨i, ei⟩ : ∃ i : Nat, e f_Md_which = (i : Int) := ⟨(e f_Md_which).toNat, by omega⟩
      rw [if_neg (by omega)] at ac
      refine pf_write (d := d + 25) (i := i) P kk ac (by omega) (by omega) (by omega) (by omega) (by omega) gv ?_ q
      obtain ⟨nk, n1, n2⟩ := cn
      rcases w2 with ⟨i', i1, i2, -⟩ | ⟨i1, -⟩
      · rw [← gd.2.1] at i2
        omega
      · omega
    · rw [if_pos (by omega)] at ac
      obtain ⟨m1, m2, m3⟩ := w6
      refine pf_append (d := d + 25) (j := r') P kk ac (by omega) (by omega) w5 ?_ (by omega) gv (by omega) ?_ hc q
      · rw [p6', w3]
        unfold crA
        rw [if_neg (by omega), Int.toNat_natCast]
      · rw [m3, en, ee]
        by_cases k1 : κ = 1
        · rw [if_neg (by omega), if_pos k1]
        · rw [if_pos (by omega), if_neg k1]
          exact gd.2.2
  · have kk : κ = 4 := by
      rw [ac] at c4
      split at c4
      · assumption
      · split at c4
        · omega
        · split at c4
          · split at c4 <;> omega
          · split at c4 <;> omega
    have := GD'.resolve_right (fun z => z.1 (Or.inl kk))
    exact ⟨by rw [gt]; exact this.2.1, gv⟩
  · have kk : κ = 4 := by
      rw [ac] at c4
      split at c4
      · assumption
      · split at c4
        · omega
        · split at c4
          · split at c4 <;> omega
          · split at c4 <;> omega
    have := GD'.resolve_right (fun z => z.1 (Or.inl kk))
    exact pf_call (d := d + 27) P kk hb (by omega) (by rw [gt]; exact this.2.1) gv q
  · have kk : κ = 6 := by
      rw [ac] at c5
      split at c5
      · omega
      · split at c5
        · assumption
        · split at c5
          · split at c5 <;> omega
          · split at c5 <;> omega
    have := GD'.resolve_right (fun z => z.1 (Or.inr kk))
    exact pf_new (d := d + 9) P NM kk hb (by omega) (by rw [gt]; exact this.2.1) gv q
  · exfalso
    rw [ac] at c6
    revert c6
    repeat' split
    all_goals decide
  · exfalso
    rw [ac] at c7
    revert c7
    repeat' split
    all_goals decide
  · exfalso
    rw [ac] at c8
    revert c8
    repeat' split
    all_goals decide
  · exfalso
    rw [ac] at c9
    revert c9
    repeat' split
    all_goals decide
end
