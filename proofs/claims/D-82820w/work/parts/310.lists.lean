/-! a list loses its last value; a value joins a list -/
set_option maxRecDepth 20000
section
variable {ρ : Nat → Nat} {d : Nat} {Q : QT} {Γ Γ' : GH} {h h' h2 : ah} {C ho a N tn sn k z s n j m r f sk rk : Nat} {S S' : SS} {L : List Nat} {P : List (Nat × Nat)} {X X' : X3} {Y : Y3} {b : Bool} {e t p' x y ty v : Int}
theorem BND.st (es : EXS (LPO.filter (fun f => !([f_Md_thingKind, f_Md_thingCount, f_Md_thingClass].elem f))) S S') (i7 : IN7 S S') : BND h C S h S' 0 0 := by
  have c : CHG S S' := ⟨Int.le_of_eq (es _ (by decide) _).symm, ⟨Int.le_of_eq (es _ (by decide) _).symm, fun s _ f hf => es f (by
    have : f = f_Md_shapeProto ∨ f = f_Md_shapeBefore ∨ f = f_Md_shapeName ∨ f = f_Md_shapeCount := by simpa using hf
    rcases this with rfl | rfl | rfl | rfl <;> decide) s⟩, Int.le_of_eq (es _ (by decide) _).symm, fun k _ w => ⟨(es _ (by decide) k).trans w, Or.inl ⟨es _ (by decide) k, es _ (by decide) k⟩⟩, i7⟩
  unfold BND WZ WS
  rw [es _ (by decide), es _ (by decide), es _ (by decide), es _ (by decide), es _ (by decide), es _ (by decide), es _ (by decide)]
  exact ⟨by omega, by omega, by omega, c, fun _ _ => rfl⟩
theorem CORE.pop (HC : CORE Γ h C ho X Y S N) (hk : (k : Int) < S f_Md_things 0) (kd : S f_Md_thingKind k = 6) (en : S f_Md_thingCount k = (n : Int)) (hn0 : 0 < n) : (CORE Γ (sI h f_Thing_size (hB h (C + 51) k) ((n - 1 : Nat) : Int)) C ho X Y (drS S k (n - 1) n) N ∧ ∀ {t o n' c r' : Nat}, CT Γ h C X Y S N t o n' c r' → CT Γ (sI h f_Thing_size (hB h (C + 51) k) ((n - 1 : Nat) : Int)) C X Y (drS S k (n - 1) n) N t o n' c r') ∧ GRO Γ Γ h (sI h f_Thing_size (hB h (C + 51) k) ((n - 1 : Nat) : Int)) C S (drS S k (n - 1) n) ∧ BND h C S (sI h f_Thing_size (hB h (C + 51) k) ((n - 1 : Nat) : Int)) (drS S k (n - 1) n) 0 0 ∧ Fr LHc [] 0 0 h (sI h f_Thing_size (hB h (C + 51) k) ((n - 1 : Nat) : Int)) := by
  have HC0 := HC
  obtain ⟨⟨G, F⟩, -, -, -, q2', q3, q4, q5, q6, q7, q8⟩ := HC0
  have gz := G.1
  have q7' := q7
  obtain ⟨tn, sn, c1, c2, c3, c4, c5, c6, c6', c7, c8, c9, c10⟩ := q7'
  have T0 := (c7 k (by omega)).p
  obtain ⟨TA, TB, TC, TD⟩ := T0
  have ad := TA.2.1.2.1
  have hi : n - 1 < n := by omega
  have un : ∀ x y, x < n → y < n → slS S k x = slS S k y → x = y := fun x y hx hy e => (c9 k x k y (by omega) (by omega) (by omega) (by omega) e).2
  obtain ⟨n', LK, en'⟩ := SLG.co HC hk
  have : n' = n := by omega
  subst this
  have fr : Fr [] [(f_Thing_size, hB h (C + 51) k)] 0 0 h (sI h f_Thing_size (hB h (C + 51) k) ((n' - 1 : Nat) : Int)) := Fr.wI (by decide) (Or.inr (by simp)) Fr.r0
  have p0 : ∀ y, (0, y) ∉ [(f_Thing_size, hB h (C + 51) k)] := fun y c => by simp at c
  have szz : hI (sI h f_Thing_size (hB h (C + 51) k) ((n' - 1 : Nat) : Int)) f_Thing_size (hB h (C + 51) k) = ((n' - 1 : Nat) : Int) := I_I _ _ _ _
  have fo : ∀ f x, f ≠ f_Thing_size → hI (sI h f_Thing_size (hB h (C + 51) k) ((n' - 1 : Nat) : Int)) f x = hI h f x := fun f x hf => I_Ine hf
  have fR : ∀ f x, hR (sI h f_Thing_size (hB h (C + 51) k) ((n' - 1 : Nat) : Int)) f x = hR h f x := fun _ _ => rfl
  have fK : ∀ x, hK (sI h f_Thing_size (hB h (C + 51) k) ((n' - 1 : Nat) : Int)) x = hK h x := fun _ => rfl
  have fl : ∀ x, hl (sI h f_Thing_size (hB h (C + 51) k) ((n' - 1 : Nat) : Int)) x = hl h x := fun _ => rfl
  have fA : ∀ x i, hA (sI h f_Thing_size (hB h (C + 51) k) ((n' - 1 : Nat) : Int)) x i = hA h x i := fun _ _ => rfl
  have fB : ∀ x i, hB (sI h f_Thing_size (hB h (C + 51) k) ((n' - 1 : Nat) : Int)) x i = hB h x i := fun _ _ => rfl
  have o0 : ∀ f x, [f_Md_thingFirst, f_Md_slotNext, f_Md_thingCount, f_Md_thingLast].elem f = false → drS S k (n' - 1) n' f x = S f x := fun f x hf => drS_o hf
  have ok : ∀ j, j ≠ k → ∀ f, LTT.elem f = true → drS S k (n' - 1) n' f j = S f j := fun j hj f hf => drS_k hj (by rintro rfl; exact absurd hf (by decide))
  have ecn : drS S k (n' - 1) n' f_Md_thingCount k = ((n' - 1 : Nat) : Int) := drS_c
  have slk : ∀ x, x < n' - 1 → slS (drS S k (n' - 1) n') k x = slS S k x := fun x hx => by
    rw [drS_sl LK hi un x hx, if_pos hx]
  have snx : ∀ m, (n' - 1 = 0 ∨ m ≠ slS S k (n' - 1 - 1)) → drS S k (n' - 1) n' f_Md_slotNext m = S f_Md_slotNext m := fun m hm => drS_n hm
  have sfi : drS S k (n' - 1) n' f_Md_thingFirst k = if n' - 1 = 0 then S f_Md_slotNext (slS S k 0) else S f_Md_thingFirst k := by
    rw [drS_x (Or.inl rfl)]
    unfold dr1
    split
    · rw [u2_s]
    · rw [u2_f (by decide)]
  have sla : drS S k (n' - 1) n' f_Md_thingLast k = if n' - 1 = n' - 1 ∧ 0 < n' - 1 then (slS S k (n' - 1 - 1) : Int) else S f_Md_thingLast k := by
    unfold drS
    split
    · rw [u2_s]
    · unfold dr2; rw [u2_f (by decide), dr1_o (by decide) (by decide)]
  have slo : ∀ j, j ≠ k → (j : Int) < S f_Md_things 0 → ∀ x : Nat, (x : Int) < S f_Md_thingCount j → slS (drS S k (n' - 1) n') j x = slS S j x := fun j hj hjt x => by
    induction x with
    | zero => intro _; show (drS S k (n' - 1) n' _ j).toNat = _; rw [ok j hj _ (by decide)]; rfl
    | succ x ih =>
      intro hx
      show (drS S k (n' - 1) n' _ (slS (drS S k (n' - 1) n') j x)).toNat = _
      rw [ih (by omega), snx _ (by
        by_cases i0 : n' - 1 = 0
        · exact Or.inl i0
        · exact Or.inr (fun c => hj (c9 j x k (n' - 1 - 1) (by omega) (by omega) (by omega) (by omega) c).1))]
      rfl
  generalize sI h f_Thing_size (hB h (C + 51) k) ((n' - 1 : Nat) : Int) = h3 at *
  generalize drS S k (n' - 1) n' = S1 at *
  have g : GRO Γ Γ h h3 C S S1 := GRO.fr (exs_of o0 (by decide)) G F fr (by unfold DJ; rfl) p0
  have kt : THC Γ h3 C ho S1 N := by
    refine THC.mod (k := k) q7 G F g fr (by unfold DJ; rfl) (fun q hq => by simp at hq; rw [hq]) p0 hk (fun x _ => fB _ _) (exs_of o0 (by decide)) ok (fun j hj hjt x hx f hf => ?_) (Int.le_of_eq (o0 _ _ (by decide)).symm) (Int.le_of_eq (o0 _ _ (by decide)).symm) (fun A => A.ext (exs_of o0 (by decide))) (fun tn' sn' et es e51 e52 c8' T => ?_) (fun a9 j x j' x' h1 h2 h3 h4 h5 => ?_)
    · have : f = f_Md_slotType ∨ f = f_Md_slotValue ∨ f = f_Md_slotName ∨ f = f_Md_slotNext := by unfold LSL at hf; simpa using hf
      rcases this with rfl | rfl | rfl | rfl
      · exact o0 _ _ (by decide)
      · exact o0 _ _ (by decide)
      · exact o0 _ _ (by decide)
      · refine snx _ ?_
        by_cases i0 : n' - 1 = 0
        · exact Or.inl i0
        · exact Or.inr (fun c => hj (c9 j x k (n' - 1 - 1) (by omega) (by omega) (by omega) (by omega) c).1)
    · have A2 := TA.keep g (e51 k) (fun f hf => o0 f k (by
        have : f = f_Md_thingKind ∨ f = f_Md_thingFunction ∨ f = f_Md_thingAround ∨ f = f_Md_thingClass := by simpa using hf
        rcases this with rfl | rfl | rfl | rfl <;> decide)) (fo _ _ (by decide)) (fun f _ => fR _ _) (fK _) (fr.lt ad) (fun x _ => fB _ _)
      have sne : sn' = sn := by omega
      subst sne
      obtain ⟨b6, b7, ⟨b8, b9, b10, b11, b12, b13, b14⟩, b15, b16, b17⟩ := TB
      have B2 : TB1 Γ h3 C S1 N k := by
        unfold TB1
        rw [e51, ecn, szz, fR, fR, fK, fK, fl, fl, o0 f_Md_slots 0 (by decide)]
        refine ⟨rfl, by omega, ⟨b8, b9, b10, b11, b12, by omega, b14⟩, fun x hx => ?_, fun w => ?_, fun x hx => ?_⟩
        · rw [slk x (by omega), o0 f_Md_slotType _ (by decide), o0 f_Md_slotValue _ (by decide), fA, fA]
          exact ⟨(b15 x (by omega)).1, g.vr (b15 x (by omega)).2⟩
        · rw [sfi, sla, Int.toNat_natCast, slk (n' - 1 - 1) (by omega), if_neg (by omega), if_pos ⟨rfl, by omega⟩]
          exact ⟨(b16 (by omega)).1, rfl⟩
        · rw [slk x (by omega), snx _ (Or.inr (fun c => by have := un x (n' - 1 - 1) (by omega) (by omega) c; omega))]
          exact b17 x (by omega)
      have C2 : TC1 h3 C S1 sn' k := by
        unfold TC1
        rw [e51, o0 f_Md_thingKind k (by decide), ecn]
        refine ⟨fun q => by omega, fun q x hx => ?_⟩
        rw [slk x (by omega), o0 f_Md_slotName _ (by decide)]
        exact TC.2 q x (by omega)
      have D2 : TD1 h3 C S1 sn' k := TD.keep (e51 k) (fun s _ => e52 s) (fun f hf => o0 f k (by
        have : f = f_Md_thingKind ∨ f = f_Md_isWatched ∨ f = f_Md_epoch ∨ f = f_Md_changedAt := by simpa using hf
        rcases this with rfl | rfl | rfl | rfl <;> decide)) (Int.le_of_eq (o0 _ _ (by decide)).symm) (rooB_k (fun s hs => ⟨o0 _ _ (by decide), o0 _ _ (by decide)⟩)) (fun f hf => fo _ _ (by
        rintro rfl; exact absurd hf (by decide))) (fR _ _)
      exact TH1.mk A2 B2 C2 D2
    · -- slots are told apart
      have cnt : ∀ j, j ≠ k → S1 f_Md_thingCount j = S f_Md_thingCount j := fun j hj => ok j hj _ (by decide)
      by_cases q1 : j = k <;> by_cases q2 : j' = k
      · subst q1 q2
        rw [ecn] at h3 h4
        rw [slk x (by omega), slk x' (by omega)] at h5
        exact ⟨rfl, un x x' (by omega) (by omega) h5⟩
      · subst q1
        rw [ecn] at h3
        rw [cnt j' q2] at h4
        rw [slk x (by omega), slo j' q2 h2 x' h4] at h5
        exact absurd (a9 j x j' x' h1 h2 (by omega) h4 h5).1.symm q2
      · subst q2
        rw [ecn] at h4
        rw [cnt j q1] at h3
        rw [slo j q1 h1 x h3, slk x' (by omega)] at h5
        exact absurd (a9 j x j' x' h1 h2 h3 (by omega) h5).1 q1
      · rw [cnt j q1] at h3
        rw [cnt j' q2] at h4
        rw [slo j q1 h1 x h3, slo j' q2 h2 x' h4] at h5
        exact a9 j x j' x' h1 h2 h3 h4 h5
  refine ⟨HC.mv (S' := S1) (X' := X) fr g (exs_of o0 (by decide)) EXX.rf p0 (by unfold DJ; rfl) (by unfold DJ; rfl) (by unfold DJ; rfl) (by unfold DJ; rfl) (exs_of o0 (by decide)) (Int.le_of_eq (o0 _ _ (by decide)).symm) (q2'.ext g (exs_of o0 (by decide)) EXX.rf (ac_len G fr (by decide) (by unfold DJ; rfl)) (ac_len G fr (by decide) (by unfold DJ; rfl)) (ac_len G fr (by decide) (by unfold DJ; rfl))) (q3.ext (C := C) G.2.1 g (exs_of o0 (by decide)) fr (by unfold DJ; rfl) (by unfold DJ; rfl) p0) (q4.ext g (exs_of o0 (by decide)) EXX.rf (ac_len G fr (by decide) (by unfold DJ; rfl)) (ac_len G fr (by decide) (by unfold DJ; rfl)) (ac_len G fr (by decide) (by unfold DJ; rfl))) (q5.ext (exs_of o0 (by decide)) EXX.rf (ac_len G fr (by decide) (by unfold DJ; rfl)) (ac_len G fr (by decide) (by unfold DJ; rfl)) (ac_len G fr (by decide) (by unfold DJ; rfl))) (q6.ext (exs_of o0 (by decide)) EXX.rf) kt (by unfold DJ; rfl), g, ((BND.fr G F (q7.thk G) EXS.rf fr (by unfold DJ; rfl) (by unfold DJ; rfl) p0).tr (BND.st (exs_of o0 (by decide)) ⟨fun j hj => ⟨o0 _ _ (by decide), fun w => have c : j ≠ k := fun c => absurd (c ▸ w) (by rw [kd]; decide); ⟨ok j c _ (by decide), ok j c _ (by decide)⟩⟩, fun j h1 h2 => absurd h2 (by rw [o0 _ _ (by decide)]; omega), fun c => o0 _ _ (by decide)⟩)).le (by omega) (by omega), ?_⟩
  have wl : f_Thing_size ∈ LHc := by decide
  refine (Fr.into (L := LHc) (P := []) Fr.r0 fr (fun f q => by cases q) (fun q hq => Or.inr (Or.inl ?_))).le (by omega) (by omega)
  simp at hq
  subst hq
  exact ⟨Nat.le_of_ble_eq_true rfl, wl⟩
theorem adpS_ads (hw : S f_Md_isWatched k = 0) : adpS S k sk rk n (-1) ty v (S f_Md_thingShape k) = adsS S k sk rk n (-1) ty v := by
  have e1 : u2 (adsS S k sk rk n (-1) ty v) f_Md_thingShape k (S f_Md_thingShape k) = adsS S k sk rk n (-1) ty v := by
    funext f i
    rw [u2_e]
    split
    · next w => rw [w.1, w.2, adsS_o (by decide)]
    · rfl
  unfold adpS grwS
  rw [e1, adsS_o (by decide), if_pos hw]
/-- a value joins a list: from the place on where the room was taken -/
theorem r_addr (HC : CORE Γ h C ho X Y S N) (hk : (k : Int) < S f_Md_things 0) (kd : S f_Md_thingKind k = 6) (en : S f_Md_thingCount k = (n : Int)) (esk : S f_Md_slots 0 = (sk : Int)) (erk : S f_Md_allSlots 0 = (rk : Int)) (hr : rk < 60000) (hc : S f_Md_changes 0 + 1 ≤ 1000000) (V : VR Γ S N x y ty v) (q1 : ∀ h3 z s, ((CORE Γ h3 C ho (u3 X 50 f_Heap_room 0 ((rk + 1 : Nat) : Int)) Y (adsS S k sk rk n (-1) ty v) N ∧ ∀ {t o n' c r' : Nat}, CT Γ h C X Y S N t o n' c r' → CT Γ h3 C (u3 X 50 f_Heap_room 0 ((rk + 1 : Nat) : Int)) Y (adsS S k sk rk n (-1) ty v) N t o n' c r') ∧ GRO Γ Γ h h3 C S (adsS S k sk rk n (-1) ty v) ∧ BND h C S h3 (adsS S k sk rk n (-1) ty v) 1 0 ∧ Fr LHc [] z s h h3) → Q (Sum.inl none) (cc h3 C (u3 X 50 f_Heap_room 0 ((rk + 1 : Nat) : Int)) Y)) : wpB PGm ρ (d + 10) m_Thing_add 0 [(0, vR (hB h (C + 51) k)), (1, vI x), (2, vL y)] [] (cc h C (u3 X 50 f_Heap_room 0 ((rk + 1 : Nat) : Int)) Y) Q := by
  have G := HC.1.1
  have F := HC.1.2
  obtain ⟨tn, sn, sm', d1, d2, d5, d6', d3, d4, d6, d7, d8, U, m1, m2, m3, m4⟩ := HC.shp
  have TH := (d7 k (by omega)).p
  obtain ⟨ta1, ⟨ta2, ta3, ta4⟩, -⟩ := TH.1
  obtain ⟨tb1, tb2, ⟨tb3, tb4, tb5, tb6, tb7, tb8, tb9⟩, tb10, -⟩ := TH.2.1
  have wz := TH.2.2.2.2.2.1 (Or.inl kd)
  have k4 : hK h (hB h (C + 51) k) ∈ [244, 245, 246, 249] := by rw [ta2, kd]; decide
  have A1 : TA (cc h C (u3 X 50 f_Heap_room 0 ((rk + 1 : Nat) : Int)) Y) (hB h (C + 51) k) n (hl h (hR h f_Thing_words (hB h (C + 51) k))) := by
    refine ⟨k4, ta3, ?_, ?_, ?_, by omega, tb9⟩
    · rw [ccIo (by decide)]; omega
    · rw [ccRo (by decide)]; exact ⟨tb3, tb4, rfl⟩
    · rw [ccRo (by decide)]; exact ⟨tb5, tb6, tb7⟩
  refine t_add (cc_INJ G.2.1) A1 (by omega) (by omega) V.tg (fun H' l' f' fz A2 el c1 c2 => ?_)
  obtain ⟨G2, F2, E2, R2⟩ := matP G F f' (dj_PTA (by decide)) (fun y => by unfold PTA; simp [f_Thing_words, f_Thing_tags, f_Thing_size])
  rw [List.append_nil] at R2
  have fr := R2.mono (L' := LCC) (P' := PA8 (hB h (C + 51) k)) (fun _ q => q) (fun q hq => by unfold PTA at hq; unfold PA8; simp at hq ⊢; rcases hq with rfl | rfl | rfl | rfl | rfl <;> simp)
  have J : SLJ h (hB h (C + 51) k) n l' x y H' := by
    refine ⟨A2, fz, fun i hi => ?_, fun i hi => ?_⟩
    · rw [c1 i hi, ccRo (by decide), ccAo G (by decide) ta3]
    · rw [c2 i hi, ccRo (by decide), ccAo G (by decide) ta3]
  have R := CORE.sla (nm := -1) (r := 0) (sh := S f_Md_thingShape k) (b := !(S f_Md_isWatched k == 0)) HC hk en esk erk hr hc V fr J rfl (Or.inr ⟨Or.inl kd, rfl, rfl⟩) (by rw [kd]; decide)
  have eb : (!(S f_Md_isWatched k == 0)) = false := by rw [wz]; rfl
  have eX : ∀ {X : X3} {u : Int}, grwX X false u = X := fun {X u} => if_neg (by decide)
  rw [adpS_ads wz, eb, eX] at R
  rw [← E2]
  exact q1 H' _ _ R
end
