/-! C: what a method tells of is found out once -/
set_option maxRecDepth 20000
def LKN : List Nat := [f_Member_isKnown, f_Member_field, f_Member_sets]
/-- a method is known now -/
def KNW (h : ah) (ho : Nat) (g : HG) (M m : Nat) (H : ah) : Prop := (∃ z s, Fr LKN [] z s h H ∧ z = 0 ∧ s = 0) ∧ (∀ a i, hB H a i = hB h a i) ∧ MMO H ho g M ∧ hR H f_Member_field (hB h (ho + 3) m) = adO h ho (kwO g m) ∧ hI H f_Member_sets (hB h (ho + 3) m) = kwS g m
section
variable {ρ : Nat → Nat} {d : Nat} {Q : QT} {h h1 h' H : ah} {C ho N M k n m r i j nm nw o f z s a : Nat} {g : HG} {pf L bs : List Int} {hw : List (List Int)} {F : Int → ah → Prop} {E : Nat → ah → Prop} {FR : Nat → ah → Prop} {ty c x : Int} {X : X3} {Y : Y3} {LL : List Nat} {Pp : List (Nat × Nat)}
theorem toG_lt (W : HWF g N M) (hc : g.1 5 m < (N : Int)) (e : toG g m pf ty = some f) : f < M ∧ g.1 6 f = 0 ∧ g.1 8 f = ty ∧ g.1 7 f = g.1 7 m ∧ fldG g (-1) (smL pf.length (g.2 3 m)) 61 (g.1 5 m) = some f := by
  unfold toG at e
  split at e
  · split at e
    · cases e
    · next f' ef =>
      obtain ⟨f1, f2⟩ := fld_lt W hc ef
      split at e
      · next c =>
        cases e
        unfold fbB at f2
        simp only [Bool.and_eq_true, decide_eq_true_eq] at f2
        exact ⟨f1, f2.1, c.1, c.2, ef⟩
      · cases e
  · cases e
theorem kwO_lt (W : HWF g N M) (hc : g.1 5 m < (N : Int)) (e : kwO g m = some f) : f < M ∧ g.1 6 f = 0 ∧ g.1 7 f = g.1 7 m ∧ ∃ Wd, fldG g (-1) Wd 61 (g.1 5 m) = some f := by
  have key : ∀ {pf ty}, toG g m pf ty = some f → f < M ∧ g.1 6 f = 0 ∧ g.1 7 f = g.1 7 m ∧ ∃ Wd, fldG g (-1) Wd 61 (g.1 5 m) = some f := fun {pf ty} e => by
    obtain ⟨a1, a2, a3, a4, a5⟩ := toG_lt W hc e
    exact ⟨a1, a2, a4, _, a5⟩
  unfold kwO at e
  split at e
  · split at e
    · next f' ef => cases e; exact key ef
    · split at e
      · exact key e
      · cases e
  · split at e
    · exact key e
    · cases e
theorem KNW.mk (HX : HCX ρ h ho g N M hw) (MM : MMO h ho g M) (hm : m < M) (fr : Fr LKN [] 0 0 h H) (eb : ∀ a i, hB H a i = hB h a i) (oth : ∀ a, a ≠ hB h (ho + 3) m → hI H f_Member_isKnown a = hI h f_Member_isKnown a ∧ hR H f_Member_field a = hR h f_Member_field a ∧ hI H f_Member_sets a = hI h f_Member_sets a) (k1 : hI H f_Member_isKnown (hB h (ho + 3) m) = 1) (k2 : hR H f_Member_field (hB h (ho + 3) m) = adO h ho (kwO g m)) (k3 : hI H f_Member_sets (hB h (ho + 3) m) = kwS g m) : KNW h ho g M m H := by
  refine ⟨⟨0, 0, fr, rfl, rfl⟩, eb, fun m' hm' => ?_, k2, k3⟩
  have ea : ∀ x, adO H ho x = adO h ho x := fun x => by
    cases x with
    | none => rfl
    | some f => exact eb _ _
  rw [eb, ea]
  by_cases w : m' = m
  · subst w
    exact Or.inr ⟨k1, k2, k3⟩
  · obtain ⟨o1, o2, o3⟩ := oth (hB h (ho + 3) m') (fun c => w (HX.mad _ _ hm' hm c))
    rw [o1, o2, o3]
    exact MM m' hm'
theorem r_know (G : AC h C) (F0 : FC h C) (HX : HCX ρ h ho g N M hw) (WF : HWF g N M) (yh : Y 32 f_Machine_host 0 = ho) (ST : STM ρ h) (MM : MMO h ho g M) (hm : m < M) (k6 : ¬ g.1 6 m = 2) (L30 : (g.2 3 m).length ≤ 32) (lr : ∀ i, i < (g.2 3 m).length → 0 ≤ (g.2 3 m).getD i 0 ∧ (g.2 3 m).getD i 0 ≤ 127) (q : ∀ H X', KNW h ho g M m H → (∀ o f i, f ≠ f_Machine_small → X' o f i = X o f i) → Q (Sum.inl none) (cc H C X' Y)) : wpB PGm ρ (d + 14) m_Machine_know 0 [(0, vR (C + 32)), (1, vR (hB h (ho + 3) m))] [] (cc h C X Y) Q := by
  obtain ⟨⟨m1, m2, m3⟩, m4, -, -, mt, -, -, ms, -, -, mv, -, ⟨p1, p2, p3, p4, p5, p6, p7⟩⟩ := HX.me hm
  have M0 := MM m hm
  have W := WF.1
  have W2 := WF.2.1
  have c5 := (HX.me hm).2.2.2.2.2.2.1.2.1
  have hh := HX.hh
  have s19 : SOK h (ρ 19) xGET := ST (19, xGET) (by unfold txM; simp [xGET])
  have s20 : SOK h (ρ 20) xIS := ST (20, xIS) (by unfold txM; simp [xIS])
  have s21 : SOK h (ρ 21) xSET := ST (21, xSET) (by unfold txM; simp [xSET])
  generalize ea : hB h (ho + 3) m = a at *
  have si : ∀ b (v : Nat), hI (sR (sI h f_Member_isKnown a 1) f_Member_field a v) f_Member_sets b = hI h f_Member_sets b := fun b v => I_Ine (h := h) (f := f_Member_isKnown) (a := a) (v := 1) (g := f_Member_sets) (b := b) (by decide)
  -- a heap in which only what is known of a method has changed
  have wk : ∀ {H : ah} {X' : X3}, Fr LKN [] 0 0 h H → (∀ b i, hB H b i = hB h b i) → (AC H C ∧ FC H C ∧ HCX ρ H ho g N M hw ∧ hB H (ho + 3) m = a ∧ hI (cc H C X' Y) f_Member_type a = g.1 8 m ∧ hI (cc H C X' Y) f_Member_variable a = g.1 9 m ∧ (1 ≤ hK (cc H C X' Y) (hR (cc H C X' Y) f_Member_parameters a) ∧ hK (cc H C X' Y) (hR (cc H C X' Y) f_Member_parameters a) < 100) ∧ hl (cc H C X' Y) (hR (cc H C X' Y) f_Member_parameters a) = (g.2 2 m).length ∧ (0 < (g.2 2 m).length → hA (cc H C X' Y) (hR (cc H C X' Y) f_Member_parameters a) 0 = (g.2 2 m).getD 0 0 ∧ hK (cc H C X' Y) (hR (cc H C X' Y) f_Member_parameters a) ∈ [1, 11]) ∧ hK (cc H C X' Y) a = k_Member) := fun {H X'} fr eb => by
    have G' := G.frm fr (by unfold DJ; decide)
    have F' := F0.frm G fr (by unfold DJ; decide) (by simp)
    have HX' : HCX ρ H ho g N M hw := HX.fr fr (by unfold DJ; decide) (fun y c => by simp at c)
    obtain ⟨⟨m1', -, -⟩, -, -, -, mt', -, -, -, -, -, mv', -, ⟨p1', p2', p3', p4', p5', p6', p7'⟩⟩ := (HX'.ccx (X := X') (Y := Y) G').me hm
    have e3 : hB (cc H C X' Y) (ho + 3) m = a := by rw [(HX'.ccB G').2, eb, ea]
    rw [e3] at m1' mt' mv' p4' p5' p7'
    exact ⟨G', F', HX', by rw [eb, ea], mt', mv', ⟨by rw [p4']; decide, by rw [p4']; decide⟩, p5', fun l => ⟨p7' 0 l, by rw [p4']; decide⟩, m1'⟩
  have ads : ∀ {H : ah}, (∀ b i, hB H b i = hB h b i) → ∀ x, adO H ho x = adO h ho x := fun {H} eb x => by
    cases x with
    | none => rfl
    | some f => exact eb _ _
  have kis : hI (cc h C X Y) f_Member_isKnown a = hI h f_Member_isKnown a := ccIo (by decide)
  rcases M0 with ⟨k1, k2, k3⟩ | ⟨k1, k2, k3⟩
  · have fr1 : Fr LKN [] 0 0 h (sI h f_Member_isKnown a 1) := Fr.wL (by decide) Fr.r0
    have eb1 : ∀ b i, hB (sI h f_Member_isKnown a 1) b i = hB h b i := fun _ _ => rfl
    obtain ⟨G1, F1, HX1, a1, t1, v1, b1, l1, c1, n1⟩ := wk (X' := X) fr1 eb1
    have kM1 : hK (cc (sI h f_Member_isKnown a 1) C X Y) (C + 32) = k_Machine := F1.1.1
    -- nothing more is to be done
    have done : kwO g m = none → kwS g m = 0 → Q (Sum.inl none) (cc (sI h f_Member_isKnown a 1) C X Y) := fun e1 e2 => by
      exact q (sI h f_Member_isKnown a 1) X (KNW.mk HX MM hm fr1 eb1 (fun b hb => ⟨I_Ine' (by rw [← ea]; exact hb), rfl, by rw [I_Ine (by decide)]⟩) (by rw [ea]; exact I_I _ _ _ _) (by rw [ea, e1]; exact k2) (by rw [ea, e2, I_Ine (by decide)]; exact k3)) (fun _ _ _ _ => rfl)
    refine b_Machine_know_0 (d := d + 13) ⟨m1, fun _ => ?_, fun c => absurd (kis.trans k1) c⟩
    rw [cc_sIo (by decide)]
    show (1 ≤ hK (cc (sI h f_Member_isKnown a 1) C X Y) (hR (cc (sI h f_Member_isKnown a 1) C X Y) f_Member_parameters a) ∧ _) ∧ _
    rw [l1, t1]
    have g75 : ¬ ((g.2 2 m).length = 0 ∧ ¬ g.1 8 m = 0) → wpB PGm ρ (d + 14) m_Machine_know 75 [(0, vR (C + 32)), (1, vR a)] [] (cc (sI h f_Member_isKnown a 1) C X Y) Q := fun nc => by
      refine b_Machine_know_75 (d := d + 13) ⟨n1, b1, ?_⟩
      rw [l1, t1, v1]
      refine ⟨fun c => done (by unfold kwO; rw [if_neg nc, if_neg (fun w => c (by rw [w.1]; rfl))]) (by unfold kwS; rw [if_neg (fun w => c (by rw [w.1]; rfl))]), fun c => ⟨fun c2 => done (by unfold kwO; rw [if_neg nc, if_neg (fun w => c2 w.2.1)]) (by unfold kwS; rw [if_neg (fun w => c2 w.2.1)]), fun c2 => ⟨fun c3 => done (by unfold kwO; rw [if_neg nc, if_neg (fun w => c3 w.2.2)]) (by unfold kwS; rw [if_neg (fun w => c3 w.2.2)]), fun c3 => ?_⟩⟩⟩
      have c' : (g.2 2 m).length = 1 := by omega
      obtain ⟨c4, c5⟩ := c1 (by omega)
      have kO : kwO g m = toG g m xSET ((g.2 2 m).getD 0 0) := by unfold kwO; rw [if_neg nc, if_pos ⟨c', c2, c3⟩]
      have kS : kwS g m = 1 := by unfold kwS; rw [if_pos ⟨c', c2, c3⟩]
      rw [c4]
      have := r_told (ρ := ρ) (d := d) (X := X) (FR := fun x22 h17 => hK h17 a = k_Member ∧ Q (Sum.inl none) (sI (sR h17 f_Member_field a x22) f_Member_sets a 1)) (E := fun e20 h19 => hK h19 e20 ≠ 0 ∧ Q (Sum.inr e20) h19) (ty := (g.2 2 m).getD 0 0) G1 F1 HX1 W W2 yh (s21.fr fr1 (by simp)) (by decide) hm k6 L30 lr (fun bs => by
        rw [cc_sRo (by decide), cc_sIo (by decide), ads eb1, ← kO]
        refine ⟨n1, q _ _ (KNW.mk HX MM hm (Fr.wL (by decide) (Fr.wR (Or.inl (by decide)) (by unfold own; decide) fr1)) (fun _ _ => rfl) (fun b hb => ?_) ?_ ?_ ?_) (fun _ _ _ hf => smX_o hf)⟩
        · rw [ea] at hb
          exact ⟨by rw [I_Ine (by decide)]; exact I_Ine' hb, R_Rne' hb, by rw [I_Ine' hb]; exact si b 0⟩
        · rw [ea, I_Ine (by decide)]; exact I_I _ _ _ _
        · rw [ea]; exact R_R _ _ _ _
        · rw [ea, kS]; exact I_I _ _ _ _)
      rw [a1] at this
      exact ⟨⟨c5, Int.le_refl _, by omega⟩, kM1, this⟩
    refine ⟨b1, fun c => g75 (fun w => c (by rw [w.1]; rfl)), fun c => ⟨fun c2 => g75 (fun w => w.2 c2), fun c2 => ⟨kM1, ?_⟩⟩⟩
    have c' : (g.2 2 m).length = 0 ∧ ¬ g.1 8 m = 0 := ⟨by omega, c2⟩
    have kS : kwS g m = 0 := by unfold kwS; rw [if_neg (fun w => c2 w.2.2)]
    have := r_told (ρ := ρ) (d := d) (X := X) (ty := g.1 8 m) (FR := fun x23 h18 => hK h18 a = k_Member ∧ ((¬ hR (sR h18 f_Member_field a x23) f_Member_field a = 0 → Q (Sum.inl none) (sR h18 f_Member_field a x23)) ∧ (hR (sR h18 f_Member_field a x23) f_Member_field a = 0 → ((¬ hI (sR h18 f_Member_field a x23) f_Member_type a = 3 → Q (Sum.inl none) (sR h18 f_Member_field a x23)) ∧ (hI (sR h18 f_Member_field a x23) f_Member_type a = 3 → hK (sR h18 f_Member_field a x23) (C + 32) = k_Machine ∧ wpB PGm ρ (d + 13) m_Machine_told 0 [(0, vR (C + 32)), (1, vR a), (2, vR (ρ 20)), (3, vI 3)] [] (sR h18 f_Member_field a x23) (cR (fun x42 h37 => hK h37 a = k_Member ∧ Q (Sum.inl none) (sR h37 f_Member_field a x42)) (fun e40 h39 => hK h39 e40 ≠ 0 ∧ Q (Sum.inr e40) h39))))))) (E := fun e21 h20 => hK h20 e21 ≠ 0 ∧ Q (Sum.inr e21) h20) G1 F1 HX1 W W2 yh (s19.fr fr1 (by simp)) (by decide) hm k6 L30 lr (fun bs => by
      rw [cc_sRo (by decide), ads eb1]
      have fr2 : ∀ {v : Nat}, Fr LKN [] 0 0 h (sR (sI h f_Member_isKnown a 1) f_Member_field a v) := fun {v} => Fr.wR (Or.inl (by decide)) (by unfold own; decide) fr1
      have knw : ∀ {v : Nat}, v = adO h ho (kwO g m) → KNW h ho g M m (sR (sI h f_Member_isKnown a 1) f_Member_field a v) := fun {v} ev => KNW.mk HX MM hm fr2 (fun _ _ => rfl) (fun b hb => by
          rw [ea] at hb
          exact ⟨I_Ine' hb, R_Rne' hb, si _ _⟩) (by rw [ea]; exact I_I _ _ _ _) (by rw [ea, R_R]; exact ev) (by rw [ea, kS]; exact (si _ _).trans k3)
      have rf : ∀ {v : Nat} {X' : X3}, hR (cc (sR (sI h f_Member_isKnown a 1) f_Member_field a v) C X' Y) f_Member_field a = v := fun {v X'} => by rw [ccRo (by decide)]; exact R_R _ _ _ _
      obtain ⟨G2, F2, HX2, a2, t2, v2, b2, l2, c2', n2⟩ := wk (X' := smX X bs) (fr2 (v := adO h ho (toG g m xGET (g.1 8 m)))) (fun _ _ => rfl)
      rw [rf, t2]
      refine ⟨n1, fun c3 => q _ _ (knw ?_) (fun _ _ _ hf => smX_o hf), fun c3 => ⟨fun c4 => q _ _ (knw ?_) (fun _ _ _ hf => smX_o hf), fun c4 => ⟨F2.1.1, ?_⟩⟩⟩
      · unfold kwO
        rw [if_pos c']
        cases e : toG g m xGET (g.1 8 m) with
        | none => rw [e] at c3; exact absurd rfl c3
        | some f => rfl
      · unfold kwO
        rw [if_pos c', if_neg c4]
        cases e : toG g m xGET (g.1 8 m) with
        | none => rfl
        | some f => rfl
      · have kO : adO h ho (toG g m xIS 3) = adO h ho (kwO g m) := by
          unfold kwO
          rw [if_pos c', if_pos c4]
          cases e : toG g m xGET (g.1 8 m) with
          | none => rfl
          | some f =>
            rw [e] at c3
            have fM : f < M := (toG_lt WF c5 e).1
            exact absurd c3 (HX.me fM).1.2.2
        have := r_told (ρ := ρ) (d := d) (X := smX X bs) (ty := 3) (FR := fun x42 h37 => hK h37 a = k_Member ∧ Q (Sum.inl none) (sR h37 f_Member_field a x42)) (E := fun e40 h39 => hK h39 e40 ≠ 0 ∧ Q (Sum.inr e40) h39) G2 F2 HX2 W W2 yh (s20.fr fr2 (by simp)) (by decide) hm k6 L30 lr (fun bs2 => by
          rw [cc_sRo (by decide), ads (H := sR (sI h f_Member_isKnown a 1) f_Member_field a (adO h ho (toG g m xGET (g.1 8 m)))) (fun _ _ => rfl), kO]
          refine ⟨n2, q _ _ (KNW.mk HX MM hm (Fr.wR (Or.inl (by decide)) (by unfold own; decide) fr2) (fun _ _ => rfl) (fun b hb => ?_) ?_ ?_ ?_) (fun _ _ _ hf => (smX_o hf).trans (smX_o hf))⟩
          · rw [ea] at hb
            exact ⟨I_Ine' hb, (R_Rne' hb).trans (R_Rne' hb), si b 0⟩
          · rw [ea]; exact I_I _ _ _ _
          · rw [ea]; exact R_R _ _ _ _
          · rw [ea, kS]; exact (si a 0).trans k3)
        rw [a2] at this
        exact this)
    rw [a1] at this
    exact this
  · have := q h X ⟨⟨0, 0, Fr.r0, rfl, rfl⟩, fun _ _ => rfl, MM, by rw [ea]; exact k2, by rw [ea]; exact k3⟩ (fun _ _ _ _ => rfl)
    exact b_Machine_know_0 (d := d + 13) ⟨m1, fun c => absurd (kis.symm.trans c) (by rw [k1]; decide), fun _ => this⟩
end
