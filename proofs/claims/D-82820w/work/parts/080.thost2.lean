/-! T: host() -/
set_option maxRecDepth 20000
/-- the outer object: its tape, its halt, two hosts -/
def TMO (h : ah) (T k k2 : Nat) (tp : List Int) : Prop := hK h T = k_Md ∧ TT h T ∧ (hR h f_Md_halt T = T + 1 ∧ hK h (T + 1) = k_MdHalt ∧ T + 1 < hz h) ∧ hI h f_Md_taped T = (tp.length : Int) ∧ okTp tp ∧ (∀ i, i < tp.length → hA h (hR h f_Md_tape T) i = tp.getD i 0) ∧ hR h f_Md_host T = k ∧ hR h f_Md_spare T = k2 ∧ (TH h k ∧ hK h k = k_MdHost) ∧ (TH h k2 ∧ hK h k2 = k_MdHost) ∧ T ≠ k ∧ T ≠ k2 ∧ k ≠ k2
/-- T's host stands for g -/
def THO (h : ah) (k : Nat) (g : HG) (n m : Nat) (tp : List Int) : Prop := (TH h k ∧ hK h k = k_MdHost) ∧ hI h f_MdHost_classes k = (n : Int) ∧ hI h f_MdHost_members k = (m : Int) ∧ n ≤ 60 ∧ m ≤ 400 ∧ okTp tp ∧ ∃ S, AV2 tabH h k S ∧ HGS g n m tp S ∧ MGS g m tp S ∧ ∀ i, i < tp.length → S f_MdHost_signs i = tp.getD i 0
def LTi : List Nat := LTq ++ [f_Md_thrown, f_Md_making, f_Md_size, f_Md_ofHost]
def LTh : List Nat := LTi ++ [f_Md_taped, f_Md_spare, f_Md_host]
section
variable {ρ : Nat → Nat} {d : Nat} {h h' h0 k0 : ah} {F : Int → ah → Prop} {G : ah → Prop} {E : Nat → ah → Prop} {Q : QT} {C T ho a k k2 : Nat} {tp : List Int} {host : Int} {t t' t1 t2 : TKN} {g g' : HG} {n m N c : Nat} {ws : List (List Int)} {S S0 : Nat → Nat → Int}
theorem t_begin (H1 : TS h T (hR h f_Md_tape T) tp.length (hR h f_Md_text T)) (H2 : ∀ i, i < tp.length → hA h (hR h f_Md_tape T) i = tp.getD i 0) (H3 : hI h f_Md_ofHost T = host) (hto : hI h f_Md_to T = ((0 : Nat) : Int)) (H7 : okTp tp) (H8 : hK h (hR h f_Md_halt T) = k_MdHalt) (H9 : hR h f_Md_halt T < hz h) (H10 : hR h f_Md_text T ≠ 0)
    (q : ∀ h', Fr TSM [] 0 0 h h' → TK h' T tp host (nx tp host t00) → Q (Sum.inl none) h') : wpB PGm ρ (d + 3) m_Md_next 0 [(0, vR T)] [] h Q := by
  have ec := ch_ta H2
  have hn : nxT tp host t00 (nx tp host t00) := nx_ok
  have sl := skp_le (ch tp) tp.length _ 0 (Nat.le_refl _) (Nat.zero_le _)
  refine t_next H1 (p := 0) (Nat.zero_le _) hto (fun k hk => by rw [H2 k hk]; exact H7.2 k hk) (fun h' k to num held hf he hT => ?_)
  rw [ec] at he hT
  rw [H3] at he
  have u := nxT_u (t2 := (skp (ch tp) tp.length 0, k, to, num, held)) hn ⟨rfl, he⟩
  have eR : ∀ f, f ∈ [f_Md_tape, f_Md_text, f_Md_halt] → hR h' f T = hR h f T := fun f hm => hf.R H1.2.2.2.2.2.2.2.2.2.1.1 (by simp at hm; rcases hm with e | e | e <;> subst e <;> decide) (by simp at hm; rcases hm with e | e | e <;> subst e <;> exact nokW (by decide) rfl)
  have S' := H1.fr hf TSM_n
  refine q h' hf ⟨by rw [eR _ (by simp), eR _ (by simp)]; exact S', fun i hi => by rw [eR _ (by simp), H1.tapA hf]; exact H2 i hi, by rw [hf.I H1.2.2.2.2.2.2.2.2.2.1.1 (by decide) (nokW (by decide) rfl)]; exact H3, ?_, hn.2, fun c => tkE_to hn.2 c (by rw [hn.1]; exact sl.2), H7, by rw [eR _ (by simp), hf.K H9]; exact H8, by rw [eR _ (by simp)]; exact hf.lt H9, by rw [eR _ (by simp)]; exact H10⟩
  obtain ⟨u1, u2, u3, u4, u5⟩ := u
  obtain ⟨v1, v2, v3, v4, v5⟩ := hT
  simp only at u1 u2 u3 u4 u5
  rw [eR _ (by simp)]
  refine ⟨by rw [u1]; exact v1, fun c => by rw [u3 c]; exact v2 (by rw [← u2]; exact c), by rw [u2]; exact v3, fun c => by rw [u4 c]; exact v4 (by rw [← u2]; exact c), fun c => by rw [u5 c]; exact v5 (by rw [← u2]; exact c)⟩
/-- T's arrays are not touched -/
theorem TT.frL {L : List Nat} {P : List (Nat × Nat)} {z s : Nat} (H : TT h T) (hf : Fr L P z s h h') (hn : tabM.all (fun q => !(L.elem q.1) && !((P.map Prod.fst).elem q.1)) = true) : TT h' T := H.frm hf (fun q hq => by
  have := List.all_eq_true.mp hn q hq
  simp only [Bool.and_eq_true, Bool.not_eq_true'] at this
  exact nokW this.1 this.2) (by decide) (by decide)
theorem TH.frL {L : List Nat} {P : List (Nat × Nat)} {z s : Nat} (H : TH h k) (hf : Fr L P z s h h') (hn : tabH.all (fun q => !(L.elem q.1) && !((P.map Prod.fst).elem q.1)) = true) : TH h' k := H.frm hf (fun q hq => by
  have := List.all_eq_true.mp hn q hq
  simp only [Bool.and_eq_true, Bool.not_eq_true'] at this
  exact nokW this.1 this.2) (by decide) (by decide)
/-- while a host is read, the outer object stays -/
theorem TMO.fx (M : TMO h T k k2 tp) (fx : FX LTi (PTq k2) h h') : TMO h' T k k2 tp := by
  obtain ⟨z, s, ff⟩ := fx
  obtain ⟨a1, a2, ⟨a3, a4, a5⟩, a6, a7, a8, a9, b1, ⟨b2, b3⟩, ⟨b4, b5⟩, b6, b7, b8⟩ := M
  have lT := a2.1
  have lk := b2.1
  have lk2 := b4.1
  have sa := ff.ar a2.2.1 (own_of (f := f_Md_tape) rfl) lT rfl (a2.g (f := f_Md_tape) rfl).1 (nok rfl rfl rfl rfl) (nP0 rfl _)
  have R : ∀ f, (!(LTi.elem f) && !(((PTq k2).map Prod.fst).elem f)) = true → 5 ≤ f → hR h' f T = hR h f T := fun f hm h5 => by
    simp only [Bool.and_eq_true, Bool.not_eq_true'] at hm
    exact ff.R lT h5 (nokW hm.1 hm.2)
  have eT : hR h' f_Md_tape T = hR h f_Md_tape T := R _ rfl (by decide)
  exact ⟨by rw [ff.K lT]; exact a1, a2.frL ff rfl, ⟨by rw [R _ rfl (by decide)]; exact a3, by rw [ff.K a5]; exact a4, ff.lt a5⟩, by rw [ff.I lT (by decide) (nokW rfl rfl)]; exact a6, a7, fun i hi => by rw [eT, sa.2.1]; exact a8 i hi, by rw [R _ rfl (by decide)]; exact a9, by rw [R _ rfl (by decide)]; exact b1, ⟨b2.frL ff rfl, by rw [ff.K lk]; exact b3⟩, ⟨b4.frL ff rfl, by rw [ff.K lk2]; exact b5⟩, b6, b7, b8⟩
theorem t_host (M : TMO h T k k2 tp) (SS : SHO ρ h) (s31' : STR h (ρ 31) s31) (s32' : STR h (ρ 32) s32) (Hr : ∀ i, i ≤ 12 ∨ i = 31 ∨ i = 32 → ρ i < hz h ∧ ρ i ≠ 0 ∧ UNO h (ρ i)) (hd : 10 ≤ d)
    (q1 : ∀ h' g n m, rdHost tp = Sum.inr (g, n, m) → THO h' k2 g n m tp → gOK g n m → FX LTh (PTq k2) h h' → TMO h' T k2 k tp → wpB PGm ρ (d + 8) m_Md_anew 0 [(0, vR T)] [] h' (cV (fun h11 => wpB PGm ρ (d + 9) m_Md_host 118 [(0, vR T), (1, vI 0)] [] h11 Q) (fun e h' => hK h' e ≠ 0 ∧ hK h' e = k_MdHalt ∧ wpB PGm ρ (d + 9) m_Md_host 104 [(0, vR T)] [vR e] h' Q)))
    (q2 : ∀ h' w p, rdHost tp = Sum.inl (w, p) → FX LTh (PTq k2) h h' → TMO h' T k k2 [] → Q (Sum.inl (some (vI (w + 16 * (p : Int))))) h') :
    wpB PGm ρ (d + 9) m_Md_host 0 [(0, vR T)] [] h Q := by
  obtain ⟨a1, a2, ⟨a3, a4, a5⟩, a6, a7, a8, a9, b1, ⟨b2, b3⟩, ⟨b4, b5⟩, b6, b7, b8⟩ := id M
  have lT := a2.1
  have lk2 := b4.1
  refine b_Md_host_0 ⟨a1, ?_⟩
  intro h1
  rw [show hR h1 f_Md_spare T = k2 from b1]
  intro h4
  rw [show hR h4 f_Md_making T = k2 from R_R _ _ _ _]
  refine ⟨b5, ?_⟩
  intro h5
  rw [show hR h5 f_Md_making T = k2 from R_R _ _ _ _]
  refine ⟨b5, ?_⟩
  intro h8
  have f8 : Fr [f_Md_thrown, f_Md_making] [(f_MdHost_classes, k2), (f_MdHost_members, k2)] 0 0 h h8 := Fr.wI (by decide) (Or.inr (by simp)) (Fr.wI (by decide) (Or.inr (by simp)) (Fr.wR (Or.inl (by decide)) (by unfold own; decide) (Fr.wL (by decide) Fr.r0)))
  have em8 : hR h8 f_Md_making T = k2 := R_R _ _ _ _
  have ec8 : hI h8 f_MdHost_classes k2 = ((0 : Nat) : Int) := by
    show hI (sI h5 f_MdHost_members k2 0) f_MdHost_classes k2 = _
    rw [I_Ine (by decide)]; exact I_I _ _ _ _
  have emm8 : hI h8 f_MdHost_members k2 = ((0 : Nat) : Int) := I_I _ _ _ _
  have et8 : hI h8 f_Md_taped T = (tp.length : Int) := by rw [f8.I lT (by decide) (nokW rfl rfl)]; exact a6
  have tt8 := a2.frL f8 rfl
  have th8 := b4.frL f8 rfl
  clear_value h8
  refine b_Md_begins_0 ⟨by rw [f8.K lT]; exact a1, ?_⟩
  intro g3
  refine ⟨Or.inr rfl, ?_⟩
  intro g4 g5
  have f5 : Fr [f_Md_size, f_Md_ofHost, f_Md_to] [] 0 0 h8 g5 := Fr.wL (by decide) (Fr.wL (by decide) (Fr.wL (by decide) Fr.r0))
  have es5 : hI g5 f_Md_size T = (tp.length : Int) := by
    show hI (sI (sI (sI h8 f_Md_size T (hI h8 f_Md_taped T)) f_Md_ofHost T 1) f_Md_to T 0) f_Md_size T = _
    rw [I_Ine (by decide), I_Ine (by decide), I_I]; exact et8
  have eo5 : hI g5 f_Md_ofHost T = 1 := by
    show hI (sI (sI g3 f_Md_ofHost T 1) f_Md_to T 0) f_Md_ofHost T = _
    rw [I_Ine (by decide), I_I]
  have eto5 : hI g5 f_Md_to T = ((0 : Nat) : Int) := I_I _ _ _ _
  have em5 : hR g5 f_Md_making T = k2 := em8
  have ec5 : hI g5 f_MdHost_classes k2 = ((0 : Nat) : Int) := by rw [f5.I th8.1 (by decide) (nokW rfl rfl)]; exact ec8
  have emm5 : hI g5 f_MdHost_members k2 = ((0 : Nat) : Int) := by rw [f5.I th8.1 (by decide) (nokW rfl rfl)]; exact emm8
  have fx5 : FX LTi (PTq k2) h g5 := ⟨_, _, (f8.mono (fun f hm => by simp at hm; rcases hm with e | e <;> subst e <;> decide) (fun q hq => by simp at hq; rcases hq with e | e <;> subst e <;> simp [PTq])).trans (f5.mono (fun f hm => by simp at hm; rcases hm with e | e | e <;> subst e <;> decide) (fun q c => by cases c))⟩
  have M5 := M.fx fx5
  clear_value g5
  obtain ⟨c1, c2, ⟨c3, c4, c5⟩, c6, c7, c8, c9, d1, ⟨d2, d3⟩, ⟨d4, d5⟩, -⟩ := id M5
  have g1 := c2.g (f := f_Md_tape) rfl
  have g2 := c2.g (f := f_Md_text) rfl
  refine t_begin (host := 1) (tp := tp) ⟨c1, rfl, es5, g1.2.1, by rw [g1.2.2.1]; have := a7.1; omega, by have := a7.1; omega, rfl, g2.2.1, g2.2.2.1, ⟨c2.1, c2.lt (f := f_Md_tape) rfl, c2.lt (f := f_Md_text) rfl⟩, g1.1, c2.2.1⟩ c8 eo5 eto5 a7 (by rw [c3]; exact c4) (by rw [c3]; exact c5) g2.1 (fun h13 f13 K13 => ?_)
  have fx13 : FX LTi (PTq k2) h h13 := fx5.trans ⟨_, _, f13.mono (fun f hm => by simp [LTi, LTq, hm]) (fun q c => by cases c)⟩
  have M13 := M.fx fx13
  obtain ⟨p1, p2, ⟨p3, p4, p5⟩, p6, p7, p8, p9, r1, ⟨r2, r3⟩, ⟨r4, r5⟩, -⟩ := id M13
  have W13 : TW ρ h13 h13 T k2 tp (fun f i => hA h13 (hR h13 f k2) i) 0 0 (nx tp 1 t00) := by
    obtain ⟨z, s, ff⟩ := fx13
    refine ⟨⟨r4, r5, by rw [f13.R c2.1 (by decide) (nokW rfl rfl)]; exact em5, fun f _ i => rfl, by rw [f13.I d4.1 (by decide) (nokW rfl rfl)]; exact ec5, by rw [f13.I d4.1 (by decide) (nokW rfl rfl)]; exact emm5, by omega, by omega, K13, s31'.frm ff (nP0 rfl) (Hr 31 (by omega)), s32'.frm ff (nP0 rfl) (Hr 32 (by omega)), SS.frm ⟨_, _, ff⟩ (nP0 rfl) (fun i hi => Hr i (by omega)), fun i hi => ?_, b7⟩, FX.r, ⟨r4.1, fun _ _ => rfl⟩, p3, p5⟩
    obtain ⟨x1, x2, x3⟩ := Hr i hi
    exact ⟨ff.lt x1, x2, x3.fr x1 x2 ff⟩
  refine t_all (d := d + 1) (tp := tp) (by omega) (tp.length + 1) gZ 0 0 (nx tp 1 t00) h13 _ (by omega) W13 (fun i hi => by omega) (fun j hj => by omega) ⟨fun i hi => by omega, fun i j hi => by omega, fun i hi => by omega⟩ (fun h' S' g' n' m' t' e W' hg' mg' ok' => ?_) (fun h' w p e fl kh => ?_)
  · -- the tape is kept
    have lp : ∀ mm j h1 S1, tp.length - j < mm → j ≤ tp.length → TW ρ h13 h1 T k2 tp S1 n' m' t' → (∀ f i, f ≠ f_MdHost_signs → S1 f i = S' f i) → (∀ i, i < j → S1 f_MdHost_signs i = tp.getD i 0) → wpB PGm ρ (d + 1 + 8) m_Md_host 52 [(0, vR T), (1, vI 0), (2, vI (j : Int))] [] h1 Q := by
      intro mm
      induction mm with
      | zero => intro j h1 S1 hm; omega
      | succ mm ih =>
        intro j h1 S1 hm hj W1 o1 o2
        obtain ⟨x1, x2, x3, x4, x5, x6, x7⟩ := W1.1.kn
        obtain ⟨y1, y2, y3, y4, y5, y6, y7, y8, y9, -⟩ := id W1.1
        have esz : hI h1 f_Md_size T = (tp.length : Int) := y9.1.2.2.1
        have fx1 : FX LTi (PTq k2) h h1 := fx13.trans (FX.into FX.r W1.2.1 (fun f hm => by simp [LTi, hm]) (fun q hq => Or.inl hq))
        refine b_Md_host_52 ⟨x1, fun z => ?_, fun z => ?_⟩
        · rw [esz] at z
          have ej : j = tp.length := by omega
          have M1 := M.fx fx1
          obtain ⟨u1, u2, u3, u4, u5, u6, u7, u8, u9, v1, v2, v3, v4⟩ := id M1
          rw [u7]
          intro h7
          rw [show hR h7 f_Md_making T = k2 by show hR (sR h1 f_Md_spare T k) f_Md_making T = _; rw [R_Rne (by decide)]; exact x6]
          intro h8
          have f8 : Fr [f_Md_spare, f_Md_host] [] 0 0 h1 h8 := Fr.wR (Or.inl (by decide)) (by unfold own; decide) (Fr.wR (Or.inl (by decide)) (by unfold own; decide) Fr.r0)
          have e1 : hR h8 f_Md_spare T = k := by
            show hR (sR (sR h1 f_Md_spare T k) f_Md_host T k2) f_Md_spare T = _
            rw [R_Rne (by decide), R_R]
          have e2 : hR h8 f_Md_host T = k2 := R_R _ _ _ _
          have e3 : hR h8 f_Md_tape T = hR h1 f_Md_tape T := f8.R u2.1 (by decide) (nokW rfl rfl)
          have M8 : TMO h8 T k2 k tp := ⟨u1, u2.frL f8 rfl, ⟨by rw [f8.R u2.1 (by decide) (nokW rfl rfl)]; exact u3.1, u3.2.1, u3.2.2⟩, u4, u5, fun i hi => by rw [e3]; exact u6 i hi, e2, e1, ⟨v1.1.frL f8 rfl, v1.2⟩, ⟨u9.1.frL f8 rfl, u9.2⟩, v3, v2, fun x => v4 x.symm⟩
          have T8 : THO h8 k2 g' n' m' tp := by
            refine ⟨⟨v1.1.frL f8 rfl, v1.2⟩, y5, y6, y7, y8, a7, S1, y4.frm y1 f8 (nokT2 (by decide)) (by decide) (fun y c => by cases c), hg'.cong (fun f hf i => o1 f i (fun x => by rw [x] at hf; exact absurd hf (by decide))), mg'.cong (fun f hf i _ => o1 f i (fun x => by rw [x] at hf; exact absurd hf (by decide))) (fun i _ => o1 _ i (by decide)), fun i hi => o2 i (by omega)⟩
          exact q1 h8 g' n' m' e T8 ok' ((FX.into FX.r fx1 (fun f hm => by simp [LTh, hm]) (fun q hq => Or.inl hq)).trans ⟨_, _, f8.mono (fun f hm => by simp at hm; rcases hm with e | e <;> subst e <;> decide) (fun q c => by cases c)⟩) M8
        · rw [esz] at z
          have hj2 : j < tp.length := by omega
          have g1 := y9.1
          have vv := a7.2 j hj2
          have ev : hA h1 (hR h1 f_Md_tape T) j = tp.getD j 0 := y9.2.1 j hj2
          have l5 := a7.1
          rw [x6, Int.toNat_natCast, ev]
          refine ⟨x7, ⟨by rw [g1.2.2.2.1]; decide, by omega, by have := g1.2.2.2.2.1; omega⟩, y1.wb (f := f_MdHost_signs) rfl (by omega) (by omega), ?_⟩
          intro h20
          have W20 : TW ρ h13 h20 T k2 tp (u2 S1 f_MdHost_signs j (tp.getD j 0)) n' m' t' := W1.w rfl (by decide)
          rw [w32_s (by omega)]
          exact ih (j + 1) h20 _ (by omega) (by omega) W20 (fun f i hf => by rw [u2n hf]; exact o1 f i hf) (fun i hi => by
            rw [u2_e]
            by_cases c : i = j
            · rw [if_pos ⟨rfl, c⟩, c]
            · rw [if_neg (fun x => c x.2)]; exact o2 i (by omega))
    exact lp _ 0 h' S' (Nat.lt_succ_self _) (Nat.zero_le _) W' (fun _ _ _ => rfl) (fun i hi => by omega)
  · obtain ⟨w0, w7, pl⟩ := rdHost_bd (tp := tp) e
    have fx1 : FX LTi (PTq k2) h h' := fx13.trans (FX.into FX.r fl.1 (fun f hm => by simp [LTi, hm]) (fun q hq => Or.inl hq))
    have M1 := M.fx fx1
    obtain ⟨u1, u2, u3, u4, u5, u6, u7, u8, u9, v1, v2, v3, v4⟩ := id M1
    have l5 := a7.1
    refine b_Md_host_104 ⟨kh, b_Md_host_118 ⟨u1, ?_⟩⟩
    rw [fl.2.1, fl.2.2, w32_of (x := 16 * (p : Int)) (by omega) (by omega), w32_of (by omega) (by omega)]
    intro h1
    have f1 : Fr [f_Md_taped] [] 0 0 h' h1 := Fr.wL (by decide) Fr.r0
    refine q2 h1 w p e ((FX.into FX.r fx1 (fun f hm => by simp [LTh, hm]) (fun q hq => Or.inl hq)).trans ⟨_, _, f1.mono (fun f hm => by simp at hm; subst hm; decide) (fun q c => by cases c)⟩) ?_
    exact ⟨u1, u2.frL f1 rfl, u3, I_I _ _ _ _, ⟨by simp, fun k hk => by simp at hk⟩, fun i hi => by simp at hi, u7, u8, ⟨u9.1.frL f1 rfl, u9.2⟩, ⟨v1.1.frL f1 rfl, v1.2⟩, v2, v3, v4⟩
end
