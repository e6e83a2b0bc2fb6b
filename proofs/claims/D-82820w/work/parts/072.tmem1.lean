/-! T reads a member: all of it -/
set_option maxRecDepth 20000
section
variable {ρ : Nat → Nat} {d : Nat} {h h' h0 k0 : ah} {F : Int → ah → Prop} {G : ah → Prop} {E : Nat → ah → Prop} {Q : QT} {C T ho a k : Nat} {tp : List Int} {t t' t1 t2 : TKN} {g g' : HG} {n m N c : Nat} {ws : List (List Int)} {S S0 : Nat → Nat → Int} {b so st ty va : Int} {ps nm : List Int}
theorem byt_0 {f : Nat → Int} {p : Nat} : byt f p p = [] := by simp [byt]
theorem u2n {f f' i j : Nat} {v : Int} (ne : f' ≠ f) : u2 S f i v f' j = S f' j := by rw [u2_e, if_neg (fun x => ne x.1)]
theorem u2p {f i : Nat} {v : Int} : u2 S f i v f i = v := by rw [u2_e, if_pos ⟨rfl, rfl⟩]
theorem mnm.cong {S' : Nat → Nat → Int} (H : mnm tp S m nm) (e1 : S' f_MdHost_memberFrom m = S f_MdHost_memberFrom m) (e2 : S' f_MdHost_memberTo m = S f_MdHost_memberTo m) : mnm tp S' m nm := by
  obtain ⟨x, y, y1, y2, y3⟩ := H
  exact ⟨x, y, e1.trans y1, e2.trans y2, y3⟩
theorem resv_e {l : List Int} : 0 ≤ plc resW l ↔ resv l := by
  rw [plc_nn]; simp [resW, resv]
/-- parameters and the end -/
theorem t_mtl {X : FLT ⊕ (HG × TKN)} (H : TW ρ k0 h T k tp S n m t) (hg : HGS g n m tp S) (mg : MGS g m tp S) (ok : mOK g n c m) (hm4 : m < 400) (hn60 : n ≤ 60) (x1 : S f_MdHost_itsClass m = (c : Int)) (x2 : S f_MdHost_isStatic m = st) (x3 : mnm tp S m nm) (x4 : S f_MdHost_sort m = so) (x5 : S f_MdHost_type m = ty) (hso : so = 1 ∨ so = 2) (hd : 10 ≤ d)
    (eq0 : X = rdMem2 tp g n c m so st ty nm t)
    (q1 : ∀ h' S' g' t', X = Sum.inr (g', t') → TW ρ k0 h' T k tp S' n (m + 1) t' → HGS g' n (m + 1) tp S' → MGS g' (m + 1) tp S' → (∃ so st ty va ps nm, g' = gMem g c m so st ty va ps nm) → Q (Sum.inl none) h')
    (q2 : ∀ h' w p, X = Sum.inl (w, p) → FLq k0 h' T k w p → Q (Sum.inr (T + 1)) h') :
    wpB PGm ρ (d + 5) m_Md_readsParameters 0 [(0, vR T), (1, vI (c : Int)), (2, vI (m : Int))] [] h (cV (fun h3 => wpB PGm ρ (d + 5 + 1) m_Md_readsMember 392 [(0, vR T), (1, vI (c : Int))] [] h3 Q) (fun e h' => hK h' e ≠ 0 ∧ Q (Sum.inr e) h')) := by
  obtain ⟨fo, hc, hm, df, hnr, h10, hlast⟩ := id ok
  have foc := fo c hc
  refine t_mem2 H hg mg ok hm4 hn60 x4 hso x3 hd (fun h80 S80 ps va t4 e80 nM H80 P80 => ?_) (fun h' w p e fl => ⟨?_, q2 h' w p ?_ fl⟩)
  · have fr80 : ∀ f, f ≠ f_MdHost_parameters → f ≠ f_MdHost_variable → f ≠ f_MdHost_parameter → S80 f m = S f m := fun f n1 n2 n3 => P80.1 f m (fun x => n1 x.1) (fun x => n2 x.1) (fun x => n3 x.1)
    rw [rdMem2, e80] at eq0
    simp only at eq0
    rw [if_neg nM] at eq0
    have hgE := P80.agr.hg hg
    have mgE := P80.agr.mg mg
    refine t_mend H80 hgE hc hn60 hm4 (by omega) (by omega) (fun h90 e59 H90 => ?_) (fun h90 ne fl => q2 h90 1 _ (by rw [eq0, if_pos ne]) fl)
    rw [if_neg (by rw [e59]; simp)] at eq0
    have R : ROW tp S80 m c so st ty va ps nm := by
      exact ⟨by rw [fr80 _ (by decide) (by decide) (by decide)]; exact x1, by rw [fr80 _ (by decide) (by decide) (by decide)]; exact x4, by rw [fr80 _ (by decide) (by decide) (by decide)]; exact x2, by rw [fr80 _ (by decide) (by decide) (by decide)]; exact x5, P80.2.2, P80.2.1, x3.cong (fr80 _ (by decide) (by decide) (by decide)) (fr80 _ (by decide) (by decide) (by decide))⟩
    exact q1 h90 _ _ _ eq0 H90 (hgE.mem hc) (R.mg mgE) ⟨_, _, _, _, _, _, rfl⟩
  · exact H.ke fl
  · rw [eq0, rdMem2]
    rcases e with e | ⟨ps, va, t4, e, hM, ew, ep⟩
    · rw [e]
    · rw [e]; simp only; rw [if_pos hM, ew, ep]
theorem t_mem1 (H : TW ρ k0 h T k tp S n m t) (hg : HGS g n m tp S) (mg : MGS g m tp S) (ok : mOK g n c m) (hst : st = 0 ∨ st = 1) (hd : 10 ≤ d)
    (q1 : ∀ h' S' g' t', rdMem1 tp g n c m st t = Sum.inr (g', t') → TW ρ k0 h' T k tp S' n (m + 1) t' → HGS g' n (m + 1) tp S' → MGS g' (m + 1) tp S' → (∃ so st ty va ps nm, g' = gMem g c m so st ty va ps nm) → Q (Sum.inl none) h')
    (q2 : ∀ h' w p, rdMem1 tp g n c m st t = Sum.inl (w, p) → FLq k0 h' T k w p → Q (Sum.inr (T + 1)) h') :
    wpB PGm ρ (d + 6) m_Md_readsMember 47 [(0, vR T), (1, vI (c : Int)), (2, vI (m : Int)), (3, vI st)] [] h Q := by
  obtain ⟨fo, hc, hm, df, hnr, h10, hlast⟩ := id ok
  obtain ⟨c1, c2, c3, c4, c5, c6, c7⟩ := H.1.kn
  obtain ⟨a1, a2, a3, a4, a5, a6, hn60, hm400, a9, s31', s32', SS, Hr, hTk⟩ := id H.1
  have sNew : STR h (ρ 12) wNew := SS.2.2.2.2
  have gc : (0 : Int) ≤ (c : Int) ∧ (c : Int) < ((60 : Nat) : Int) := by omega
  have foc := fo c hc
  have gi := hg c hc
  have eif : hA h (hR h f_MdHost_isInterface k) c = g.1 1 c := (a4.g rfl c).trans gi.1
  have flt : ∀ {w : Int}, (rdMem1 tp g n c m st t = Sum.inl (w, t.1)) → ∀ h', HF T h h' w (t.1 : Int) → Q (Sum.inr (hR h f_Md_halt T)) h' := fun e h' a => by rw [H.2.2.2.1]; exact q2 h' _ t.1 e (H.fl a)
  -- from the room on
  have st116 : t.2.1 = 1 → (tkB tp t = wNew → st = 0) → (¬ tkB tp t = wNew → ∃ v, tyV g n (tkB tp t) = some v) → wpB PGm ρ (d + 6) m_Md_readsMember 116 [(0, vR T), (1, vI (c : Int)), (2, vI (m : Int)), (3, vI st)] [] h Q := by
    intro e1 eNs eT
    have ne1 : ¬ t.2.1 = -1 := by rw [e1]; decide
    have tb := a9.2.2.2.2.2.1 ne1
    have pos := tkE_pos a9.2.2.2.2.1 ne1 (by rw [e1]; decide)
    have mn : m = 400 → rdMem1 tp g n c m st t = Sum.inl (5, t.1) := fun e => by
      rw [rdMem1, if_neg (by rw [e1]; simp)]
      by_cases cN : tkB tp t = wNew
      · rw [if_pos cN, if_neg (by rw [eNs cN]; simp), if_pos e]
      · obtain ⟨v, ev⟩ := eT cN
        rw [if_neg cN, ev]; simp only; rw [if_pos e]
    refine b_Md_readsMember_116 ⟨fun z => b_Md_readsMember_129 ⟨c1, t_mustQ H.1 (fun x => absurd rfl x) (fun _ h' a => flt (mn (by omega)) h' a)⟩, fun z => b_Md_readsMember_129 ⟨c1, t_mustQ H.1 (fun _ => ⟨c1, ?_⟩) (fun x => absurd x (by decide))⟩⟩
    have hm4 : m < 400 := by omega
    have gm : (0 : Int) ≤ (m : Int) ∧ (m : Int) < ((400 : Nat) : Int) := by omega
    have m4n : ¬ m = 400 := by omega
    -- the rows are begun
    have st161 : (tkB tp t = wNew → g.1 1 c = 0) → wpB PGm ρ (d + 6) m_Md_readsMember 161 [(0, vR T), (1, vI (c : Int)), (2, vI (m : Int)), (3, vI st)] [vI 1, vR T] h Q := by
      intro eNi
      refine b_Md_readsMember_161 ⟨c1, t_mustQ H.1 (fun _ => ⟨c1, by rw [c6]; exact c7, ?_⟩) (fun x => absurd x (by decide))⟩
      rw [c6, Int.toNat_natCast]
      refine ⟨a1.wi rfl gm, ?_⟩
      intro h12
      have H12 : TW ρ k0 h12 T k tp (u2 S f_MdHost_itsClass m (c : Int)) n m t := H.w rfl (by decide)
      rw [show hR h12 f_Md_making T = k from c6]
      refine ⟨c7, a1.wt rfl hst gm, ?_⟩
      intro h15
      have H15 := H12.w (f := f_MdHost_isStatic) (i := m) (v := st) rfl (by decide)
      rw [show hR h15 f_Md_making T = k from c6, show hI h15 f_Md_from T = (t.1 : Int) from c5]
      refine ⟨c7, a1.wi rfl gm, ?_⟩
      intro h18
      have H18 := H15.w (f := f_MdHost_memberFrom) (i := m) (v := (t.1 : Int)) rfl (by decide)
      rw [show hR h18 f_Md_making T = k from c6, show hI h18 f_Md_from T = (t.1 : Int) from c5]
      refine ⟨c7, a1.wi rfl gm, ?_⟩
      intro h21
      have H21 : TW ρ k0 h21 T k tp _ n m t := H18.w (f := f_MdHost_memberTo) (i := m) (v := (t.1 : Int)) rfl (by decide)
      generalize eS : u2 (u2 (u2 (u2 S f_MdHost_itsClass m (c : Int)) f_MdHost_isStatic m st) f_MdHost_memberFrom m (t.1 : Int)) f_MdHost_memberTo m (t.1 : Int) = S1 at H21
      have ag : AGR S S1 m := by rw [← eS]; exact (((AGR.r.w (by simp [mfs])).w (by simp [mfs])).w (by simp [mfs])).w (by simp [mfs])
      have r1 : S1 f_MdHost_itsClass m = (c : Int) := by rw [← eS, u2n (by decide), u2n (by decide), u2n (by decide), u2p]
      have r2 : S1 f_MdHost_isStatic m = st := by rw [← eS, u2n (by decide), u2n (by decide), u2p]
      have r3 : mnm tp S1 m [] := ⟨t.1, t.1, by rw [← eS, u2n (by decide), u2p], by rw [← eS, u2p], Nat.le_refl _, by omega, byt_0⟩
      clear_value h21
      have hg1 := ag.hg hg
      have mg1 := ag.mg mg
      obtain ⟨d1, d2, d3, d4, d5, d6, d7⟩ := H21.1.kn
      have w12 : ∀ {F : Int → ah → Prop} {E : Nat → ah → Prop}, (tkB tp t = wNew → F 1 h21) → (¬ tkB tp t = wNew → F 0 h21) → wpB PGm ρ (d + 5) m_Md_isWord 0 [(0, vR T), (1, vR (ρ 12))] [] h21 (cI F E) := fun q1 q0 => t_tw H21.1 H21.1.2.2.2.2.2.2.2.2.2.2.2.1.2.2.2.2 (by omega) (fun _ x => x) (fun _ e => q1 e) (fun x => q0 (fun e => x ⟨e1, e⟩))
      refine w12 (fun eN => ⟨fun x => absurd x (by decide), fun _ => ⟨d1, by rw [d6]; exact d7, ?_⟩⟩) (fun nN => ⟨fun _ => ⟨d1, by rw [d6]; exact d7, ?_⟩, fun x => absurd rfl x⟩)
      · -- a constructor
        have eq0 : rdMem1 tp g n c m st t = if ¬ (nx tp 1 t).2.1 = 40 then Sum.inl (1, (nx tp 1 t).1) else rdMem2 tp g n c m 2 st (9 + (c : Int)) [] (nx tp 1 (nx tp 1 t)) := by
          rw [rdMem1, if_neg (by rw [e1]; simp), if_pos eN, if_neg (by rw [eNs eN]; simp), if_neg m4n, if_neg (by rw [eNi eN]; simp)]
        rw [d6]
        refine ⟨H21.1.1.wi rfl gm, ?_⟩
        intro h57
        have H57 : TW ρ k0 h57 T k tp (u2 S1 f_MdHost_sort m 2) n m t := H21.w rfl (by decide)
        rw [show hR h57 f_Md_making T = k from d6, w32_of (x := 9 + (c : Int)) (by omega) (by omega)]
        refine ⟨d7, H21.1.1.wi rfl gm, ?_⟩
        intro h60
        have H60 : TW ρ k0 h60 T k tp (u2 (u2 S1 f_MdHost_sort m 2) f_MdHost_type m (9 + (c : Int))) n m t := H57.w rfl (by decide)
        generalize eS2 : u2 (u2 S1 f_MdHost_sort m 2) f_MdHost_type m (9 + (c : Int)) = S2 at H60
        have ag2 : AGR S1 S2 m := by rw [← eS2]; exact (AGR.r.w (by simp [mfs])).w (by simp [mfs])
        have x1 : S2 f_MdHost_itsClass m = (c : Int) := by rw [← eS2, u2n (by decide), u2n (by decide)]; exact r1
        have x2 : S2 f_MdHost_isStatic m = st := by rw [← eS2, u2n (by decide), u2n (by decide)]; exact r2
        have x3 : mnm tp S2 m [] := r3.cong (by rw [← eS2, u2n (by decide), u2n (by decide)]) (by rw [← eS2, u2n (by decide), u2n (by decide)])
        have x4 : S2 f_MdHost_sort m = 2 := by rw [← eS2, u2n (by decide), u2p]
        have x5 : S2 f_MdHost_type m = 9 + (c : Int) := by rw [← eS2, u2p]
        clear_value h60
        refine t_hnx H60.1 ne1 nx_ok (fun h63 f63 Q63 => ⟨Q63.kn.1, ?_⟩)
        have H63 := H60.nxt f63 Q63
        have sg : (40 : Int) = sgv 40 := by decide
        rw [sg]
        refine t_takes Q63.2.2.2.2.2.2.2.2.1 (Or.inl (by unfold sgc; decide)) (fun e40 => t_hnx Q63 (by rw [e40]; decide) nx_ok (fun h70 f70 Q70 => ?_)) (fun ne h' a => ⟨Q63.hk a, by rw [H63.2.2.2.1]; exact q2 h' 1 _ (by rw [eq0, if_pos ne]) (H63.fl a)⟩)
        have H70 := H63.nxt f70 Q70
        rw [if_neg (by rw [e40]; simp)] at eq0
        exact b_Md_readsMember_255 ⟨Q70.kn.1, t_mtl H70 (ag2.hg hg1) (ag2.mg mg1) ok hm4 hn60 x1 x2 x3 x4 x5 (Or.inr rfl) hd eq0 q1 q2⟩
      · -- a type and a name
        obtain ⟨v, ev⟩ := eT nN
        have eq0 : rdMem1 tp g n c m st t = if ¬ (nx tp 1 t).2.1 = 1 then Sum.inl (1, (nx tp 1 t).1) else
            @ite _ (resv (tkB tp (nx tp 1 t))) (Classical.propDecidable _) (Sum.inl (2, (nx tp 1 t).1))
            (if (nx tp 1 (nx tp 1 t)).2.1 = 59 ∧ ¬ v = 0 then
              @ite _ (hasF g c m (tkB tp (nx tp 1 t))) (Classical.propDecidable _) (Sum.inl (2, (nx tp 1 t).1)) (if ¬ g.1 1 c = 0 then Sum.inl (6, (nx tp 1 t).1) else Sum.inr (gMem g c m 0 st v 0 [] (tkB tp (nx tp 1 t)), nx tp 1 (nx tp 1 (nx tp 1 t))))
             else if ¬ (nx tp 1 (nx tp 1 t)).2.1 = 40 then Sum.inl (1, (nx tp 1 (nx tp 1 t)).1) else rdMem2 tp g n c m 1 st v (tkB tp (nx tp 1 t)) (nx tp 1 (nx tp 1 (nx tp 1 t)))) := by
          rw [rdMem1, if_neg (by rw [e1]; simp), if_neg nN, ev]; simp only; rw [if_neg m4n]
        refine t_ty H21.1 hg1 df (by omega) (fun v' _ ev' _ h40 f40 Q40 => ?_) (fun w h' e a => ?_)
        · rw [ev] at ev'
          cases ev'
          have H40 := H21.nxt f40 Q40
          obtain ⟨k1, k2, k3, k4, k5, k6, k7⟩ := Q40.kn
          have eA : hR h21 f_MdHost_type k = hR h40 f_MdHost_type k := (f40.R H21.1.1.1 (by decide) (nokW rfl rfl)).symm
          rw [d6, eA]
          refine ⟨Q40.1.wi rfl gm, ?_⟩
          intro h46
          have H46 : TW ρ k0 h46 T k tp (u2 S1 f_MdHost_type m v) n m (nx tp 1 t) := H40.w rfl (by decide)
          generalize eS2 : u2 S1 f_MdHost_type m v = S2 at H46
          have ag2 : AGR S1 S2 m := by rw [← eS2]; exact AGR.r.w (by simp [mfs])
          have x1 : S2 f_MdHost_itsClass m = (c : Int) := by rw [← eS2, u2n (by decide)]; exact r1
          have x2 : S2 f_MdHost_isStatic m = st := by rw [← eS2, u2n (by decide)]; exact r2
          have x5 : S2 f_MdHost_type m = v := by rw [← eS2, u2p]
          clear_value h46
          generalize et1 : nx tp 1 t = t1 at *
          obtain ⟨k1, k2, k3, k4, k5, k6, k7⟩ := H46.1.kn
          have flt1 : ∀ {w : Int}, (rdMem1 tp g n c m st t = Sum.inl (w, t1.1)) → ∀ h', HF T h46 h' w (t1.1 : Int) → Q (Sum.inr (hR h46 f_Md_halt T)) h' := fun e h' a => by rw [H46.2.2.2.1]; exact q2 h' _ t1.1 e (H46.fl a)
          refine ⟨k1, fun z => b_Md_readsMember_292 ⟨k1, t_mustQ H46.1 (fun x => absurd rfl x) (fun _ h' a => flt1 ?_ h' a)⟩, fun z => b_Md_readsMember_292 ⟨k1, t_mustQ H46.1 (fun _ => ⟨k1, ?_⟩) (fun x => absurd x (by decide))⟩⟩
          · rw [eq0, if_pos (fun x => z (k4.mpr x))]
          have f1 := k4.mp z
          rw [if_neg (by rw [f1]; simp)] at eq0
          obtain ⟨-, -, -, -, -, -, -, -, b9, q31, -⟩ := id H46.1
          refine t_oneOf b9 q31 spl31 (by omega) (fun _ e => ⟨fun _ => b_Md_readsMember_312 ⟨k1, t_mustQ H46.1 (fun x => absurd rfl x) (fun _ h' a => flt1 ?_ h' a)⟩, fun x => absurd x (by decide)⟩) (fun nr => ⟨fun x => absurd rfl x, fun _ => b_Md_readsMember_312 ⟨k1, t_mustQ H46.1 (fun _ => ⟨k1, by rw [k6]; exact k7, ?_⟩) (fun x => absurd x (by decide))⟩⟩)
          · rw [eq0, if_pos (resv_e.mp e)]
          have nr2 : ¬ resv (tkB tp t1) := fun x => nr ⟨f1, resv_e.mpr x⟩
          rw [if_neg nr2] at eq0
          have ne2 : ¬ t1.2.1 = -1 := by rw [f1]; decide
          have tb1 := b9.2.2.2.2.2.1 ne2
          have eto : hI h46 f_Md_to T = (t1.2.2.1 : Int) := b9.2.2.2.1.2.1 ne2
          rw [k6, k5, Int.toNat_natCast]
          refine ⟨H46.1.1.wi rfl gm, ?_⟩
          intro h12
          have H12' : TW ρ k0 h12 T k tp (u2 S2 f_MdHost_memberFrom m (t1.1 : Int)) n m t1 := H46.w rfl (by decide)
          rw [show hR h12 f_Md_making T = k from k6, show hI h12 f_Md_to T = (t1.2.2.1 : Int) from eto]
          refine ⟨k7, H46.1.1.wi rfl gm, ?_⟩
          intro h15
          have H15' : TW ρ k0 h15 T k tp (u2 (u2 S2 f_MdHost_memberFrom m (t1.1 : Int)) f_MdHost_memberTo m (t1.2.2.1 : Int)) n m t1 := H12'.w rfl (by decide)
          generalize eS3 : u2 (u2 S2 f_MdHost_memberFrom m (t1.1 : Int)) f_MdHost_memberTo m (t1.2.2.1 : Int) = S3 at H15'
          have ag3 : AGR S1 S3 m := ag2.trans (by rw [← eS3]; exact (AGR.r.w (by simp [mfs])).w (by simp [mfs]))
          have y1 : S3 f_MdHost_itsClass m = (c : Int) := by rw [← eS3, u2n (by decide), u2n (by decide)]; exact x1
          have y2 : S3 f_MdHost_isStatic m = st := by rw [← eS3, u2n (by decide), u2n (by decide)]; exact x2
          have y5 : S3 f_MdHost_type m = v := by rw [← eS3, u2n (by decide), u2n (by decide)]; exact x5
          have y3 : mnm tp S3 m (tkB tp t1) := ⟨t1.1, t1.2.2.1, by rw [← eS3, u2n (by decide), u2p], by rw [← eS3, u2p], tb1.1, tb1.2, rfl⟩
          clear_value h15
          refine t_hnx H15'.1 ne2 nx_ok (fun h18 f18 Q18 => ⟨Q18.kn.1, ?_⟩)
          have H18' := H15'.nxt f18 Q18
          obtain ⟨l1, l2, l3, l4, l5, l6, l7⟩ := Q18.kn
          have sg : (40 : Int) = sgv 40 := by decide
          rw [sg]
          have hg3 := ag3.hg hg1
          have mg3 := ag3.mg mg1
          refine t_isSign Q18.2.2.2.2.2.2.2.2.1 (Or.inl (by unfold sgc; decide)) (fun e40 => ⟨fun x => absurd x (by decide), fun _ => ⟨l1, by rw [l6]; exact l7, ?_⟩⟩) (fun n40 => ⟨fun _ => ⟨l1, ?_⟩, fun x => absurd rfl x⟩)
          · rw [if_neg (by rw [e40]; simp), if_neg (by rw [e40]; simp)] at eq0
            rw [l6]
            refine ⟨Q18.1.wi rfl gm, ?_⟩
            intro h47
            have H47 : TW ρ k0 h47 T k tp (u2 S3 f_MdHost_sort m 1) n m (nx tp 1 t1) := H18'.w rfl (by decide)
            have ag4 : AGR S3 (u2 S3 f_MdHost_sort m 1) m := AGR.r.w (by simp [mfs])
            refine t_hnx H47.1 (by rw [e40]; decide) nx_ok (fun h49 f49 Q49 => ⟨Q49.kn.1, ?_⟩)
            exact t_mtl (H47.nxt f49 Q49) (ag4.hg hg3) (ag4.mg mg3) ok hm4 hn60 (by rw [u2n (by decide)]; exact y1) (by rw [u2n (by decide)]; exact y2) (y3.cong (u2n (by decide)) (u2n (by decide))) u2p (by rw [u2n (by decide)]; exact y5) (Or.inl rfl) hd eq0 q1 q2
          · refine t_field H18' hg3 mg3 ok hm4 hn60 y5 y3 hd (fun h37 S37 e59 nv nF i0 H37 eS37 => ?_) (fun h' w p e fl => ⟨?_, q2 h' w p ?_ fl⟩)
            · rw [if_pos ⟨e59, nv⟩, if_neg nF, if_neg (by rw [i0]; simp)] at eq0
              have ag5 : AGR S3 S37 m := by rw [eS37]; exact ((AGR.r.w (by simp [mfs])).w (by simp [mfs])).w (by simp [mfs])
              have hgE := ag5.hg hg3
              have mgE := ag5.mg mg3
              refine t_mend H37 hgE hc hn60 hm4 (by omega) (by omega) (fun h90 e59 H90 => ?_) (fun h90 ne fl => absurd e59 ne)
              have R : ROW tp S37 m c 0 st v 0 [] (tkB tp t1) := by
                rw [eS37]
                exact ⟨by rw [u2n (by decide), u2n (by decide), u2n (by decide)]; exact y1, by rw [u2n (by decide), u2n (by decide), u2p], by rw [u2n (by decide), u2n (by decide), u2n (by decide)]; exact y2, by rw [u2n (by decide), u2n (by decide), u2n (by decide)]; exact y5, u2p, ⟨by rw [u2n (by decide), u2p]; rfl, by simp, fun i hi => by simp at hi⟩, y3.cong (by rw [u2n (by decide), u2n (by decide), u2n (by decide)]) (by rw [u2n (by decide), u2n (by decide), u2n (by decide)])⟩
              exact q1 h90 _ _ _ eq0 H90 (hgE.mem hc) (R.mg mgE) ⟨_, _, _, _, _, _, rfl⟩
            · exact H18'.ke fl
            · rw [eq0]
              rcases e with ⟨e, ew, ep⟩ | ⟨a, b, e, ew, ep⟩ | ⟨a, b, e, i1, ew, ep⟩
              · rw [if_neg e, if_pos n40, ew, ep]
              · rw [if_pos ⟨a, b⟩, if_pos e, ew, ep]
              · rw [if_pos ⟨a, b⟩, if_neg e, if_pos i1, ew, ep]
        · rcases e with ⟨e, -⟩ | ⟨-, -, e | ⟨-, e⟩⟩
          · exact absurd e1 e
          · rw [ev] at e; cases e
          · exact absurd e (by decide)
    refine t_tw H.1 sNew (by omega) (fun _ x => x) (fun _ eN => ⟨fun x => absurd x (by decide), fun _ => ⟨c1, by rw [c6]; exact c7, ?_⟩⟩) (fun nN => ⟨fun _ => st161 (fun e => absurd ⟨e1, e⟩ nN), fun x => absurd rfl x⟩)
    rw [c6, Int.toNat_natCast, eif]
    refine ⟨a1.rt rfl gc, fun x => b_Md_readsMember_161 ⟨c1, t_mustQ H.1 (fun y => absurd rfl y) (fun _ h' a => flt ?_ h' a)⟩, fun x => st161 (fun _ => x)⟩
    rw [rdMem1, if_neg (by rw [e1]; simp), if_pos eN, if_neg (by rw [eNs eN]; simp), if_neg m4n, if_pos x]
  have st75 : t.2.1 = 1 → (tkB tp t = wNew → st = 0) → wpB PGm ρ (d + 6) m_Md_readsMember 75 [(0, vR T), (1, vI (c : Int)), (2, vI (m : Int)), (3, vI st)] [vI 1, vR T] h Q := by
    intro e1 eNs
    refine b_Md_readsMember_75 ⟨c1, t_mustQ H.1 (fun _ => ⟨c1, ?_⟩) (fun x => absurd x (by decide))⟩
    refine t_tw H.1 sNew (by omega) (fun _ x => x) (fun _ eN => ⟨fun _ => st116 e1 eNs (fun x => absurd eN x), fun x => absurd x (by decide)⟩) (fun nN => ⟨fun x => absurd rfl x, fun _ => ⟨c1, ?_⟩⟩)
    have nN' : ¬ tkB tp t = wNew := fun x => nN ⟨e1, x⟩
    have go : (∃ v, tyV g n (tkB tp t) = some v) → wpB PGm ρ (d + 6) m_Md_readsMember 112 [(0, vR T), (1, vI (c : Int)), (2, vI (m : Int)), (3, vI st)] [vI 1, vR T] h Q := fun e => b_Md_readsMember_112 ⟨c1, t_mustQ H.1 (fun _ => st116 e1 eNs (fun _ => e)) (fun x => absurd x (by decide))⟩
    refine t_place a9 s32' spl32 (by omega) (fun _ => ⟨fun y => go ⟨plc plainW (tkB tp t), by unfold tyV; rw [if_pos y]⟩, fun y => ⟨c1, ?_⟩⟩) (fun x => absurd e1 x)
    refine t_classHere H.1 hg (fun i hi _ e => ⟨fun x => by omega, fun _ => go ⟨9 + (i : Int), by unfold tyV; rw [if_neg (by omega), idxN_e df hi e]⟩⟩) (fun no => ⟨fun _ => b_Md_readsMember_112 ⟨c1, t_mustQ H.1 (fun x => absurd rfl x) (fun _ h' a => flt ?_ h' a)⟩, fun x => absurd x (by decide)⟩)
    rw [rdMem1, if_neg (by rw [e1]; simp), if_neg nN']
    have : tyV g n (tkB tp t) = none := by unfold tyV; rw [if_neg (by omega), idxN_0 (fun i hi e => no ⟨e1, i, hi, e⟩)]
    rw [this]
  have bad : rdMem1 tp g n c m st t = Sum.inl (1, t.1) → wpB PGm ρ (d + 6) m_Md_readsMember 75 [(0, vR T), (1, vI (c : Int)), (2, vI (m : Int)), (3, vI st)] [vI 0, vR T] h Q := fun e => b_Md_readsMember_75 ⟨c1, t_mustQ H.1 (fun x => absurd rfl x) (fun _ h' a => flt e h' a)⟩
  refine b_Md_readsMember_47 ⟨c1, fun z => bad (by rw [rdMem1, if_pos (fun x => z (c4.mpr x))]), fun z => ⟨fun s0 => st75 (c4.mp z) (fun _ => s0), fun s1 => ?_⟩⟩
  have e1 := c4.mp z
  refine t_tw H.1 sNew (by omega) (fun _ x => x) (fun _ eN => ⟨fun _ => bad ?_, fun x => absurd x (by decide)⟩) (fun nN => ⟨fun x => absurd rfl x, fun _ => st75 e1 (fun x => absurd ⟨e1, x⟩ nN)⟩)
  rw [rdMem1, if_neg (by rw [e1]; simp), if_pos eN, if_pos s1]
end
