/-! T: a class, and all -/
set_option maxRecDepth 20000
section
variable {ρ : Nat → Nat} {d : Nat} {h h' h0 k0 : ah} {F : Int → ah → Prop} {G : ah → Prop} {E : Nat → ah → Prop} {Q : QT} {C T ho a k : Nat} {tp : List Int} {t t' t1 t2 : TKN} {g g' : HG} {n m N c : Nat} {ws : List (List Int)} {S S0 : Nat → Nat → Int} {b so st ty va iF : Int} {ps nm : List Int}
/-- the rows of a class that is begun -/
def sCls (S : Nat → Nat → Int) (n m : Nat) (iF : Int) (a b : Nat) : Nat → Nat → Int := u2 (u2 (u2 (u2 (u2 (u2 (u2 (u2 S f_MdHost_isInterface n iF) f_MdHost_nameFrom n (a : Int)) f_MdHost_nameTo n (b : Int)) f_MdHost_above n (-1)) f_MdHost_supers n 0) f_MdHost_all n ((Int64.ofInt 1 <<< ((Int32.ofInt (n : Int)).toInt64 &&& 63)).toInt)) f_MdHost_first n (m : Int)) f_MdHost_many n 0
theorem sCls_o {x y f i : Nat} (e : i ≠ n ∨ f ∉ hfs) : sCls S n m iF x y f i = S f i := by
  have k : ∀ {f'}, f' ∈ hfs → ¬ (f = f' ∧ i = n) := fun hm c => e.elim (fun x => x c.2) (fun x => x (by rw [c.1]; exact hm))
  unfold sCls
  rw [u2_e, if_neg (k (by simp [hfs])), u2_e, if_neg (k (by simp [hfs])), u2_e, if_neg (k (by simp [hfs])), u2_e, if_neg (k (by simp [hfs])), u2_e, if_neg (k (by simp [hfs])), u2_e, if_neg (k (by simp [hfs])), u2_e, if_neg (k (by simp [hfs])), u2_e, if_neg (k (by simp [hfs]))]
theorem sCls_s {x y i : Nat} : sCls S n m iF x y f_MdHost_superOf i = S f_MdHost_superOf i := by
  unfold sCls
  rw [u2n (by decide), u2n (by decide), u2n (by decide), u2n (by decide), u2n (by decide), u2n (by decide), u2n (by decide), u2n (by decide)]
theorem HGS.cls {x y : Nat} (H : HGS g n m tp S) (hn : n < 60) (hif : iF = 0 ∨ iF = 1) (hxy : x ≤ y ∧ y ≤ tp.length) (en : byt (ch tp) x y = nm) : HGS (gCls g n m nm iF) (n + 1) m tp (sCls S n m iF x y) := by
  intro i hi
  by_cases e : i = n
  · subst e
    obtain ⟨g1, g2, g3, g4, g10, l0, l1, go⟩ := gCls_n (g := g) (n := i) (m := m) (nm := nm) (iF := iF)
    rw [g1, g2, g3, g4, l0, l1]
    refine ⟨?_, hif, ?_, by omega, by omega, ?_, by simp, fun k hk => by simp at hk, ?_, ?_, ⟨x, y, ?_, ?_, hxy.1, hxy.2, en⟩, fun j hj => ?_⟩
    · unfold sCls; rw [u2n (by decide), u2n (by decide), u2n (by decide), u2n (by decide), u2n (by decide), u2n (by decide), u2n (by decide), u2p]
    · unfold sCls; rw [u2n (by decide), u2n (by decide), u2n (by decide), u2n (by decide), u2p]
    · unfold sCls; rw [u2n (by decide), u2n (by decide), u2n (by decide), u2p]; rfl
    · unfold sCls; rw [u2n (by decide), u2p]
    · unfold sCls; rw [u2p]
    · unfold sCls; rw [u2n (by decide), u2n (by decide), u2n (by decide), u2n (by decide), u2n (by decide), u2n (by decide), u2p]
    · unfold sCls; rw [u2n (by decide), u2n (by decide), u2n (by decide), u2n (by decide), u2n (by decide), u2p]
    · rw [go]
      have : sCls S i m iF x y f_MdHost_all i = ((Int64.ofInt 1 <<< ((Int32.ofInt (i : Int)).toInt64 &&& 63)).toInt) := by
        unfold sCls; rw [u2n (by decide), u2n (by decide), u2p]
      rw [this]
      exact bt_one i hn j hj
  · obtain ⟨a1, a2, a3, a4, a5, a6, a7, a8, a9, a10, ⟨x', y', b1, b2, b3⟩, a12⟩ := H i (by omega)
    have o : ∀ f, sCls S n m iF x y f i = S f i := fun f => sCls_o (Or.inl e)
    rw [o, o, o, o, o, o, o, gCls_o ⟨e, by omega⟩, gCls_o ⟨e, by omega⟩, gCls_o ⟨e, by omega⟩, gCls_o ⟨e, by omega⟩, gCls_2 (by omega), gCls_2 (by omega)]
    refine ⟨a1, a2, a3, a4, a5, a6, a7, fun k hk => by rw [sCls_s]; exact a8 k hk, a9, a10, ⟨x', y', b1, b2, b3⟩, fun j hj => ?_⟩
    have : (gCls g n m nm iF).1 (100 + i) j = g.1 (100 + i) j := by
      by_cases e2 : j = n
      · subst e2; exact gCls_k (by omega) (by omega)
      · exact gCls_o ⟨e2, by omega⟩
    rw [this, o]; exact a12 j hj
theorem MGS.cls {x y : Nat} (H : MGS g m tp S) (hn : n < 60) : MGS (gCls g n m nm iF) m tp (sCls S n m iF x y) := by
  have H2 : MGS g m tp (sCls S n m iF x y) := H.cong (fun f hf i hi => sCls_o (Or.inr (by
    simp only [mfs, List.mem_cons, List.not_mem_nil, or_false] at hf
    rcases hf with x | x | x | x | x | x | x | x <;> subst x <;> decide))) (fun i hi => sCls_o (Or.inr (by decide)))
  intro j hj
  have e59 : ∀ q, 5 ≤ q → q ≤ 9 → (gCls g n m nm iF).1 q j = g.1 q j := fun q q1 q2 => by
    by_cases e : j = n
    · subst e; exact gCls_k (by omega) (by omega)
    · exact gCls_o ⟨e, by omega⟩
  rw [e59 5 (by omega) (by omega), e59 6 (by omega) (by omega), e59 7 (by omega) (by omega), e59 8 (by omega) (by omega), e59 9 (by omega) (by omega), gCls_2 (by omega), gCls_2 (by omega)]
  exact H2 j hj
theorem KQ.of (fx : FX LTq (PTq k) k0 h) (hk : k < hz k0) : KQ k0 h k := by
  obtain ⟨z, s, ff⟩ := fx
  refine ⟨hk, fun f hf => ?_⟩
  obtain ⟨p, hp⟩ := Option.isSome_iff_exists.mp hf
  have hm := lkA_mem hp
  have h5 : tabH.all (fun q => Nat.ble 5 q.1) = true := by decide
  have hn : tabH.all (fun q => !(LTq.elem q.1) && !(((PTq k).map Prod.fst).elem q.1)) = true := rfl
  have x := List.all_eq_true.mp hn _ hm
  simp only [Bool.and_eq_true, Bool.not_eq_true'] at x
  exact ff.R hk (Nat.le_of_ble_eq_true (List.all_eq_true.mp h5 _ hm)) (nokW x.1 x.2)
theorem t_cls (H : TW ρ k0 h T k tp S n m t) (hg : HGS g n m tp S) (mg : MGS g m tp S) (ok : gOK g n m) (hif : iF = 0 ∨ iF = 1) (hd : 10 ≤ d)
    (q1 : ∀ h' S' g' m' t', rdCls tp g n m iF t = Sum.inr (g', m', t') → TW ρ k0 h' T k tp S' (n + 1) m' t' → HGS g' (n + 1) m' tp S' → MGS g' m' tp S' → gOK g' (n + 1) m' → t.1 < t'.1 → Q (Sum.inl none) h')
    (q2 : ∀ h' w p, rdCls tp g n m iF t = Sum.inl (w, p) → FLq k0 h' T k w p → Q (Sum.inr (T + 1)) h') :
    wpB PGm ρ (d + 7) m_Md_readsClass 56 [(0, vR T), (1, vI iF)] [vI (if t.2.1 = 1 then 1 else 0), vR T] h Q := by
  obtain ⟨fo, df, hnr⟩ := ok
  obtain ⟨c1, c2, c3, c4, c5, c6, c7⟩ := H.1.kn
  obtain ⟨a1, a2, a3, a4, a5, a6, hn60, hm400, a9, s31', s32', SS, Hr, hTk⟩ := id H.1
  have flt : ∀ {w : Int}, (rdCls tp g n m iF t = Sum.inl (w, t.1)) → ∀ h', HF T h h' w (t.1 : Int) → Q (Sum.inr (hR h f_Md_halt T)) h' := fun e h' a => by rw [H.2.2.2.1]; exact q2 h' _ t.1 e (H.fl a)
  by_cases e1 : t.2.1 = 1
  rotate_left
  · rw [if_neg e1]
    exact b_Md_readsClass_56 ⟨c1, t_mustQ H.1 (fun x => absurd rfl x) (fun _ h' a => flt (by rw [rdCls, if_pos e1]) h' a)⟩
  rw [if_pos e1]
  have ne1 : ¬ t.2.1 = -1 := by rw [e1]; decide
  have tb := a9.2.2.2.2.2.1 ne1
  have bad : (resv (tkB tp t) ∨ ∃ i, i < n ∧ g.2 0 i = tkB tp t) → wpB PGm ρ (d + 7) m_Md_readsClass 83 [(0, vR T), (1, vI iF)] [vI 0, vR T] h Q := fun e => b_Md_readsClass_83 ⟨c1, t_mustQ H.1 (fun x => absurd rfl x) (fun _ h' a => flt (by rw [rdCls, if_neg (by rw [e1]; simp), if_pos e]) h' a)⟩
  refine b_Md_readsClass_56 ⟨c1, t_mustQ H.1 (fun _ => ⟨c1, ?_⟩) (fun x => absurd x (by decide))⟩
  refine t_classHere H.1 hg (fun i hi _ e => ⟨fun _ => bad (Or.inr ⟨i, hi, e⟩), fun x => by omega⟩) (fun no => ⟨fun x => absurd x (by decide), fun _ => ⟨c1, ?_⟩⟩)
  refine t_oneOf a9 s31' spl31 (by omega) (fun _ e => ⟨fun _ => bad (Or.inl (resv_e.mp e)), fun x => absurd x (by decide)⟩) (fun nr => ⟨fun x => absurd rfl x, fun _ => b_Md_readsClass_83 ⟨c1, t_mustQ H.1 (fun _ => ⟨c1, by rw [c6]; exact c7, ?_⟩) (fun x => absurd x (by decide))⟩⟩)
  have nr2 : ¬ resv (tkB tp t) := fun x => nr ⟨e1, resv_e.mpr x⟩
  have no2 : ∀ i, i < n → g.2 0 i ≠ tkB tp t := fun i hi e => no ⟨e1, i, hi, e⟩
  have eq0 : rdCls tp g n m iF t = if n = 60 then Sum.inl (5, t.1) else
    match (if (nx tp 1 t).2.1 = 58 then rdSups tp n (tp.length + 1) (gCls g n m (tkB tp t) iF) (nx tp 1 t) else Sum.inr (gCls g n m (tkB tp t) iF, nx tp 1 t)) with
    | Sum.inl e => Sum.inl e
    | Sum.inr (g1, t1) => if ¬ t1.2.1 = 123 then Sum.inl (1, t1.1) else rdTail tp (n + 1) n (tp.length + 1) g1 m (nx tp 1 t1) := by
    rw [rdCls, if_neg (by rw [e1]; simp), if_neg (fun x => x.elim nr2 (fun ⟨i, hi, e⟩ => no2 i hi e))]
    rfl
  rw [c6, a5]
  refine ⟨fun z => b_Md_readsClass_105 ⟨c1, t_mustQ H.1 (fun x => absurd rfl x) (fun _ h' a => flt (by rw [eq0, if_pos (by omega)]) h' a)⟩, fun z => b_Md_readsClass_105 ⟨c1, t_mustQ H.1 (fun _ => ⟨c1, by rw [c6]; exact c7, ?_⟩) (fun x => absurd x (by decide))⟩⟩
  have hn : n < 60 := by omega
  rw [if_neg (by omega)] at eq0
  have gn : (0 : Int) ≤ (n : Int) ∧ (n : Int) < ((60 : Nat) : Int) := by omega
  have eto : hI h f_Md_to T = (t.2.2.1 : Int) := a9.2.2.2.1.2.1 ne1
  rw [c6, a5, Int.toNat_natCast]
  refine ⟨a1.wt rfl hif gn, ?_⟩
  intro h12
  have H12 : TW ρ k0 h12 T k tp (u2 S f_MdHost_isInterface n iF) n m t := H.w rfl (by decide)
  rw [show hR h12 f_Md_making T = k from c6, show hI h12 f_Md_from T = (t.1 : Int) from c5]
  refine ⟨c7, a1.wi rfl gn, ?_⟩
  intro h15
  have H15 := H12.w (f := f_MdHost_nameFrom) (i := n) (v := (t.1 : Int)) rfl (by decide)
  rw [show hR h15 f_Md_making T = k from c6, show hI h15 f_Md_to T = (t.2.2.1 : Int) from eto]
  refine ⟨c7, a1.wi rfl gn, ?_⟩
  intro h18
  have H18 := H15.w (f := f_MdHost_nameTo) (i := n) (v := (t.2.2.1 : Int)) rfl (by decide)
  rw [show hR h18 f_Md_making T = k from c6]
  refine ⟨c7, a1.wi rfl gn, ?_⟩
  intro h21
  have H21 := H18.w (f := f_MdHost_above) (i := n) (v := -1) rfl (by decide)
  rw [show hR h21 f_Md_making T = k from c6]
  refine ⟨c7, a1.wi rfl gn, ?_⟩
  intro h25
  have H25 := H21.w (f := f_MdHost_supers) (i := n) (v := 0) rfl (by decide)
  rw [show hR h25 f_Md_making T = k from c6]
  refine ⟨c7, a1.wl rfl gn, ?_⟩
  intro h28
  have H28 := H25.w (f := f_MdHost_all) (i := n) (v := ((Int64.ofInt 1 <<< ((Int32.ofInt (n : Int)).toInt64 &&& 63)).toInt)) rfl (by decide)
  rw [show hR h28 f_Md_making T = k from c6, show hI h28 f_MdHost_members k = (m : Int) from a6]
  refine ⟨c7, a1.wi rfl gn, ?_⟩
  intro h31
  have H31 := H28.w (f := f_MdHost_first) (i := n) (v := (m : Int)) rfl (by decide)
  refine b_Md_readsClass_201 ⟨c1, by rw [show hR h31 f_Md_making T = k from c6]; exact c7, ?_⟩
  rw [show hR h31 f_Md_making T = k from c6]
  refine ⟨a1.wi rfl gn, ?_⟩
  intro h5
  have H5 : TW ρ k0 h5 T k tp (sCls S n m iF t.1 t.2.2.1) n m t := H31.w (f := f_MdHost_many) (i := n) (v := 0) rfl (by decide)
  have hg5 := hg.cls hn hif tb (nm := tkB tp t) rfl
  have mg5 := mg.cls (nm := tkB tp t) (iF := iF) (x := t.1) (y := t.2.2.1) hn
  clear_value h5
  generalize sCls S n m iF t.1 t.2.2.1 = S5 at *
  clear H12 H15 H18 H21 H25 H28 H31
  refine t_hnx H5.1 ne1 nx_ok (fun h8 f8 Q8 => ⟨Q8.kn.1, ?_⟩)
  have H8 := H5.nxt f8 Q8
  have V8 := H.vt.nx ne1 (by rw [e1]; decide)
  generalize et8 : nx tp 1 t = t8 at *
  obtain ⟨g1c, g2c, g3c, g4c, g10c, l0c, l1c, goc⟩ := gCls_n (g := g) (n := n) (m := m) (nm := tkB tp t) (iF := iF)
  have k3 : ∀ i, i < n → (gCls g n m (tkB tp t) iF).1 3 i = g.1 3 i := fun i hi => gCls_o ⟨by omega, by omega⟩
  have k4 : ∀ i, i < n → (gCls g n m (tkB tp t) iF).1 4 i = g.1 4 i := fun i hi => gCls_o ⟨by omega, by omega⟩
  have kn : ∀ i, i < n → (gCls g n m (tkB tp t) iF).2 0 i = g.2 0 i := fun i hi => gCls_2 (by omega)
  have rest : ∀ h9 gX S9 t9, TW ρ k0 h9 T k tp S9 n m t9 → HGS gX (n + 1) m tp S9 → MGS gX m tp S9 → kept (gCls g n m (tkB tp t) iF) gX n → (t9.2.1 = 123 → t.1 < t9.1) → (rdCls tp g n m iF t = if ¬ t9.2.1 = 123 then Sum.inl (1, t9.1) else rdTail tp (n + 1) n (tp.length + 1) gX m (nx tp 1 t9)) → wpB PGm ρ (d + 7) m_Md_readsClass 246 [(0, vR T), (2, vI (n : Int))] [] h9 Q := by
    intro h9 gX S9 t9 H9 hg9 mg9 kp lt9 eq9
    obtain ⟨d1, d2, d3, d4, d5, d6, d7⟩ := H9.1.kn
    have x3 : ∀ i, gX.1 3 i = (gCls g n m (tkB tp t) iF).1 3 i := fun i => kp.1 3 i (by omega) (by omega)
    have x4 : ∀ i, gX.1 4 i = (gCls g n m (tkB tp t) iF).1 4 i := fun i => kp.1 4 i (by omega) (by omega)
    have xn : ∀ i, gX.2 0 i = (gCls g n m (tkB tp t) iF).2 0 i := fun i => kp.2 0 i (by omega)
    have mk : mOK gX (n + 1) n m := by
      refine ⟨fun i hi => ?_, by omega, by rw [x3, x4, g3c, g4c]; simp, fun i j hi hj e => ?_, fun i hi => ?_, ?_, fun i hi ne => ?_⟩
      · by_cases c : i = n
        · rw [c, x3, x4, g3c, g4c]; omega
        · rw [x3, x4, k3 i (by omega), k4 i (by omega)]; exact fo i (by omega)
      · rw [xn, xn] at e
        by_cases ci : i = n
        · by_cases cj : j = n
          · omega
          · rw [ci, l0c, kn j (by omega)] at e
            exact absurd e.symm (no2 j (by omega))
        · by_cases cj : j = n
          · rw [cj, l0c, kn i (by omega)] at e
            exact absurd e (no2 i (by omega))
          · rw [kn i (by omega), kn j (by omega)] at e
            exact df i j (by omega) (by omega) e
      · rw [xn]
        by_cases c : i = n
        · rw [c, l0c]; exact fun x => nr2 (Or.inl x)
        · rw [kn i (by omega)]; exact hnr i (by omega)
      · rw [kp.1 10 n (by omega) (by omega)]; exact g10c
      · have := fo i (by omega)
        rw [x3, x4, x3, g3c, k3 i (by omega), k4 i (by omega)]; exact this.2.2
    refine b_Md_readsClass_246 ⟨d1, by rw [d6]; exact d7, ?_⟩
    obtain ⟨p1, p2, p3, p4, p5, p6, p7, p8, p9, r1, r2, r3, r4, r5⟩ := id H9.1
    rw [d6, p5, w32_s (by omega)]
    intro h10
    have Q10 : TQ ρ h10 T k tp S9 (n + 1) m t9 := by
      have f10 : Fr [f_MdHost_classes] [] 0 0 h9 h10 := Fr.wI (by decide) (Or.inl (by simp)) Fr.r0
      refine ⟨p1, p2, p3, p4, I_I _ _ _ _, ?_, by omega, p8, ?_, r1, r2, r3, r4, r5⟩
      · show hI (sI h9 f_MdHost_classes k _) f_MdHost_members k = _
        rw [I_Ine (by decide)]; exact p6
      · exact p9.fr f10 (nokAll rfl) (fun y c => by cases c)
    have H10 : TW ρ k0 h10 T k tp S9 (n + 1) m t9 := ⟨Q10, H9.2.1.into ⟨0, 0, Fr.wI (L := []) (P := [(f_MdHost_classes, k)]) (by decide) (Or.inr (by simp)) Fr.r0⟩ (fun f c => by cases c) (fun q hq => Or.inl (by simp at hq; subst hq; simp [PTq])), H9.2.2.1, H9.2.2.2⟩
    clear_value h10
    have sg : (123 : Int) = sgv 123 := by decide
    rw [sg]
    refine t_takes H10.1.2.2.2.2.2.2.2.2.1 (Or.inl (by unfold sgc; decide)) (fun e => t_hnx H10.1 (by rw [e]; decide) nx_ok (fun h11 f11 Q11 => ?_)) (fun ne h' a => ⟨H10.1.hk a, by rw [H10.2.2.2.1]; exact q2 h' 1 _ (by rw [eq9, if_pos ne]) (H10.fl a)⟩)
    rw [if_neg (by rw [e]; simp)] at eq9
    have lt := (H10.vt.nx (by rw [e]; decide) (by rw [e]; decide)).2
    have := lt9 e
    refine t_tail hd (tp.length + 1) gX m (nx tp 1 t9) h11 S9 (by omega) (H10.nxt f11 Q11) hg9 mg9 mk (fun h' S' g' m' t' e' H' hg' mg' ⟨g2, y1, y2, y3⟩ l' => q1 h' S' g' m' t' (eq9.trans e') H' hg' mg' ?_ (by omega)) (fun h' w p e => q2 h' w p (eq9.trans e))
    obtain ⟨z1, z2, z3, z4, z5, -⟩ := y2
    refine ⟨fun i hi => ?_, fun i j hi hj e => ?_, fun i hi => ?_⟩
    · rw [y1, gSet_1 (by decide), gSet_1 (by decide)]; exact z1 i hi
    · rw [y1] at e; exact z4 i j hi hj e
    · rw [y1]; exact z5 i hi
  have sg : (58 : Int) = sgv 58 := by decide
  rw [sg]
  refine t_accepts Q8.2.2.2.2.2.2.2.2.1 (Or.inl (by unfold sgc; decide)) (fun e3 => ?_) (fun e3 => ⟨fun _ => ?_, fun y => absurd rfl y⟩)
  · rw [if_pos e3] at eq0
    have ne8 : ¬ t8.2.1 = -1 := by rw [e3]; decide
    have tb8 := H8.vt.2 ne8
    have p8 := tkE_pos H8.vt.1 ne8 (by rw [e3]; decide)
    refine t_hnx Q8 ne8 nx_ok (fun h15 f15 Q15 => ⟨fun y => absurd y (by decide), fun _ => ⟨Q15.kn.1, ?_⟩⟩)
    have H15 := H8.nxt f15 Q15
    refine t_sups (d := d + 2) (k0 := k0) (T := T) (k := k) (tp := tp) (n := n) (m := m) (Q := Q) (tp.length + 1) (gCls g n m (tkB tp t) iF) t8 h15 (by omega) p8 tb8.2 ⟨⟨S5, Q15, hg5, mg5⟩, H15.2.1, H15.2.2.2.1⟩ hn ⟨by rw [l1c]; exact List.nodup_nil, fun x hx => by rw [l1c] at hx; cases hx⟩ (fun i j hi hj e => df i j hi hj (by rw [kn i hi, kn j hj] at e; exact e)) (fun h9 g9 t9 e9 R9 kp9 => ?_) (fun h' w p e => q2 h' w p (by rw [eq0, e]))
    obtain ⟨⟨S9, Q9, hg9, mg9⟩, fx9, eh9⟩ := R9
    refine rest h9 g9 S9 t9 ⟨Q9, fx9, KQ.of fx9 H.2.2.1.1, eh9, H.2.2.2.2⟩ hg9 mg9 kp9 ?_ ?_
    · intro e123
      rcases e9 with e9 | ⟨e9, b9⟩
      · have := rdSups_lt _ _ _ _ _ H8.vt (by rw [e3]; decide) (by rw [e3]; decide) e9
        omega
      · rw [b9] at e123; exact absurd e123 (by decide)
    · rcases e9 with e9 | ⟨e9, b9⟩
      · rw [eq0, e9]
      · rw [eq0, e9, if_pos (by rw [b9]; decide)]
  · rw [if_neg e3] at eq0
    exact rest h8 _ S5 t8 H8 hg5 mg5 ⟨fun _ _ _ _ => rfl, fun _ _ _ => rfl⟩ (fun _ => by omega) eq0
end
