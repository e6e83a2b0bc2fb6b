/-! T reads parameters -/
set_option maxRecDepth 20000
def PAR (S0 S : Nat → Nat → Int) (m : Nat) (ps : List Int) (va : Int) : Prop := (∀ f i, ¬ (f = f_MdHost_parameters ∧ i = m) → ¬ (f = f_MdHost_variable ∧ i = m) → ¬ (f = f_MdHost_parameter ∧ 8 * m ≤ i ∧ i < 8 * m + 8) → S f i = S0 f i) ∧ mpr S m ps ∧ S f_MdHost_variable m = va
section
variable {ρ : Nat → Nat} {d : Nat} {h h' h0 k0 : ah} {F : Int → ah → Prop} {G : ah → Prop} {E : Nat → ah → Prop} {Q : QT} {C T ho a k : Nat} {tp : List Int} {t t' t1 t2 : TKN} {g g' : HG} {n m N c : Nat} {ws : List (List Int)} {S S0 : Nat → Nat → Int} {b : Int}
theorem PAR.hf {ps : List Int} {va : Int} (P : PAR S0 S m ps va) : ∀ f, f ∈ hfs → ∀ i, S f i = S0 f i := by
  intro f hm i
  simp only [hfs, List.mem_cons, List.not_mem_nil, or_false] at hm
  refine P.1 f i ?_ ?_ ?_ <;> rintro ⟨e, -⟩ <;> rcases hm with x | x | x | x | x | x | x | x | x <;> rw [x] at e <;> exact absurd e (by decide)
theorem PAR.hg {ps : List Int} {va : Int} (P : PAR S0 S m ps va) (H : HGS g n N tp S0) : HGS g n N tp S := H.cong P.hf
theorem PAR.mg {ps : List Int} {va : Int} (P : PAR S0 S m ps va) (H : MGS g m tp S0) : MGS g m tp S := H.cong (fun f hm i hi => P.1 f i (by omega) (by omega) (fun c => by
  simp only [mfs, List.mem_cons, List.not_mem_nil, or_false] at hm
  rcases hm with x | x | x | x | x | x | x | x <;> rw [x] at c <;> exact absurd c.1 (by decide))) (fun i hi => P.1 _ i (fun c => absurd c.1 (by decide)) (fun c => absurd c.1 (by decide)) (by omega))
theorem FX.tsm (H : FX LTq (PTq k) k0 h) (f : Fr TSM [] 0 0 h h') : FX LTq (PTq k) k0 h' := H.into ⟨_, _, f⟩ (fun f hm => by simp [LTq, hm]) (fun q c => by cases c)
theorem TQ.eh (H : TQ ρ h T k tp S n m t) (f : Fr TSM [] 0 0 h h') (e : hR h f_Md_halt T = T + 1) : hR h' f_Md_halt T = T + 1 := by rw [f.R H.2.2.2.2.2.2.2.2.1.1.2.2.2.2.2.2.2.2.2.1.1 (by decide) (nokW rfl rfl)]; exact e
/-- a write into one of the rows, with all that goes by it -/
theorem TQ.wr (H : TQ ρ h T k tp S n m t) (fx : FX LTq (PTq k) k0 h) (hk0 : k < hz k0) (heq : ∀ f, (lkA tabH f).isSome = true → hR h f k = hR k0 f k) {f a b i : Nat} {v : Int} (e : lkA tabH f = some (a, b)) (hf : f ≠ f_Md_tape ∧ f ≠ f_Md_text) : TQ ρ (sA h (hR h f k) i v) T k tp (u2 S f i v) n m t ∧ FX LTq (PTq k) k0 (sA h (hR h f k) i v) := by
  obtain ⟨x1, x2, x3⟩ := H.ne e hf
  exact ⟨H.w e x1 x2, fx.wH hk0 (heq f (by rw [e]; rfl)) e x3⟩
/-- T's host rows stand where they stood -/
def KQ (k0 h : ah) (k : Nat) : Prop := k < hz k0 ∧ ∀ f, (lkA tabH f).isSome = true → hR h f k = hR k0 f k
theorem KQ.tsm (H : KQ k0 h k) (Q : TQ ρ h T k tp S n m t) (f : Fr TSM [] 0 0 h h') : KQ k0 h' k := by
  refine ⟨H.1, fun g hg => ?_⟩
  obtain ⟨p, hp⟩ := Option.isSome_iff_exists.mp hg
  have hm := lkA_mem hp
  have h5 : tabH.all (fun q => Nat.ble 5 q.1) = true := by decide
  have hn : tabH.all (fun q => !(TSM.elem q.1) && !(TSM.elem (q.1 + 1))) = true := by decide
  have x := nokT2 (T := k) hn _ hm
  rw [f.R Q.1.1 (Nat.le_of_ble_eq_true (List.all_eq_true.mp h5 _ hm)) (fun c => x (Or.inl c))]
  exact H.2 g hg
theorem tyV_nz {l : List Int} (hnr : ∀ i, i < n → g.2 0 i ∉ plainW) (p0 : ¬ 0 < plc plainW l) (no : ∀ i, i < n → g.2 0 i ≠ l) : tyV g n l = none ∨ tyV g n l = some 0 := by
  unfold tyV
  by_cases c : 0 ≤ plc plainW l
  · rw [if_pos c]; exact Or.inr (by rw [show plc plainW l = 0 by omega])
  · rw [if_neg c, idxN_0 no]; exact Or.inl rfl
theorem t_pars (hg : HGS g n m tp S0) (df : difN g n) (hnr : ∀ i, i < n → g.2 0 i ∉ plainW) (hm4 : m < 400) (hc : c < 60) (hcn : c < n) (hd : 10 ≤ d) : ∀ f ps t h S, tp.length - t.1 < f → TQ ρ h T k tp S n m t → FX LTq (PTq k) k0 h → KQ k0 h k → hR h f_Md_halt T = T + 1 → PAR S0 S m ps 0 →
    (∀ h' S' ps' va t4, rdPars tp g n f ps t = Sum.inr (ps', va, t4) → TQ ρ h' T k tp S' n m t4 → FX LTq (PTq k) k0 h' → KQ k0 h' k → hR h' f_Md_halt T = T + 1 → PAR S0 S' m ps' va → t4.2.1 = 41 → wpB PGm ρ (d + 5) m_Md_readsParameters 220 [(0, vR T), (2, vI (m : Int)), (4, vI (g.1 3 c))] [] h' Q) →
    (∀ h' w p, rdPars tp g n f ps t = Sum.inl (w, p) → FLq k0 h' T k w p → Q (Sum.inr (T + 1)) h') →
    wpB PGm ρ (d + 5) m_Md_readsParameters 35 [(0, vR T), (1, vI (c : Int)), (2, vI (m : Int)), (3, vI 1)] [] h Q := by
  intro f
  induction f with
  | zero => intro ps t h S hm; omega
  | succ f ih =>
    intro ps t h S hmm H fx kq eh P q1 q2
    obtain ⟨c1, c2, c3, c4, c5, c6, c7⟩ := H.kn
    obtain ⟨a1, a2, a3, a4, a5, a6, a7, a8, a9, s31', s32', -⟩ := id H
    have gm : (0 : Int) ≤ (m : Int) ∧ (m : Int) < ((400 : Nat) : Int) := by omega
    have hgS : HGS g n m tp S := P.hg hg
    have flt : ∀ {w : Int} {h'}, HF T h h' w (t.1 : Int) → FLq k0 h' T k w t.1 := fun a => HF.fl fx eh a
    refine b_Md_readsParameters_35 ⟨fun z => absurd z (by decide), fun _ => ⟨c1, fun z => b_Md_readsParameters_53 ⟨c1, t_mustQ H (fun y => absurd rfl y) (fun _ h' a => by rw [eh]; exact q2 h' 1 t.1 (by rw [rdPars, if_pos (fun x => z (c4.mpr x))]) (flt a))⟩, fun z => b_Md_readsParameters_53 ⟨c1, t_mustQ H (fun _ => ⟨c1, ?_⟩) (fun y => absurd y (by decide))⟩⟩⟩
    have e1 := c4.mp z
    have ne1 : ¬ t.2.1 = -1 := by rw [e1]; decide
    have tb := a9.2.2.2.2.2.1 ne1
    -- it is a type
    have good : ∀ v, tyV g n (tkB tp t) = some v → ¬ v = 0 → wpB PGm ρ (d + 5) m_Md_readsParameters 80 [(0, vR T), (1, vI (c : Int)), (2, vI (m : Int))] [vI 1, vR T] h Q := by
      intro v ev nv
      have eq0 : rdPars tp g n (f + 1) ps t = if ps.length = 8 then Sum.inl (5, t.1) else
        if (nx tp 1 t).2.1 = 136 then (if (nx tp 1 (nx tp 1 t)).2.1 = 41 then Sum.inr (ps ++ [v], 1, nx tp 1 (nx tp 1 t)) else Sum.inl (1, (nx tp 1 (nx tp 1 t)).1)) else
        if (nx tp 1 t).2.1 = 44 then rdPars tp g n f (ps ++ [v]) (nx tp 1 (nx tp 1 t)) else
        if (nx tp 1 t).2.1 = 41 then Sum.inr (ps ++ [v], 0, nx tp 1 t) else Sum.inl (1, (nx tp 1 t).1) := by
        rw [rdPars, if_neg (by rw [e1]; simp), ev]
        simp only
        rw [if_neg nv]
      have ep : hA h (hR h f_MdHost_parameters k) m = (ps.length : Int) := (a4.g rfl m).trans P.2.1.1
      have l8 := P.2.1.2.1
      refine b_Md_readsParameters_80 ⟨c1, t_mustQ H (fun _ => ⟨c1, by rw [c6]; exact c7, ?_⟩) (fun y => absurd y (by decide))⟩
      rw [c6, Int.toNat_natCast, ep]
      refine ⟨a1.ri rfl gm, fun y => b_Md_readsParameters_104 ⟨c1, t_mustQ H (fun x => absurd rfl x) (fun _ h' a => by rw [eh]; exact q2 h' 5 t.1 (by rw [eq0, if_pos (by omega)]) (flt a))⟩, fun y => b_Md_readsParameters_104 ⟨c1, t_mustQ H (fun _ => ⟨c1, by rw [c6]; exact c7, ?_⟩) (fun x => absurd x (by decide))⟩⟩
      have n8 : ¬ ps.length = 8 := by omega
      rw [if_neg n8] at eq0
      have w8 : w32 (w32 (8 * (m : Int)) + (ps.length : Int)) = ((8 * m + ps.length : Nat) : Int) := w32_8 (by omega) (by omega)
      have g8 : (0 : Int) ≤ ((8 * m + ps.length : Nat) : Int) ∧ ((8 * m + ps.length : Nat) : Int) < ((3200 : Nat) : Int) := by clear w8; omega
      have p9 : ps.length ≤ 2000000000 := by clear w8; omega
      rw [c6, Int.toNat_natCast, ep, w8, Int.toNat_natCast]
      clear w8
      refine ⟨a1.ri rfl gm, t_ty (b := 0) H hgS df hd (fun v' _ ev' _ h2 f2 Q2 => ?_) (fun w h2 sf a => ?_)⟩
      rotate_left
      · rcases sf with ⟨x1, -⟩ | ⟨-, -, x3⟩
        · exact absurd e1 x1
        · rcases x3 with x3 | ⟨x3, -⟩
          · rw [ev] at x3; cases x3
          · rw [ev] at x3; exact absurd (Option.some.inj x3) nv
      have evv : v' = v := by rw [ev] at ev'; exact (Option.some.inj ev').symm
      subst evv
      have kq2 := kq.tsm H f2
      have fx2 := fx.tsm f2
      have eh2 := H.eh f2 eh
      have er : hR h f_MdHost_parameter k = hR h2 f_MdHost_parameter k := by rw [kq.2 _ (by decide), kq2.2 _ (by decide)]
      obtain ⟨a1', a2', a3', a4', -⟩ := id Q2
      rw [er]
      refine ⟨a1'.wi rfl g8, ?_⟩
      intro h20
      obtain ⟨Q20, fx20⟩ := Q2.wr fx2 kq2.1 kq2.2 (f := f_MdHost_parameter) (i := 8 * m + ps.length) (v := v') rfl (by decide)
      have kq20 : KQ k0 h20 k := kq2
      have mk20 : hR h20 f_Md_making T = k := a3'
      have ep2 : hA h20 (hR h20 f_MdHost_parameters k) m = (ps.length : Int) := (Q20.2.2.2.1.g rfl m).trans (by rw [u2_e, if_neg (fun x => absurd x.1 (by decide))]; exact P.2.1.1)
      rw [mk20, ep2, w32_s p9]
      refine ⟨Q20.kn.1, a2', a1'.ri rfl gm, a1'.wi rfl gm, ?_⟩
      intro h25
      obtain ⟨Q25, fx25⟩ := Q20.wr fx20 kq20.1 kq20.2 (f := f_MdHost_parameters) (i := m) (v := ((ps.length + 1 : Nat) : Int)) rfl (by decide)
      have kq25 : KQ k0 h25 k := kq2
      have eh25 : hR h25 f_Md_halt T = T + 1 := eh2
      generalize eS : u2 (u2 S f_MdHost_parameter (8 * m + ps.length) v') f_MdHost_parameters m ((ps.length + 1 : Nat) : Int) = S2 at *
      have P2 : PAR S0 S2 m (ps ++ [v']) 0 := by
        subst eS
        refine ⟨fun f i n1 n2 n3 => ?_, ⟨?_, by simp; omega, fun i hi => ?_⟩, ?_⟩
        · rw [u2_e, if_neg n1, u2_e, if_neg (fun x => n3 ⟨x.1, by omega, by omega⟩)]; exact P.1 f i n1 n2 n3
        · rw [u2_e, if_pos ⟨rfl, rfl⟩]; simp
        · simp only [List.length_append, List.length_cons, List.length_nil] at hi
          rw [u2_e, if_neg (fun x => absurd x.1 (by decide)), u2_e, app_getD1 (by omega)]
          by_cases ci : i = ps.length
          · rw [if_pos ⟨rfl, by omega⟩, if_pos ci]
          · rw [if_neg (fun x => ci (by omega)), if_neg ci]; exact P.2.1.2.2 i (by omega)
        · rw [u2_e, if_neg (fun x => absurd x.1 (by decide)), u2_e, if_neg (fun x => absurd x.1 (by decide))]; exact P.2.2
      have pos := tkE_pos a9.2.2.2.2.1 ne1 (by rw [e1]; decide)
      have le1 := nx_le (tp := tp) (t := t) tb.2
      -- the end of the row of parameters
      have fin : ∀ h9 S9 va t9, TQ ρ h9 T k tp S9 n m t9 → FX LTq (PTq k) k0 h9 → KQ k0 h9 k → hR h9 f_Md_halt T = T + 1 → PAR S0 S9 m (ps ++ [v']) va → (rdPars tp g n (f + 1) ps t = if t9.2.1 = 41 then Sum.inr (ps ++ [v'], va, t9) else Sum.inl (1, t9.1)) → wpB PGm ρ (d + 5) m_Md_readsParameters 35 [(0, vR T), (1, vI (c : Int)), (2, vI (m : Int)), (3, vI 0)] [] h9 Q := by
        intro h9 S9 va t9 Q9 fx9 kq9 eh9 P9 eq9
        obtain ⟨d1, d2, d3, d4, d5, d6, d7⟩ := Q9.kn
        have sg : (41 : Int) = sgv 41 := by decide
        refine b_Md_readsParameters_35 ⟨fun _ => ⟨d1, ?_⟩, fun z => absurd rfl z⟩
        rw [sg]
        refine t_isSign Q9.2.2.2.2.2.2.2.2.1 (Or.inl (by unfold sgc; decide)) (fun e => ⟨d1, t_mustQ Q9 (fun _ => ⟨d1, by rw [d6]; exact d7, ?_⟩) (fun y => absurd y (by decide))⟩) (fun ne => ⟨d1, t_mustQ Q9 (fun y => absurd rfl y) (fun _ h' a => by rw [eh9]; exact q2 h' 1 t9.1 (by rw [eq9, if_neg ne]) (HF.fl fx9 eh9 a))⟩)
        have gc : (0 : Int) ≤ (c : Int) ∧ (c : Int) < ((60 : Nat) : Int) := by omega
        have ef : hA h9 (hR h9 f_MdHost_first k) c = g.1 3 c := (Q9.2.2.2.1.g rfl c).trans ((P9.hg hg) c hcn).2.2.2.2.2.2.2.2.1
        rw [d6, Int.toNat_natCast, ef]
        exact ⟨Q9.1.ri rfl gc, q1 h9 S9 (ps ++ [v']) va t9 (by rw [eq9, if_pos e]) Q9 fx9 kq9 eh9 P9 e⟩
      -- one that may be repeated
      have sg2 : (262 : Int) = sgv 136 := by decide
      have n168 : ∀ h9 S9 va t9, TQ ρ h9 T k tp S9 n m t9 → FX LTq (PTq k) k0 h9 → KQ k0 h9 k → hR h9 f_Md_halt T = T + 1 → PAR S0 S9 m (ps ++ [v']) va → ((¬ va = 0 ∧ rdPars tp g n (f + 1) ps t = (if t9.2.1 = 41 then Sum.inr (ps ++ [v'], va, t9) else Sum.inl (1, t9.1))) ∨ (va = 0 ∧ t9 = nx tp 1 t ∧ ¬ t9.2.1 = 136)) → wpB PGm ρ (d + 5) m_Md_readsParameters 168 [(0, vR T), (1, vI (c : Int)), (2, vI (m : Int))] [] h9 Q := by
        intro h9 S9 va t9 Q9 fx9 kq9 eh9 P9 hcase
        obtain ⟨d1, d2, d3, d4, d5, d6, d7⟩ := Q9.kn
        have ev9 : hA h9 (hR h9 f_MdHost_variable k) m = va := (Q9.2.2.2.1.g rfl m).trans P9.2.2
        refine b_Md_readsParameters_168 ⟨d1, by rw [d6]; exact d7, ?_⟩
        rw [d6, Int.toNat_natCast, ev9]
        refine ⟨Q9.1.rt rfl gm, fun z => ?_, fun z => ?_⟩
        · rcases hcase with hcase | hcase
          · exact fin h9 S9 va t9 Q9 fx9 kq9 eh9 P9 hcase.2
          · exact absurd hcase.1 z
        · rcases hcase with hcase | ⟨hv, et, n136⟩
          · exact absurd z hcase.1
          · subst hv
            rw [← et, if_neg n136] at eq0
            have sg3 : (44 : Int) = sgv 44 := by decide
            rw [sg3]
            refine t_accepts Q9.2.2.2.2.2.2.2.2.1 (Or.inl (by unfold sgc; decide)) (fun e3 => ?_) (fun e3 => ⟨fun _ => ?_, fun y => absurd rfl y⟩)
            · rw [if_pos e3] at eq0
              have ne9 : ¬ t9.2.1 = -1 := by rw [e3]; decide
              have tb9 := Q9.2.2.2.2.2.2.2.2.1.2.2.2.2.2.1 ne9
              have le9 := nx_le (tp := tp) (t := t9) tb9.2
              refine t_hnx Q9 ne9 nx_ok (fun h10 f10 Q10 => ⟨fun y => absurd y (by decide), fun _ => ?_⟩)
              exact ih (ps ++ [v']) (nx tp 1 t9) h10 S9 (by rw [et] at tb9 le9 ⊢; omega) Q10 (fx9.tsm f10) (kq9.tsm Q9 f10) (Q9.eh f10 eh9) P9 (fun h' S' ps' va t4 e => q1 h' S' ps' va t4 (eq0.trans e)) (fun h' w p e => q2 h' w p (eq0.trans e))
            · rw [if_neg e3] at eq0
              exact fin h9 S9 0 t9 Q9 fx9 kq9 eh9 P9 eq0
      rw [sg2]
      refine t_accepts Q25.2.2.2.2.2.2.2.2.1 (Or.inr (by omega)) (fun e3 => ?_) (fun e3 => ⟨fun _ => n168 h25 S2 0 (nx tp 1 t) Q25 fx25 kq25 eh25 P2 (Or.inr ⟨rfl, rfl, e3⟩), fun y => absurd rfl y⟩)
      have ne3 : ¬ (nx tp 1 t).2.1 = -1 := by rw [e3]; decide
      refine t_hnx Q25 ne3 nx_ok (fun h28 f28 Q28 => ⟨fun y => absurd y (by decide), fun _ => ⟨Q28.kn.1, by rw [Q28.kn.2.2.2.2.2.1]; exact Q28.kn.2.2.2.2.2.2, ?_⟩⟩)
      rw [Q28.kn.2.2.2.2.2.1]
      refine ⟨Q28.1.wt rfl (Or.inr rfl) gm, ?_⟩
      intro h42
      have kq28 := kq25.tsm Q25 f28
      obtain ⟨Q42, fx42⟩ := Q28.wr (fx25.tsm f28) kq28.1 kq28.2 (f := f_MdHost_variable) (i := m) (v := 1) rfl (by decide)
      have P42 : PAR S0 (u2 S2 f_MdHost_variable m 1) m (ps ++ [v']) 1 := by
        refine ⟨fun f i n1 n2 n3 => by rw [u2_e, if_neg n2]; exact P2.1 f i n1 n2 n3, ⟨by rw [u2_e, if_neg (fun x => absurd x.1 (by decide))]; exact P2.2.1.1, P2.2.1.2.1, fun i hi => by rw [u2_e, if_neg (fun x => absurd x.1 (by decide))]; exact P2.2.1.2.2 i hi⟩, by rw [u2_e, if_pos ⟨rfl, rfl⟩]⟩
      have eh28 : hR h28 f_Md_halt T = T + 1 := Q25.eh f28 eh25
      exact n168 h42 _ 1 _ Q42 fx42 kq28 (show hR h42 f_Md_halt T = T + 1 from eh28) P42 (Or.inl ⟨by decide, by rw [eq0, if_pos e3]⟩)
    have no3 : ¬ 0 < plc plainW (tkB tp t) → ¬ (t.2.1 = 1 ∧ ∃ i, i < n ∧ g.2 0 i = tkB tp t) → rdPars tp g n (f + 1) ps t = Sum.inl (3, t.1) := fun y no => by
      rw [rdPars, if_neg (by rw [e1]; simp)]
      rcases tyV_nz hnr y (fun i hi e => no ⟨e1, i, hi, e⟩) with x | x
      · rw [x]
      · rw [x]; simp
    refine t_place a9 s32' spl32 (by omega) (fun _ => ⟨fun y => good (plc plainW (tkB tp t)) (by unfold tyV; rw [if_pos (by omega)]) (by omega), fun y => ⟨c1, ?_⟩⟩) (fun x => absurd e1 x)
    refine t_classHere H hgS (fun i hi _ e => ⟨fun x => by omega, fun _ => ?_⟩) (fun no => ⟨fun _ => b_Md_readsParameters_80 ⟨c1, t_mustQ H (fun x => absurd rfl x) (fun _ h' a => by rw [eh]; exact q2 h' 3 t.1 (no3 (by omega) no) (flt a))⟩, fun x => absurd x (by decide)⟩)
    have np : plc plainW (tkB tp t) < 0 := by
      apply Classical.byContradiction
      intro x
      exact hnr i hi (by rw [e]; exact plc_nn.mp (by omega))
    exact good (9 + (i : Int)) (by unfold tyV; rw [if_neg (by omega), idxN_e df hi e]) (by omega)
end
