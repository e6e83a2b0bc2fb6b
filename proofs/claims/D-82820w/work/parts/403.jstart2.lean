set_option maxRecDepth 20000
section
variable {ρ : Nat → Nat} {d : Nat} {Q : QT} {Γ Γ' Γ1 Γ2 : GH} {h h' h1 h2 H : ah} {C ho N M z s t o n c r i j k p a T cd fn ck mk vs rk np : Nat} {g g' : HG} {S S' S1 S2 : SS} {X X' X1 X2 : X3} {Y Y' Y1 Y2 : Y3} {ws ws' hw : List (List Int)} {x y ty v fl l1 l2 : Int} {h0 : ah}
def ncX (X : X3) (mk ck : Nat) : X3 := u3 (u3 X 50 f_Heap_made 0 ((mk + 1 : Nat) : Int)) 50 f_Heap_calls 0 ((ck + 1 : Nat) : Int)
theorem tk3' {f : Nat} (e : L3.elem f = true) (hi : i < 200) : tkR t f (200 * t + i) := Or.inr (Or.inr (Or.inl ⟨e, by omega⟩))
theorem sb_st {Sa Sz : SS} {ar fc ty v nw m q : Int} {fm nn jj : Nat} (ez : ∀ f i, f ≠ f_Md_state → Sz f i = Sa f i) (e0 : ∀ i, i ≠ t → Sz f_Md_state i = Sa f_Md_state i) : u2 (enS (ncS Sa ck mk vs rk ar fm nn np jj) t c fc x ty v nw m q) f_Md_state t 1 = u2 (enS (ncS Sz ck mk vs rk ar fm nn np jj) t c fc x ty v nw m q) f_Md_state t 1 := by
  funext f i
  by_cases z : f = f_Md_state
  · subst z
    rw [u2_e, u2_e]
    by_cases w : i = t
    · rw [if_pos ⟨rfl, w⟩, if_pos ⟨rfl, w⟩]
    · rw [if_neg (fun c => w c.2), if_neg (fun c => w c.2), enS_off _ _ (by decide), enS_off _ _ (by decide), ncS_off _ _ (by decide), ncS_off _ _ (by decide), e0 i w]
  · rw [u2_f z, u2_f z]
    unfold enS ncS
    simp only [u2_e]
    rw [ez f i z]
    simp only [ez f_Md_pileType _ (by decide), ez f_Md_pileValue _ (by decide)]
/-- what a start leaves, on both sides -/
theorem j_begin (A : ALL ρ Γ h C ho X Y S g N M hw ws) (W : HWF g N M) (hto : isTO t o) (ns : ¬ S f_Md_state t = 1) (f1 : (fn : Int) < S f_Md_functions 0) (gm : gou Γ fn = fn) (ek : S f_Md_calls 0 = (ck : Int)) (em : S f_Md_allMade 0 = (mk : Int)) (evs : S f_Md_variables 0 = (vs : Int)) (er : S f_Md_allSlots 0 = (rk : Int)) (hr : mk + 1 ≤ 8000 ∧ rk ≤ 60000) (G2 : AC H C) (F2 : FC H C) (NVv : NV (cc h C X2 Y2) H 0 0 0 (fun _ => 0) (fun _ => 0)) : STW ρ Γ h C ho S g N M hw (gcal Γ ck (hz h) fn) H (entX (bgX (ncX X mk ck) o) o 0 0 0 0) (entY Y o 0 (hB h (C + 56) fn) (hz h) 0) (sbS S t fn ck mk vs rk np) ws 0 0 := by
  obtain ⟨n, c, r, K⟩ := A.ct hto
  obtain ⟨ht, io⟩ := hto.le
  obtain ⟨HC, E, MS⟩ := id A
  have K0 := K.zero
  have C0 := HC.task hto K0 zr_ns zr_nx
  -- rows that are written down
  have oa : OFF [f_Md_thrown, f_Md_t, f_Md_p0, f_Md_f0, f_Md_top] (zrS S t) (u2 (tkS (rzS (u2 S f_Md_thrown 0 0) t) t 0) f_Md_state t 0) := fun f i hf => by
    have hn : ∀ g, [f_Md_thrown, f_Md_t, f_Md_p0, f_Md_f0, f_Md_top].elem g = true → f ≠ g := fun g hg c => by rw [c, hg] at hf; cases hf
    unfold zrS
    rw [u2_e, u2_e]
    unfold tkS
    rw [u2_f (hn _ (by decide)), u2_f (hn _ (by decide)), u2_f (hn _ (by decide)), u2_f (hn _ (by decide))]
    unfold rzS
    have ne : ¬ (f = f_Md_thrown ∧ i = 0) := fun c => hn _ (by decide) c.1
    simp only [u2_e]
    rw [if_neg ne]
  have ob : OFF LSb S (u2 (tkS (rzS (u2 S f_Md_thrown 0 0) t) t 0) f_Md_state t 0) := by
    unfold tkS rzS
    exact ((((((((OFF.rf.u (by decide +kernel)).u (by decide +kernel)).u (by decide +kernel)).u (by decide +kernel)).u (by decide +kernel)).u (by decide +kernel)).u (by decide +kernel)).u (by decide +kernel)).u (by decide +kernel)
  have s0 : ∀ f, f = f_Md_frames ∨ f = f_Md_height ∨ f = f_Md_tries → u2 (tkS (rzS (u2 S f_Md_thrown 0 0) t) t 0) f_Md_state t 0 f t = 0 := fun f hf => by
    rw [oa f t (by rcases hf with rfl | rfl | rfl <;> decide)]
    unfold zrS rzS
    rcases hf with rfl | rfl | rfl
    · rw [u2_f (by decide), u2_f (by decide), u2_f (by decide), u2_s]
    · rw [u2_f (by decide), u2_f (by decide), u2_s]
    · rw [u2_f (by decide), u2_s]
  have eS : sbS S t fn ck mk vs rk np = u2 (enS (ncS (u2 (tkS (rzS (u2 S f_Md_thrown 0 0) t) t 0) f_Md_state t 0) ck mk vs rk (-1) 0 0 np 0) t 0 (fn : Int) (ck : Int) 0 0 (-1) 0 0) f_Md_state t 1 := sb_st (fun f i hf => u2_f hf) (fun i hi => by rw [u2_e, if_neg (fun c => hi c.2)])
  rw [eS]
  clear eS
  generalize u2 (tkS (rzS (u2 S f_Md_thrown 0 0) t) t 0) f_Md_state t 0 = Sa at *
  obtain ⟨⟨Ca, cma⟩, -⟩ := C0.fzz (L := []) (Pp := []) (X' := zrX X o) (Y' := Y) (S' := Sa) (Fr.r0 : Fr [] [] 0 0 h h) (by unfold DJ; decide +kernel) (fun y c => by cases c) (oa.ex (by decide +kernel)) (Int.le_of_eq (oa _ _ (by decide)).symm) EXX.rf (fun _ _ _ _ => rfl)
  have esb := fun {L : List Nat} (q : L.all (fun f => !(LSb.elem f)) = true) => ob.ex (L' := L) q
  have w := esb (L := [f_Md_functions, f_Md_calls, f_Md_allMade, f_Md_variables, f_Md_allSlots, f_Md_variablesOf, f_Md_codeSize]) (by decide +kernel)
  obtain ⟨fnn, fe, f400, flen, FN⟩ := HC.2.2.2.1
  obtain ⟨⟨ka, az, a0⟩, -, -, -, -, -, -, -, ⟨pv1, pv2, pv3⟩, ⟨-, go⟩, -, kf, zf, kf1, kf2, kf3, -, -, gh0, gt0, -⟩ := FN fn (by omega)
  have ev : S f_Md_variablesOf fn = 0 := go gm
  obtain ⟨⟨Cb, cmb⟩, gb, bdb, frb⟩ := Ca.ncm (f := fn) (nv := 0) (E := 0) (np := np) (fm := 0) (ck := ck) (mk := mk) (vs := vs) (rk := rk) (tg := fun _ => 0) (wd := fun _ => 0) G2 F2 (by rw [Nat.zero_min]; exact NVv) (by rw [w _ (by decide)]; exact f1) (by rw [w _ (by decide)]; exact ev) (by omega) gm (by rw [w _ (by decide)]; exact ek) (by rw [w _ (by decide)]; exact em) (by rw [w _ (by decide)]; exact evs) (by rw [w _ (by decide)]; exact er) ⟨hr.1, by omega⟩ (fun i hi => by rw [Nat.zero_min] at hi; omega)
  have Kb := cmb (cma K0)
  have nco : OFF LNC Sa (ncS Sa ck mk vs rk (-1) 0 0 np 0) := fun f i hf => ncS_off f i hf
  obtain ⟨n1, n2, n3, n4⟩ := ncS_1 (S := Sa) (ck := ck) (mk := mk) (vs := vs) (rk := rk) (v := -1) (fm := 0) (n := 0) (np := np) (j := 0)
  generalize ncS Sa ck mk vs rk (-1) 0 0 np 0 = Sb at *
  have z0 : ∀ f, f = f_Md_frames ∨ f = f_Md_height ∨ f = f_Md_tries → Sb f t = 0 := fun f hf => by
    rw [nco f t (by rcases hf with rfl | rfl | rfl <;> decide)]; exact s0 f hf
  -- the new task
  have eo : ∀ f, f ≠ f_Md_state → LEN.elem f = false → ∀ i, u2 (enS Sb t 0 (fn : Int) (ck : Int) 0 0 (-1) 0 0) f_Md_state t 1 f i = Sb f i := fun f h1 h2 i => by
    rw [u2_f h1]
    exact enS_off f i h2
  have el : u2 (enS Sb t 0 (fn : Int) (ck : Int) 0 0 (-1) 0 0) f_Md_state t 1 f_Md_frames t = 1 := by
    rw [u2_f (by decide)]
    unfold enS
    rw [u2_f (by decide), u2_f (by decide), u2_f (by decide), u2_f (by decide), u2_f (by decide), u2_f (by decide), u2_f (by decide), u2_f (by decide), u2_s]
    rfl
  have nsn : NSt t Sb (u2 (enS Sb t 0 (fn : Int) (ck : Int) 0 0 (-1) 0 0) f_Md_state t 1) := by
    unfold enS
    exact NSt.u (tk1 (by decide)) (NSt.u (tk3' (by decide) (by omega)) (NSt.u (tk3' (by decide) (by omega)) (NSt.u (tk3' (by decide) (by omega)) (NSt.u (tk3' (by decide) (by omega)) (NSt.u (tk3' (by decide) (by omega)) (NSt.u (tk3' (by decide) (by omega)) (NSt.u (tk3' (by decide) (by omega)) (NSt.u (tk3' (by decide) (by omega)) (NSt.u (tk1 (by decide)) (NSt.u (tk5 (by decide)) NSt.rf))))))))))
  have oen : OFF (f_Md_state :: LEN) Sb (u2 (enS Sb t 0 (fn : Int) (ck : Int) 0 0 (-1) 0 0) f_Md_state t 1) := fun f i hf => eo f (by rintro rfl; exact absurd hf (by decide)) (by
    cases q : LEN.elem f with
    | false => rfl
    | true =>
      have : f ∈ f_Md_state :: LEN := List.mem_cons_of_mem _ (by simpa using q)
      have : (f_Md_state :: LEN).elem f = true := by simpa using this
      rw [this] at hf; cases hf) i
  have sst : u2 (enS Sb t 0 (fn : Int) (ck : Int) 0 0 (-1) 0 0) f_Md_state t 1 f_Md_state t = 1 := u2_s
  have frows : u2 (enS Sb t 0 (fn : Int) (ck : Int) 0 0 (-1) 0 0) f_Md_state t 1 f_Md_frameFunction (200 * t) = (fn : Int) ∧ u2 (enS Sb t 0 (fn : Int) (ck : Int) 0 0 (-1) 0 0) f_Md_state t 1 f_Md_frameAt (200 * t) = 0 ∧ u2 (enS Sb t 0 (fn : Int) (ck : Int) 0 0 (-1) 0 0) f_Md_state t 1 f_Md_frameAround (200 * t) = (ck : Int) ∧ u2 (enS Sb t 0 (fn : Int) (ck : Int) 0 0 (-1) 0 0) f_Md_state t 1 f_Md_thisType (200 * t) = 0 ∧ u2 (enS Sb t 0 (fn : Int) (ck : Int) 0 0 (-1) 0 0) f_Md_state t 1 f_Md_thisValue (200 * t) = 0 ∧ u2 (enS Sb t 0 (fn : Int) (ck : Int) 0 0 (-1) 0 0) f_Md_state t 1 f_Md_frameNew (200 * t) = -1 ∧ u2 (enS Sb t 0 (fn : Int) (ck : Int) 0 0 (-1) 0 0) f_Md_state t 1 f_Md_frameBase (200 * t) = 0 ∧ u2 (enS Sb t 0 (fn : Int) (ck : Int) 0 0 (-1) 0 0) f_Md_state t 1 f_Md_frameTries (200 * t) = 0 := by
    unfold enS
    simp (decide := true) only [Nat.add_zero, u2_f, u2_s, u2_e, ne_eq, not_false_eq_true, true_and, and_true, if_true, if_false, false_and, and_false, if_neg, if_pos, and_self]
  generalize u2 (enS Sb t 0 (fn : Int) (ck : Int) 0 0 (-1) 0 0) f_Md_state t 1 = Sf at *
  have gf := gb.1.2 fn (by rw [w _ (by decide)]; exact f1)
  have gcf' : gcf (gcal Γ ck (hz h) fn) ck = fn := by show (if ck = ck then fn else _) = fn; rw [if_pos rfl]
  have gva' : gva (gcal Γ ck (hz h) fn) ck = hz h := by show (if ck = ck then hz h else _) = hz h; rw [if_pos rfl]
  have Kf : CT (gcal Γ ck (hz h) fn) H C (entX (bgX (ncX X mk ck) o) o 0 0 0 0) (entY Y o 0 (hB h (C + 56) fn) (hz h) 0) Sf N t o 0 1 0 := by
    refine CT.first (fn := fn) (ck := ck) hto ?_ gh0 gt0 ?_ ?_ gcf' ?_ ⟨sst, ?_, el, ?_⟩ frows ?_ ?_ ?_
    · rw [oen _ _ (by decide), nco _ _ (by decide), w _ (by decide)]; exact f1
    · rw [oen _ _ (by decide), nco _ _ (by decide), w _ (by decide)]; omega
    · rw [oen _ _ (by decide), n1]; omega
    · obtain ⟨l, l1, l2, l3, -, l5, l6⟩ := Kb.2.2.2.2.2.2.2.2.2.2
      exact ⟨l, l1, l2, l3, l5, l6⟩
    · rw [oen _ _ (by decide)]; exact z0 _ (Or.inr (Or.inl rfl))
    · rw [oen _ _ (by decide)]; exact z0 _ (Or.inr (Or.inr rfl))
    · unfold entX bgX
      simp (decide := true) only [u3_f, u3_s, ne_eq, not_false_eq_true, and_self, true_and, and_true]
    · unfold entX
      simp (decide := true) only [u3_f, u3_s, ne_eq, not_false_eq_true, and_self, true_and, and_true]
    · unfold entY
      rw [gf.2.1, gva']
      simp (decide := true) only [u3_f, u3_s, ne_eq, not_false_eq_true, and_self, true_and, and_true]
  -- the whole
  have nxf : NXo o (nclX (zrX X o) mk ck rk 0) (entX (bgX (ncX X mk ck) o) o 0 0 0 0) := fun a f i hf => by
    have hn : ∀ g, L6.elem g = true → ∀ j, ¬ (a = o ∧ f = g ∧ i = j) := fun g hg j c => hf (Or.inl ⟨c.1, by rw [c.2.1]; exact hg⟩)
    have eq := fun g (hg : L6.elem g = true) (Z : X3) (j : Nat) (w : Int) => show u3 Z o g j w a f i = Z a f i by
      rw [u3_e, if_neg (hn g hg j)]
    have rm : X 50 f_Heap_room 0 = ((rk + 0 : Nat) : Int) := by
      obtain ⟨mk', rm', sm, tk, ck', sk', vk, hk', gk, -, ⟨m4, m5, m6⟩, -⟩ := HC.2.2.2.2.2.2.2.2.1
      rw [m4, ← m5, er]; rfl
    have r2 : zrX X o a f i = X a f i := zr_nx a f i hf
    unfold entX bgX
    rw [eq _ (by decide), eq _ (by decide), eq _ (by decide), eq _ (by decide), eq _ (by decide), eq _ (by decide), eq _ (by decide), eq _ (by decide), eq _ (by decide)]
    unfold ncX nclX
    rw [u3_e, u3_e, u3_e, u3_e, u3_e, r2]
    by_cases q : a = 50 ∧ f = f_Heap_room ∧ i = 0
    · obtain ⟨q1, q2, q3⟩ := q
      subst q1 q2 q3
      simp (decide := true) only [true_and, and_true, and_false, false_and, if_true, if_false, and_self, rm]
    · rw [if_neg q]
  have nyf : ∀ a f i, a ≠ o → entY Y o 0 (hB h (C + 56) fn) (hz h) 0 a f i = Y a f i := fun a f i ne => by
    unfold entY
    rw [u3_e, if_neg (fun c => ne c.1), u3_e, if_neg (fun c => ne c.1), u3_e, if_neg (fun c => ne c.1)]
  have Cf := Cb.tasky hto Kf nsn nxf nyf
  have g0 : GRO Γ Γ h h C S Sa := GRO.fr (esb (by decide +kernel)) HC.1.1 HC.1.2 (Fr.r0 : Fr [] [] 0 0 h h) (by unfold DJ; decide +kernel) (fun y c => by cases c)
  have gt := (g0.tr gb).tr (GRO.nst nsn)
  have b0 : BND h C S h Sa 0 0 := BND.rows (esb (by decide +kernel))
  have bt : BND h C S H Sf 0 0 := ((b0.tr bdb).tr (BND.rows (nsn.ex (by decide)))).le (by omega) (by omega)
  refine STW.frm A W Cf gt frb bt ?_ ?_ ?_ ?_
  · have a1 : OFX LXb X (zrX X o) := (zr_nx (o := o) (X := X)).ofx.le (by decide)
    have a2 : OFX LXb (zrX X o) (nclX (zrX X o) mk ck rk 0) := by
      unfold nclX
      exact ((OFX.rf.u (by decide)).u (by decide)).u (by decide)
    exact (a1.tr a2).tr (nxf.ofx.le (by decide))
  · unfold entY
    exact ((OFX.rf.u (by decide)).u (by decide)).u (by decide)
  · exact ((ob.le (by decide +kernel)).tr (nco.le (by decide +kernel))).tr (nsn.off.le (by decide +kernel))
  · rw [nxf.it io]
    unfold nclX
    rw [u3_f (by decide), u3_f (by decide), u3_f (by decide), zr_nx.it io]
    exact E.1.2.2.2.2.2.2.2.1
end
