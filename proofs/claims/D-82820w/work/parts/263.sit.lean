/-! sites of both -/
set_option maxRecDepth 20000
def LZF : List Nat := [f_Site_number, f_Site_kind, f_Site_name, f_Site_operands, f_Site_function, f_Site_instruction, f_Site_descriptor, f_Site_links, f_Site_hits, f_Site_pruned, f_Site_size, f_Site_megamorphic, f_Site_first]
/-- fields of C that sites lean on -/
def LZA : List Nat := LEE ++ [f_Entry_classes + 1, f_Entry_next, f_Machine_sites, f_Machine_sites + 1] ++ LZF
def LEX : List Nat := LEE ++ [f_Entry_classes + 1]
/-- rows of T -/
def LSU : List Nat := [f_Md_sites, f_Md_siteKind, f_Md_siteName, f_Md_siteMany, f_Md_siteFunction, f_Md_siteAt, f_Md_descriptor]
def LSS : List Nat := LSU ++ LSI ++ LRW
/-- a site of C stands for one of T -/
def SI1 (g : HG) (h : ah) (C ho : Nat) (S : SS) (N M s a : Nat) (l : List Nat) : Prop := (hK h a = k_Site ∧ a < hz h ∧ a ≠ 0) ∧ (hI h f_Site_number a = (s : Int) ∧ hI h f_Site_kind a = S f_Md_siteKind s ∧ hI h f_Site_name a = S f_Md_siteName s ∧ hI h f_Site_operands a = S f_Md_siteMany s ∧ hI h f_Site_function a = S f_Md_siteFunction s ∧ hI h f_Site_instruction a = S f_Md_siteAt s ∧ hI h f_Site_descriptor a = S f_Md_descriptor s) ∧ (hI h f_Site_links a = S f_Md_links s ∧ hI h f_Site_hits a = S f_Md_hits s ∧ hI h f_Site_pruned a = S f_Md_pruned s ∧ hI h f_Site_megamorphic a = S f_Md_isMega s) ∧ ((S f_Md_isMega s = 0 ∨ S f_Md_isMega s = 1) ∧ (0 ≤ S f_Md_siteKind s ∧ S f_Md_siteKind s ≤ 6) ∧ (0 ≤ S f_Md_siteMany s ∧ S f_Md_siteMany s ≤ 8)) ∧ l.length ≤ 4 ∧ S f_Md_entries s = (l.length : Int) ∧ (NXL h 0 l ∧ hR h f_Site_first a = hdO l 0 ∧ hI h f_Site_size a = (l.length : Int)) ∧ ∀ i, i < l.length → ENO g h C ho S N M (S f_Md_siteKind s) (S f_Md_siteName s) (S f_Md_siteMany s).toNat (l.getD i 0) (rowE S (5 * s + i))
def SIT (g : HG) (h : ah) (C ho : Nat) (Y : Y3) (S : SS) (N M : Nat) (ea : Nat → List Nat) (sp : List Nat) : Prop := (0 ≤ S f_Md_sites 0 ∧ S f_Md_sites 0 ≤ 4000 ∧ (hl h (C + 57) : Int) = S f_Md_sites 0) ∧ (∀ s : Nat, (s : Int) < S f_Md_sites 0 → SI1 g h C ho S N M s (hB h (C + 57) s) (ea s)) ∧ (NXL h 0 sp ∧ Y 55 f_Spare_free 0 = hdO sp 0 ∧ sp.Nodup) ∧ (∀ s : Nat, (s : Int) < S f_Md_sites 0 → (ea s).Nodup ∧ (∀ x, x ∈ ea s → x ∉ sp) ∧ ∀ s' : Nat, (s' : Int) < S f_Md_sites 0 → s' ≠ s → ∀ x, x ∈ ea s → x ∉ ea s') ∧ ∀ x, (x ∈ sp ∨ ∃ s : Nat, (s : Int) < S f_Md_sites 0 ∧ x ∈ ea s) → x ≠ 0 ∧ (hK h x = k_Entry ∧ x < hz h) ∧ ECL h x
def eaU (ea : Nat → List Nat) (s : Nat) (l : List Nat) : Nat → List Nat := fun s' => if s' = s then l else ea s'
section
variable {ρ : Nat → Nat} {d : Nat} {Q : QT} {Γ : GH} {h h' h0 h1 h2 H : ah} {C ho T k n m f i j N M b a rr mn sn tn row e t z s s0 be ca u : Nat} {S S' S1 S2 SX : SS} {X : X3} {Y Y' Y1 Y2 : Y3} {g : HG} {v p x y nm ty κ hd w La bv el now : Int} {sp sp2 ch E l l2 : List Nat} {ea : Nat → List Nat} {L : List Nat} {Pp : List (Nat × Nat)} {r : ENT}
/-- an entry whose fields stay -/
theorem ENO.same (E : ENO g h C ho S N M κ nm mn e r) (K : EKP h C ho S N M h' S') (kz : hK h' e = k_Entry ∧ e < hz h') (I : ∀ f, LEE.elem f = true → hI h' f e = hI h f e) (R : ∀ f, LEE.elem f = true → hR h' f e = hR h f e) (cl : hR h f_Entry_classes e ≠ 0 → hK h' (hR h f_Entry_classes e) = hK h (hR h f_Entry_classes e) ∧ hl h' (hR h f_Entry_classes e) = hl h (hR h f_Entry_classes e) ∧ ∀ i, hA h' (hR h f_Entry_classes e) i = hA h (hR h f_Entry_classes e) i) : ENO g h' C ho S' N M κ nm mn e r := by
  obtain ⟨⟨k1, k2, k3⟩, e1, l03, e2, e3, e4, e5, ez⟩ := E
  refine ⟨⟨kz.1, kz.2, k3⟩, by rw [I _ (by decide)]; exact e1, l03, by rw [I _ (by decide)]; exact e2, fun l0 => ?_, fun l3 => ?_, fun l12 => ?_, fun z => by rw [R _ (by decide), R _ (by decide)]; exact ez.1 z, fun z => by rw [R _ (by decide)]; exact ez.2 z⟩
  · obtain ⟨b1, b2, b2', b3, b4, b5, b6, b7, b8, b9⟩ := e3 l0
    refine ⟨by rw [I _ (by decide)]; exact b1, by rw [I _ (by decide)]; exact b2, b2', by rw [R _ (by decide), K.pra b4]; exact b3, K.pvl b4, ?_, by have := K.2.2.2.2.2.2.1; omega, by rw [I _ (by decide)]; exact b7, fun z => ?_, fun z => ?_⟩
    · rw [R _ (by decide), b5]
      unfold crA
      by_cases w : r f_Md_toShape < 0
      · rw [if_pos w, if_pos w]
      · rw [if_neg w, if_neg w, K.2.1 _ (by omega)]
    · obtain ⟨f1, f2, f3⟩ := b8 z
      exact ⟨f1, by have := K.2.2.2.2.2.2.2.1; omega, by rw [R _ (by decide), K.2.2.1 _ (by omega)]; exact f3⟩
    · obtain ⟨f1, f2, f3, f4⟩ := b9 z
      exact ⟨by rw [R _ (by decide)]; exact f1, f2, by have := K.2.2.2.2.2.2.1; omega, by rw [R _ (by decide), K.2.1 _ (by omega)]; exact f4⟩
  · obtain ⟨f1, f2⟩ := e4 l3
    exact ⟨by rw [I _ (by decide)]; exact f1, f2⟩
  · obtain ⟨f1, f2, f3, f4, f5⟩ := e5 l12
    refine ⟨f1, by rw [R _ (by decide), K.2.2.2.1 _ (by omega)]; exact f2, f3, by rw [R _ (by decide), K.2.2.2.2.1 _ (by omega)]; exact f4, ?_⟩
    rcases f5 with ⟨o1, o2⟩ | ⟨o1, o2, o3, ⟨o4, o5, o6⟩, o7⟩
    · exact Or.inl ⟨by rw [I _ (by decide)]; exact o1, o2⟩
    · obtain ⟨q1, q2, q3⟩ := cl o4
      have rc := R f_Entry_classes (by decide)
      exact Or.inr ⟨by rw [I _ (by decide)]; exact o1, o2, o3, ⟨by rw [rc]; exact o4, by rw [rc, q1]; exact o5, by rw [rc, q2]; exact o6⟩, fun i hi => by rw [rc, q3]; exact o7 i hi⟩
/-- an entry stays as it is, in C -/
def ESM (h h' : ah) (x : Nat) : Prop := (hK h' x = hK h x ∧ x < hz h') ∧ (∀ f, LEE.elem f = true → hI h' f x = hI h f x ∧ hR h' f x = hR h f x) ∧ (hR h f_Entry_classes x ≠ 0 → hK h' (hR h f_Entry_classes x) = hK h (hR h f_Entry_classes x) ∧ hl h' (hR h f_Entry_classes x) = hl h (hR h f_Entry_classes x) ∧ ∀ i, hA h' (hR h f_Entry_classes x) i = hA h (hR h f_Entry_classes x) i)
theorem ESM.eno (A : ESM h h' e) (E : ENO g h C ho S N M κ nm mn e r) (K : EKP h C ho S N M h' S') : ENO g h' C ho S' N M κ nm mn e r := E.same K ⟨by rw [A.1.1]; exact E.1.1, A.1.2⟩ (fun f hf => (A.2.1 f hf).1) (fun f hf => (A.2.1 f hf).2) A.2.2
theorem ESM.ecl (A : ESM h h' e) (c : ECL h e) : ECL h' e := by
  have rc := (A.2.1 f_Entry_classes (by decide)).2
  unfold ECL
  rw [rc]
  rcases c with c | ⟨c1, c2, c3⟩
  · exact Or.inl c
  · obtain ⟨q1, q2, -⟩ := A.2.2 c1
    exact Or.inr ⟨c1, by rw [q1]; exact c2, by rw [q2]; exact c3⟩
theorem DJ.sb {A B : List Nat} (d : DJ A L Pp) (e : B.all (fun f => A.elem f) = true) : DJ B L Pp := List.all_eq_true.mpr (fun f hf => List.all_eq_true.mp d f (by simpa using List.all_eq_true.mp e f hf))
theorem ESM.fr (G : INJ h) (fr : Fr L Pp z s h h') (d1 : DJ LEX L Pp) (p0 : ∀ y, (0, y) ∉ Pp) (ez : e < hz h) (c : ECL h e) : ESM h h' e := by
  have oC : own f_Entry_classes := by unfold own; decide
  refine ⟨⟨fr.K ez, fr.lt ez⟩, fun f hf => ?_, fun c0 => ?_⟩
  · have h5 : 5 ≤ f := by
      have : LEE.all (fun f => Nat.ble 5 f) = true := by decide
      exact Nat.le_of_ble_eq_true (List.all_eq_true.mp this f (by simpa using hf))
    have hL : LEX.elem f = true := by
      have : f ∈ LEE := by simpa using hf
      have : f ∈ LEX := by unfold LEX; exact List.mem_append_left _ this
      simpa using this
    exact ⟨fr.I ez h5 (d1.w hL), fr.R ez h5 (d1.w hL)⟩
  · have sc := fr.ar G oC ez rfl c0 (fun c => c.elim (d1.w (by decide)) (d1.w (by decide))) (p0 _)
    exact ⟨fr.K (G.1 _ _ ez oC), sc.1, sc.2.1⟩
theorem gtD_m {l : List Nat} {i : Nat} (h : i < l.length) : l.getD i 0 ∈ l := by
  rw [List.getD_eq_getElem?_getD, List.getElem?_eq_getElem h]; simp
/-- a site that stays -/
theorem SI1.same {s1 : Nat} {h1' : ah} (H : SI1 g h C ho S N M s a l) (K : EKP h C ho S N M h' S') (kz : hK h' a = hK h a ∧ a < hz h') (I : ∀ f, LZF.elem f = true → hI h' f a = hI h f a) (R : hR h' f_Site_first a = hR h f_Site_first a) (nx : ∀ x, x ∈ l → hR h' f_Entry_next x = hR h f_Entry_next x) (en : ∀ x, x ∈ l → ESM h h' x) (e1 : ∀ f, LSU.elem f = true ∨ LSI.elem f = true → S' f s = S f s) (e2 : ∀ i, i < 5 → rowE S' (5 * s + i) = rowE S (5 * s + i)) : SI1 g h' C ho S' N M s a l := by
  obtain ⟨⟨k1, k2, k3⟩, ⟨b1, b2, b3, b4, b5, b6, b7⟩, ⟨c1, c2, c3, c4⟩, ⟨d1, d2, d3⟩, e4, e5, ⟨f1, f2, f3⟩, f4⟩ := H
  refine ⟨⟨by rw [kz.1]; exact k1, kz.2, k3⟩, ⟨?_, ?_, ?_, ?_, ?_, ?_, ?_⟩, ⟨?_, ?_, ?_, ?_⟩, ⟨?_, ?_, ?_⟩, e4, ?_, ⟨f1.fr nx, by rw [R]; exact f2, by rw [I _ (by decide)]; exact f3⟩, fun i hi => ?_⟩
  · rw [I _ (by decide)]; exact b1
  · rw [I _ (by decide), e1 _ (by decide)]; exact b2
  · rw [I _ (by decide), e1 _ (by decide)]; exact b3
  · rw [I _ (by decide), e1 _ (by decide)]; exact b4
  · rw [I _ (by decide), e1 _ (by decide)]; exact b5
  · rw [I _ (by decide), e1 _ (by decide)]; exact b6
  · rw [I _ (by decide), e1 _ (by decide)]; exact b7
  · rw [I _ (by decide), e1 _ (by decide)]; exact c1
  · rw [I _ (by decide), e1 _ (by decide)]; exact c2
  · rw [I _ (by decide), e1 _ (by decide)]; exact c3
  · rw [I _ (by decide), e1 _ (by decide)]; exact c4
  · rw [e1 _ (by decide)]; exact d1
  · rw [e1 _ (by decide)]; exact d2
  · rw [e1 _ (by decide)]; exact d3
  · rw [e1 _ (by decide)]; exact e5
  · rw [e1 _ (by decide), e1 _ (by decide), e1 _ (by decide), e2 i (by omega)]
    exact (en _ (gtD_m hi)).eno (f4 i hi) K
/-- sites stay over what does not go at them -/
theorem SIT.ext (H : SIT g h C ho Y S N M ea sp) (G : INJ h) (F : FC h C) (cz : C + 57 < hz h) (K : EKP h C ho S N M h' S') (fr : Fr L Pp z s h h') (d1 : DJ LZA L Pp) (p0 : ∀ y, (0, y) ∉ Pp) (es : EXS LSS S S') (ey : Y' 55 f_Spare_free 0 = Y 55 f_Spare_free 0) : SIT g h' C ho Y' S' N M ea sp := by
  obtain ⟨⟨a1, a2, a3⟩, a4, ⟨a5, a6, a7⟩, a8, a9⟩ := H
  have oS : own f_Machine_sites := by unfold own; decide
  have rS : hR h f_Machine_sites (C + 32) = C + 57 := by
    unfold FC at F
    exact F.2.1.2.2.2.2.2.2.2.2.1
  have sc := fr.ar G oS (by omega) rS (by omega) (fun c => c.elim (d1.w (by decide)) (d1.w (by decide))) (p0 _)
  have e0 : S' f_Md_sites 0 = S f_Md_sites 0 := es _ (by decide) 0
  have sm : ∀ x, (x ∈ sp ∨ ∃ s : Nat, (s : Int) < S f_Md_sites 0 ∧ x ∈ ea s) → ESM h h' x := fun x hx => ESM.fr G fr (d1.sb (by decide)) p0 (a9 x hx).2.1.2 (a9 x hx).2.2
  have nx : ∀ x, (x ∈ sp ∨ ∃ s : Nat, (s : Int) < S f_Md_sites 0 ∧ x ∈ ea s) → hR h' f_Entry_next x = hR h f_Entry_next x := fun x hx => fr.R (a9 x hx).2.1.2 (by decide) (d1.w (by decide))
  refine ⟨⟨by rw [e0]; exact a1, by rw [e0]; exact a2, by rw [e0, sc.1]; exact a3⟩, fun s hs => ?_, ⟨a5.fr (fun x hx => nx x (Or.inl hx)), by rw [ey]; exact a6, a7⟩, by rw [e0]; exact a8, fun x hx => ?_⟩
  · rw [e0] at hs
    have A := a4 s hs
    rw [sc.2.2]
    refine SI1.same (s1 := 0) (h1' := h) A K ⟨fr.K A.1.2.1, fr.lt A.1.2.1⟩ (fun f hf => ?_) (fr.R A.1.2.1 (by decide) (d1.w (by decide))) (fun x hx => nx x (Or.inr ⟨s, hs, hx⟩)) (fun x hx => sm x (Or.inr ⟨s, hs, hx⟩)) (fun f hf => es _ ?_ s) (fun i _ => rowE_e (fun f hf => es _ ?_ _))
    · have h5 : 5 ≤ f := by
        have : LZF.all (fun f => Nat.ble 5 f) = true := by decide
        exact Nat.le_of_ble_eq_true (List.all_eq_true.mp this f (by simpa using hf))
      have hL : LZA.elem f = true := by
        have : f ∈ LZF := by simpa using hf
        have : f ∈ LZA := by unfold LZA; exact List.mem_append_right _ this
        simpa using this
      exact fr.I A.1.2.1 h5 (d1.w hL)
    · unfold LSS
      rcases hf with z | z
      · have : f ∈ LSU := by simpa using z
        simpa using Or.inl this
      · have : f ∈ LSI := by simpa using z
        simpa using Or.inr (Or.inl this)
    · unfold LSS
      have : f ∈ LRW := by simpa using hf
      simpa using Or.inr (Or.inr this)
  · rw [e0] at hx
    have := a9 x hx
    have S1 := sm x hx
    exact ⟨this.1, ⟨by rw [S1.1.1]; exact this.2.1.1, S1.1.2⟩, S1.ecl this.2.2⟩
/-- one site changes -/
theorem SIT.one (H : SIT g h C ho Y S N M ea sp) (hs : (s0 : Int) < S f_Md_sites 0) (ea0 : hB h (C + 57) s0 = a) (K : EKP h C ho S N M h2 S2) (zz : hz h ≤ hz h2) (kk : ∀ x, x < hz h → hK h2 x = hK h x) (lB : hl h2 (C + 57) = hl h (C + 57) ∧ ∀ i, hB h2 (C + 57) i = hB h (C + 57) i)
    (uu : ∀ f, LSU.elem f = true → ∀ i, S2 f i = S f i) (sl : SLO s0 S S2)
    (oS : ∀ x, x < hz h → hK h x = k_Site → x ≠ a → (∀ f, LZF.elem f = true → hI h2 f x = hI h f x) ∧ hR h2 f_Site_first x = hR h f_Site_first x)
    (oE : ∀ x, x < hz h → hK h x = k_Entry → ECL h x → x ∉ ea s0 ++ sp → ESM h h2 x ∧ hR h2 f_Entry_next x = hR h f_Entry_next x)
    (nw : SI1 g h2 C ho S2 N M s0 a l2) (nd : (l2 ++ sp2).Nodup) (nx : NXL h2 0 sp2) (fy : Y2 55 f_Spare_free 0 = hdO sp2 0) (al : ∀ x, x ∈ l2 ++ sp2 → (x ∈ ea s0 ++ sp ∨ hz h ≤ x) ∧ x ≠ 0 ∧ (hK h2 x = k_Entry ∧ x < hz h2) ∧ ECL h2 x) : SIT g h2 C ho Y2 S2 N M (eaU ea s0 l2) sp2 := by
  obtain ⟨⟨a1, a2, a3⟩, a4, ⟨a5, a6, a7⟩, a8, a9⟩ := H
  have e0 : S2 f_Md_sites 0 = S f_Md_sites 0 := uu _ (by decide) 0
  have inj : ∀ s : Nat, (s : Int) < S f_Md_sites 0 → s ≠ s0 → hB h (C + 57) s ≠ a := fun s h1 ne c => by
    have n1 := (a4 s h1).2.1.1
    have n2 := (a4 s0 hs).2.1.1
    rw [c] at n1; rw [ea0] at n2
    omega
  have dis : ∀ s : Nat, (s : Int) < S f_Md_sites 0 → s ≠ s0 → ∀ x, x ∈ ea s → x ∉ ea s0 ++ sp := fun s h1 ne x hx c => by
    rcases List.mem_append.mp c with c | c
    · exact (a8 s h1).2.2 s0 hs (fun c => ne c.symm) x hx c
    · exact (a8 s h1).2.1 x hx c
  have dis2 : ∀ s : Nat, (s : Int) < S f_Md_sites 0 → s ≠ s0 → ∀ x, x ∈ ea s → x ∉ l2 ++ sp2 := fun s h1 ne x hx c => by
    rcases (al x c).1 with c | c
    · exact dis s h1 ne x hx c
    · have := (a9 x (Or.inr ⟨s, h1, hx⟩)).2.1.2
      omega
  have nd' := List.nodup_append.mp nd
  refine ⟨⟨by rw [e0]; exact a1, by rw [e0]; exact a2, by rw [e0, lB.1]; exact a3⟩, fun s h1 => ?_, ⟨nx, fy, nd'.2.1⟩, fun s h1 => ?_, fun x hx => ?_⟩
  · rw [e0] at h1
    rw [lB.2]
    unfold eaU
    by_cases w : s = s0
    · rw [if_pos w, w, ea0]; exact nw
    · rw [if_neg w]
      have A := a4 s h1
      have na := inj s h1 w
      have o1 := oS _ A.1.2.1 A.1.1 na
      have o2 : ∀ x, x ∈ ea s → ESM h h2 x ∧ hR h2 f_Entry_next x = hR h f_Entry_next x := fun x hx => by
        have := a9 x (Or.inr ⟨s, h1, hx⟩)
        exact oE x this.2.1.2 this.2.1.1 this.2.2 (dis s h1 w x hx)
      refine SI1.same (s1 := 0) (h1' := h) A K ⟨kk _ A.1.2.1, by have := A.1.2.1; omega⟩ o1.1 o1.2 (fun x hx => (o2 x hx).2) (fun x hx => (o2 x hx).1) (fun f hf => ?_) (fun i hi => rowE_e (fun f hf => sl.1 f _ hf (by omega)))
      rcases hf with z | z
      · exact uu f z s
      · exact sl.2 f s z w
  · rw [e0] at h1 ⊢
    unfold eaU
    by_cases w : s = s0
    · rw [if_pos w]
      refine ⟨nd'.1, fun x hx c => nd'.2.2 x hx x c rfl, fun s' h2 ne x hx c => ?_⟩
      rw [if_neg (by omega)] at c
      exact dis2 s' h2 (by omega) x c (List.mem_append_left _ hx)
    · rw [if_neg w]
      refine ⟨(a8 s h1).1, fun x hx c => dis2 s h1 w x hx (List.mem_append_right _ c), fun s' h2 ne x hx c => ?_⟩
      by_cases w' : s' = s0
      · rw [if_pos w'] at c
        exact dis2 s h1 w x hx (List.mem_append_left _ c)
      · rw [if_neg w'] at c
        exact (a8 s h1).2.2 s' h2 ne x hx c
  · have go : x ∈ l2 ++ sp2 → x ≠ 0 ∧ (hK h2 x = k_Entry ∧ x < hz h2) ∧ ECL h2 x := fun c => (al x c).2
    rcases hx with hx | ⟨s, h1, hx⟩
    · exact go (List.mem_append_right _ hx)
    · rw [e0] at h1
      unfold eaU at hx
      by_cases w : s = s0
      · rw [if_pos w] at hx; exact go (List.mem_append_left _ hx)
      · rw [if_neg w] at hx
        have A := a9 x (Or.inr ⟨s, h1, hx⟩)
        have := (oE x A.2.1.2 A.2.1.1 A.2.2 (dis s h1 w x hx)).1
        exact ⟨A.1, ⟨by rw [this.1.1]; exact A.2.1.1, this.1.2⟩, this.ecl A.2.2⟩
end
