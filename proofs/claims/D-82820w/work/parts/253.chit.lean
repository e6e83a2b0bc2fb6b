/-! C: the entry that is hit -/
set_option maxRecDepth 20000
def LSJ : List Nat := [f_Entry_next, f_Site_first, f_Site_size, f_Site_pruned, f_Site_hits]
/-- only the chain of a site changes so far -/
def HJ (h : ah) (Y : Y3) (a : Nat) (E : List Nat) (h1 : ah) (Y1 : Y3) : Prop := Fr LSJ [] 0 0 h h1 ∧ (∀ o f i, f ≠ f_Spare_free → Y1 o f i = Y o f i) ∧ (∀ x, x ∉ E → hR h1 f_Entry_next x = hR h f_Entry_next x) ∧ (∀ x, x ≠ a → hR h1 f_Site_first x = hR h f_Site_first x ∧ hI h1 f_Site_size x = hI h f_Site_size x ∧ hI h1 f_Site_pruned x = hI h f_Site_pruned x ∧ hI h1 f_Site_hits x = hI h f_Site_hits x) ∧ (∀ x f, hI h1 f x = hI h f x ∨ f = f_Site_size ∨ f = f_Site_pruned ∨ f = f_Site_hits) ∧ (∀ x i, hB h1 x i = hB h x i)
section
variable {ρ : Nat → Nat} {P : ah → Nat → Prop} {d : Nat} {Q : QT} {Γ : GH} {h h' h0 h1 h2 : ah} {C ho T k n m f i j N M b a rr mn sn tn row e t z s : Nat} {S S' S1 S2 SX : SS} {X : X3} {Y Y1 Y2 : Y3} {g : HG} {v p x y nm ty κ hd w La bv el : Int} {r : ENT} {A B l E : List Nat} {L : List Nat} {Pp : List (Nat × Nat)}
theorem HJ.rf : HJ h Y a E h Y := ⟨Fr.r0, fun _ _ _ _ => rfl, fun _ _ => rfl, fun _ _ => ⟨rfl, rfl, rfl, rfl⟩, fun _ _ => Or.inl rfl, fun _ _ => rfl⟩
theorem HJ.core (J : HJ h Y a E h1 Y1) (HC : CORE Γ h C ho X Y S N) : CORE Γ h1 C ho X Y1 S N := (HC.fzz (L := LSJ) (Pp := []) (X' := X) (Y' := Y1) J.1 (by unfold DJ; decide +kernel) (fun y c => by simp at c) (fun _ _ _ => rfl) (Int.le_refl _) EXX.rf (fun o f hf i => J.2.1 o f i (by rintro rfl; exact absurd hf (by decide)))).1.1
theorem HJ.ekp (J : HJ h Y a E h1 Y1) : EKP h C ho S N M h1 S := ⟨fun k _ => J.2.2.2.2.2 _ _, fun k _ => J.2.2.2.2.2 _ _, fun k _ => J.2.2.2.2.2 _ _, fun k _ => J.2.2.2.2.2 _ _, fun k _ => J.2.2.2.2.2 _ _, Int.le_refl _, Int.le_refl _, Int.le_refl _, fun _ _ => rfl⟩
theorem HJ.eno (J : HJ h Y a E h1 Y1) (G : INJ h) (H : ENO g h C ho S N M κ nm mn e r) : ENO g h1 C ho S N M κ nm mn e r := H.ext G J.ekp J.1 (by unfold DJ; decide +kernel) (by unfold DJ; decide +kernel) (fun y c => by simp at c)
theorem HJ.fda (J : HJ h Y a E h1 Y1) (A : FDA h C ho X Y S κ ty v el nm rr mn) : FDA h1 C ho X Y1 S κ ty v el nm rr mn := by
  have hb := J.2.2.2.2.2
  have hy := J.2.1
  obtain ⟨a1, a2, a3, a4⟩ := A
  refine ⟨a1, fun z => ?_, a3, fun z => ?_⟩
  · rw [hy _ _ _ (by decide), hy _ _ _ (by decide), hb, hb]; exact a2 z
  · rw [hy _ _ _ (by decide), hb]; exact a4 z
/-- an entry goes: what is ahead of it goes on behind it, it joins the spare ones -/
theorem HJ.go (J : HJ h Y a E h1 Y1) (ha : a < hz h) (he : e ∈ E) (hb : b = 0 ∨ b ∈ E) (v1 v2 : Int) (t : Nat) : HJ h Y a E (sI (sI (sR (if b = 0 then sR h1 f_Site_first a t else sR h1 f_Entry_next b t) f_Entry_next e (Y1 55 f_Spare_free 0)) f_Site_size a v1) f_Site_pruned a v2) (u3 Y1 55 f_Spare_free 0 e) := by
  obtain ⟨j1, j2, j3, j4, j5, j6⟩ := J
  have nO1 : ¬ own f_Entry_next := by unfold own; decide
  have nO2 : ¬ own f_Site_first := by unfold own; decide
  have ok : ∀ f x, LSJ.elem f = true → okW LSJ [] f x := fun f x hf => Or.inl (by simpa using hf)
  have fb : Fr LSJ [] 0 0 h (if b = 0 then sR h1 f_Site_first a t else sR h1 f_Entry_next b t) := by
    split
    · exact j1.wR (ok _ _ (by decide)) nO2
    · exact j1.wR (ok _ _ (by decide)) nO1
  refine ⟨((fb.wR (ok _ _ (by decide)) nO1).wI (by decide) (ok _ _ (by decide))).wI (by decide) (ok _ _ (by decide)), fun o f i hf => ?_, fun x hx => ?_, fun x hx => ?_, fun x f => ?_, fun x i => ?_⟩
  · rw [u3_f hf]; exact j2 o f i hf
  · show hR (sR (if b = 0 then sR h1 f_Site_first a t else sR h1 f_Entry_next b t) f_Entry_next e (Y1 55 f_Spare_free 0)) f_Entry_next x = _
    rw [R_Rne' (by rintro rfl; exact hx he)]
    split
    · rw [R_Rne (by decide)]; exact j3 x hx
    · rename_i nb
      rw [R_Rne' (by rintro rfl; exact hx (hb.resolve_left nb))]; exact j3 x hx
  · obtain ⟨c1, c2, c3, c4⟩ := j4 x hx
    refine ⟨?_, ?_, ?_, ?_⟩
    · show hR (sR (if b = 0 then sR h1 f_Site_first a t else sR h1 f_Entry_next b t) f_Entry_next e (Y1 55 f_Spare_free 0)) f_Site_first x = _
      rw [R_Rne (by decide)]
      split
      · rw [R_Rne' hx]; exact c1
      · rw [R_Rne (by decide)]; exact c1
    · rw [I_Ine (by decide), I_Ine' hx]
      split <;> exact c2
    · rw [I_Ine' hx, I_Ine (by decide)]
      split <;> exact c3
    · rw [I_Ine (by decide), I_Ine (by decide)]
      split <;> exact c4
  · by_cases w1 : f = f_Site_size ∨ f = f_Site_pruned ∨ f = f_Site_hits
    · exact Or.inr w1
    · refine Or.inl ?_
      rw [I_Ine (fun c => w1 (Or.inr (Or.inl c))), I_Ine (fun c => w1 (Or.inl c))]
      have := (j5 x f).resolve_right w1
      split <;> exact this
  · have := j6 x i
    split <;> exact this
theorem HJ.hit (J : HJ h Y a E h1 Y1) (v1 : Int) : HJ h Y a E (sI h1 f_Site_hits a v1) Y1 := by
  obtain ⟨j1, j2, j3, j4, j5, j6⟩ := J
  refine ⟨j1.wI (by decide) (Or.inl (by decide)), j2, j3, fun x hx => ?_, fun x f => ?_, j6⟩
  · obtain ⟨c1, c2, c3, c4⟩ := j4 x hx
    exact ⟨c1, by rw [I_Ine (by decide)]; exact c2, by rw [I_Ine (by decide)]; exact c3, by rw [I_Ine' hx]; exact c4⟩
  · by_cases w : f = f_Site_hits
    · exact Or.inr (Or.inr (Or.inr w))
    · rw [I_Ine w]; exact j5 x f
/-- what C has of a site's chain and the spare ones -/
def HCH (h : ah) (Y : Y3) (a : Nat) (ch sp : List Nat) : Prop := NXL h 0 ch ∧ hR h f_Site_first a = hdO ch 0 ∧ hI h f_Site_size a = (ch.length : Int) ∧ NXL h 0 sp ∧ Y 55 f_Spare_free 0 = hdO sp 0 ∧ (ch ++ sp).Nodup
def hrA (l : List (Nat × ENT)) (o : Option Nat) : Nat := match o with
  | none => 0
  | some i => (l.map (·.1)).getD i 0
theorem hdO_ne {l : List Nat} (h : ∀ x, x ∈ l → x ≠ 0) : hdO l 0 = 0 ↔ l = [] := by
  cases l with
  | nil => exact ⟨fun _ => rfl, fun _ => rfl⟩
  | cons y l => exact ⟨fun c => absurd c (h y (List.mem_cons_self ..)), fun c => by cases c⟩
theorem CORE.k55 (HC : CORE Γ h C ho X Y S N) : hK h (C + 55) = k_Spare := by
  have f2 := HC.1.2
  unfold FC at f2
  exact f2.1.2.2.2.2.2.2.2.1
theorem AC.hz55 (G : AC h C) : C + 55 < hz h := by
  have := G.1
  omega
theorem CORE.hz55 (HC : CORE Γ h C ho X Y S N) : C + 55 < hz h := AC.hz55 HC.1.1
theorem CORE.inj (HC : CORE Γ h C ho X Y S N) : INJ h := HC.1.1.2.1
theorem r_hitl (HC : CORE Γ h C ho X Y S N) (ka : hK h a = k_Site) (ha : a < hz h) (hκ : 0 ≤ κ ∧ κ ≤ 6) (A : FDA h C ho X Y S κ ty v el nm rr mn) (hty : 0 ≤ ty ∧ ty ≤ 8) (tad : ∀ a b, a < N → b < N → hB h (ho + 2) a = hB h (ho + 2) b → a = b) (hv : ty = 4 ∨ ty = 5 → 0 ≤ v ∧ v < S f_Md_things 0 ∧ S f_Md_thingKind v.toNat = ty) (hel : ¬ (κ = 2 ∨ κ = 3) → el = -1) (hc : ty = 7 ∨ ty = 8 → 0 ≤ gdG S ty v ∧ gdG S ty v < (N : Int)) (pv : ty = 7 ∨ ty = 8 → PVS S N rr (opC κ mn)) : ∀ (rest : List (Nat × ENT)) (kept sp : List Nat) (h1 : ah) (Y1 : Y3) (Q : QT), (∀ q, q ∈ rest → ENO g h C ho S N M κ nm mn q.1 q.2) → HJ h Y a E h1 Y1 → HCH h1 Y1 a (kept ++ rest.map (·.1)) sp → (∀ x, x ∈ kept ++ rest.map (·.1) ++ sp → x ∈ E ∧ x ≠ 0 ∧ (hK h x = k_Entry ∧ x < hz h)) → kept.length + rest.length ≤ 4 → (∀ l2 o h2 Y2 sp2, HITR S κ ty v el rr (rest.map (·.2)) (l2.map (·.2)) o → (∀ q, q ∈ l2 → q ∈ rest) → HJ h Y a E h2 Y2 → HCH h2 Y2 a (kept ++ l2.map (·.1)) sp2 → (∀ x, x ∈ kept ++ l2.map (·.1) ++ sp2 → x ∈ E ∧ x ≠ 0 ∧ (hK h x = k_Entry ∧ x < hz h)) → hI h2 f_Site_pruned a = pcI (rest.length - l2.length) (hI h1 f_Site_pruned a) → hI h2 f_Site_hits a = (if o = none then hI h1 f_Site_hits a else w32 (hI h1 f_Site_hits a + 1)) → Q (Sum.inl (some (vR (hrA l2 o)))) (cc h2 C X Y2)) → wpB PGm ρ (d + 2) m_Site_hit 8 [(0, vR a), (1, vR (C + 53)), (2, vR (C + 55)), (3, vR (kept.getLastD 0)), (4, vR (hdO (rest.map (·.1)) 0))] [] (cc h1 C X Y1) Q := by
  intro rest
  have s55 : C + 55 < hz h := CORE.hz55 HC
  have ks : hK h (C + 55) = k_Spare := CORE.k55 HC
  induction rest with
  | nil =>
    intro kept sp h1 Y1 Q eo J ch al ln q
    refine b_Site_hit_8 ⟨fun _ => ?_, fun c => absurd rfl c⟩
    exact q [] none h1 Y1 sp ⟨rfl, rfl⟩ (fun q hq => hq) J ch al rfl (by rw [if_pos rfl])
  | cons q0 l ih =>
    intro kept sp h1 Y1 Q eo J ch al ln q
    obtain ⟨e, r⟩ := q0
    have HC1 := J.core HC
    have E0 := eo (e, r) (List.mem_cons_self ..)
    have E1 := J.eno (CORE.inj HC) E0
    have A1 := J.fda A
    obtain ⟨⟨k1, k2, k3⟩, -⟩ := id E0
    have ke1 : hK h1 e = k_Entry := by rw [J.1.K k2]; exact k1
    have ka1 : hK h1 a = k_Site := by rw [J.1.K ha]; exact ka
    have ks1 : hK h1 (C + 55) = k_Spare := by rw [J.1.K s55]; exact ks
    obtain ⟨c1, c2, c3, c4, c5, c6⟩ := id ch
    have cc1 : NXL h1 (hdO (e :: l.map (·.1)) 0) kept ∧ NXL h1 0 (e :: l.map (·.1)) := NXL_app.mp c1
    have nxe : hR h1 f_Entry_next e = hdO (l.map (·.1)) 0 := cc1.2.1
    have rn : hR (cc h1 C X Y1) f_Entry_next e = hdO (l.map (·.1)) 0 := by rw [ccRo (by decide)]; exact nxe
    refine b_Site_hit_8 (d := d + 1) ⟨fun c => absurd c k3, fun _ => ⟨ke1, ?_⟩⟩
    show wpB PGm ρ (d + 1) m_Entry_isStale 0 [(0, vR e)] [] (cc h1 C X Y1) _
    refine r_stale HC1 E1 hκ (fun bv st b01 => ⟨fun b0 => ⟨ke1, ?_⟩, fun b1 => ?_⟩)
    · subst b0
      refine r_holds (d := d) HC1 E1 A1 hty (fun x y hx hy z => tad x y hx hy (by rw [J.2.2.2.2.2, J.2.2.2.2.2] at z; exact z)) hv hel hc pv (fun gd => ⟨fun c => absurd c (by decide), fun _ => ⟨ka1, ?_⟩⟩) (fun gd => ⟨fun _ => b_Site_hit_101 ?_, fun c => absurd rfl c⟩)
      · have i1 : hI (cc h1 C X Y1) f_Site_hits a = hI h1 f_Site_hits a := ccIo (by decide)
        rw [i1, cc_sIo (by decide)]
        have := q ((e, r) :: l) (some 0) (sI h1 f_Site_hits a (w32 (hI h1 f_Site_hits a + 1))) Y1 sp (Or.inr (Or.inl ⟨st, gd, rfl, rfl⟩)) (fun q hq => hq) (J.hit _) ⟨c1.fr (fun _ _ => rfl), c2, by rw [I_Ine (by decide)]; exact c3, c4.fr (fun _ _ => rfl), c5, c6⟩ al (by rw [I_Ine (by decide), Nat.sub_self]; rfl) (by rw [if_neg (by simp), I_I])
        exact this
      · have gl : (kept ++ [e]).getLastD 0 = e := by simp [List.getLastD_concat]
        have ap : kept ++ [e] ++ l.map (·.1) = kept ++ (e :: l.map (·.1)) := by simp
        have g1 := ih (kept ++ [e]) sp h1 Y1 Q (fun q hq => eo q (List.mem_cons_of_mem _ hq)) J (by rw [ap]; exact ch) (by rw [ap]; exact al) (by simp at ln ⊢; omega) (fun l2 o h2 Y2 sp2 u1 u2 u3' u4 u5 u6 u7 => by
          have ap2 : kept ++ [e] ++ l2.map (·.1) = kept ++ ((e, r) :: l2).map (·.1) := by simp
          rw [ap2] at u4 u5
          have := q ((e, r) :: l2) (o.map (· + 1)) h2 Y2 sp2 (Or.inr (Or.inr ⟨st, gd, l2.map (·.2), o, rfl, rfl, u1⟩)) (fun q hq => by
            rcases List.mem_cons.mp hq with z | z
            · rw [z]; exact List.mem_cons_self ..
            · exact List.mem_cons_of_mem _ (u2 q z)) u3' u4 u5 (by simp only [List.length_cons]; rw [u6]; congr 1; omega) (by
            cases o with
            | none => exact u7
            | some i => rw [if_neg (by simp)] at u7 ⊢; exact u7)
          cases o with
          | none => exact this
          | some i => exact this)
        rw [gl] at g1
        show wpB PGm ρ (d + 2) m_Site_hit 8 [(0, vR a), (1, vR (C + 53)), (2, vR (C + 55)), (3, vR e), (4, vR (hR (cc h1 C X Y1) f_Entry_next e))] [] (cc h1 C X Y1) Q
        rw [rn]; exact g1
    · have b1' : bv = 1 := b01.resolve_left b1
      subst b1'
      have ap : kept ++ (e :: l.map (·.1)) ++ sp = kept ++ e :: (l.map (·.1) ++ sp) := by simp
      have nd : (kept ++ e :: (l.map (·.1) ++ sp)).Nodup := by rw [← ap]; exact c6
      have ne : e ∉ kept ∧ e ∉ l.map (·.1) ++ sp := by
        have := List.nodup_append.mp nd
        exact ⟨fun c => this.2.2 e c e (List.mem_cons_self ..) rfl, (List.nodup_cons.mp this.2.1).1⟩
      have alE : ∀ x, x ∈ kept ++ e :: (l.map (·.1) ++ sp) → x ∈ E ∧ x ≠ 0 ∧ (hK h x = k_Entry ∧ x < hz h) := fun x hx => al x (by
        show x ∈ kept ++ (e :: l.map (·.1)) ++ sp
        rw [ap]; exact hx)
      -- what goes on behind the kept ones
      generalize et : hdO (l.map (·.1)) 0 = t at *
      have gb : ∃ b, b = kept.getLastD 0 ∧ (b = 0 ↔ kept = []) ∧ (b = 0 ∨ b ∈ kept) ∧ NXL (if b = 0 then sR h1 f_Site_first a t else sR h1 f_Entry_next b t) t kept ∧ hR (if b = 0 then sR h1 f_Site_first a t else sR h1 f_Entry_next b t) f_Site_first a = hdO kept t := by
        rcases List.eq_nil_or_concat kept with rfl | ⟨K, z, rfl⟩
        · exact ⟨0, rfl, ⟨fun _ => rfl, fun _ => rfl⟩, Or.inl rfl, trivial, by rw [if_pos rfl, R_R]; rfl⟩
        · have hz0 := (alE z (by simp)).2.1
          have gl : (K ++ [z]).getLastD 0 = z := by simp [List.getLastD_concat]
          have nk : z ∉ K := by
            have h3 := (List.nodup_append.mp nd).1
            rw [List.concat_eq_append] at h3
            have h4 := List.nodup_append.mp h3
            exact fun c => h4.2.2 z c z (by simp) rfl
          have c1' := cc1.1
          rw [List.concat_eq_append] at c1' ⊢
          refine ⟨z, gl.symm, ⟨fun c => absurd c hz0, fun c => by simp at c⟩, Or.inr (by simp), by rw [if_neg hz0]; exact c1'.last nk t, ?_⟩
          rw [if_neg hz0, R_Rne (by decide), c2]
          cases K <;> rfl
      obtain ⟨b, eb, bz, bk, nb, fb⟩ := gb
      generalize eh : (if b = 0 then sR h1 f_Site_first a t else sR h1 f_Entry_next b t) = h3 at *
      have bE : b = 0 ∨ b ∈ E := bk.imp id (fun c => (alE b (List.mem_append_left _ c)).1)
      have J2 := J.go (e := e) (b := b) ha (alE e (by simp)).1 bE (w32 (hI h1 f_Site_size a - 1)) (w32 (hI h1 f_Site_pruned a + 1)) t
      rw [eh] at J2
      have o3 : ∀ x, x ∉ kept → hR h3 f_Entry_next x = hR h1 f_Entry_next x := fun x hx => by
        rw [← eh]
        split
        · exact R_Rne (by decide)
        · rename_i c
          exact R_Rne' (fun c2 => hx (by rw [c2]; exact bk.resolve_left c))
      have i3 : ∀ f x, hI h3 f x = hI h1 f x := fun f x => by rw [← eh]; split <;> rfl
      have k3' : ∀ x, hK h3 x = hK h1 x := fun x => by rw [← eh]; split <;> rfl
      have lnn : kept.length + l.length + 1 ≤ 4 := by simp at ln; omega
      have y1 : w32 (hI h1 f_Site_size a - 1) = ((kept ++ l.map (·.1)).length : Int) := by
        rw [c3]
        simp only [List.length_append, List.length_map, List.map_cons, List.length_cons]
        rw [w32_of (by omega) (by omega)]; omega
      have ndp := List.nodup_append.mp nd
      have nl : ∀ x, x ∈ l.map (·.1) ++ sp → x ∉ kept := fun x hx c => ndp.2.2 x c x (List.mem_cons_of_mem _ hx) rfl
      have ch2 : HCH (sI (sI (sR h3 f_Entry_next e (Y1 55 f_Spare_free 0)) f_Site_size a (w32 (hI h1 f_Site_size a - 1))) f_Site_pruned a (w32 (hI h1 f_Site_pruned a + 1))) (u3 Y1 55 f_Spare_free 0 e) a (kept ++ l.map (·.1)) (e :: sp) := by
        refine ⟨NXL_app.mpr ⟨?_, ?_⟩, ?_, by rw [I_Ine (by decide), I_I, y1], ⟨?_, ?_⟩, u3_s, ?_⟩
        · rw [et]; exact nb.fr (fun x hx => R_Rne' (fun c => ne.1 (by rw [← c]; exact hx)))
        · exact (cc1.2.2.fr (h' := h3) (fun x hx => o3 x (nl x (List.mem_append_left _ hx)))).fr (fun x hx => R_Rne' (fun c => ne.2 (by rw [← c]; exact List.mem_append_left _ hx)))
        · show hR (sR h3 f_Entry_next e (Y1 55 f_Spare_free 0)) f_Site_first a = _
          rw [R_Rne (by decide), fb, hdO_app, et]
        · show hR (sR h3 f_Entry_next e (Y1 55 f_Spare_free 0)) f_Entry_next e = _
          rw [R_R, c5]
        · exact (c4.fr (h' := h3) (fun x hx => o3 x (nl x (List.mem_append_right _ hx)))).fr (fun x hx => R_Rne' (fun c => ne.2 (by rw [← c]; exact List.mem_append_right _ hx)))
        · have p1 : (kept ++ l.map (·.1) ++ e :: sp).Perm (kept ++ e :: (l.map (·.1) ++ sp)) := by
            rw [List.append_assoc]
            exact (List.perm_middle).append_left kept
          exact p1.nodup_iff.mpr nd
      have al2 : ∀ x, x ∈ kept ++ l.map (·.1) ++ e :: sp → x ∈ E ∧ x ≠ 0 ∧ (hK h x = k_Entry ∧ x < hz h) := fun x hx => alE x (by
        simp only [List.mem_append, List.mem_cons] at hx ⊢
        rcases hx with (z | z) | z | z
        · exact Or.inl z
        · exact Or.inr (Or.inr (Or.inl z))
        · exact Or.inr (Or.inl z)
        · exact Or.inr (Or.inr (Or.inr z)))
      have g1 := ih kept (e :: sp) _ _ Q (fun q hq => eo q (List.mem_cons_of_mem _ hq)) J2 ch2 al2 (by omega) (fun l2 o h2 Y2 sp2 u1 u2 u3' u4 u5 u6 u7 => by
        have ll := (HITR.len u1).1
        rw [List.length_map, List.length_map] at ll
        refine q l2 o h2 Y2 sp2 (Or.inl ⟨st, u1⟩) (fun q hq => List.mem_cons_of_mem _ (u2 q hq)) u3' u4 u5 ?_ ?_
        · rw [u6, I_I, List.length_cons, show l.length + 1 - l2.length = (l.length - l2.length) + 1 by omega]; rfl
        · rw [u7, I_Ine (by decide), I_Ine (by decide)]
          show (if o = none then hI h3 f_Site_hits a else w32 (hI h3 f_Site_hits a + 1)) = _
          rw [i3])
      have g47 : wpB PGm ρ (d + 2) m_Site_hit 47 [(0, vR a), (1, vR (C + 53)), (2, vR (C + 55)), (3, vR (kept.getLastD 0)), (4, vR e), (5, vR t)] [] (cc h3 C X Y1) Q := by
        have ks3 : hK h3 (C + 55) = k_Spare := by rw [k3']; exact ks1
        have ke3 : hK h3 e = k_Entry := by rw [k3']; exact ke1
        have ka3 : hK h3 a = k_Site := by rw [k3']; exact ka1
        refine b_Site_hit_47 (d := d + 1) ⟨ks3, b_Spare_give_0 ⟨ks3, ke3, ?_⟩⟩
        have y2 : hR (cc h3 C X Y1) f_Spare_free (C + 55) = Y1 55 f_Spare_free 0 := ccR (by decide)
        rw [y2, cc_sRo (by decide)]
        show _ ∧ _
        simp only [cc_sR (h := sR h3 f_Entry_next e (Y1 55 f_Spare_free 0)) (show rfC.elem (f_Spare_free, 55) = true by decide)]
        refine ⟨ka3, ?_⟩
        have z1 : hI (cc (sR h3 f_Entry_next e (Y1 55 f_Spare_free 0)) C X (u3 Y1 55 f_Spare_free 0 e)) f_Site_size a = hI h1 f_Site_size a := by rw [ccIo (by decide)]; exact i3 _ _
        rw [z1, cc_sIo (by decide)]
        have z2 : hI (cc (sI (sR h3 f_Entry_next e (Y1 55 f_Spare_free 0)) f_Site_size a (w32 (hI h1 f_Site_size a - 1))) C X (u3 Y1 55 f_Spare_free 0 e)) f_Site_pruned a = hI h1 f_Site_pruned a := by rw [ccIo (by decide), I_Ine (by decide)]; exact i3 _ _
        rw [z2, cc_sIo (by decide)]
        exact b_Site_hit_101 g1
      show (¬ kept.getLastD 0 = 0 → _) ∧ _
      rw [← eb] at g47 ⊢
      have nh : hR (cc h1 C X Y1) f_Entry_next (hdO (List.map (fun x => x.1) ((e, r) :: l)) 0) = t := rn
      refine ⟨fun c => ⟨?_, ?_⟩, fun c => ⟨ka1, ?_⟩⟩
      · have := (alE b (List.mem_append_left _ (bk.resolve_left c))).2.2
        show hK h1 b = k_Entry
        rw [J.1.K this.2]; exact this.1
      · show wpB PGm ρ (d + 2) m_Site_hit 47 [(0, vR a), (1, vR (C + 53)), (2, vR (C + 55)), (3, vR b), (4, vR e), (5, vR (hR (cc h1 C X Y1) f_Entry_next e))] [] (sR (cc h1 C X Y1) f_Entry_next b (hR (cc h1 C X Y1) f_Entry_next e)) Q
        rw [rn, cc_sRo (by decide)]
        rw [if_neg c] at eh
        rw [eh]; exact g47
      · show wpB PGm ρ (d + 2) m_Site_hit 47 [(0, vR a), (1, vR (C + 53)), (2, vR (C + 55)), (3, vR b), (4, vR e), (5, vR (hR (cc h1 C X Y1) f_Entry_next e))] [] (sR (cc h1 C X Y1) f_Site_first a (hR (cc h1 C X Y1) f_Entry_next e)) Q
        rw [rn, cc_sRo (by decide)]
        rw [if_pos c] at eh
        rw [eh]; exact g47
end
