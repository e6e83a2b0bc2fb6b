/-! C: a site is linked -/
set_option maxRecDepth 20000
def LNF : List Nat := LEF ++ [f_Site_first, f_Site_size, f_Site_links]
/-- what a link changes -/
def LKJ (h : ah) (Y : Y3) (a : Nat) (E : List Nat) (e : Nat) (h2 : ah) (Y2 : Y3) : Prop := (∃ z s, z ≤ 2 ∧ s ≤ 23 ∧ Fr LNF [] z s h h2) ∧ (∀ o f i, f ≠ f_Spare_free → Y2 o f i = Y o f i) ∧ (∀ x f, x < hz h → x ≠ e → x ≠ a → f ≠ f_Entry_next → hI h2 f x = hI h f x ∧ hR h2 f x = hR h f x) ∧ (∀ x, x < hz h → x ≠ e → x ∉ E → hR h2 f_Entry_next x = hR h f_Entry_next x) ∧ (∀ f, f ≠ f_Site_first ∧ f ≠ f_Site_size ∧ f ≠ f_Site_links ∧ f ≠ f_Entry_next → hI h2 f a = hI h f a) ∧ (∀ x i, x < hz h → hB h2 x i = hB h x i) ∧ (∀ x i, 0 < x → x < hz h → (e < hz h → x ≠ hR h f_Entry_classes e) → hA h2 x i = hA h x i) ∧ (hK h2 e = k_Entry ∧ e < hz h2 ∧ e ≠ 0)
section
variable {ρ : Nat → Nat} {d : Nat} {Q : QT} {Γ : GH} {h h' h0 h1 h2 H : ah} {C ho T k n m f i j N M b a rr mn sn tn row e t z s be ca u : Nat} {S S' S1 S2 SX : SS} {X : X3} {Y Y1 Y2 : Y3} {g : HG} {v p x y nm ty κ hd w La bv el now : Int} {sp sp2 ch E : List Nat}
/-- the last but one is found -/
theorem r_lk77 (ks : hK h (C + 55) = k_Spare) (ka : hK h a = k_Site) : ∀ (l : List Nat) (u v : Nat), (∀ x, x ∈ u :: v :: l → hK h x = k_Entry) → (∀ x, x ∈ u :: v :: l → x ≠ 0) → NXL h 0 (u :: v :: l) → (∀ A y w, u :: v :: l = A ++ [y, w] → Q (Sum.inl none) (cc (sI (sR (sR h f_Entry_next w (Y 55 f_Spare_free 0)) f_Entry_next y 0) f_Site_size a (w32 (hI h f_Site_size a - 1))) C X (u3 Y 55 f_Spare_free 0 w))) → wpB PGm ρ (d + 1) m_Site_link 77 [(0, vR a), (3, vR (C + 55)), (4, vR u)] [] (cc h C X Y) Q := fun l => by
  induction l with
  | nil =>
    intro u v kk nz ch q
    have r1 : hR (cc h C X Y) f_Entry_next u = v := by rw [ccRo (by decide)]; exact ch.1
    have r2 : hR (cc h C X Y) f_Entry_next v = 0 := by rw [ccRo (by decide)]; exact ch.2.1
    have ku := kk u (by simp)
    have kv := kk v (by simp)
    refine b_Site_link_77 ⟨ku, by rw [r1]; exact kv, ?_⟩
    rw [r1, r2]
    refine ⟨fun _ => ⟨ks, b_Spare_give_0 ⟨ks, kv, ?_⟩⟩, fun c => absurd rfl c⟩
    have y2 : hR (cc h C X Y) f_Spare_free (C + 55) = Y 55 f_Spare_free 0 := ccR (by decide)
    rw [y2, cc_sRo (by decide)]
    show cV _ _ (Sum.inl none) (sR (cc (sR h f_Entry_next v (Y 55 f_Spare_free 0)) C X Y) f_Spare_free (C + 55) v)
    rw [cc_sR (by decide)]
    refine ⟨ku, ?_⟩
    rw [cc_sRo (by decide)]
    refine ⟨ka, ?_⟩
    have i1 : hI (cc (sR (sR h f_Entry_next v (Y 55 f_Spare_free 0)) f_Entry_next u 0) C X (u3 Y 55 f_Spare_free 0 v)) f_Site_size a = hI h f_Site_size a := ccIo (by decide)
    rw [i1, cc_sIo (by decide)]
    exact q [] u v rfl
  | cons w l ih =>
    intro u v kk nz ch q
    have r1 : hR (cc h C X Y) f_Entry_next u = v := by rw [ccRo (by decide)]; exact ch.1
    have r2 : hR (cc h C X Y) f_Entry_next v = w := by rw [ccRo (by decide)]; exact ch.2.1
    have ku := kk u (by simp)
    have kv := kk v (by simp)
    have wz := nz w (by simp)
    refine b_Site_link_77 ⟨ku, by rw [r1]; exact kv, ?_⟩
    rw [r1, r2]
    refine ⟨fun c => absurd c wz, fun _ => ih v w (fun x hx => kk x (List.mem_cons_of_mem _ hx)) (fun x hx => nz x (List.mem_cons_of_mem _ hx)) ch.2 (fun A y z e => q (u :: A) y z (by rw [e]; rfl))⟩
theorem r_link (HC : CORE Γ h C ho X Y S N) (ka : hK h a = k_Site) (ha : a < hz h) (hm : hI h f_Site_megamorphic a = 0) (n9 : ¬ w32 (hI h f_Site_links a + 1) = 9) (ti : X 53 f_Found_isText 0 = 0 ∨ X 53 f_Found_isText 0 = 1) (eo : ¬ X 53 f_Found_byClasses 0 = 0 → X 53 f_Found_operands 0 = (n : Int) ∧ n ≤ 8) (CH : HCH h Y a ch sp) (l4 : ch.length ≤ 4) (al : ∀ x, x ∈ ch ++ sp → x ≠ 0 ∧ (hK h x = k_Entry ∧ x < hz h) ∧ ECL h x) (q : ∀ e h2 Y2 sp2 be, LKJ h Y a (ch ++ sp) e h2 Y2 → STQ h2 e X Y be now → ECL h2 e → (¬ X 53 f_Found_byClasses 0 = 0 → hR h2 f_Entry_classes e ≠ 0 ∧ ∀ i, i < n → hA h2 (hR h2 f_Entry_classes e) i = X 53 f_Found_classes i) → HCH h2 Y2 a ((e :: ch).take 4) sp2 → (e ∈ sp ∨ e = hz h) → (∀ x, x ∈ sp2 → x ∈ ch ++ sp) → hI h2 f_Site_links a = w32 (hI h f_Site_links a + 1) → Q (Sum.inl none) (cc h2 C X Y2)) : wpB PGm ρ (d + 13) m_Site_link 0 [(0, vR a), (1, vR (C + 53)), (2, vI now), (3, vR (C + 55))] [] (cc h C X Y) Q := by
  obtain ⟨c1, c2, c3, c4, c5, c6⟩ := CH
  have k55 : hK h (C + 55) = k_Spare := CORE.k55 HC
  have s55 := CORE.hz55 HC
  have i1 : hI (cc h C X Y) f_Site_megamorphic a = 0 := by rw [ccIo (by decide)]; exact hm
  have i2 : hI (cc h C X Y) f_Site_links a = hI h f_Site_links a := ccIo (by decide)
  refine b_Site_link_0 (d := d + 12) ⟨ka, ?_⟩
  rw [i1, i2]
  refine ⟨fun _ => ?_, fun c => absurd rfl c⟩
  generalize eL : w32 (hI h f_Site_links a + 1) = L at *
  show (¬ hI (sI (cc h C X Y) f_Site_links a L) f_Site_links a = 9 → _) ∧ _
  rw [cc_sIo (by decide), show hI (cc (sI h f_Site_links a L) C X Y) f_Site_links a = L from (ccIo (by decide)).trans (I_I ..)]
  refine ⟨fun _ => ⟨k55, ?_⟩, fun c => absurd c n9⟩
  have r1 : hR (cc (sI h f_Site_links a L) C X Y) f_Site_first a = hdO ch 0 := (ccRo (by decide)).trans c2
  rw [r1]
  have fr0 : Fr LNF [] 0 0 h (sI h f_Site_links a L) := Fr.r0.wI (by decide) (Or.inl (by decide))
  have HC1 : CORE Γ (sI h f_Site_links a L) C ho X Y S N := (HC.fzz (L := LNF) (Pp := []) (X' := X) (Y' := Y) fr0 (by unfold DJ; decide +kernel) (fun y c => by simp at c) (fun _ _ _ => rfl) (Int.le_refl _) EXX.rf (fun o f hf i => rfl)).1.1
  refine r_take (d := d) HC1 ti eo (c4.fr (fun _ _ => rfl)) c5 (fun x hx => al x (List.mem_append_right _ hx)) (fun e h2 Y2 sp2 TJ SQ EC CL F2 SE => ?_)
  obtain ⟨⟨z, s, z2, s2, fr⟩, ty, to, tB, tA, te⟩ := TJ
  have ae : a ≠ e := by
    rintro rfl
    rcases SE with z | ⟨-, -, z⟩
    · have := (al a (by rw [z]; simp)).2.1.1
      rw [ka] at this; exact absurd this (by decide)
    · have z' : a = hz h := z
      omega
  have az2 : a < hz h2 := fr.lt ha
  have ka2 : hK h2 a = k_Site := by rw [fr.K ha]; exact ka
  have ks2 : hK h2 (C + 55) = k_Spare := by rw [fr.K s55]; exact k55
  have en : e ∉ ch ∧ e ∉ sp2 ∧ (∀ x, x ∈ ch ++ sp2 → x ∈ ch ++ sp) ∧ (ch ++ sp2).Nodup ∧ (e ∈ sp ∨ e = hz h) := by
    rcases SE with z | ⟨z1, z2, z⟩
    · rw [z] at c6
      have p1 : (ch ++ e :: sp2).Perm (e :: (ch ++ sp2)) := List.perm_middle
      have nd := List.nodup_cons.mp (p1.nodup_iff.mp c6)
      refine ⟨fun c => nd.1 (List.mem_append_left _ c), fun c => nd.1 (List.mem_append_right _ c), fun x hx => ?_, nd.2, Or.inl (by rw [z]; simp)⟩
      rw [z]
      rcases List.mem_append.mp hx with y | y
      · exact List.mem_append_left _ y
      · exact List.mem_append_right _ (List.mem_cons_of_mem _ y)
    · have zz : e = hz h := z
      refine ⟨fun c => ?_, by rw [z2]; simp, by rw [z1, z2]; exact fun x hx => hx, by rw [z2, ← z1]; exact c6, Or.inr zz⟩
      have := (al e (List.mem_append_left _ c)).2.1.2
      omega
  obtain ⟨e1, e2, e3, e4, e5⟩ := en
  have nx : ∀ x, x ∈ ch ++ sp2 → hR h2 f_Entry_next x = hR h f_Entry_next x := fun x hx => by
    have hx' := e3 x hx
    have ne : x ≠ e := by
      rintro rfl
      rcases List.mem_append.mp hx with c | c
      · exact e1 c
      · exact e2 c
    have := (to x f_Entry_next (al x hx').2.1.2 ne).2
    exact this
  have SQn : hR h2 f_Entry_next e = hdO ch 0 := SQ.2.2.2.2.2.2.2.2.2.2.2.2.1
  have c4' : NXL h 0 sp2 := by
    rcases SE with z | ⟨z1, z2, z⟩
    · rw [z] at c4; exact c4.2
    · rw [z2]; exact trivial
  have sz2 : hI h2 f_Site_size a = (ch.length : Int) := by
    have := (to a f_Site_size ha ae).1
    rw [this]
    show hI (sI h f_Site_links a L) f_Site_size a = _
    rw [I_Ine (by decide)]; exact c3
  have lk2 : hI h2 f_Site_links a = L := by
    have := (to a f_Site_links ha ae).1
    rw [this]; exact I_I ..
  have w1 : w32 (hI h2 f_Site_size a + 1) = ((ch.length + 1 : Nat) : Int) := by
    rw [sz2, w32_of (by omega) (by omega)]; omega
  refine ⟨ka2, ?_⟩
  have q0 : hI (cc (sR h2 f_Site_first a e) C X Y2) f_Site_size a = hI h2 f_Site_size a := ccIo (by decide)
  show (4 < hI (sI (sR (cc h2 C X Y2) f_Site_first a e) f_Site_size a (w32 (hI (sR (cc h2 C X Y2) f_Site_first a e) f_Site_size a + 1))) f_Site_size a → _) ∧ _
  rw [cc_sRo (by decide), q0, w1, cc_sIo (by decide)]
  have i3 : hI (cc (sI (sR h2 f_Site_first a e) f_Site_size a ((ch.length + 1 : Nat) : Int)) C X Y2) f_Site_size a = ((ch.length + 1 : Nat) : Int) := (ccIo (by decide)).trans (I_I ..)
  have r3 : hR (cc (sI (sR h2 f_Site_first a e) f_Site_size a ((ch.length + 1 : Nat) : Int)) C X Y2) f_Site_first a = e := (ccRo (by decide)).trans (R_R ..)
  rw [i3, r3]
  have nO2 : ¬ own f_Site_first := by unfold own; decide
  have nO1 : ¬ own f_Entry_next := by unfold own; decide
  have frA : Fr LNF [] (0 + z) (0 + s) h h2 := fr0.trans (fr.mono (fun f hf => by unfold LNF; exact List.mem_append_left _ hf) (fun q hq => hq))
  have frB : Fr LNF [] (0 + z) (0 + s) h (sI (sR h2 f_Site_first a e) f_Site_size a ((ch.length + 1 : Nat) : Int)) := (frA.wR (Or.inl (by decide)) nO2).wI (by decide) (Or.inl (by decide))
  have o0 : ∀ x f, x < hz h → x ≠ e → x ≠ a → hI h2 f x = hI h f x ∧ hR h2 f x = hR h f x := fun x f hx n1 n2 => by
    have := to x f hx n1
    rw [I_Ine' n2] at this
    exact this
  have oa : ∀ f, f ≠ f_Site_first ∧ f ≠ f_Site_size ∧ f ≠ f_Site_links ∧ f ≠ f_Entry_next → hI h2 f a = hI h f a := fun f hf => by
    have := (to a f ha ae).1
    rw [I_Ine hf.2.2.1] at this; exact this
  have oA : ∀ x i, 0 < x → x < hz h → (e < hz h → x ≠ hR h f_Entry_classes e) → hA h2 x i = hA h x i := tA
  have ndA : (e :: (ch ++ sp2)).Nodup := List.nodup_cons.mpr ⟨fun c => (List.mem_append.mp c).elim e1 e2, e4⟩
  have chn : NXL h2 0 (e :: ch) := ⟨SQn, c1.fr (fun x hx => nx x (List.mem_append_left _ hx))⟩
  have spn : NXL h2 0 sp2 := c4'.fr (fun x hx => nx x (List.mem_append_right _ hx))
  have SQ' : ∀ H : ah, (∀ f, hI H f e = hI h2 f e) → (∀ f, f ≠ f_Entry_next → hR H f e = hR h2 f e) → STQ H e X Y (hR H f_Entry_next e) now := fun H a1 a2 => by
    obtain ⟨s1, s2, s3, s4, s5, s6, s7, s8, s9, s10, s11, s12, s13, s14⟩ := SQ
    exact ⟨by rw [a1]; exact s1, by rw [a1]; exact s2, by rw [a1]; exact s3, by rw [a1]; exact s4, by rw [a2 _ (by decide)]; exact s5, by rw [a2 _ (by decide)]; exact s6, by rw [a2 _ (by decide)]; exact s7, by rw [a2 _ (by decide)]; exact s8, by rw [a1]; exact s9, by rw [a2 _ (by decide)]; exact s10, by rw [a2 _ (by decide)]; exact s11, by rw [a1]; exact s12, rfl, by rw [a1]; exact s14⟩
  refine ⟨fun c => ?_, fun c => ?_⟩
  · -- one too many
    have l5 : ch.length = 4 := by omega
    have ktk : ∀ x, x ∈ e :: ch → hK h2 x = k_Entry := fun x hx => by
      rcases List.mem_cons.mp hx with z | z
      · rw [z]; exact te.1
      · have := al x (List.mem_append_left _ z)
        rw [fr.K this.2.1.2]; exact this.2.1.1
    have ktz : ∀ x, x ∈ e :: ch → x ≠ 0 := fun x hx => by
      rcases List.mem_cons.mp hx with z | z
      · rw [z]; exact te.2.2
      · exact (al x (List.mem_append_left _ z)).1
    match ch, l5 with
    | [p1, p2, p3, p4], _ =>
      refine r_lk77 (h := sI (sR h2 f_Site_first a e) f_Site_size a (([p1, p2, p3, p4].length + 1 : Nat) : Int)) (Y := Y2) ks2 ka2 [p2, p3, p4] e p1 ktk ktz (chn.fr (fun x hx => R_Rne (by decide))) (fun A y w eA => ?_)
      have hA' : y = p3 ∧ w = p4 := by
        match A, eA with
        | [], eA => simp at eA
        | [_], eA => simp at eA
        | [_, _], eA => simp at eA
        | [x1, x2, x3], eA => simp at eA; exact ⟨eA.2.2.2.1.symm, eA.2.2.2.2.symm⟩
        | _ :: _ :: _ :: _ :: A, eA => have := congrArg List.length eA; simp at this
      obtain ⟨rfl, rfl⟩ := hA'
      have i4 : w32 (hI (sI (sR h2 f_Site_first a e) f_Site_size a (([p1, p2, y, w].length + 1 : Nat) : Int)) f_Site_size a - 1) = 4 := by
        rw [I_I]; show w32 ((5 : Int) - 1) = 4; decide
      rw [i4]
      have nd5 : e ≠ p1 ∧ e ≠ p2 ∧ e ≠ y ∧ e ≠ w ∧ p1 ≠ p2 ∧ p1 ≠ y ∧ p1 ≠ w ∧ p2 ≠ y ∧ p2 ≠ w ∧ y ≠ w ∧ (∀ x, x ∈ sp2 → x ≠ e ∧ x ≠ p1 ∧ x ≠ p2 ∧ x ≠ y ∧ x ≠ w) ∧ sp2.Nodup := by
        simp only [List.cons_append, List.nil_append, List.nodup_cons, List.mem_cons, not_or] at ndA
        obtain ⟨⟨n1, n2, n3, n4, n5⟩, ⟨n6, n7, n8, n9⟩, ⟨n10, n11, n12⟩, ⟨n13, n14⟩, n15, n16⟩ := ndA
        exact ⟨n1, n2, n3, n4, n6, n7, n8, n10, n11, n13, fun x hx => ⟨by rintro rfl; exact n5 hx, by rintro rfl; exact n9 hx, by rintro rfl; exact n12 hx, by rintro rfl; exact n14 hx, by rintro rfl; exact n15 hx⟩, n16⟩
      obtain ⟨d1, d2, d3, d4, d5, d6, d7, d8, d9, d10, d11, d12⟩ := nd5
      have q1 : hR h2 f_Entry_next e = p1 ∧ hR h2 f_Entry_next p1 = p2 ∧ hR h2 f_Entry_next p2 = y ∧ hR h2 f_Entry_next y = w := ⟨chn.1, chn.2.1, chn.2.2.1, chn.2.2.2.1⟩
      refine q e _ _ (w :: sp2) _ ⟨⟨0 + z, 0 + s, by omega, by omega, (((frB.wR (Or.inl (by decide)) nO1).wR (Or.inl (by decide)) nO1).wI (by decide) (Or.inl (by decide)))⟩, fun o f i hf => ?_, fun x f hx n1 n2 n3 => ?_, fun x hx n1 n2 => ?_, fun f hf => ?_, tB, oA, te⟩ (SQ' _ (fun f => ?_) (fun f hf => ?_)) ?_ ?_ ⟨?_, ?_, ?_, ?_, u3_s, ?_⟩ e5 (fun x hx => ?_) ?_
      · rw [u3_f hf]; exact ty o f i hf
      · rw [I_Ine' n2, g_hI_sR, g_hI_sR, I_Ine' n2, g_hI_sR, g_hR_sI, R_Rne n3, R_Rne n3, g_hR_sI, R_Rne' n2]; exact o0 x f hx n1 n2
      · have nw : x ≠ w := by rintro rfl; exact n2 (by simp)
        have ny : x ≠ y := by rintro rfl; exact n2 (by simp)
        rw [g_hR_sI, R_Rne' ny, R_Rne' nw, g_hR_sI, R_Rne (by decide)]
        by_cases xa : x = a
        · have := (to x f_Entry_next hx n1).2
          exact this
        · exact (o0 x f_Entry_next hx n1 xa).2
      · rw [I_Ine hf.2.1, g_hI_sR, g_hI_sR, I_Ine hf.2.1, g_hI_sR]; exact oa f hf
      · rw [I_Ine' (fun c => ae c.symm), g_hI_sR, g_hI_sR, I_Ine' (fun c => ae c.symm), g_hI_sR]
      · rw [g_hR_sI, R_Rne hf, R_Rne hf, g_hR_sI, R_Rne' (fun c => ae c.symm)]
      · unfold ECL at EC ⊢
        rw [g_hR_sI, R_Rne (by decide), R_Rne (by decide), g_hR_sI, R_Rne (by decide)]; exact EC
      · intro b1
        have := CL b1
        rw [g_hR_sI, R_Rne (by decide), R_Rne (by decide), g_hR_sI, R_Rne (by decide)]; exact this
      · refine ⟨?_, ?_, ?_, ?_, trivial⟩
        · rw [g_hR_sI, R_Rne' d3, R_Rne' d4, g_hR_sI, R_Rne (by decide)]; exact q1.1
        · rw [g_hR_sI, R_Rne' d6, R_Rne' d7, g_hR_sI, R_Rne (by decide)]; exact q1.2.1
        · rw [g_hR_sI, R_Rne' d8, R_Rne' d9, g_hR_sI, R_Rne (by decide)]; exact q1.2.2.1
        · rw [g_hR_sI, R_R]; rfl
      · rw [g_hR_sI, R_Rne (by decide), R_Rne (by decide), g_hR_sI, R_R]; rfl
      · rw [I_I]; rfl
      · refine ⟨?_, spn.fr (fun x hx => ?_)⟩
        · rw [g_hR_sI, R_Rne' (fun c => d10 c.symm), R_R]; exact F2
        · obtain ⟨x1, x2, x3, x4, x5⟩ := d11 x hx
          rw [g_hR_sI, R_Rne' x4, R_Rne' x5, g_hR_sI, R_Rne (by decide)]
      · simp only [List.take_succ_cons, List.take_zero, List.cons_append, List.nil_append, List.nodup_cons, List.mem_cons, not_or]
        exact ⟨⟨d1, d2, d3, d4, fun c => (d11 _ c).1 rfl⟩, ⟨d5, d6, d7, fun c => (d11 _ c).2.1 rfl⟩, ⟨d8, d9, fun c => (d11 _ c).2.2.1 rfl⟩, ⟨d10, fun c => (d11 _ c).2.2.2.1 rfl⟩, fun c => (d11 _ c).2.2.2.2 rfl, d12⟩
      · rcases List.mem_cons.mp hx with z | z
        · rw [z]; simp
        · exact e3 x (List.mem_append_right _ z)
      · rw [I_Ine (by decide), g_hI_sR, g_hI_sR, I_Ine (by decide), g_hI_sR]; exact lk2
  · have l5 : ch.length < 4 := by omega
    have tk : (e :: ch).take 4 = e :: ch := List.take_of_length_le (by simp; omega)
    refine q e _ _ sp2 _ ⟨⟨0 + z, 0 + s, by omega, by omega, frB⟩, ty, fun x f hx n1 n2 n3 => ?_, fun x hx n1 n2 => ?_, fun f hf => ?_, tB, oA, te⟩ (SQ' _ (fun f => ?_) (fun f hf => ?_)) ?_ ?_ ⟨?_, ?_, ?_, ?_, F2, ?_⟩ e5 (fun x hx => e3 x (List.mem_append_right _ hx)) ?_
    · rw [I_Ine' n2, g_hI_sR, g_hR_sI, R_Rne' n2]; exact o0 x f hx n1 n2
    · rw [g_hR_sI, R_Rne (by decide)]
      have := (to x f_Entry_next hx n1).2
      exact this
    · rw [I_Ine hf.2.1, g_hI_sR]; exact oa f hf
    · rw [I_Ine' (fun c => ae c.symm), g_hI_sR]
    · rw [g_hR_sI, R_Rne' (fun c => ae c.symm)]
    · unfold ECL at EC ⊢
      rw [g_hR_sI, R_Rne (by decide)]; exact EC
    · intro b1
      have := CL b1
      rw [g_hR_sI, R_Rne (by decide)]; exact this
    · rw [tk]; exact chn.fr (fun x hx => R_Rne (by decide))
    · rw [g_hR_sI, R_R, tk]; rfl
    · rw [I_I, tk]; rfl
    · exact spn.fr (fun x hx => R_Rne (by decide))
    · rw [tk]; exact ndA
    · rw [I_Ine (by decide), g_hI_sR]; exact lk2
end
