/-! C reads a member: all of it -/
set_option maxRecDepth 20000
section
variable {ρ : Nat → Nat} {d : Nat} {h h' h0 : ah} {F : Int → ah → Prop} {FR : Nat → ah → Prop} {G : ah → Prop} {E : Nat → ah → Prop} {Q : QT} {C ho a : Nat} {tp : List Int} {t t' : TKN} {g : HG} {n m c : Nat} {ws : List (List Int)} {so st ty va : Int} {ps nm : List Int}
theorem RC.ke (H : RC ρ h0 h C ho tp g n m ws t) (fx : FQ tp h0 h' ho) : hK h' (C + 2) ≠ 0 := by
  obtain ⟨⟨z, s, ff⟩, -⟩ := fx
  have l0 : C + 2 < hz h0 := by have := H.2.2.2.2.2.1; have := H.2.2.2.2.2.2.1; omega
  obtain ⟨z2, s2, f2⟩ := H.2.2.2.2.1
  have k2 := H.2.1.1.2.2.1
  rw [f2.K l0] at k2
  rw [ff.K l0, k2]; decide
theorem plc9 {l : List Int} : plc plainW l < 9 := by
  unfold plc
  split
  · next i e =>
    obtain ⟨hh, -⟩ := List.findIdx?_eq_some_iff_getElem.mp e
    have : plainW.length = 9 := rfl
    omega
  · omega
theorem tyOf_b {l : List Int} {k : Int} (H : tyOf g n l k) : 0 ≤ k ∧ k < 9 + (n : Int) := by
  have := plc9 (l := l)
  rcases H with ⟨x1, x2⟩ | ⟨x1, i, hi, x2, x3⟩ <;> omega
theorem c_mem1 (H : RC ρ h0 h C ho tp g n m ws t) (ok : mOK g n c m) (hst : st = 0 ∨ st = 1) (hd : 10 ≤ d) (ha0 : hz h0 ≤ hB h (ho + 2) c) (e1 : t.2.1 = 1)
    (q1 : ∀ h' g' t' ws', rdMem1 tp g n c m st t = Sum.inr (g', t') → RC ρ h0 h' C ho tp g' n (m + 1) ws' t' → hB h' (ho + 2) c = hB h (ho + 2) c → (∃ so st ty va ps nm, g' = gMem g c m so st ty va ps nm) → t.1 < t'.1 → G h')
    (q2 : ∀ h' w p, (rdMem1 tp g n c m st t = Sum.inl (w, p) ∨ ∃ g' t', rdMem1 tp g n c m st t = Sum.inr (g', t') ∧ t'.2.1 = -1 ∧ w = 1 ∧ p = t'.1) → FQ tp h0 h' ho → hI h' f_Fault_told (C + 2) = w + 16 * (p : Int) → E (C + 2) h') :
    wpB PGm ρ (d + 5) m_Host_readMember 38 [(0, vR ho), (1, vR (C + 3)), (2, vR (hB h (ho + 2) c)), (3, vI st)] [] h (cV G E) := by
  obtain ⟨fo, hc, hm, df, hnr, h10, -⟩ := id ok
  obtain ⟨a1, k1, lho, hi⟩ := H.hc
  obtain ⟨⟨by_, fr, sz, nx0, H1⟩, K, S, Hr, fx, h6, h6', hwi, hz1, hs1⟩ := id H
  have T := H1.2.2.2.2.2.1 c hc
  have b3 := H1.2.2.1
  have hn60 := H1.2.2.2.1
  have pos := tkB_len K e1
  -- behind the checks of room: makes, or not
  refine b_Host_readMember_38 ⟨k1, c_isB K e1 S.2.2.2.2 (by omega) (fun eN => ⟨fun z => absurd z (by decide), fun _ => ⟨fun z => ?_, fun z => ⟨k1, c_fl K (by omega) (fun h' x y => ⟨kF K x, q2 h' 1 _ (Or.inl (by rw [rdMem1, if_neg (by rw [e1]; simp), if_pos (show tkB tp t = wNew from eN), if_pos z])) (H.fx x) y⟩)⟩⟩⟩) (fun nN => ⟨fun _ => ?_, fun z => absurd rfl z⟩)⟩
  · -- a constructor
    have eq0 : rdMem1 tp g n c m st t = if m = 400 then Sum.inl (5, t.1) else if ¬ g.1 1 c = 0 then Sum.inl (6, t.1) else
     if ¬ (nx tp 1 t).2.1 = 40 then Sum.inl (1, (nx tp 1 t).1) else rdMem2 tp g n c m 2 st (9 + (c : Int)) [] (nx tp 1 (nx tp 1 t)) := by rw [rdMem1, if_neg (by rw [e1]; simp), if_pos (show tkB tp t = wNew from eN), if_neg (by rw [z]; simp)]
    refine b_Host_readMember_60 ⟨fun z => absurd z (by decide), fun _ => ⟨T.1.1, ?_⟩⟩
    rw [T.2.1, w32_of (by omega) (by omega)]
    refine b_Host_readMember_80 (by omega) ⟨a1, by rw [H1.1.2.2.2.2.1]; exact H1.1.2.2.2.2.2.2.2.1.1.1, by rw [H1.1.2.2.2.2.1]; exact H1.1.2.2.2.2.2.2.2.1.1, fun y => ?_, fun y => ⟨k1, c_fl K (by omega) (fun h' x w => ⟨kF K x, q2 h' 5 _ (Or.inl (by rw [eq0, if_pos (by rw [H1.1.2.2.2.2.1, b3] at y; omega)])) (H.fx x) w⟩)⟩⟩
    rw [H1.1.2.2.2.2.1, b3] at y
    have hm4 : m < 400 := by have := H1.2.2.2.2.1; omega
    rw [if_neg (by omega)] at eq0
    refine b_Host_readMember_100 ⟨fun z => absurd z (by decide), fun _ => ⟨T.1.1, fun y => ?_, fun y => ⟨k1, c_fl K (by omega) (fun h' x w => ⟨kF K x, q2 h' 6 _ (Or.inl (by rw [eq0, if_pos (by rw [T.2.2.2.1] at y; exact y)])) (H.fx x) w⟩)⟩⟩⟩
    rw [T.2.2.2.1] at y
    rw [if_neg (by rw [y]; simp)] at eq0
    refine b_Host_readMember_118 ⟨k1, c_nxf K (fun h2 f2 n2 b2 K2 => ⟨K2.1.1.1, fun _ => ?_, fun z => absurd z (by decide)⟩) (fun h2 f2 n2 b2 e2 => ⟨kF K f2, q2 h2 1 _ (Or.inl (by rw [eq0, if_pos (by omega)])) (H.fx f2) e2⟩)⟩
    have R2 := H.nxt f2 n2 K2
    refine b_Host_readMember_147 ⟨fun _ => b_Host_readMember_217 ⟨K2.1.1.1, c_tk K2 (fun h3 t3 e40 f3 n3 K3 => ?_) (fun ne h3 f3 e3 => ⟨kF K2 f3, q2 h3 1 _ (Or.inl (by rw [eq0, if_pos ne])) (R2.fx f3) e3⟩) (fun h3 t3 e40 f3 n3 b3 e3 => ⟨kF K2 f3, ?_⟩)⟩, fun z => absurd z (by decide)⟩
    · rw [if_neg (by rw [e40]; simp)] at eq0
      have R3 := (R2.nxt f3 n3 K3).tr (nx_same n3) (nx_of n3).2
      have hB3 : hB h3 (ho + 2) c = hB h (ho + 2) c := (R2.tysame f3 c).trans (H.tysame f2 c)
      refine ⟨R3.hc.1, ?_⟩
      rw [← hB3]
      exact c_mem2 R3 ok hm4 (Or.inr rfl) hst (by omega) (Or.inl ⟨rfl, rfl, rfl⟩) hd (by rw [hB3]; exact ha0) 1 (Or.inr ⟨by decide, rfl⟩) (fun h' g' t' e R hB g9 lt => q1 h' g' t' ws (eq0.trans e) R (hB.trans hB3) ⟨_, _, _, _, _, _, g9⟩ (by have := (nxT_le K n2).2.1; have := (nxT_le K2 n3).2.1; have := (nx_same n3).1; omega)) (fun h' w p e => q2 h' w p (by rw [eq0]; exact e))
    · rw [if_neg (by rw [e40]; simp)] at eq0
      have sm := nx_same n3
      refine q2 h3 1 t3.1 (Or.inl ?_) (R2.fx f3) e3
      have k1' : (nx tp 1 (nx tp 1 t)).2.1 = -1 := by rw [← sm.2.1]; exact b3
      rw [eq0, rdMem2, rdPar0, if_neg (by rw [k1']; decide), rdPars, if_pos (by rw [k1']; decide), ← sm.1]
  · -- a type
    have eq00 : rdMem1 tp g n c m st t = match tyV g n (tkB tp t) with
      | none => Sum.inl (3, t.1)
      | some ty => if m = 400 then Sum.inl (5, t.1) else
        if ¬ (nx tp 1 t).2.1 = 1 then Sum.inl (1, (nx tp 1 t).1) else
        @ite _ (resv (tkB tp (nx tp 1 t))) (Classical.propDecidable _) (Sum.inl (2, (nx tp 1 t).1))
        (if (nx tp 1 (nx tp 1 t)).2.1 = 59 ∧ ¬ ty = 0 then
          @ite _ (hasF g c m (tkB tp (nx tp 1 t))) (Classical.propDecidable _) (Sum.inl (2, (nx tp 1 t).1)) (if ¬ g.1 1 c = 0 then Sum.inl (6, (nx tp 1 t).1) else Sum.inr (gMem g c m 0 st ty 0 [] (tkB tp (nx tp 1 t)), nx tp 1 (nx tp 1 (nx tp 1 t))))
         else if ¬ (nx tp 1 (nx tp 1 t)).2.1 = 40 then Sum.inl (1, (nx tp 1 (nx tp 1 t)).1) else rdMem2 tp g n c m 1 st ty (tkB tp (nx tp 1 t)) (nx tp 1 (nx tp 1 (nx tp 1 t)))) := by
      rw [rdMem1, if_neg (by rw [e1]; simp), if_neg (show ¬ tkB tp t = wNew from nN)]
      cases tyV g n (tkB tp t) <;> rfl
    refine b_Host_readMember_60 ⟨fun _ => ⟨a1, c_type H1 K S (by omega) (fun ty e1 tk => ?_) (fun ne => absurd e1 ne) (fun _ x2 x3 h' x y => ⟨kF K x, q2 h' 3 _ (Or.inl (by rw [eq00, tyV_no x2 x3])) (H.fx x) y⟩)⟩, fun z => absurd rfl z⟩
    rw [tyV_of df hnr tk] at eq00
    have eq0 := eq00
    simp only at eq0
    clear eq00
    have tyb := tyOf_b tk
    refine b_Host_readMember_80 (by omega) ⟨a1, by rw [H1.1.2.2.2.2.1]; exact H1.1.2.2.2.2.2.2.2.1.1.1, by rw [H1.1.2.2.2.2.1]; exact H1.1.2.2.2.2.2.2.2.1.1, fun y => ?_, fun y => ⟨k1, c_fl K (by omega) (fun h' x w => ⟨kF K x, q2 h' 5 _ (Or.inl (by rw [eq0, if_pos (by rw [H1.1.2.2.2.2.1, b3] at y; omega)])) (H.fx x) w⟩)⟩⟩
    rw [H1.1.2.2.2.2.1, b3] at y
    have hm4 : m < 400 := by have := H1.2.2.2.2.1; omega
    rw [if_neg (by omega)] at eq0
    refine b_Host_readMember_100 ⟨fun _ => b_Host_readMember_118 ⟨k1, c_nxf K (fun h2 f2 n2 b2 K2 => ?_) (fun h2 f2 n2 b2 e2 => ⟨kF K f2, q2 h2 1 _ (Or.inl (by rw [eq0, if_pos (by omega)])) (H.fx f2) e2⟩)⟩, fun z => absurd rfl z⟩
    have R2 := H.nxt f2 n2 K2
    have le2 := nxT_le K n2
    obtain ⟨⟨by2, fr2, sz2, nx2, H2⟩, -⟩ := id R2
    refine ⟨K2.1.1.1, fun z => absurd rfl z, fun _ => ⟨R2.hc.1, c_newName H2 K2 R2.2.2.1 (by omega) (by omega) (by have := hwi.1; omega) (by have := hwi.2; omega) (fun e21 nr h3 ws' by3 fr3 sz3 nx3 v H3 K3 F3 z3 s3 N3 w1 w2 mono => ?_) (fun ne h' x y => ⟨kF K2 x, q2 h' 1 _ (Or.inl (by rw [eq0, if_pos ne])) (R2.fx x) y⟩) (fun e21 r h' x y => ⟨kF K2 x, q2 h' 2 _ (Or.inl (by rw [eq0, if_neg (by rw [e21]; simp), if_pos r])) (R2.fx x) y⟩)⟩⟩
    rw [if_neg (by rw [e21]; simp), if_neg nr] at eq0
    have hfrom : hI h2 f_Scanner_from (C + 3) = ((nx tp 1 t).1 : Int) := K2.2.2.2.1.2.1
    have pos2 := tkB_len K2 e21
    have RP : RCp ρ h0 h3 C ho tp g n m ws' (nx tp 1 t) := by
      obtain ⟨z, s, F3'⟩ := id F3
      refine ⟨⟨by3, fr3, sz3, nx3, H3⟩, K3, R2.2.2.1.frm F3 (nP0 rfl) R2.2.2.2.1, fun i hi => ?_, R2.2.2.2.2.1.into F3 (fun f c => by cases c) (fun q hq => Or.inl (by unfold PH; exact List.mem_append_left _ hq)), h6, h6', ⟨w1, w2⟩, ?_, ?_⟩
      · obtain ⟨r1, r2, r3⟩ := R2.2.2.2.1 i hi
        exact ⟨F3'.lt r1, r2, r3.fr r1 r2 F3'⟩
      · have := R2.2.2.2.2.2.2.2.2.1; omega
      · have := R2.2.2.2.2.2.2.2.2.2; omega
    have hB3 : hB h3 (ho + 2) c = hB h (ho + 2) c := by
      obtain ⟨z, s, F3'⟩ := id F3
      rw [(F3'.ar H2.1.2.2.1 (own_of (f := f_Host_types) rfl) H2.1.2.1 H2.1.2.2.2.1 (by omega) (nok rfl rfl rfl rfl) (nP0 rfl _)).2.2]
      exact H.tysame f2 c
    refine ⟨K3.1.1.1, c_nxf K3 (fun h4 f4 n4 b4 K4 => ?_) (fun h4 f4 n4 b4 e4 => ⟨kF K3 f4, q2 h4 1 _ (Or.inl (by rw [eq0, if_neg (by omega), if_pos (by omega)])) (RP.fx f4) e4⟩)⟩
    have R4 := RP.nxt f4 n4 (by omega) K4
    have hB4 : hB h4 (ho + 2) c = hB h (ho + 2) c := (RP.tysame f4 c).trans hB3
    have kk4 := K4.2.2.2.1.1
    obtain ⟨⟨by4, fr4, sz4, nx4, H4⟩, -⟩ := id R4
    have T4 := H4.2.2.2.2.2.1 c hc
    rw [hB4] at T4
    have hm1 : (nx tp 1 t).1 ≤ 70000 := by have := K.2.2.2.2.2.2.2.2.1; omega
    -- what has brackets
    have meth : ¬ ((nx tp 1 (nx tp 1 t)).2.1 = 59 ∧ ¬ ty = 0) → wpB PGm ρ (d + 5) m_Host_readMember 217 [(0, vR ho), (1, vR (C + 3)), (2, vR (hB h (ho + 2) c)), (3, vI st), (4, vI 0), (5, vI ty), (6, vI v)] [] h4 (cV G E) := fun nf => by
      rw [if_neg nf] at eq0
      refine b_Host_readMember_217 ⟨K4.1.1.1, c_tk K4 (fun h5 t5 e40 f5 n5 K5 => ?_) (fun ne h5 f5 e5 => ⟨kF K4 f5, q2 h5 1 _ (Or.inl (by rw [eq0, if_pos ne])) (R4.fx f5) e5⟩) (fun h5 t5 e40 f5 n5 b5 e5 => ⟨kF K4 f5, ?_⟩)⟩
      · rw [if_neg (by rw [e40]; simp)] at eq0
        have R5 := (R4.nxt f5 n5 K5).tr (nx_same n5) (nx_of n5).2
        have hB5 : hB h5 (ho + 2) c = hB h (ho + 2) c := (R4.tysame f5 c).trans hB4
        refine ⟨R5.hc.1, ?_⟩
        rw [← hB5]
        exact c_mem2 R5 ok hm4 (Or.inl rfl) hst tyb (Or.inr ⟨by decide, N3⟩) hd (by rw [hB5]; exact ha0) 0 (Or.inl ⟨rfl, rfl⟩) (fun h' g' t' e R hB g9 lt => q1 h' g' t' ws' (eq0.trans e) R (hB.trans hB5) ⟨_, _, _, _, _, _, g9⟩ (by have := (nxT_le K3 n4).2.1; have := (nxT_le K4 n5).2.1; have := (nx_same n5).1; omega)) (fun h' w p e => q2 h' w p (by rw [eq0]; exact e))
      · rw [if_neg (by rw [e40]; simp)] at eq0
        have sm := nx_same n5
        refine q2 h5 1 t5.1 (Or.inl ?_) (R4.fx f5) e5
        have k1' : (nx tp 1 (nx tp 1 (nx tp 1 t))).2.1 = -1 := by rw [← sm.2.1]; exact b5
        rw [eq0, rdMem2, rdPar0, if_neg (by rw [k1']; decide), rdPars, if_pos (by rw [k1']; decide), ← sm.1]
    rw [hfrom]
    refine b_Host_readMember_147 ⟨fun z => absurd rfl z, fun _ => ⟨K4.1.1.1, fun z => meth (fun x => z (by rw [kk4]; exact x.1)), fun z => ⟨fun y => meth (fun x => x.2 y), fun y => ⟨T4.1.1, ?_⟩⟩⟩⟩
    rw [kk4] at z
    rw [if_pos ⟨z, y⟩] at eq0
    rw [← hB4]
    refine c_field H4 fo hc N3 (by omega) (fun j j1 j2 j3 j4 => ⟨fun x => ?_, fun _ => ⟨K4.1.1.1, c_fl2 K4 (by omega) hm1 (fun h' x w => ⟨kF K4 x, q2 h' 2 _ (Or.inl (by rw [eq0, if_pos ⟨j, j1, by omega, j3, j4⟩])) (R4.fx x) w⟩)⟩⟩) (fun no => ⟨fun _ => ?_, fun x => absurd rfl x⟩)
    · exact absurd x (H4.2.2.2.2.2.2.1 j (by omega)).1.2.2
    · have nF : ¬ hasF g c m (tkB tp (nx tp 1 t)) := fun ⟨j, j1, j2, j3, j4⟩ => no j j1 (by omega) ⟨j3, j4⟩
      rw [if_neg nF] at eq0
      rw [hB4]
      refine b_Host_readMember_182 ⟨T4.1.1, fun x => ?_, fun x => ⟨K4.1.1.1, c_fl2 K4 (by omega) hm1 (fun h' w w2 => ⟨kF K4 w, q2 h' 6 _ (Or.inl (by rw [eq0, if_pos (by rw [T4.2.2.2.1] at x; exact x)])) (R4.fx w) w2⟩)⟩⟩
      rw [T4.2.2.2.1] at x
      rw [if_neg (by rw [x]; simp)] at eq0
      refine b_Host_readMember_197 ?_
      intro h5
      have z5 : hz h5 = hz h4 + 1 := rfl
      have F5 : Fr [] (PDr ho) 1 0 h4 h5 := ((Fr.r0 (h := h4)).new (k := 1) (n := 0) (m := 0)).le (by omega) (by omega)
      have K5 : CK h5 C tp 1 (nx tp 1 (nx tp 1 t)) := K4.fr F5 (fun x f hm => nokAll (L := []) (P := PDr ho) rfl f hm x) (nP0 rfl)
      have nD : nHC [] (PDr ho) ho := ⟨⟨nokAll rfl, fun f hm c => by
        simp only [fhos, List.mem_cons, List.not_mem_nil, or_false] at hm
        rcases hm with e | e | e | e | e | e | e <;> subst e <;> exact nokW rfl rfl c⟩, nP0 rfl, fun f hm => nokAll (L := []) (P := PDr ho) (fs := [f_Words_most, f_Words_mostBytes, f_Words_many, f_Words_used, f_Words_bytes, f_Words_from, f_Words_size, f_Words_next, f_Words_heads]) rfl f hm _⟩
      have H5 := H4.frm F5 nD
      have zz5 := HZ_frm H4.2.2.2.2.2.2.2 H5.2.2.2.2.2.2.2 F5
      have zz4 := HZ_SCM H3.2.2.2.2.2.2.2 f4 (by decide)
      have zf4 := f4.1
      have le4 := nxT_le K3 n4
      have bz := RP.2.2.2.2.2.2.2.2.1
      have bs := RP.2.2.2.2.2.2.2.2.2
      have bz2 := R2.2.2.2.2.2.2.2.2.1
      have bs2 := R2.2.2.2.2.2.2.2.2.2
      have R5 : RC ρ h0 h5 C ho tp g n m ws' (nx tp 1 (nx tp 1 t)) := by
        refine ⟨⟨by4, fr4, sz4, nx4, H5⟩, K5, R4.2.2.1.frm ⟨_, _, F5⟩ (nP0 rfl) R4.2.2.2.1, fun i hi => ?_, R4.2.2.2.2.1.into ⟨_, _, F5⟩ (fun f c => by cases c) (fun q hq => Or.inl (by simp [PDr] at hq; subst hq; simp [PH])), h6, h6', R4.2.2.2.2.2.2.2.1, by omega, by omega⟩
        obtain ⟨r1, r2, r3⟩ := R4.2.2.2.1 i hi
        exact ⟨F5.lt r1, r2, r3.fr r1 r2 F5⟩
      have hB5 : hB h5 (ho + 2) c = hB h (ho + 2) c := by
        rw [show hB h5 (ho + 2) c = hB h4 (ho + 2) c from if_neg (by have := H4.1.2.2.2.2.2.2.1.2.2; omega)]; exact hB4
      have hi4 := H4.1.2.2.1
      have pa : hz h4 ≠ 0 ∧ hz h4 < hz h5 ∧ UNO h5 (hz h4) ∧ hK h5 (hz h4) = 1 ∧ hl h5 (hz h4) = ([] : List Int).length ∧ ([] : List Int).length ≤ 8 ∧ ∀ k, k < ([] : List Int).length → hA h5 (hz h4) k = ([] : List Int).getD k 0 := ⟨by have := hi4.2.2; omega, by omega, fun f x hx hf e => INJ.new (k := 1) (n := 0) (m := 0) hi4 f x hx hf e, if_pos rfl, if_pos rfl, by simp, fun k hk => by simp at hk⟩
      rw [← hB5]
      refine ⟨R5.hc.1, c_add R5 fo hc hm hm4 h10 (Or.inl rfl) hst (Or.inl rfl) tyb (Or.inr ⟨by decide, N3⟩) pa (by omega) (by rw [hB5]; exact ha0) (fun h8 HC8 fx8 F8 z8 s8 t28 => ?_)⟩
      have nPM : ∀ y, (0, y) ∉ PM (hB h5 (ho + 2) c) ho := nP0 rfl
      have K8 : CK h8 C tp 1 (nx tp 1 (nx tp 1 t)) := K5.fr F8 (fun x f hm => nokAll (L := []) (P := PM (hB h5 (ho + 2) c) ho) rfl f hm x) nPM
      have RP8 : RCp ρ h0 h8 C ho tp (gMem g c m 0 st ty 0 [] (tkB tp (nx tp 1 t))) n (m + 1) ws' (nx tp 1 (nx tp 1 t)) := by
        refine ⟨HC8, K8, R5.2.2.1.frm ⟨_, _, F8⟩ nPM R5.2.2.2.1, fun i hi => ?_, fx8, h6, h6', R5.2.2.2.2.2.2.2.1.mono K8.2.2.2.2.2.2.1, ?_, ?_⟩
        · obtain ⟨r1, r2, r3⟩ := R5.2.2.2.1 i hi
          exact ⟨F8.lt r1, r2, r3.fr r1 r2 F8⟩
        · have := R5.2.2.2.2.2.2.2.2.1; omega
        · have := R5.2.2.2.2.2.2.2.2.2; omega
      have pos8 := tkE_pos (nx_ok (tp := tp) (host := 1) (t := nx tp 1 t)).2 b4 (by rw [z]; decide)
      refine ⟨K8.1.1.1, c_nxf K8 (fun h9 f9 n9 b9 K9 => q1 h9 _ _ ws' eq0 (RP8.nxt f9 n9 pos8 K9) (by rw [RP8.tysame f9, t28, hB5]) ⟨_, _, _, _, _, _, rfl⟩ (by have := (nxT_le K8 n9).1; omega)) (fun h9 f9 n9 b9 e9 => ⟨kF K8 f9, q2 h9 1 _ (Or.inr ⟨_, _, eq0, b9, rfl, rfl⟩) (RP8.fx f9) e9⟩)⟩
theorem c_mem (H : RC ρ h0 h C ho tp g n m ws t) (ok : mOK g n c m) (hd : 10 ≤ d) (ha0 : hz h0 ≤ hB h (ho + 2) c)
    (q1 : ∀ h' g' t' ws', rdMem tp g n c m t = Sum.inr (g', t') → RC ρ h0 h' C ho tp g' n (m + 1) ws' t' → hB h' (ho + 2) c = hB h (ho + 2) c → (∃ so st ty va ps nm, g' = gMem g c m so st ty va ps nm) → t.1 < t'.1 → G h')
    (q2 : ∀ h' w p, (rdMem tp g n c m t = Sum.inl (w, p) ∨ ∃ g' t', rdMem tp g n c m t = Sum.inr (g', t') ∧ t'.2.1 = -1 ∧ w = 1 ∧ p = t'.1) → FQ tp h0 h' ho → hI h' f_Fault_told (C + 2) = w + 16 * (p : Int) → E (C + 2) h') :
    wpB PGm ρ (d + 5) m_Host_readMember 0 [(0, vR ho), (1, vR (C + 3)), (2, vR (hB h (ho + 2) c))] [] h (cV G E) := by
  obtain ⟨fo, hc, hm, df, hnr, h10, -⟩ := id ok
  obtain ⟨a1, k1, lho, hi⟩ := H.hc
  obtain ⟨⟨by_, fr, sz, nx0, H1⟩, K, S, -⟩ := id H
  have T := H1.2.2.2.2.2.1 c hc
  refine b_Host_readMember_0 ⟨k1, c_dem K (fun e1 => ⟨k1, c_isB K e1 S.2.2.2.1 (by omega) (fun eS => ⟨fun z => absurd z (by decide), fun _ => ⟨T.1.1, fun z => ?_, fun z => ⟨k1, c_fl K (by omega) (fun h' x y => ⟨kF K x, q2 h' 6 _ (Or.inl (by rw [rdMem, if_neg (by rw [e1]; simp), if_pos (show tkB tp t = wSta from eS), if_pos (by rw [T.2.2.2.1] at z; exact z)])) (H.fx x) y⟩)⟩⟩⟩) (fun nS => ⟨fun _ => ?_, fun z => absurd rfl z⟩)⟩) (fun ne h' x y => ⟨kF K x, q2 h' 1 _ (Or.inl (by rw [rdMem, if_pos ne])) (H.fx x) y⟩)⟩
  · rw [T.2.2.2.1] at z
    have eq0 : rdMem tp g n c m t = rdMem1 tp g n c m 1 (nx tp 1 t) := by rw [rdMem, if_neg (by rw [e1]; simp), if_pos (show tkB tp t = wSta from eS), if_neg (by rw [z]; simp)]
    refine b_Host_readMember_29 ⟨k1, c_nxf K (fun h2 f2 n2 b2 K2 => ?_) (fun h2 f2 n2 b2 e2 => ⟨kF K f2, q2 h2 1 _ (Or.inl (by rw [eq0, rdMem1, if_pos (by omega)])) (H.fx f2) e2⟩)⟩
    have R2 := H.nxt f2 n2 K2
    have hB2 := H.tysame f2 c
    refine ⟨K2.1.1.1, c_dem K2 (fun e2 => ?_) (fun ne h' x y => ⟨kF K2 x, q2 h' 1 _ (Or.inl (by rw [eq0, rdMem1, if_pos ne])) (R2.fx x) y⟩)⟩
    rw [← hB2]
    exact c_mem1 R2 ok (Or.inr rfl) hd (by rw [hB2]; exact ha0) e2 (fun h' g' t' ws' e R hB x lt => q1 h' g' t' ws' (eq0.trans e) R (hB.trans hB2) x (by have := (nxT_le K n2).2.1; omega)) (fun h' w p e => q2 h' w p (by rw [eq0]; exact e))
  · have eq0 : rdMem tp g n c m t = rdMem1 tp g n c m 0 t := by rw [rdMem, if_neg (by rw [e1]; simp), if_neg (show ¬ tkB tp t = wSta from nS)]
    exact c_mem1 H ok (Or.inl rfl) hd ha0 e1 (fun h' g' t' ws' e => q1 h' g' t' ws' (eq0.trans e)) (fun h' w p e => q2 h' w p (by rw [eq0]; exact e))
end
