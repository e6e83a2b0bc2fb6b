/-! a look at the host, joined -/
set_option maxRecDepth 20000
section
variable {ρ : Nat → Nat} {d : Nat} {Q : QT} {Γ : GH} {h h' h2 : ah} {C ho k n i j N M s r rr mn a o f c kn ac kn2 ac2 q : Nat} {S S' S1 S2 : SS} {X X2 : X3} {Y Y2 : Y3} {g : HG} {nm w hd κ ty v el w0 LL x st : Int} {e : ENT} {L ts : List Int} {ws hw : List (List Int)} {CK CK2 : Nat → KEY} {CV CV2 : Nat → Int} {ca ca2 : Nat → Nat}
theorem tsT_e2 (e : EXS [f_Md_pileType, f_Md_pileValue, f_Md_thingClass] S S2) : tsT S2 rr n = tsT S rr n := by
  have e1 : ∀ i, S2 f_Md_pileType i = S f_Md_pileType i := fun i => e _ (by decide) i
  have e2 : ∀ i, S2 f_Md_pileValue i = S f_Md_pileValue i := fun i => e _ (by decide) i
  have e3 : ∀ i, S2 f_Md_thingClass i = S f_Md_thingClass i := fun i => e _ (by decide) i
  simp only [tsT, tyT, e1, e2, e3]
theorem gtS_get (hb : ∀ i, i < n → 0 ≤ (tsT S rr n).getD i 0 ∧ (tsT S rr n).getD i 0 < 128) (hi : i < n) : gtA (gtS S rr (n : Int)) i = (tsT S rr n).getD i 0 := by
  have l : (tsT S rr n).length = n := tsT_len
  unfold gtS
  rw [Int.toNat_natCast, gtW_get]
  · rw [List.getD_eq_getElem?_getD, List.getElem?_map, List.getElem?_eq_getElem (by rw [l]; exact hi)]
    have := hb i hi
    rw [List.getD_eq_getElem?_getD, List.getElem?_eq_getElem (by rw [l]; exact hi)] at this ⊢
    have h1 : 0 ≤ (tsT S rr n)[i]'(by rw [l]; exact hi) := this.1
    show (((tsT S rr n)[i]'(by rw [l]; exact hi)).toNat : Int) = (tsT S rr n)[i]'(by rw [l]; exact hi)
    omega
  · intro t ht
    obtain ⟨x, hx, rfl⟩ := List.mem_map.mp ht
    obtain ⟨j, hj, rfl⟩ := List.mem_iff_getElem.mp hx
    have := hb j (by rw [l] at hj; exact hj)
    rw [List.getD_eq_getElem?_getD, List.getElem?_eq_getElem hj] at this
    have h1 : (tsT S rr n)[j] < 128 := this.2
    have h0 : 0 ≤ (tsT S rr n)[j] := this.1
    omega
  · rw [List.length_map, l]; exact hi
theorem sg_low {cs : List Nat} : -9 ≤ sglG g ts cs := by
  rcases sgl_mem (g := g) (ts := ts) (cs := cs) with ⟨m, e, -⟩ | e | e <;> omega
theorem hk_ern (z : hkG g κ st c L ts < 0) : ern (-(hkG g κ st c L ts)) := by
  have : -9 ≤ hkG g κ st c L ts := by
    have sl := fun {cs : List Nat} => sg_low (g := g) (ts := ts) (cs := cs)
    unfold hkG
    repeat' split
    all_goals first | omega | exact sl
  exact ⟨by omega, by omega, by omega⟩
theorem j_lhost (HC : CORE Γ h C ho X Y S N) (NM : NMR h C S ws) (SM : STM ρ h) (HX : HCX ρ h ho g N M hw) (YL : Y 98 f_Lookup_host 0 = ho) (hh : ho = C + 6 ∨ ho = C + 19) (W : HWF g N M) (WX : HWX g N M) (K : LKP g hw ws h ho X Y S N M kn ac CK CV ca) (m8 : ∀ k, k < kn → S f_Md_choiceMany k ≤ 8) (A : FDA h C ho X Y S κ ty v el nm rr mn) (hst : st = 0 ∨ st = 1) (hty : ty = if st = 1 then 8 else 7) (hκ : 0 ≤ κ ∧ κ ≤ 6) (gc : gdG S ty v = (c : Int)) (hc : c < N) (ifc : st = 0 → g.1 1 c = 0) (hs : s < 4000) (ek : S f_Md_siteKind s = κ) (em : S f_Md_siteMany s = (mn : Int)) (mn8 : mn ≤ 8) (ty1 : S f_Md_goesType 0 = ty) (v1 : S f_Md_goesValue 0 = v) (vr : 0 ≤ v ∧ v < 8000) (e1 : S f_Md_elementName 0 = el) (en : S f_Md_siteName s = nm) (ka : hK h a = k_Site) (ha : a < hz h) (kk : hI h f_Site_kind a = κ) (kn' : hI h f_Site_name a = nm) (pv : PVS S N rr (if κ = 1 then 1 else mn)) (it : X 53 f_Found_isText 0 = 0 ∨ X 53 f_Found_isText 0 = 1) (nl : κ = 0 ∨ κ = 1 ∨ κ = 5 → ∃ q : Nat, nm = (q : Int) ∧ q < ws.length ∧ ws.getD q [] = L ∧ NMT S q L ∧ 1 ≤ L.length)
    (qk : ∀ h2 X2 Y2 S2 kn2 ac2 CK2 CV2 ca2, TLK ρ g N M s 1 S (some none) S2 → LOK Γ h C ho X Y S N h2 X2 Y2 S2 → (LKP g hw ws h2 ho X2 Y2 S2 N M kn2 ac2 CK2 CV2 ca2 ∧ ∀ k, k < kn2 → S2 f_Md_choiceMany k ≤ 8) → (FDO g h2 C ho X2 Y2 S2 M κ mn (nwE S2 (gtS S2 rr (S2 f_Md_foundMany 0))) ∧ FDL X2 S2 κ mn ty v el (nwE S2 (gtS S2 rr (S2 f_Md_foundMany 0))) ∧ ENV g S2 κ nm L mn (nwE S2 (gtS S2 rr (S2 f_Md_foundMany 0)))) → (S2 f_Md_foundMany 0 = 0 ∨ S2 f_Md_foundMany 0 = (opC κ mn : Int)) → Q (Sum.inl none) (cc h2 C X2 Y2))
    (qe : ∀ x h2 X2 Y2 S2 kn2 ac2 CK2 CV2 ca2, TLK ρ g N M s 1 S none (erS S2 x) → LOK Γ h C ho X Y S N h2 X2 Y2 S2 → (LKP g hw ws h2 ho X2 Y2 S2 N M kn2 ac2 CK2 CV2 ca2 ∧ ∀ k, k < kn2 → S2 f_Md_choiceMany k ≤ 8) → ern x → Q (Sum.inr (C + 33)) (cc h2 C (erX X2 x) Y2)) : wpB PGm ρ (d + 75) m_Lookup_host 0 [(0, vR (C + 98)), (1, vR a), (2, vR (C + 53))] [] (cc h C (lkX X (st + 1).toNat) (lkY Y)) Q := by
  have N60 := HX.hh.2.2.2.2.2.2.2.2.2.1
  have nd : hw.Nodup := HX.mt.2.2.2.2.2
  have wd : ws.Nodup := NM.2.1
  have t78 : ty = 7 ∨ ty = 8 := by rcases hst with z | z <;> (subst z; simp at hty; omega)
  have t45 : ¬ (ty = 4 ∨ ty = 5) := by clear nl; omega
  have t36 : ¬ (ty = 3 ∨ ty = 6) := by clear nl; omega
  have gl : gdL ty = st + 1 := by
    unfold gdL
    rcases hst with z | z
    · subst z; simp at hty; subst hty; rfl
    · subst z; simp at hty; subst hty; rfl
  have f0 : ¬ st + 1 = 0 ∧ ¬ st + 1 = 3 ∧ 0 ≤ st + 1 ∧ st + 1 ≤ 3 ∧ (st + 1).toNat < 4 ∧ (((st + 1).toNat : Nat) : Int) = st + 1 := by clear nl; omega
  obtain ⟨k, kq, kb⟩ : ∃ k : Nat, (κ = 0 ∨ κ = 1 ∨ κ = 5 → k < 4000) ∧ (k < 4000 → nm = (k : Int) ∧ k < ws.length ∧ ws.getD k [] = L ∧ 1 ≤ L.length ∧ (∀ i, i < L.length → 0 ≤ L.getD i 0 ∧ L.getD i 0 ≤ 127) ∧ NMT S k L) := by
    by_cases z : κ = 0 ∨ κ = 1 ∨ κ = 5
    · obtain ⟨q, q1, q2, q3, q4, q5⟩ := nl z
      exact ⟨q, fun _ => q4.1, fun _ => ⟨q1, q2, q3, q5, q4.2.2.2.2, q4⟩⟩
    · exact ⟨4000, fun c => absurd c z, fun c => absurd c (by decide)⟩
  clear nl
  have oX : OFX LK0 X (lkX X (st + 1).toNat) := lkX_off.le (by decide)
  have oY : OFX LKYx Y (lkY Y) := lkY_off.le (by decide)
  have HL := HC.lk0 oX oY
  obtain ⟨at1, at2, at3⟩ := A.2.2.2 t78
  rw [gc, Int.toNat_natCast] at at1
  have LP : LHP ρ Γ g h C ho (lkX X (st + 1).toNat) (lkY Y) S N M ws hw k c L st := ⟨HL, NM, HX, by rw [lkY_o (by decide)]; exact YL, SM, ⟨W.1, W.2.1, W.2.2.1, WX⟩, fun z => ⟨(kb z).2.1, (kb z).2.2.1, (kb z).2.2.2.1, (kb z).2.2.2.2.1⟩, ⟨hc, by rw [lkY_o (by decide)]; exact at1⟩, hst, ifc⟩
  have KL : LKH h ho (lkX X (st + 1).toNat) (lkY Y) N M kn ac CK CV ca := by
    obtain ⟨⟨a1, a2, a3⟩, a4, a5⟩ := K.1
    exact ⟨⟨by rw [lkX_o (by decide)]; exact a1, by rw [lkX_o (by decide)]; exact a2, a3⟩, a4, fun b hb => by rw [lkY_o (by decide)]; exact a5 b hb⟩
  obtain ⟨KP, -⟩ := K.es m8 (EXS.rf (S := S)) KL (lkX_o (by decide))
  generalize hn : (if κ = 1 then 1 else mn) = nn at *
  have n8 : nn ≤ 8 := by rw [← hn]; clear kb; split <;> omega
  have l128 : 9 + (N : Int) ≤ 128 := by clear kb; omega
  have hts : ∀ i, i < nn → 0 ≤ (tsT S rr nn).getD i 0 ∧ (tsT S rr nn).getD i 0 < 9 + (N : Int) := fun i hi => by
    rw [tsT_ge2 hi]
    obtain ⟨p1, p2⟩ := pv.2.2.2 i hi
    exact tyT_b p1 p2
  have oc : κ = 1 ∨ κ = 5 ∨ κ = 6 → opC κ mn = nn := fun z => by
    rw [← hn]
    unfold opC
    by_cases c1 : κ = 1
    · rw [if_pos c1, if_pos c1]
    · rw [if_neg c1, if_neg c1, if_pos (by clear kb; omega)]
  have lts : (tsT S rr nn).length = nn := tsT_len
  have n5 : κ = 5 → ∃ a : Nat, S f_Md_siteName s = (a : Int) ∧ a < ws.length ∧ ws.getD a [] = L := fun z => by
    have := kb (kq (Or.inr (Or.inr z)))
    exact ⟨k, by rw [en]; exact this.1, this.2.1, this.2.2.1⟩
  have t1 : ∀ i, i < (tsT S rr nn).length → 0 ≤ (tsT S rr nn).getD i 0 := fun i hi => (hts i (by rw [lts] at hi; exact hi)).1
  have oA : OFF LFA S (lk1 S (st + 1) 1) := lk1_off
  have LQ : LHQ (lk1 S (st + 1) 1) N s rr mn c κ st L := by
    refine ⟨hs, by rw [oA _ _ (by decide)]; exact em, mn8, by rw [hn]; exact pv.ex (oA.ex (by decide)), hc, hst, fun z => ?_, by rw [oA _ _ (by decide), ty1]; exact hty, by rw [oA _ _ (by decide), v1]; exact vr, ?_⟩
    · have := kb (kq z)
      refine ⟨k, by rw [oA _ _ (by decide), en]; exact this.1, ?_⟩
      obtain ⟨m1, m2, m3, m4, m5⟩ := this.2.2.2.2.2
      exact ⟨m1, by rw [oA _ _ (by decide)]; exact m2, m3, fun i hi => by rw [oA _ _ (by decide)]; exact m4 i hi, m5⟩
    · rw [oA _ _ (by decide), oA _ _ (by decide), v1]
      unfold gdG at gc
      rcases hst with z | z
      · subst z; simp at hty; subst hty; simpa using gc
      · subst z; simp at hty; subst hty; simpa using gc
  -- the machine's part
  have mid : ∀ {h2 : ah} {X2 : X3} {Y2 : Y3} {S2 : SS} {e : Nat}, CHF h C ho e h2 → BXH (lkX X (st + 1).toNat) X2 → BYH (lkY Y) Y2 → OFF LKS S S2 → OFF (LFA ++ LHK ++ LCH3) S S2 → (∀ i, S2 f_Md_asked i = lk1 S (st + 1) 1 f_Md_asked i) → S2 f_Md_allChoices 0 = S f_Md_allChoices 0 + e → LOK Γ h C ho X Y S N h2 X2 Y2 S2 := fun {h2 X2 Y2 S2 e} CF bx bY o1 o2 as ea => by
    have bx' : OFX LBH (lkX X (st + 1).toNat) X2 := bx
    have ox : OFX LK0 X X2 := oX.tr (bx'.le (by decide))
    have oy : OFX LKYx Y Y2 := oY.tr (fun o f i hf => bY o f i (by rintro rfl; exact absurd hf (by decide)) (by rintro rfl; exact absurd hf (by decide)))
    obtain ⟨M1, g1⟩ := HC.chf (X' := X2) (Y' := Y2) CF (o2.ex (by decide)) (Int.le_of_eq (o2 _ _ (by decide)).symm) (ox.exx (by decide +kernel)) (fun o f hf i => oy o f i (by
      have l2 : L7.all (fun f => !(LKYx.elem f)) = true := by decide
      simpa using List.all_eq_true.mp l2 f (by simpa using hf)))
    have bd := BND.cho HC.1.1 HC.1.2 (HC.2.2.2.2.2.2.2.2.2.1.thk HC.1.1) hh CF (o2.ex (by decide)) ea
    obtain ⟨⟨z, s', fr⟩, -⟩ := CF
    refine ⟨M1, g1, bd, ⟨z, s', fr.mono (fun f hf => ?_) (fun q hq => hq)⟩, o1, ox.le (by decide), oy, ?_⟩
    · have l2 : LCC.all (fun f => LHc.elem f) = true := by decide
      simpa using List.all_eq_true.mp l2 f hf
    · exact lk_as (k := (st + 1).toNat) (fun i => by rw [as, f0.2.2.2.2.2]) (fun i => bx _ _ _ (by decide)) f0.2.2.2.2.1
  refine r_lkhost (ts := tsT S rr nn) LP KL ka ha kq (fun z => by rw [kn']; exact (kb z).1) kk hκ (by rw [lkX_o (by decide), A.1, if_neg t45]; exact gl) (fun z => by rw [lkX_o (by decide), at2, oc z, lts]) (by rw [lts]; exact n8) (fun i hi => hts i (by rw [lts] at hi; exact hi)) (fun z i hi => ?_) (fun b => KP.val wd b hst n5 t1) (fun h2 X2 Y2 e kn2 ac2 CK2 CV2 ca2 m CF bx bY LK CE eg mM xa ym => ?_) (fun h2 X2 Y2 e kn2 ac2 CK2 CV2 ca2 CF bx bY LK CE eg => ?_)
  · rw [lts] at hi
    rw [lkX_o (by decide), at3 i (by rw [oc z]; exact hi), tsT_ge2 hi]
  · obtain ⟨S2, o1, o2, as, ea, lp, ⟨k1, k3, k4, k6⟩, T1, -⟩ := j_lht (ρ := ρ) W nd wd KP m8 hs ek hκ hst (by rw [ty1]; exact hty) LQ (by rw [hn]) (by rw [lts]; exact n8) t1 n5 CE LK
    obtain ⟨T, k2, k5⟩ := T1 (by rw [eg]; exact Int.natCast_nonneg m)
    have LE := mid CF bx bY o1 o2 as ea
    have eT : EXS [f_Md_pileType, f_Md_pileValue, f_Md_thingClass] S S2 := o2.ex (by decide)
    have hb : hkB g κ st c L = true → S2 f_Md_foundMany 0 = (nn : Int) ∧ opC κ mn = nn := fun z => by
      rw [k5, if_pos z, lts]
      refine ⟨rfl, oc ?_⟩
      exact (hkB_k z).1.imp id (fun z => z.imp id And.left)
    have by1 : (X2 53 f_Found_byClasses 0 = 0 ∧ S2 f_Md_foundMany 0 = 0) ∨ (¬ X2 53 f_Found_byClasses 0 = 0 ∧ S2 f_Md_foundMany 0 = (opC κ mn : Int)) := by
      rcases CE with ⟨b1, b2, -⟩ | ⟨b1, b2, -⟩
      · obtain ⟨u1, u2⟩ := hb b1
        exact Or.inr ⟨by rw [b2]; decide, by rw [u1, u2]⟩
      · refine Or.inl ⟨by rw [b2]; exact lkX_g.2.1, by rw [k5, if_neg (by rw [b1]; decide)]⟩
    obtain ⟨n1, n2, n3, n4, n5', n6, n7, n8', n9⟩ := nwE_g (S := S2) (w0 := gtS S2 rr (S2 f_Md_foundMany 0))
    have w2 : S2 f_Md_foundWhich 0 = (m : Int) := by rw [k2, eg]
    refine qk h2 X2 Y2 S2 kn2 ac2 CK2 CV2 ca2 T LE lp ⟨⟨?_, by rw [n1, k1]; exact ⟨f0.2.2.1, f0.2.2.2.1⟩, fun z => ?_, fun _ => ⟨?_, ?_⟩, ⟨fun _ => ⟨by rw [bY _ _ _ (by decide) (by decide)]; exact lkY_g.1, by rw [n4, k3], by rw [bY _ _ _ (by decide) (by decide)]; exact lkY_g.2.1, by rw [n6, k4]⟩, fun z => by rw [n1, k1] at z; rcases hst with w | w <;> rw [w] at z <;> exact absurd z (by decide)⟩⟩, ⟨?_, ?_, ?_, fun z => absurd z t45, fun z => absurd z t36, fun _ => ⟨?_, ?_⟩⟩, ?_⟩ (by1.elim (fun z => Or.inl z.2) (fun z => Or.inr z.2))
    · rw [xa]
      unfold acE
      rw [n1, k1, if_neg f0.1, if_neg f0.2.1, n5', w2, Int.toNat_natCast]
    · rw [n1, k1] at z; exact absurd z f0.1
    · rw [n5', w2]; exact ⟨Int.natCast_nonneg m, Int.ofNat_lt.mpr mM⟩
    · rw [n5', w2, Int.toNat_natCast]; exact ym
    · rw [n1, k1, if_neg t45]; exact gl.symm
    · rw [bx _ _ _ (by decide), lkX_o (by decide)]; exact it
    · rw [n3, o2 _ _ (by decide)]; exact e1
    · rw [n2, k6, ← gc]
      unfold gdG
      rw [eT _ (by decide)]
    · rw [n8']; exact by1
    · refine ENV.nhost (st := st) (c := c) (ts := tsT S rr nn) (by rw [n1]; exact k1) hst (by rw [n2]; exact k6) (by rw [n4]; exact k3) (by rw [n6]; exact k4) (by rw [eg]; exact Int.natCast_nonneg m) (by rw [n5']; exact k2) (fun z => ?_)
      obtain ⟨u1, u2⟩ := hb z
      refine ⟨by rw [n8', u1, u2], by rw [lts, u2], fun i hi => ?_⟩
      rw [u2] at hi
      rw [n9, u1, gtS_get (fun j hj => ?_) hi, tsT_e2 eT]
      rw [tsT_e2 eT]
      exact ⟨(hts j hj).1, Int.lt_of_lt_of_le (hts j hj).2 l128⟩
  · obtain ⟨S2, o1, o2, as, ea, lp, -, -, T0⟩ := j_lht (ρ := ρ) W nd wd KP m8 hs ek hκ hst (by rw [ty1]; exact hty) LQ (by rw [hn]) (by rw [lts]; exact n8) t1 n5 CE LK
    exact qe _ h2 X2 Y2 S2 kn2 ac2 CK2 CV2 ca2 (T0 eg) (mid CF bx bY o1 o2 as ea) lp (hk_ern eg)
end
