/-! a look at an object, on both sides: writes -/
set_option maxRecDepth 20000
section
variable {ρ : Nat → Nat} {d : Nat} {Q : QT} {Γ : GH} {h h' h2 : ah} {C ho k n i j N M s r rr mn a o f : Nat} {S S' S1 S2 : SS} {X X2 : X3} {Y Y2 : Y3} {g : HG} {nm w hd κ ty v el w0 LL x : Int} {e : ENT} {L : List Int}
theorem j_lobjW (HC : CORE Γ h C ho X Y S N) (A : FDA h C ho X Y S κ ty (k : Int) el nm rr mn) (hty : ty = 4 ∨ ty = 5) (hκ : κ = 1 ∨ κ = 3) (hs : s < 4000) (ek : S f_Md_siteKind s = κ) (ty1 : S f_Md_goesType 0 = ty) (v1 : S f_Md_goesValue 0 = (k : Int)) (e1 : S f_Md_elementName 0 = el) (en : S f_Md_siteName s = nm) (n0 : κ = 0 ∨ κ = 1 ∨ κ = 5 → 0 ≤ nm) (hk : (k : Int) < S f_Md_things 0) (k8 : k < 8000) (kd : S f_Md_thingKind k = ty) (ka : hK h a = k_Site) (kk : hI h f_Site_kind a = κ) (it : X 53 f_Found_isText 0 = 0 ∨ X 53 f_Found_isText 0 = 1)
    (qk : ∀ h2 X2 Y2 S2, TLK ρ g N M s 1 S (some none) S2 → LOK Γ h C ho X Y S N h2 X2 Y2 S2 → LNK X Y S X2 Y2 S2 → LFD0 g h2 C ho X2 Y2 S2 M κ mn ty (k : Int) el nm L → S2 f_Md_foundMany 0 = 0 → Q (Sum.inl none) (cc h2 C X2 Y2))
    (qe : ∀ x x' X2 Y2 S2, TLK ρ g N M s 1 S none (erS S2 x') → LOK Γ h C ho X Y S N h X2 Y2 S2 → LNK X Y S X2 Y2 S2 → ((x = 0 ∧ x' = 99) ∨ (ern x ∧ x' = x)) → Q (Sum.inr (C + 33)) (cc h C (erX X2 x) Y2)) : wpB PGm ρ (d + 17) m_Lookup_object 78 [(0, vR (C + 98)), (2, vR (C + 53))] [] (cc h C (lkX X 0) (lkY Y)) Q := by
  have oX : OFX LK0 X (lkX X 0) := lkX_off.le (by decide)
  have oY : OFX LKYx Y (lkY Y) := lkY_off.le (by decide)
  have oXz : OFX LKZ X (lkX X 0) := lkX_off.le (by decide)
  have oYz : OFX LYZ Y (lkY Y) := lkY_off.le (by decide)
  have L0 : LOK Γ h C ho X Y S N h (lkX X 0) (lkY Y) (lk1 S 0 1) := LOK.z HC lk1_off oX oY (lk_as (k := 0) (fun i => rfl) (fun i => rfl) (by decide))
  have HL : CORE Γ h C ho (lkX X 0) (lkY Y) S N := HC.lk0 oX oY
  have kd' : S f_Md_thingKind k = 4 ∨ S f_Md_thingKind k = 5 := by rw [kd]; exact hty
  obtain ⟨f1, f2, -⟩ := A.2.1 hty
  rw [Int.toNat_natCast] at f1
  obtain ⟨n, ecn⟩ := HC.cnt hk
  have A1 := lk1_w (S := S) (LL := 0) (cnt := 1)
  have oW : ∀ {w : Int}, OFF LFA S (u2 (lkG S 1 k) f_Md_foundWhich 0 w) := fun {w} => lkG_off.u (by decide)
  have lA : ∀ {X2 : X3} {w : Int}, (∀ i, X2 98 f_Lookup_asked i = lkX X 0 98 f_Lookup_asked i) → (∀ i, i < 4 → X 98 f_Lookup_asked i = S f_Md_asked i) → ∀ i, i < 4 → X2 98 f_Lookup_asked i = u2 (lkG S 1 k) f_Md_foundWhich 0 w f_Md_asked i := fun {X2 w} e => lk_as (k := 0) (fun i => by rw [u2_f (by decide)]; unfold lkG; rw [u2_f (by decide)]; rfl) e (by decide)
  have gw : ∀ {w : Int} f, f ≠ f_Md_foundGuard → f ≠ f_Md_foundWhich → u2 (lkG S 1 k) f_Md_foundWhich 0 w f 0 = lk1 S 0 1 f 0 := fun {w} f a b => by rw [u2_f b]; unfold lkG; rw [u2_f a]
  have gg : ∀ {w : Int}, u2 (lkG S 1 k) f_Md_foundWhich 0 w f_Md_foundGuard 0 = S f_Md_thingShape k := fun {w} => by rw [u2_f (by decide)]; unfold lkG; rw [u2_s]
  have L2 : LOK Γ h C ho X Y S N h (u3 (lkX X 0) 53 f_Found_action 0 2) (lkY Y) (u2 (lkG S 1 k) f_Md_foundWhich 0 (-1)) := LOK.z HC oW (oX.u (by decide)) oY (lA (fun i => by rw [u3_f (by decide)]))
  obtain ⟨tn, sn', sm', d1, d2, d5, -⟩ := HC.shp
  have κn : ¬ (κ = 4 ∨ κ = 6) := by omega
  have κr : 0 ≤ κ ∧ κ ≤ 6 := by omega
  refine r_objW (nm := if κ = 2 ∨ κ = 3 then el else nm) (S2 := u2 (lkG S 1 k) f_Md_foundWhich 0 (-1)) HL L2.1.1 (oW.ex (by decide)) hk kd' (by rw [lkY_o (by decide)]; exact f1) (by rw [lkX_o (by decide)]; exact f2) lkX_g.1 ecn (fun c => ?_) (fun c w ow wp => ?_) (fun c ow tm => ?_) (fun c ow r S' h' X' tm sh r1 r2 r3 r4 r5 => ?_)
  · have k2 : κ = 3 := by
      by_cases z : κ = 2 ∨ κ = 3
      · omega
      · rw [if_neg z] at c
        have := n0 (by omega)
        omega
    rw [if_pos (Or.inr k2)] at c
    exact qe 6 6 _ _ _ (TLK.nonm hs ek (Or.inr k2) ty1 hty v1 k8 (Or.inr rfl) e1 c) L0 ⟨oXz, oYz, lk1_off.le (by decide)⟩ (Or.inr ⟨by decide, rfl⟩)
  · -- the place is there
    generalize hnm : (if κ = 2 ∨ κ = 3 then el else nm) = nm' at *
    have sn : SNM S s κ nm' := ⟨fun z => by rw [en, ← hnm, if_neg (by omega)], fun z => by rw [e1, ← hnm, if_pos z], c⟩
    have LE : LOK Γ h C ho X Y S N h (u3 (opX (lkX X 0) w) 53 f_Found_action 0 1) (lkY Y) (u2 (lkG S 1 k) f_Md_foundWhich 0 w) := LOK.z HC oW ((oX.u (by decide)).u (by decide)) oY (lA (fun i => by rw [u3_f (by decide)]; unfold opX; rw [u3_f (by decide)]))
    have T := TLK.wr (ρ := ρ) (g := g) (M := M) HC hs ek hκ ty1 hty v1 hk k8 kd' (Or.inr rfl) sn ecn ow wp
    have k1 := (gw (w := w) f_Md_foundLinker (by decide) (by decide)).trans A1.2.2.2.2
    have k3 := (gw (w := w) f_Md_foundHolder (by decide) (by decide)).trans A1.2.1
    have k4 := (gw (w := w) f_Md_foundShape (by decide) (by decide)).trans A1.2.2.1
    have k5 := (gw (w := w) f_Md_foundMany (by decide) (by decide)).trans A1.2.2.2.1
    have k2 : u2 (lkG S 1 k) f_Md_foundWhich 0 w f_Md_foundWhich 0 = w := u2_s
    have k6 := gg (w := w)
    have o2 := oW (w := w)
    generalize u2 (lkG S 1 k) f_Md_foundWhich 0 w = S2 at *
    have eT : EXS LTS S S2 := o2.ex (by decide)
    refine qk _ _ _ _ T LE ⟨(oXz.u (by decide)).u (by decide), oYz, o2.le (by decide)⟩ (LFD0.obj κr κn hty k1 k5 (by rw [k6, eT _ (by decide)]) (by rw [o2 _ _ (by decide)]; exact e1) ?_ ?_ ?_ ?_ ?_ ?_ ?_ ?_ (fun w0 => ?_)) k5
    · rw [u3_s, if_pos hκ, k2, if_neg (by omega)]
    · rw [u3_f (by decide)]; unfold opX; rw [u3_s, k2]
    · rw [u3_f (by decide)]; unfold opX; rw [u3_f (by decide)]; exact lkX_g.2.1
    · rw [u3_f (by decide)]; unfold opX; rw [u3_f (by decide), lkX_o (by decide)]; exact it
    · rw [k3, lkY_g.1]; exact (if_pos (by decide)).symm
    · rw [k3]; exact Or.inl rfl
    · rw [k4, lkY_g.2.1]; exact (if_pos (by decide)).symm
    · rw [k4, eT _ (by decide)]; omega
    · rw [hnm]
      obtain ⟨n1, n2, n3, n4, n5, n6, n7, n8, n9⟩ := nwE_g (S := S2) (w0 := w0)
      exact ENB.wr (k := k) (n := n) LE.1.1 hκ (by rw [eT _ (by decide)]; exact hk) (by rw [eT _ (by decide)]; exact kd') (by rw [eT _ (by decide)]; exact ecn) (by rw [n5, k2]; exact ow.e (fun i => nmT_e eT)) (by rw [n2, k6, eT _ (by decide)]) (by rw [n4]; exact k3) (Or.inl ⟨by rw [n5, k2]; exact wp, by rw [n6]; exact k4⟩) (fun _ => sn.2.2)
  · -- no room for a shape
    generalize hnm : (if κ = 2 ∨ κ = 3 then el else nm) = nm' at *
    have sn : SNM S s κ nm' := ⟨fun z => by rw [en, ← hnm, if_neg (by omega)], fun z => by rw [e1, ← hnm, if_pos z], c⟩
    exact qe 0 99 _ _ _ ((TLK.mk (ρ := ρ) (g := g) (M := M) HC hs ek hκ ty1 hty v1 hk k8 kd' sn ecn ow).1 tm) L2 ⟨oXz.u (by decide), oYz, oW.le (by decide)⟩ (Or.inl ⟨rfl, rfl⟩)
  · -- the shape that goes on
    generalize hnm : (if κ = 2 ∨ κ = 3 then el else nm) = nm' at *
    have sn : SNM S s κ nm' := ⟨fun z => by rw [en, ← hnm, if_neg (by omega)], fun z => by rw [e1, ← hnm, if_pos z], c⟩
    have T := (TLK.mk (ρ := ρ) (g := g) (M := M) HC hs ek hκ ty1 hty v1 hk k8 kd' sn ecn ow).2 r S' tm
    obtain ⟨⟨h1, h2⟩, h3, h4, ⟨z, s', h5⟩, h6, h7, h8, h9, -⟩ := sh
    obtain ⟨⟨a1, a2⟩, a3, a4, ⟨z0, s0, a5⟩, a6, a7, a8, a9⟩ := L2
    have oF : OFF LFO S' (u2 S' f_Md_foundShape 0 (r : Int)) := OFF.rf.u (by decide)
    obtain ⟨⟨M4, K4⟩, g4, bd4⟩ := h1.fzz (L := []) (Pp := []) (h' := h') (X' := X') (Y' := u3 (lkY Y) 53 f_Found_to 0 (hB h' (C + 52) r)) (S' := u2 S' f_Md_foundShape 0 (r : Int)) Fr.r0 (by unfold DJ; decide +kernel) (fun y c => by simp at c) (oF.ex (by decide)) (Int.le_of_eq (oF _ _ (by decide)).symm) EXX.rf (fun o f hf i => u3_f (by rintro rfl; exact absurd hf (by decide)))
    have o3 : OFF LSH (u2 (lkG S 1 k) f_Md_foundWhich 0 (-1)) S' := fun f i hf => h6 f i hf
    have LE : LOK Γ h C ho X Y S N h' X' (u3 (lkY Y) 53 f_Found_to 0 (hB h' (C + 52) r)) (u2 S' f_Md_foundShape 0 (r : Int)) := by
      refine ⟨⟨M4, fun K => K4 (h2 (a2 K))⟩, (a3.tr h3).tr g4, (((a4.tr h4).tr (bd4 (oF.ex (by decide)))).le (by decide) (by decide)), ⟨_, _, a5.trans (h5.mono (fun _ q => q) (fun q hq => by cases hq))⟩, (a6.tr (o3.le (by decide))).tr (oF.le (by decide)), fun o f i hf => ?_, fun o f i hf => ?_, fun H i hi => ?_⟩
      · rw [h7 o f i (by rintro rfl; exact absurd hf (by decide))]; exact a7 o f i hf
      · rw [u3_f (by rintro rfl; exact absurd hf (by decide))]; exact a8 o f i hf
      · rw [h7 _ _ _ (by decide), u2_f (by decide), o3 _ _ (by decide)]; exact a9 H i hi
    have eF : ∀ f, LSH.elem f = false → f ≠ f_Md_foundShape → ∀ i, u2 S' f_Md_foundShape 0 (r : Int) f i = u2 (lkG S 1 k) f_Md_foundWhich 0 (-1) f i := fun f hf hne i => by rw [u2_f hne]; exact o3 f i hf
    have k1 := (eF f_Md_foundLinker (by decide) (by decide) 0).trans ((gw (w := -1) f_Md_foundLinker (by decide) (by decide)).trans A1.2.2.2.2)
    have k3 := (eF f_Md_foundHolder (by decide) (by decide) 0).trans ((gw (w := -1) f_Md_foundHolder (by decide) (by decide)).trans A1.2.1)
    have k5 := (eF f_Md_foundMany (by decide) (by decide) 0).trans ((gw (w := -1) f_Md_foundMany (by decide) (by decide)).trans A1.2.2.2.1)
    have k2 : u2 S' f_Md_foundShape 0 (r : Int) f_Md_foundWhich 0 = -1 := (eF f_Md_foundWhich (by decide) (by decide) 0).trans u2_s
    have k4 : u2 S' f_Md_foundShape 0 (r : Int) f_Md_foundShape 0 = (r : Int) := u2_s
    have k6 := (eF f_Md_foundGuard (by decide) (by decide) 0).trans (gg (w := -1))
    have kts : ∀ i, u2 S' f_Md_foundShape 0 (r : Int) f_Md_thingShape i = S f_Md_thingShape i := fun i => (eF f_Md_thingShape (by decide) (by decide) i).trans (oW _ _ (by decide))
    have ktk : ∀ i, u2 S' f_Md_foundShape 0 (r : Int) f_Md_thingKind i = S f_Md_thingKind i := fun i => (eF f_Md_thingKind (by decide) (by decide) i).trans (oW _ _ (by decide))
    have ktc : ∀ i, u2 S' f_Md_foundShape 0 (r : Int) f_Md_thingCount i = S f_Md_thingCount i := fun i => (eF f_Md_thingCount (by decide) (by decide) i).trans (oW _ _ (by decide))
    have kth : u2 S' f_Md_foundShape 0 (r : Int) f_Md_things 0 = S f_Md_things 0 := (eF f_Md_things (by decide) (by decide) 0).trans (oW _ _ (by decide))
    have kel : u2 S' f_Md_foundShape 0 (r : Int) f_Md_elementName 0 = el := ((eF f_Md_elementName (by decide) (by decide) 0).trans (oW _ _ (by decide))).trans e1
    have knm : ∀ i, nmT (u2 S' f_Md_foundShape 0 (r : Int)) k i = nmT S k i := fun i => by
      have e1 : ∀ f, [f_Md_thingFirst, f_Md_slotNext, f_Md_slotName].elem f = true → ∀ i, u2 S' f_Md_foundShape 0 (r : Int) f i = S f i := fun f hf i => by
        have hf2 : LSH.elem f = false ∧ f ≠ f_Md_foundShape ∧ LFA.elem f = false := by
          have : f = f_Md_thingFirst ∨ f = f_Md_slotNext ∨ f = f_Md_slotName := by simpa using hf
          rcases this with rfl | rfl | rfl <;> decide
        exact (eF f hf2.1 hf2.2.1 i).trans (oW _ _ hf2.2.2)
      unfold nmT
      have es : slS (u2 S' f_Md_foundShape 0 (r : Int)) k i = slS S k i := by
        have : ∀ i, slS (u2 S' f_Md_foundShape 0 (r : Int)) k i = slS S k i := fun i => by
          induction i with
          | zero => unfold slS; rw [e1 _ (by decide)]
          | succ i ih => unfold slS; rw [ih, e1 _ (by decide)]
        exact this i
      rw [es, e1 _ (by decide)]
    have ksh : ∀ f, LSP.elem f = true → u2 S' f_Md_foundShape 0 (r : Int) f r = S' f r := fun f hf => u2_f (by rintro rfl; exact absurd hf (by decide))
    have kss : u2 S' f_Md_foundShape 0 (r : Int) f_Md_shapes 0 = S' f_Md_shapes 0 := u2_f (by decide)
    have kpr : prS (u2 S' f_Md_foundShape 0 (r : Int)) k = prS S k := by
      unfold prS
      rw [kts, u2_f (by decide)]
      have t0 := HC.tsh hk kd'
      rw [(h9 (S f_Md_thingShape k).toNat (by rw [oW _ _ (by decide)]; omega)).2 _ (by decide)]
      exact oW _ _ (by decide)
    refine qk _ _ _ _ T LE ⟨(oXz.u (by decide)).tr (fun o f i hf => h7 o f i (by rintro rfl; exact absurd hf (by decide))), oYz.u (by decide), ((oW.le (by decide)).tr (o3.le (by decide))).tr (oF.le (by decide))⟩ (LFD0.obj κr κn hty k1 k5 (by rw [k6, kts]) kel ?_ ?_ ?_ ?_ ?_ ?_ ?_ ?_ (fun w0 => ?_)) k5
    · rw [h7 _ _ _ (by decide), u3_s, if_pos hκ, k2, if_pos (by decide)]
    · rw [h7 _ _ _ (by decide), u3_f (by decide), k2]; exact lkX_g.1
    · rw [h7 _ _ _ (by decide), u3_f (by decide)]; exact lkX_g.2.1
    · rw [h7 _ _ _ (by decide), u3_f (by decide), lkX_o (by decide)]; exact it
    · rw [u3_f (by decide), k3, lkY_g.1]; exact (if_pos (by decide)).symm
    · rw [k3]; exact Or.inl rfl
    · rw [u3_s, k4]; unfold crA; rw [if_neg (by omega), Int.toNat_natCast]
    · rw [k4, kss]; exact r1.2
    · rw [hnm]
      obtain ⟨n1, n2, n3, n4, n5, n6, n7, n8, n9⟩ := nwE_g (S := u2 S' f_Md_foundShape 0 (r : Int)) (w0 := w0)
      refine ENB.wr (k := k) (n := n) LE.1.1 hκ (by rw [kth]; exact hk) (by rw [ktk]; exact kd') (by rw [ktc]; exact ecn) (by rw [n5, k2]; exact ow.e knm) (by rw [n2, k6, kts]) (by rw [n4]; exact k3) (Or.inr ⟨by rw [n5]; exact k2, r, by rw [n6]; exact k4, r1.1, by rw [kss]; exact r1.2, ?_⟩) (fun _ => sn.2.2)
      unfold mtc
      rw [ksh _ (by decide), ksh _ (by decide), ksh _ (by decide), kpr, kts]
      exact ⟨r3, r2, r4⟩
end
