/-! a look at an object, on both sides: reads and writes -/
set_option maxRecDepth 20000
section
variable {ρ : Nat → Nat} {d : Nat} {Q : QT} {Γ : GH} {h h' h2 : ah} {C ho k n i j N M s r rr mn a o f : Nat} {S S' S1 S2 : SS} {X X2 : X3} {Y Y2 : Y3} {g : HG} {nm w hd κ ty v el w0 LL x : Int} {e : ENT} {L : List Int}
theorem LFD0.obj (hκ : 0 ≤ κ ∧ κ ≤ 6) (κn : ¬ (κ = 4 ∨ κ = 6)) (hty : ty = 4 ∨ ty = 5) (k1 : S2 f_Md_foundLinker 0 = 0) (k5 : S2 f_Md_foundMany 0 = 0) (k6 : S2 f_Md_foundGuard 0 = S2 f_Md_thingShape k) (ke : S2 f_Md_elementName 0 = el) (xa : X2 53 f_Found_action 0 = (if κ = 1 ∨ κ = 3 then (if S2 f_Md_foundWhich 0 < 0 then 2 else 1) else if κ = 5 then 3 else 0)) (xp : X2 53 f_Found_place 0 = S2 f_Md_foundWhich 0) (xb : X2 53 f_Found_byClasses 0 = 0) (xi : X2 53 f_Found_isText 0 = 0 ∨ X2 53 f_Found_isText 0 = 1) (yh : Y2 53 f_Found_holder 0 = prA h2 C (S2 f_Md_foundHolder 0)) (pv : PVL S2 (S2 f_Md_foundHolder 0)) (yt : Y2 53 f_Found_to 0 = crA h2 C (S2 f_Md_foundShape 0)) (ts : S2 f_Md_foundShape 0 < S2 f_Md_shapes 0) (en : ∀ w0, ENB S2 κ (if κ = 2 ∨ κ = 3 then el else nm) (nwE S2 w0)) : LFD0 g h2 C ho X2 Y2 S2 M κ mn ty (k : Int) el nm L := fun w0 => by
  obtain ⟨n1, n2, n3, n4, n5, n6, n7, n8, n9⟩ := nwE_g (S := S2) (w0 := w0)
  refine ⟨⟨?_, by rw [n1, k1]; decide, fun _ => ⟨?_, ?_, ?_, ?_, ?_⟩, fun c => ?_, ⟨fun z => absurd (by rw [n1]; exact k1) z, fun z => by rw [n1, k1] at z; exact absurd z (by decide)⟩⟩, ⟨?_, xi, by rw [n3]; exact ke, fun _ => ⟨by rw [n8]; exact k5, xb, fun c => absurd c κn, fun _ => by rw [n2, Int.toNat_natCast]; exact k6⟩, fun c => by omega, fun c => by omega⟩, ⟨fun _ => ?_, fun c => ?_, fun c => ?_⟩⟩
  · unfold acE
    rw [n1, k1, if_pos rfl, n5, if_neg (show ¬ κ = 4 from fun c => κn (Or.inl c)), if_neg (show ¬ κ = 6 from fun c => κn (Or.inr c))]
    exact xa
  · rw [n5]; exact xp
  · rw [n4]; exact yh
  · rw [n4]; exact pv
  · rw [n6]; exact yt
  · rw [n6]; exact ts
  · rw [n1, k1] at c; omega
  · rw [n1, k1, if_pos hty]
  · rw [n3, ke]; exact en w0
  · rw [n1, k1] at c; omega
  · rw [n1, k1] at c; omega
theorem LKO.ee (H : LKO S nm k w hd) (e : EXS LTS S S1) : LKO S1 nm k w hd := by
  obtain ⟨j, u, H, r⟩ := H
  refine ⟨j, u, H.e e, ?_⟩
  rcases r with r | ⟨r1, ⟨n, r2, r3⟩, r4⟩
  · exact Or.inl r
  · exact Or.inr ⟨r1, ⟨n, by rw [e _ (by decide)]; exact r2, r3.e (fun i => nmT_e e)⟩, r4⟩
theorem j_lobjR (HC : CORE Γ h C ho X Y S N) (A : FDA h C ho X Y S κ ty (k : Int) el nm rr mn) (hty : ty = 4 ∨ ty = 5) (hκ : κ = 0 ∨ κ = 2 ∨ κ = 5) (hs : s < 4000) (ek : S f_Md_siteKind s = κ) (ty1 : S f_Md_goesType 0 = ty) (v1 : S f_Md_goesValue 0 = (k : Int)) (e1 : S f_Md_elementName 0 = el) (en : S f_Md_siteName s = nm) (n0 : κ = 0 ∨ κ = 1 ∨ κ = 5 → 0 ≤ nm) (hk : (k : Int) < S f_Md_things 0) (k8 : k < 8000) (kd : S f_Md_thingKind k = ty) (ka : hK h a = k_Site) (kk : hI h f_Site_kind a = κ) (it : X 53 f_Found_isText 0 = 0 ∨ X 53 f_Found_isText 0 = 1)
    (qk : ∀ X2 Y2 S2, TLK ρ g N M s 1 S (some none) S2 → LOK Γ h C ho X Y S N h X2 Y2 S2 → LNK X Y S X2 Y2 S2 → LFD0 g h C ho X2 Y2 S2 M κ mn ty (k : Int) el nm L → S2 f_Md_foundMany 0 = 0 → Q (Sum.inl none) (cc h C X2 Y2))
    (qe : ∀ X2 Y2 S2, TLK ρ g N M s 1 S none (erS S2 6) → LOK Γ h C ho X Y S N h X2 Y2 S2 → LNK X Y S X2 Y2 S2 → Q (Sum.inr (C + 33)) (cc h C (erX X2 6) Y2)) : wpB PGm ρ (d + 1) m_Lookup_object 153 [(0, vR (C + 98)), (1, vR a), (2, vR (C + 53))] [] (cc h C (lkX X 0) (lkY Y)) Q := by
  have oX : OFX LK0 X (lkX X 0) := lkX_off.le (by decide)
  have oY : OFX LKYx Y (lkY Y) := lkY_off.le (by decide)
  have oXz : OFX LKZ X (lkX X 0) := lkX_off.le (by decide)
  have oYz : OFX LYZ Y (lkY Y) := lkY_off.le (by decide)
  have L0 : LOK Γ h C ho X Y S N h (lkX X 0) (lkY Y) (lk1 S 0 1) := LOK.z HC lk1_off oX oY (lk_as (k := 0) (fun i => rfl) (fun i => rfl) (by decide))
  have HL : CORE Γ h C ho (lkX X 0) (lkY Y) S N := HC.lk0 oX oY
  have kd' : S f_Md_thingKind k = 4 ∨ S f_Md_thingKind k = 5 := by rw [kd]; exact hty
  obtain ⟨f1, f2, -⟩ := A.2.1 hty
  rw [Int.toNat_natCast] at f1
  refine r_objR (nm := if κ = 2 ∨ κ = 3 then el else nm) HL hk kd' (by rw [lkY_o (by decide)]; exact f1) (by rw [lkX_o (by decide)]; exact f2) lkX_g.1 lkY_g.1 ka kk (fun c => ?_) (fun c w hd lo pv _ => ?_)
  · have k2 : κ = 2 := by
      by_cases z : κ = 2 ∨ κ = 3
      · omega
      · rw [if_neg z] at c
        have := n0 (by omega)
        omega
    rw [if_pos (Or.inl k2)] at c
    exact qe _ _ _ (TLK.nonm hs ek (Or.inl k2) ty1 hty v1 k8 (Or.inr rfl) e1 c) L0 ⟨oXz, oYz, lk1_off.le (by decide)⟩
  · generalize hnm : (if κ = 2 ∨ κ = 3 then el else nm) = nm' at *
    have sn : SNM S s κ nm' := ⟨fun z => by rw [en, ← hnm, if_neg (by omega)], fun z => by rw [e1, ← hnm, if_pos z], c⟩
    have o2 : OFF LFA S (u2 (u2 (lkG S 1 k) f_Md_foundWhich 0 w) f_Md_foundHolder 0 hd) := (lkG_off.u (by decide)).u (by decide)
    have LE : LOK Γ h C ho X Y S N h (opX (u3 (lkX X 0) 53 f_Found_action 0 (if κ = 5 then 3 else 0)) w) (ohY h C (lkY Y) hd) (u2 (u2 (lkG S 1 k) f_Md_foundWhich 0 w) f_Md_foundHolder 0 hd) := LOK.z HC o2 ((oX.u (by decide)).u (by decide)) (oY.u (by decide)) (lk_as (k := 0) (fun i => by rw [u2_f (by decide), u2_f (by decide)]; unfold lkG; rw [u2_f (by decide)]; rfl) (fun i => by unfold opX; rw [u3_f (by decide), u3_f (by decide)]) (by decide))
    have A1 := lk1_w (S := S) (LL := 0) (cnt := 1)
    have g1 : ∀ f, f ≠ f_Md_foundGuard → f ≠ f_Md_foundWhich → f ≠ f_Md_foundHolder → u2 (u2 (lkG S 1 k) f_Md_foundWhich 0 w) f_Md_foundHolder 0 hd f 0 = lk1 S 0 1 f 0 := fun f a b c => by rw [u2_f c, u2_f b]; unfold lkG; rw [u2_f a]
    have T := TLK.rd (ρ := ρ) (g := g) (M := M) HC hs ek hκ ty1 hty v1 hk k8 kd' (Or.inr rfl) sn lo
    have k1 : u2 (u2 (lkG S 1 k) f_Md_foundWhich 0 w) f_Md_foundHolder 0 hd f_Md_foundLinker 0 = 0 := by rw [g1 _ (by decide) (by decide) (by decide)]; exact A1.2.2.2.2
    have k4 : u2 (u2 (lkG S 1 k) f_Md_foundWhich 0 w) f_Md_foundHolder 0 hd f_Md_foundShape 0 = -1 := by rw [g1 _ (by decide) (by decide) (by decide)]; exact A1.2.2.1
    have k5 : u2 (u2 (lkG S 1 k) f_Md_foundWhich 0 w) f_Md_foundHolder 0 hd f_Md_foundMany 0 = 0 := by rw [g1 _ (by decide) (by decide) (by decide)]; exact A1.2.2.2.1
    have k2 : u2 (u2 (lkG S 1 k) f_Md_foundWhich 0 w) f_Md_foundHolder 0 hd f_Md_foundWhich 0 = w := by rw [u2_f (by decide), u2_s]
    have k3 : u2 (u2 (lkG S 1 k) f_Md_foundWhich 0 w) f_Md_foundHolder 0 hd f_Md_foundHolder 0 = hd := u2_s
    have k6 : u2 (u2 (lkG S 1 k) f_Md_foundWhich 0 w) f_Md_foundHolder 0 hd f_Md_foundGuard 0 = S f_Md_thingShape k := by rw [u2_f (by decide), u2_f (by decide)]; unfold lkG; rw [u2_s]
    generalize u2 (u2 (lkG S 1 k) f_Md_foundWhich 0 w) f_Md_foundHolder 0 hd = S2 at *
    have eT : EXS LTS S S2 := o2.ex (by decide)
    have H2 := LE.1.1
    obtain ⟨tn, sn', sm', d1, d2, d5, -⟩ := HC.shp
    refine qk _ _ _ T LE ⟨(oXz.u (by decide)).u (by decide), oYz.u (by decide), o2.le (by decide)⟩ (LFD0.obj (by omega) (by omega) hty k1 k5 (by rw [k6, eT _ (by decide)]) (by rw [o2 _ _ (by decide)]; exact e1) ?_ ?_ ?_ ?_ ?_ ?_ ?_ ?_ (fun w0 => ?_)) k5
    · unfold opX; rw [u3_f (by decide), u3_s, if_neg (show ¬ (κ = 1 ∨ κ = 3) by omega)]
    · unfold opX; rw [u3_s, k2]
    · unfold opX; rw [u3_f (by decide), u3_f (by decide)]; exact lkX_g.2.1
    · unfold opX; rw [u3_f (by decide), u3_f (by decide), lkX_o (by decide)]; exact it
    · unfold ohY; rw [u3_s, k3]
    · rw [k3]
      unfold PVL at pv ⊢
      rw [eT _ (by decide), eT _ (by decide)]; exact pv
    · unfold ohY; rw [u3_f (by decide), k4, lkY_g.2.1]; exact (if_pos (by decide)).symm
    · rw [k4, eT _ (by decide)]; omega
    · rw [hnm]
      obtain ⟨n1, n2, n3, n4, n5, n6, n7, n8, n9⟩ := nwE_g (S := S2) (w0 := w0)
      refine ENB.rd (k := k) H2 hκ (by rw [eT _ (by decide)]; exact hk) (by rw [eT _ (by decide)]; exact kd') (by rw [n5, n4, k2, k3]; exact lo.ee eT) (by rw [n2, k6, eT _ (by decide)]) (by rw [n6]; exact k4) (by rw [n7]; exact Int.le_refl _) (fun _ => sn.2.2)
end
