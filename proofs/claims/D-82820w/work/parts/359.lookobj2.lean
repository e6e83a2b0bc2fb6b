/-! a look at an object, on both sides: all kinds of sites -/
set_option maxRecDepth 20000
section
variable {ρ : Nat → Nat} {d : Nat} {Q : QT} {Γ : GH} {h h' h2 : ah} {C ho k n i j N M s r rr mn a o f : Nat} {S S' S1 S2 : SS} {X X2 : X3} {Y Y2 : Y3} {g : HG} {nm w hd κ ty v el w0 LL x : Int} {e : ENT} {L : List Int}
/-- what a look has found, at an object -/
def LFD0 (g : HG) (h2 : ah) (C ho : Nat) (X2 : X3) (Y2 : Y3) (S2 : SS) (M : Nat) (κ : Int) (mn : Nat) (ty v el nm : Int) (L : List Int) : Prop := ∀ w0, FDO g h2 C ho X2 Y2 S2 M κ mn (nwE S2 w0) ∧ FDL X2 S2 κ mn ty v el (nwE S2 w0) ∧ ENV g S2 κ nm L mn (nwE S2 w0)
theorem CORE.cod (HC : CORE Γ h C ho X Y S N) (hk : (k : Int) < S f_Md_things 0) (kd : S f_Md_thingKind k = 5) : hB h (C + 56) (S f_Md_thingFunction k).toNat ≠ 0 ∧ 0 ≤ S f_Md_thingFunction k ∧ S f_Md_thingFunction k < S f_Md_functions 0 := by
  obtain ⟨tn, sn, sm', d1, d2, d5, d6', d3, d4, d6, d7, -⟩ := HC.shp
  have T := d7 k (by omega)
  have f1 : 0 ≤ S f_Md_thingFunction k ∧ S f_Md_thingFunction k < S f_Md_functions 0 := by
    obtain ⟨-, -, -, -, -, -, -, -, -, -, -, -, -, -, z, -⟩ := T
    rcases z with z | z
    · exact absurd kd z.1
    · exact ⟨z.2.1, z.2.2.1⟩
  obtain ⟨fn, f2, f3, f4, f5⟩ := HC.2.2.2.1
  exact ⟨(f5 (S f_Md_thingFunction k).toNat (by omega)).1.2.2, f1⟩
theorem j_lobjC (HC : CORE Γ h C ho X Y S N) (A : FDA h C ho X Y S κ ty (k : Int) el nm rr mn) (hty : ty = 4 ∨ ty = 5) (hκ : κ = 4 ∨ κ = 6) (hs : s < 4000) (ek : S f_Md_siteKind s = κ) (ty1 : S f_Md_goesType 0 = ty) (v1 : S f_Md_goesValue 0 = (k : Int)) (e1 : S f_Md_elementName 0 = el) (hk : (k : Int) < S f_Md_things 0) (k8 : k < 8000) (kd : S f_Md_thingKind k = ty) (ka : hK h a = k_Site) (kk : hI h f_Site_kind a = κ) (it : X 53 f_Found_isText 0 = 0 ∨ X 53 f_Found_isText 0 = 1)
    (qk : ∀ X2 Y2 S2, TLK ρ g N M s 1 S (some none) S2 → LOK Γ h C ho X Y S N h X2 Y2 S2 → LNK X Y S X2 Y2 S2 → LFD0 g h C ho X2 Y2 S2 M κ mn ty (k : Int) el nm L → S2 f_Md_foundMany 0 = 0 → Q (Sum.inl none) (cc h C X2 Y2))
    (qe : ∀ X2 Y2 S2, TLK ρ g N M s 1 S none (erS S2 5) → LOK Γ h C ho X Y S N h X2 Y2 S2 → LNK X Y S X2 Y2 S2 → Q (Sum.inr (C + 33)) (cc h C (erX X2 5) Y2)) : wpB PGm ρ (d + 1) m_Lookup_object 44 [(0, vR (C + 98)), (1, vR a), (2, vR (C + 53))] [] (cc h C (lkX X 0) (lkY Y)) Q := by
  have oX : OFX LK0 X (lkX X 0) := lkX_off.le (by decide)
  have oY : OFX LKYx Y (lkY Y) := lkY_off.le (by decide)
  have oXz : OFX LKZ X (lkX X 0) := lkX_off.le (by decide)
  have oYz : OFX LYZ Y (lkY Y) := lkY_off.le (by decide)
  have L0 : LOK Γ h C ho X Y S N h (lkX X 0) (lkY Y) (lk1 S 0 1) := LOK.z HC lk1_off oX oY (lk_as (k := 0) (fun i => rfl) (fun i => rfl) (by decide))
  have HL : CORE Γ h C ho (lkX X 0) (lkY Y) S N := HC.lk0 oX oY
  have ac : Y 53 f_Found_code 0 = (if ty = 5 then hB h (C + 56) (S f_Md_thingFunction k).toNat else 0) := by
    have := (A.2.1 hty).2.2
    rw [Int.toNat_natCast] at this
    exact this
  have yc : lkY Y 53 f_Found_code 0 = Y 53 f_Found_code 0 := lkY_o (by decide)
  refine r_objC HL ka kk hκ (fun c => ?_) (fun c => ?_)
  · rw [yc, ac] at c
    have t4 : ty = 4 := by
      rcases hty with z | z
      · exact z
      · rw [if_pos z] at c
        exact absurd c (HC.cod hk (by rw [kd]; exact z)).1
    exact qe _ _ _ (TLK.cal5 hs ek hκ (by rw [ty1]; exact t4) v1 k8 (Or.inr rfl)) L0 ⟨oXz, oYz, lk1_off.le (by decide)⟩
  · rw [yc, ac] at c
    have t5 : ty = 5 := by
      rcases hty with z | z
      · rw [if_neg (by omega)] at c; exact absurd rfl c
      · exact z
    subst t5
    have LE : LOK Γ h C ho X Y S N h (u3 (lkX X 0) 53 f_Found_action 0 (if κ = 4 then 4 else 5)) (lkY Y) (u2 (lk1 S 0 1) f_Md_foundGuard 0 (S f_Md_thingFunction k)) := LOK.z HC (lk1_off.u (by decide)) (oX.u (by decide)) oY (lk_as (k := 0) (fun i => by rw [u2_f (by decide)]; rfl) (fun i => by rw [u3_f (by decide)]) (by decide))
    have o2 : OFF LFA S (u2 (lk1 S 0 1) f_Md_foundGuard 0 (S f_Md_thingFunction k)) := lk1_off.u (by decide)
    have A1 := lk1_w (S := S) (LL := 0) (cnt := 1)
    have k1 : u2 (lk1 S 0 1) f_Md_foundGuard 0 (S f_Md_thingFunction k) f_Md_foundLinker 0 = 0 := by rw [u2_f (by decide)]; exact A1.2.2.2.2
    have k2 : u2 (lk1 S 0 1) f_Md_foundGuard 0 (S f_Md_thingFunction k) f_Md_foundWhich 0 = -1 := by rw [u2_f (by decide)]; exact A1.1
    have k3 : u2 (lk1 S 0 1) f_Md_foundGuard 0 (S f_Md_thingFunction k) f_Md_foundHolder 0 = -1 := by rw [u2_f (by decide)]; exact A1.2.1
    have k4 : u2 (lk1 S 0 1) f_Md_foundGuard 0 (S f_Md_thingFunction k) f_Md_foundShape 0 = -1 := by rw [u2_f (by decide)]; exact A1.2.2.1
    have k5 : u2 (lk1 S 0 1) f_Md_foundGuard 0 (S f_Md_thingFunction k) f_Md_foundMany 0 = 0 := by rw [u2_f (by decide)]; exact A1.2.2.2.1
    have k6 : u2 (lk1 S 0 1) f_Md_foundGuard 0 (S f_Md_thingFunction k) f_Md_foundGuard 0 = S f_Md_thingFunction k := u2_s
    refine qk _ _ _ (TLK.call hs ek hκ ty1 v1 k8 (Or.inr rfl)) LE ⟨oXz.u (by decide), oYz, o2.le (by decide)⟩ (fun w0 => ?_) k5
    generalize u2 (lk1 S 0 1) f_Md_foundGuard 0 (S f_Md_thingFunction k) = S2 at *
    obtain ⟨n1, n2, n3, n4, n5, n6, n7, n8, n9⟩ := nwE_g (S := S2) (w0 := w0)
    have sh := HC.shp
    obtain ⟨tn, sn, sm', d1, d2, d5, -⟩ := sh
    have shp : S2 f_Md_shapes 0 = (sn : Int) := by rw [o2 _ _ (by decide)]; exact d2
    have pa : prA h C (-1) = 0 := if_pos (by decide)
    have ca : crA h C (-1) = 0 := if_pos (by decide)
    refine ⟨⟨?_, by rw [n1, k1]; decide, fun _ => ⟨?_, ?_, ?_, ?_, ?_⟩, fun c => ?_, ⟨fun z => absurd (by rw [n1]; exact k1) z, fun z => by rw [n1, k1] at z; exact absurd z (by decide)⟩⟩, ⟨?_, ?_, ?_, fun _ => ⟨?_, ?_, fun _ => ⟨rfl, ?_⟩, fun c => absurd hκ c⟩, fun c => by omega, fun c => by omega⟩, ⟨fun _ => ENB.cl hκ (by rw [n5]; exact k2) (by rw [n4]; exact k3) (by rw [n6]; exact k4), fun c => ?_, fun c => ?_⟩⟩
    · rw [u3_s]; unfold acE; rw [n1, k1, if_pos rfl]
      rcases hκ with z | z
      · rw [if_pos z, if_pos z]
      · rw [if_neg (by omega), if_neg (by omega), if_pos z]
    · rw [u3_f (by decide), n5, k2]; exact lkX_g.1
    · rw [n4, k3, pa]; exact lkY_g.1
    · rw [n4, k3]; exact Or.inl rfl
    · rw [n6, k4, ca]; exact lkY_g.2.1
    · rw [n6, k4, shp]; omega
    · rw [n1, k1] at c; omega
    · rw [n1, k1, if_pos (Or.inr rfl)]
    · rw [u3_f (by decide), lkX_o (by decide)]; exact it
    · rw [n3, o2 _ _ (by decide)]; exact e1
    · rw [n8]; exact k5
    · rw [u3_f (by decide)]; exact lkX_g.2.1
    · rw [n2, k6, Int.toNat_natCast, o2 _ _ (by decide)]
    · rw [n1, k1] at c; omega
    · rw [n1, k1] at c; omega
end
