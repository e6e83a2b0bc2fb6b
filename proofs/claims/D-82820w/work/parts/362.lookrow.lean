/-! a look at a list or text, on both sides -/
set_option maxRecDepth 20000
section
variable {ρ : Nat → Nat} {d : Nat} {Q : QT} {Γ : GH} {h h' h2 : ah} {C ho k n i j N M s r rr mn a o f : Nat} {S S' S1 S2 : SS} {X X2 : X3} {Y Y2 : Y3} {g : HG} {nm w hd κ ty v el w0 LL x : Int} {e : ENT} {L : List Int} {ws : List (List Int)}
theorem rk_ern (z : ¬ rkG κ L mn ty = 0) : ern (rkG κ L mn ty) := by
  unfold rkG at z ⊢
  repeat' split
  all_goals first | decide | simp_all
theorem j_lrow (HC : CORE Γ h C ho X Y S N) (NM : NMR h C S ws) (SM : STM ρ h) (hty : ty = 3 ∨ ty = 6) (hκ : 0 ≤ κ ∧ κ ≤ 6) (A : FDA h C ho X Y S κ ty v el nm rr mn) (hs : s < 4000) (ek : S f_Md_siteKind s = κ) (em : S f_Md_siteMany s = (mn : Int)) (ty1 : S f_Md_goesType 0 = ty) (e1 : S f_Md_elementName 0 = el) (en : S f_Md_siteName s = nm) (ka : hK h a = k_Site) (kk : hI h f_Site_kind a = κ) (kn : hI h f_Site_name a = nm) (km : hI h f_Site_operands a = (mn : Int)) (nl : κ = 0 ∨ κ = 1 ∨ κ = 5 → ∃ q : Nat, nm = (q : Int) ∧ q < ws.length ∧ ws.getD q [] = L ∧ NMT S q L)
    (qk : ∀ X2 Y2 S2, TLK ρ g N M s 1 S (some none) S2 → LOK Γ h C ho X Y S N h X2 Y2 S2 → LNK X Y S X2 Y2 S2 → LFD0 g h C ho X2 Y2 S2 M κ mn ty v el nm L → S2 f_Md_foundMany 0 = 0 → Q (Sum.inl none) (cc h C X2 Y2))
    (qe : ∀ x X2 Y2 S2, TLK ρ g N M s 1 S none (erS S2 x) → LOK Γ h C ho X Y S N h X2 Y2 S2 → LNK X Y S X2 Y2 S2 → ern x → Q (Sum.inr (C + 33)) (cc h C (erX X2 x) Y2)) : wpB PGm ρ (d + 12) m_Lookup_row 0 [(0, vR (C + 98)), (1, vR a), (2, vR (C + 53))] [] (cc h C (lkX X 3) (lkY Y)) Q := by
  have t45 : ¬ (ty = 4 ∨ ty = 5) := by clear nl; omega
  have t78 : ¬ (ty = 7 ∨ ty = 8) := by clear nl; omega
  have oX : OFX LK0 X (lkX X 3) := lkX_off.le (by decide)
  have oY : OFX LKYx Y (lkY Y) := lkY_off.le (by decide)
  have oXz : OFX LKZ X (lkX X 3) := lkX_off.le (by decide)
  have oYz : OFX LYZ Y (lkY Y) := lkY_off.le (by decide)
  have HL : CORE Γ h C ho (lkX X 3) (lkY Y) S N := HC.lk0 oX oY
  have o2 : OFF LFA S (u2 (lk1 S 3 1) f_Md_foundGuard 0 (if ty = 6 then 0 else 1)) := lk1_off.u (by decide)
  have as : ∀ i, u2 (lk1 S 3 1) f_Md_foundGuard 0 (if ty = 6 then 0 else 1) f_Md_asked i = lk1 S ((3 : Nat) : Int) 1 f_Md_asked i := fun i => by rw [u2_f (by decide)]; rfl
  have ix : lkX X 3 53 f_Found_isText 0 = X 53 f_Found_isText 0 := lkX_o (by decide)
  have iT := A.2.2.1 hty
  have tr := TLK.rows (ρ := ρ) (g := g) (N := N) (M := M) (L := L) hs ek hκ ty1 hty (Or.inr rfl) (fun z => by
    obtain ⟨q, q1, q2, q3, q4⟩ := nl (by omega)
    exact ⟨q, by rw [en]; exact q1, q4⟩) em
  refine r_row (L := L) HL NM SM ka kk km hκ hty (by rw [ix]; exact iT) (fun z => by
    obtain ⟨q, q1, q2, q3, q4⟩ := nl (by omega)
    exact ⟨q, by rw [kn]; exact q1, q2, q3⟩) (fun z => ?_) (fun z => ?_)
  · have A1 := lk1_w (S := S) (LL := 3) (cnt := 1)
    clear nl
    have LE : LOK Γ h C ho X Y S N h (u3 (lkX X 3) 53 f_Found_action 0 (raC' κ mn ty)) (lkY Y) (u2 (lk1 S 3 1) f_Md_foundGuard 0 (if ty = 6 then 0 else 1)) := LOK.z HC o2 (oX.u (by decide)) oY (lk_as (k := 3) as (fun i => by rw [u3_f (by decide)]) (by decide))
    have T := tr.1 z
    have g1 : ∀ f, f ≠ f_Md_foundGuard → u2 (lk1 S 3 1) f_Md_foundGuard 0 (if ty = 6 then 0 else 1) f 0 = lk1 S 3 1 f 0 := fun f a => u2_f a
    have k1 := (g1 f_Md_foundLinker (by decide)).trans A1.2.2.2.2
    have k2 := (g1 f_Md_foundWhich (by decide)).trans A1.1
    have k3 := (g1 f_Md_foundHolder (by decide)).trans A1.2.1
    have k4 := (g1 f_Md_foundShape (by decide)).trans A1.2.2.1
    have k5 := (g1 f_Md_foundMany (by decide)).trans A1.2.2.2.1
    have k6 : u2 (lk1 S 3 1) f_Md_foundGuard 0 (if ty = 6 then 0 else 1) f_Md_foundGuard 0 = (if ty = 6 then 0 else 1) := u2_s
    refine qk _ _ _ T LE ⟨oXz.u (by decide), oYz, o2.le (by decide)⟩ (fun w0 => ?_) k5
    generalize u2 (lk1 S 3 1) f_Md_foundGuard 0 (if ty = 6 then 0 else 1) = S2 at *
    obtain ⟨n1, n2, n3, n4, n5, n6, n7, n8, n9⟩ := nwE_g (S := S2) (w0 := w0)
    refine ⟨⟨?_, by rw [n1, k1]; decide, fun c => ?_, fun c => ?_, ⟨fun _ => ⟨lkY_g.1, by rw [n4, k3], lkY_g.2.1, by rw [n6, k4]⟩, fun _ => ⟨lkY_g.2.2, by rw [n5, k2]⟩⟩⟩, ⟨?_, ?_, ?_, fun c => absurd c t45, fun _ => ⟨?_, ?_, ?_⟩, fun c => absurd c t78⟩, ⟨fun c => ?_, fun _ => ⟨?_, ?_, ?_, ?_, ?_⟩, fun c => ?_⟩⟩
    · rw [u3_s]; unfold acE; rw [n1, k1, if_neg (show ¬ (3 : Int) = 0 by decide), if_pos rfl, n2, k6]; unfold raC'
      rcases hty with t | t
      · subst t; simp
      · subst t; simp
    · rw [n1, k1] at c; omega
    · rw [n1, k1] at c; omega
    · rw [n1, k1, if_neg t45]
      rcases hty with t | t <;> (subst t; rfl)
    · rw [u3_f (by decide), lkX_o (by decide), iT]
      rcases hty with t | t
      · exact Or.inr (if_pos t)
      · exact Or.inl (if_neg (by omega))
    · rw [n3, o2 _ _ (by decide)]; exact e1
    · rw [n2]; exact k6
    · rw [n8]; exact k5
    · rw [u3_f (by decide)]; exact lkX_g.2.1
    · rw [n1, k1] at c; omega
    · rw [n5]; exact k2
    · rw [n4]; exact k3
    · rw [n6]; exact k4
    · rw [n2, k6]; split <;> simp
    · rw [n2, k6]
      rcases hty with t | t <;> (subst t; exact z)
    · rw [n1, k1] at c; omega
  · exact qe _ _ _ _ (tr.2 z) (LOK.z HC o2 oX oY (lk_as (k := 3) as (fun i => rfl) (by decide))) ⟨oXz, oYz, o2.le (by decide)⟩ (rk_ern z)
end
