/-! a look, joined -/
set_option maxRecDepth 20000
/-- what a look has found -/
def LFH (g : HG) (h2 : ah) (C ho : Nat) (X2 : X3) (Y2 : Y3) (S2 : SS) (M : Nat) (κ : Int) (mn : Nat) (ty v el nm : Int) (L : List Int) (rr : Nat) : Prop := (FDO g h2 C ho X2 Y2 S2 M κ mn (nwE S2 (gtS S2 rr (S2 f_Md_foundMany 0))) ∧ FDL X2 S2 κ mn ty v el (nwE S2 (gtS S2 rr (S2 f_Md_foundMany 0))) ∧ ENV g S2 κ nm L mn (nwE S2 (gtS S2 rr (S2 f_Md_foundMany 0)))) ∧ (S2 f_Md_foundMany 0 = 0 ∨ S2 f_Md_foundMany 0 = (opC κ mn : Int))
section
variable {ρ : Nat → Nat} {d : Nat} {Q : QT} {Γ : GH} {h h' h2 : ah} {C ho k n i j N M s r rr mn a o f c kn ac kn2 ac2 q : Nat} {S S' S1 S2 : SS} {X X2 : X3} {Y Y2 : Y3} {g : HG} {nm w hd κ ty v el w0 LL x st : Int} {e : ENT} {L ts : List Int} {ws hw : List (List Int)} {CK CK2 : Nat → KEY} {CV CV2 : Nat → Int} {ca ca2 : Nat → Nat}
theorem djH {K : List Nat} (e : K.all (fun f => !(LHc.elem f) && !([f_Host_meant + 1, f_Host_met + 1, f_Host_why].elem f)) = true) : DJ K LHc (PMN ho) := List.all_eq_true.mpr fun f hf => List.all_eq_true.mp e f hf
theorem LKP.lnk (K : LKP g hw ws h ho X Y S N M kn ac CK CV ca) (m8 : ∀ k, k < kn → S f_Md_choiceMany k ≤ 8) (HX : HCX ρ h ho g N M hw) (ij : INJ h) (A : LOK Γ h C ho X Y S N h2 X2 Y2 S2) (B : LNK X Y S X2 Y2 S2) : LKP g hw ws h2 ho X2 Y2 S2 N M kn ac CK CV ca ∧ ∀ k, k < kn → S2 f_Md_choiceMany k ≤ 8 := by
  obtain ⟨-, -, -, ⟨z, s', fr⟩, -⟩ := A
  obtain ⟨b1, b2, b3⟩ := B
  have hh := HX.hh
  have p0 : ∀ y, (0, y) ∉ PMN ho := fun y => by unfold PMN; simp [f_Host_meant, f_Host_met, f_Host_why]
  have ok : ∀ (f x : Nat), LHc.elem f = false → f ≠ f_Host_meant + 1 → f ≠ f_Host_met + 1 → f ≠ f_Host_why → ¬ okW LHc (PMN ho) f x := fun f x a1 a2 a3 a4 => by
    rintro (c | c)
    · have : LHc.elem f = true := by simpa using c
      rw [a1] at this; cases this
    · unfold PMN at c
      simp only [List.mem_cons, List.not_mem_nil, or_false, Prod.mk.injEq] at c
      rcases c with c | c | c
      · exact a2 c.1
      · exact a3 c.1
      · exact a4 c.1
  have s2 := fr.ar ij (f := f_Host_types) (x := ho) (y := ho + 2) (by unfold own; decide) hh.2.1 hh.2.2.1 (by omega) (fun c => c.elim (ok _ _ (by decide) (by decide) (by decide) (by decide)) (ok _ _ (by decide) (by decide) (by decide) (by decide))) (p0 _)
  have s3 := fr.ar ij (f := f_Host_members) (x := ho) (y := ho + 3) (by unfold own; decide) hh.2.1 hh.2.2.2.1 (by omega) (fun c => c.elim (ok _ _ (by decide) (by decide) (by decide) (by decide)) (ok _ _ (by decide) (by decide) (by decide) (by decide))) (p0 _)
  refine K.es m8 (b3.ex (by decide)) (K.1.fr fr (djH (by decide +kernel)) p0 (fun i _ => s2.2.2 i) (fun i _ => s3.2.2 i) (b1 _ _ _ (by decide)) (b1 _ _ _ (by decide)) (fun b => b2 _ _ _ (by decide))) (b1 _ _ _ (by decide))
/-- what is known of a site and of the value that it goes to -/
def SWH (h : ah) (C ho : Nat) (X : X3) (Y : Y3) (S : SS) (N M : Nat) (g : HG) (ws : List (List Int)) (κ ty v el nm : Int) (rr mn s a : Nat) (L : List Int) : Prop := FDA h C ho X Y S κ ty v el nm rr mn ∧ (0 ≤ κ ∧ κ ≤ 6) ∧ (s < 4000 ∧ S f_Md_siteKind s = κ ∧ S f_Md_siteMany s = (mn : Int) ∧ S f_Md_siteName s = nm ∧ mn ≤ 8) ∧ (S f_Md_goesType 0 = ty ∧ S f_Md_goesValue 0 = v ∧ S f_Md_elementName 0 = el) ∧ (hK h a = k_Site ∧ a < hz h ∧ hI h f_Site_kind a = κ ∧ hI h f_Site_name a = nm ∧ hI h f_Site_operands a = (mn : Int)) ∧ (X 53 f_Found_isText 0 = 0 ∨ X 53 f_Found_isText 0 = 1) ∧ (κ = 0 ∨ κ = 1 ∨ κ = 5 → ∃ q : Nat, nm = (q : Int) ∧ q < ws.length ∧ ws.getD q [] = L ∧ NMT S q L ∧ 1 ≤ L.length) ∧ (ty = 4 ∨ ty = 5 → ∃ k : Nat, v = (k : Int) ∧ (k : Int) < S f_Md_things 0 ∧ k < 8000 ∧ S f_Md_thingKind k = ty) ∧ (ty = 7 ∨ ty = 8 → PVS S N rr (if κ = 1 then 1 else mn) ∧ (0 ≤ v ∧ v < 8000) ∧ ∃ c : Nat, gdG S ty v = (c : Int) ∧ c < N ∧ (ty = 7 → g.1 1 c = 0))
theorem j_look (HC : CORE Γ h C ho X Y S N) (NM : NMR h C S ws) (SM : STM ρ h) (HX : HCX ρ h ho g N M hw) (YL : Y 98 f_Lookup_host 0 = ho) (hh : ho = C + 6 ∨ ho = C + 19) (W : HWF g N M) (WX : HWX g N M) (K : LKP g hw ws h ho X Y S N M kn ac CK CV ca) (m8 : ∀ k, k < kn → S f_Md_choiceMany k ≤ 8) (Z : SWH h C ho X Y S N M g ws κ ty v el nm rr mn s a L) (hty : 3 ≤ ty ∧ ty ≤ 8)
    (qk : ∀ h2 X2 Y2 S2 kn2 ac2 CK2 CV2 ca2, TLK ρ g N M s 1 S (some none) S2 → LOK Γ h C ho X Y S N h2 X2 Y2 S2 → (LKP g hw ws h2 ho X2 Y2 S2 N M kn2 ac2 CK2 CV2 ca2 ∧ ∀ k, k < kn2 → S2 f_Md_choiceMany k ≤ 8) → LFH g h2 C ho X2 Y2 S2 M κ mn ty v el nm L rr → Q (Sum.inl none) (cc h2 C X2 Y2))
    (qe : ∀ x x' h2 X2 Y2 S2 kn2 ac2 CK2 CV2 ca2, TLK ρ g N M s 1 S none (erS S2 x') → LOK Γ h C ho X Y S N h2 X2 Y2 S2 → (LKP g hw ws h2 ho X2 Y2 S2 N M kn2 ac2 CK2 CV2 ca2 ∧ ∀ k, k < kn2 → S2 f_Md_choiceMany k ≤ 8) → ((x = 0 ∧ x' = 99) ∨ (ern x ∧ x' = x)) → Q (Sum.inr (C + 33)) (cc h2 C (erX X2 x) Y2)) : wpB PGm ρ (d + 76) m_Lookup_look 0 [(0, vR (C + 98)), (1, vR a), (2, vR (C + 53))] [] (cc h C X Y) Q := by
  obtain ⟨A, hκ, ⟨hs, ek, em, en, mn8⟩, ⟨ty1, v1, e1⟩, ⟨ka, ha, kk, kn', km⟩, it, nl, zo, zh⟩ := Z
  have G := HC.1.1
  have F := HC.1.2
  have kE : ∀ {h2 : ah}, FC h2 C → ∀ {X' : X3} {Y' : Y3}, hK (cc h2 C X' Y') (C + 33) ≠ 0 := fun {h2} F' {X' Y'} => kSg F'
  have n0 : κ = 0 ∨ κ = 1 ∨ κ = 5 → 0 ≤ nm := fun z => by
    obtain ⟨q, q1, -⟩ := nl z
    rw [q1]; exact Int.natCast_nonneg q
  have ko : ∀ {h2 X2 Y2 S2}, TLK ρ g N M s 1 S (some none) S2 → LOK Γ h C ho X Y S N h2 X2 Y2 S2 → LNK X Y S X2 Y2 S2 → LFD0 g h2 C ho X2 Y2 S2 M κ mn ty v el nm L → S2 f_Md_foundMany 0 = 0 → Q (Sum.inl none) (cc h2 C X2 Y2) := fun {h2 X2 Y2 S2} T LO LN LF m0 => qk h2 X2 Y2 S2 kn ac CK CV ca T LO (K.lnk m8 HX G.2.1 LO LN) ⟨LF _, Or.inl m0⟩
  have keq : ∀ {x x' h2 X2 Y2 S2}, TLK ρ g N M s 1 S none (erS S2 x') → LOK Γ h C ho X Y S N h2 X2 Y2 S2 → LNK X Y S X2 Y2 S2 → ((x = 0 ∧ x' = 99) ∨ (ern x ∧ x' = x)) → hK (cc h2 C (erX X2 x) Y2) (C + 33) ≠ 0 ∧ Q (Sum.inr (C + 33)) (cc h2 C (erX X2 x) Y2) := fun {x x' h2 X2 Y2 S2} T LO LN ex => ⟨kSg LO.1.1.1.2, qe x x' h2 X2 Y2 S2 kn ac CK CV ca T LO (K.lnk m8 HX G.2.1 LO LN) ex⟩
  by_cases t4 : ty = 4 ∨ ty = 5
  · obtain ⟨k, rfl, k1, k2, k3⟩ := zo t4
    have l0 : X 53 f_Found_linker 0 = ((0 : Nat) : Int) := by rw [A.1, if_pos t4]; rfl
    refine r_look (k := 0) (d := d + 75) G F l0 (by decide) (fun _ => ?_) (fun c => absurd c (by decide)) (fun c => absurd c (by decide))
    refine r_obj0 ka kk hκ (fun z => ?_) (fun z => ?_) (fun z => ?_)
    · exact j_lobjW (d := d + 58) (L := L) HC A t4 z hs ek ty1 v1 e1 en n0 k1 k2 k3 ka kk it (fun h2 X2 Y2 S2 T LO LN LF m0 => ko T LO LN LF m0) (fun x x' X2 Y2 S2 T LO LN ex => keq T LO LN ex)
    · exact j_lobjR (d := d + 74) (L := L) HC A t4 z hs ek ty1 v1 e1 en n0 k1 k2 k3 ka kk it (fun X2 Y2 S2 T LO LN LF m0 => ko T LO LN LF m0) (fun X2 Y2 S2 T LO LN => keq T LO LN (Or.inr ⟨by decide, rfl⟩))
    · exact j_lobjC (d := d + 74) (L := L) HC A t4 z hs ek ty1 v1 e1 k1 k2 k3 ka kk it (fun X2 Y2 S2 T LO LN LF m0 => ko T LO LN LF m0) (fun X2 Y2 S2 T LO LN => keq T LO LN (Or.inr ⟨by decide, rfl⟩))
  · by_cases t3 : ty = 3 ∨ ty = 6
    · have l3 : X 53 f_Found_linker 0 = ((3 : Nat) : Int) := by
        rw [A.1, if_neg t4]
        rcases t3 with z | z <;> (subst z; rfl)
      refine r_look (k := 3) (d := d + 75) G F l3 (by decide) (fun c => absurd c (by decide)) (fun _ => ?_) (fun c => absurd c (by decide))
      exact j_lrow (d := d + 63) HC NM SM t3 hκ A hs ek em ty1 e1 en ka kk kn' km (fun z => by
        obtain ⟨q, q1, q2, q3, q4, -⟩ := nl z
        exact ⟨q, q1, q2, q3, q4⟩) (fun X2 Y2 S2 T LO LN LF m0 => ko T LO LN LF m0) (fun x X2 Y2 S2 T LO LN ex => keq T LO LN (Or.inr ⟨ex, rfl⟩))
    · have t7 : ty = 7 ∨ ty = 8 := by clear nl zo zh ko keq qk qe; omega
      obtain ⟨pv, vr, c, gc, hc, ifc⟩ := zh t7
      obtain ⟨st, hst, hty', hl, hk⟩ : ∃ st : Int, (st = 0 ∨ st = 1) ∧ ty = (if st = 1 then 8 else 7) ∧ (st + 1).toNat < 4 ∧ (gdL ty = (((st + 1).toNat : Nat) : Int) ∧ ((st + 1).toNat = 1 ∨ (st + 1).toNat = 2) ∧ (st = 0 → ty = 7)) := by
        rcases t7 with z | z
        · subst z; exact ⟨0, Or.inl rfl, rfl, by decide, rfl, Or.inl rfl, fun _ => rfl⟩
        · subst z; exact ⟨1, Or.inr rfl, rfl, by decide, rfl, Or.inr rfl, fun c => absurd c (by decide)⟩
      refine r_look (k := (st + 1).toNat) (d := d + 75) G F (by rw [A.1, if_neg t4]; exact hk.1) hl (fun c => ?_) (fun c => ?_) (fun _ => ?_)
      · rcases hk.2.1 with z | z <;> rw [z] at c <;> exact absurd c (by decide)
      · rcases hk.2.1 with z | z <;> rw [z] at c <;> exact absurd c (by decide)
      · exact j_lhost (d := d) HC NM SM HX YL hh W WX K m8 A hst hty' hκ gc hc (fun z => ifc (hk.2.2 z)) hs ek em mn8 ty1 v1 vr e1 en ka ha kk kn' pv it nl (fun h2 X2 Y2 S2 kn2 ac2 CK2 CV2 ca2 T LO LP FF m0 => qk h2 X2 Y2 S2 kn2 ac2 CK2 CV2 ca2 T LO LP ⟨FF, m0⟩) (fun x h2 X2 Y2 S2 kn2 ac2 CK2 CV2 ca2 T LO LP ex => ⟨kSg LO.1.1.1.2, qe x x h2 X2 Y2 S2 kn2 ac2 CK2 CV2 ca2 T LO LP (Or.inr ⟨ex, rfl⟩)⟩)
end
