/-! a look at the host, on both sides -/
set_option maxRecDepth 20000
section
variable {ρ : Nat → Nat} {d : Nat} {Q : QT} {Γ : GH} {h h' h2 : ah} {C ho k n i j N M s r rr mn a o f c kn ac kn2 ac2 q : Nat} {S S' S1 S2 : SS} {X X2 : X3} {Y Y2 : Y3} {g : HG} {nm w hd κ ty v el w0 LL x st : Int} {e : ENT} {L ts : List Int} {ws hw : List (List Int)} {CK CK2 : Nat → KEY} {CV CV2 : Nat → Int} {ca ca2 : Nat → Nat}
theorem LKP.es (H : LKP g hw ws h ho X Y S N M kn ac CK CV ca) (m8 : ∀ k, k < kn → S f_Md_choiceMany k ≤ 8) (es : EXS LCH3 S S2) (K2 : LKH h2 ho X2 Y2 N M kn ac CK CV ca) (ex : X2 98 f_Lookup_workedOut 0 = X 98 f_Lookup_workedOut 0) : LKP g hw ws h2 ho X2 Y2 S2 N M kn ac CK CV ca ∧ ∀ k, k < kn → S2 f_Md_choiceMany k ≤ 8 := by
  obtain ⟨-, ⟨h1, h2'⟩, h3, h4, h5⟩ := H
  refine ⟨⟨K2, ⟨by rw [es _ (by decide)]; exact h1, by rw [es _ (by decide)]; exact h2'⟩, by rw [es _ (by decide), ex]; exact h3, fun k hk => ?_, h5⟩, fun k hk => by rw [es _ (by decide)]; exact m8 k hk⟩
  exact (h4 k hk).keep (fun f hf => es f (by
    have : [f_Md_choiceClass, f_Md_choiceMode, f_Md_choiceName, f_Md_choiceMany, f_Md_choiceFound].all (fun f => LCH3.elem f) = true := by decide
    exact List.all_eq_true.mp this f (by simpa using hf)) k) (fun i _ => es _ (by decide) _) (fun ts' e => by have := m8 k hk; omega) (fun a ha => ⟨ha, rfl⟩)
/-- the types of values, as they are kept -/
def gtS (S : SS) (rr : Nat) (m : Int) : Int := (gtW ((tsT S rr m.toNat).map Int.toNat) : Int)
/-- what a look at the host gives T, from C's side -/
theorem j_lht (W : HWF g N M) (nd : hw.Nodup) (wd : ws.Nodup) (K : LKP g hw ws h ho X Y S N M kn ac CK CV ca) (m8 : ∀ k, k < kn → S f_Md_choiceMany k ≤ 8) (hs : s < 4000) (ek : S f_Md_siteKind s = κ) (hκ : 0 ≤ κ ∧ κ ≤ 6) (hst : st = 0 ∨ st = 1) (hty : S f_Md_goesType 0 = if st = 1 then 8 else 7) (H : LHQ (lk1 S (st + 1) 1) N s rr mn c κ st L) (et : ts = tsT S rr (if κ = 1 then 1 else mn)) (t8 : ts.length ≤ 8) (t1 : ∀ i, i < ts.length → 0 ≤ ts.getD i 0) (n5 : κ = 5 → ∃ a : Nat, S f_Md_siteName s = (a : Int) ∧ a < ws.length ∧ ws.getD a [] = L) (CE : CEQ g hw κ st c L ts X X2 kn ac CK CV ca kn2 ac2 CK2 CV2 ca2 r) (K2 : LKH h2 ho X2 Y2 N M kn2 ac2 CK2 CV2 ca2) : ∃ S2, OFF LKS S S2 ∧ OFF (LFA ++ LHK ++ LCH3) S S2 ∧ (∀ i, S2 f_Md_asked i = lk1 S (st + 1) 1 f_Md_asked i) ∧ S2 f_Md_allChoices 0 = S f_Md_allChoices 0 + r ∧ (LKP g hw ws h2 ho X2 Y2 S2 N M kn2 ac2 CK2 CV2 ca2 ∧ ∀ k, k < kn2 → S2 f_Md_choiceMany k ≤ 8) ∧ (S2 f_Md_foundLinker 0 = st + 1 ∧ S2 f_Md_foundHolder 0 = -1 ∧ S2 f_Md_foundShape 0 = -1 ∧ S2 f_Md_foundGuard 0 = (c : Int)) ∧ (0 ≤ hkG g κ st c L ts → TLK ρ g N M s 1 S (some none) S2 ∧ S2 f_Md_foundWhich 0 = hkG g κ st c L ts ∧ S2 f_Md_foundMany 0 = (if hkB g κ st c L = true then (ts.length : Int) else 0)) ∧ (hkG g κ st c L ts < 0 → TLK ρ g N M s 1 S none (erS S2 (-(hkG g κ st c L ts)))) := by
  have oA : OFF LFA S (lk1 S (st + 1) 1) := lk1_off
  have eC : EXS LCH3 S (lk1 S (st + 1) 1) := oA.ex (by decide)
  have esn : lk1 S (st + 1) 1 f_Md_siteName s = S f_Md_siteName s := oA _ _ (by decide)
  obtain ⟨SX, cE, e0, o3, ea, lp⟩ : ∃ SX, (hkB g κ st c L = true → CH2 g ts (hkC g κ st c L) (lk1 S (st + 1) 1) (c : Int) (hkD κ st) (hkN g κ st c L (S f_Md_siteName s)) 1 (sglG g ts (hkC g κ st c L)) SX) ∧ (hkB g κ st c L = false → SX = lk1 S (st + 1) 1) ∧ OFF LCH3 (lk1 S (st + 1) 1) SX ∧ SX f_Md_allChoices 0 = S f_Md_allChoices 0 + r ∧ ∀ S2, EXS LCH3 SX S2 → LKP g hw ws h2 ho X2 Y2 S2 N M kn2 ac2 CK2 CV2 ca2 ∧ ∀ k, k < kn2 → S2 f_Md_choiceMany k ≤ 8 := by
    rcases CE with ⟨b1, -, K0, k1, ce⟩ | ⟨b0, -, rfl, rfl, rfl, rfl, rfl, w0, rfl⟩
    · obtain ⟨Ka, m8a⟩ := K.es (h2 := h) (X2 := X) (Y2 := Y) m8 eC K.1 rfl
      obtain ⟨SX, c1, c2, c3, c4⟩ := Ka.che (nn := S f_Md_siteName s) nd wd b1 hst n5 t1 t8 m8a k1 ce K2
      refine ⟨SX, fun _ => Or.inr ⟨rfl, c1⟩, fun z => ?_, c2, by rw [c3, eC _ (by decide)], c4⟩
      rw [b1] at z; cases z
    · refine ⟨lk1 S (st + 1) 1, fun z => ?_, fun _ => rfl, OFF.rf, by rw [eC _ (by decide)]; omega, fun S2 es => K.es m8 (fun f hf i => (es f hf i).trans (eC f hf i)) K2 w0⟩
      rw [b0] at z; cases z
  obtain ⟨S2, R, T1, T0⟩ := TLK.host (ρ := ρ) (M := M) (cnt := 1) (SX := SX) W hs ek hκ hty hst (Or.inr rfl) H et cE e0
  obtain ⟨r1, r2, r3, r4⟩ := R
  have A1 := lk1_w (S := S) (LL := st + 1) (cnt := 1)
  have o5 : OFF (LFA ++ LHK ++ LCH3) S S2 := (oA.le (by decide)).tr (r1.le (by decide))
  refine ⟨S2, o5.le (by decide), o5, fun i => r1 _ _ (by decide), by rw [r2 _ (by decide)]; exact ea, lp S2 r2, ⟨by rw [r1 _ _ (by decide)]; exact A1.2.2.2.2, by rw [r1 _ _ (by decide)]; exact A1.2.1, by rw [r1 _ _ (by decide)]; exact A1.2.2.1, r3⟩, fun z => ⟨T1 z, (r4 z).1, ?_⟩, T0⟩
  rw [(r4 z).2, A1.2.2.2.1]
end
