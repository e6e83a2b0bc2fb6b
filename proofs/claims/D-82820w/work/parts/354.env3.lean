/-! entries of sites: all kinds -/
set_option maxRecDepth 20000
/-- an entry is right -/
def ENV (g : HG) (S : SS) (κ nm : Int) (L : List Int) (mn : Nat) (e : ENT) : Prop := (e f_Md_linker = 0 → ENB S κ (if κ = 2 ∨ κ = 3 then e f_Md_guardName else nm) e) ∧
  (e f_Md_linker = 3 → e f_Md_which = -1 ∧ e f_Md_holder = -1 ∧ e f_Md_toShape = -1 ∧ (e f_Md_guard = 0 ∨ e f_Md_guard = 1) ∧ rkG κ L mn (if e f_Md_guard = 0 then 6 else 3) = 0) ∧
  (e f_Md_linker = 1 ∨ e f_Md_linker = 2 → e f_Md_holder = -1 ∧ e f_Md_toShape = -1 ∧ 0 ≤ e f_Md_which ∧ (hkB g κ (e f_Md_linker - 1) (e f_Md_guard).toNat L = true → e f_Md_guardMany = (opC κ mn : Int)) ∧ ∀ ts : List Int, (hkB g κ (e f_Md_linker - 1) (e f_Md_guard).toNat L = true → ts.length = opC κ mn ∧ ∀ i, i < opC κ mn → ts.getD i 0 = gtA (e f_Md_guardTypes) i) → hkG g κ (e f_Md_linker - 1) (e f_Md_guard).toNat L ts = e f_Md_which)
/-- the letters that a site goes by -/
def LTW (ws : List (List Int)) (κ nm : Int) : List Int := if κ = 0 ∨ κ = 1 ∨ κ = 5 then ws.getD nm.toNat [] else []
/-- all entries of all sites are right -/
def EVS (g : HG) (S : SS) (ws : List (List Int)) : Prop := ∀ s : Nat, (s : Int) < S f_Md_sites 0 → ∀ i : Nat, (i : Int) < S f_Md_entries s → ENV g S (S f_Md_siteKind s) (S f_Md_siteName s) (LTW ws (S f_Md_siteKind s) (S f_Md_siteName s)) (S f_Md_siteMany s).toNat (rowE S (5 * s + i))
section
variable {ρ : Nat → Nat} {d : Nat} {Γ : GH} {h h' : ah} {C ho k n i j N M s sn r rr mn c : Nat} {S S' S1 : SS} {X : X3} {Y : Y3} {g : HG} {nm w hd La κ p u ty v el st : Int} {e : ENT} {L ts : List Int} {ws : List (List Int)}
theorem ENV.chg (H : ENV g S κ nm L mn e) (hb : ∀ s : Nat, (s : Int) < S f_Md_shapes 0 → (S f_Md_shapeBefore s).toNat < (S f_Md_shapes 0).toNat) (c : CHG S S') : ENV g S' κ nm L mn e := ⟨fun z => (H.1 z).chg hb c, H.2⟩
/-- a hit at a list or text -/
theorem ENV.row (E : ENV g S κ nm L mn e) (l3 : e f_Md_linker = 3) (hs : s < 4000) (ek : S f_Md_siteKind s = κ) (hκ : 0 ≤ κ ∧ κ ≤ 6) (ty1 : S f_Md_goesType 0 = ty) (hty : ty = 3 ∨ ty = 6) (en : κ = 0 ∨ κ = 5 → ∃ n : Nat, S f_Md_siteName s = (n : Int) ∧ NMT S n L) (em : S f_Md_siteMany s = (mn : Int)) (gd : e f_Md_guard = if ty = 6 then 0 else 1) : ∃ S1, TLK ρ g N M s 0 S (some none) S1 ∧ OFF LFO S S1 ∧ S1 f_Md_foundHolder 0 = e f_Md_holder ∧ S1 f_Md_foundWhich 0 = e f_Md_which ∧ S1 f_Md_foundShape 0 = e f_Md_toShape ∧ S1 f_Md_foundLinker 0 = e f_Md_linker := by
  obtain ⟨a1, a2, a3, a4, a5⟩ := E.2.1 l3
  have r0 : rkG κ L mn ty = 0 := by
    rw [gd] at a5
    rcases hty with rfl | rfl
    · exact a5
    · exact a5
  have A := lk1_w (S := S) (LL := 3) (cnt := 0)
  refine ⟨_, (TLK.rows (ρ := ρ) (g := g) (N := N) (M := M) hs ek hκ ty1 hty (Or.inl rfl) en em).1 r0, lk10_off.u (by decide), ?_, ?_, ?_, ?_⟩
  · rw [u2_f (by decide), a2]; exact A.2.1
  · rw [u2_f (by decide), a1]; exact A.1
  · rw [u2_f (by decide), a3]; exact A.2.2.1
  · rw [u2_f (by decide), l3]; exact A.2.2.2.2
theorem tsT_ge2 (hi : i < n) : (tsT S rr n).getD i 0 = tyT S (S f_Md_pileType (rr + 1 + i)) (S f_Md_pileValue (rr + 1 + i)) := by
  unfold tsT
  rw [List.getD_eq_getElem?_getD, List.getElem?_map, List.getElem?_range hi]; rfl
/-- a hit at the host -/
theorem ENV.host (W : HWF g N M) (E : ENV g S κ nm L mn e) (el : e f_Md_linker = st + 1) (hst : st = 0 ∨ st = 1) (eg : e f_Md_guard = (c : Int)) (hs : s < 4000) (ek : S f_Md_siteKind s = κ) (hκ : 0 ≤ κ ∧ κ ≤ 6) (hty : S f_Md_goesType 0 = if st = 1 then 8 else 7) (H : LHQ (lk1 S (st + 1) 0) N s rr mn c κ st L) (gt : ∀ k : Nat, (k : Int) < e f_Md_guardMany → gtA (e f_Md_guardTypes) k = tyT S (S f_Md_pileType (rr + 1 + k)) (S f_Md_pileValue (rr + 1 + k))) : ∃ S1, TLK ρ g N M s 0 S (some none) S1 ∧ OFF (LFO ++ LHK ++ LCH3) S S1 ∧ EXS LCH3 S S1 ∧ S1 f_Md_foundHolder 0 = e f_Md_holder ∧ S1 f_Md_foundWhich 0 = e f_Md_which ∧ S1 f_Md_foundShape 0 = e f_Md_toShape ∧ S1 f_Md_foundLinker 0 = e f_Md_linker := by
  obtain ⟨a1, a2, a3, a4, a5⟩ := E.2.2 (by omega)
  have es : e f_Md_linker - 1 = st := by omega
  rw [es, eg, Int.toNat_natCast] at a5 a4
  have ob : hkB g κ st c L = true → opC κ mn = (if κ = 1 then 1 else mn) := fun z => by
    unfold hkB at z
    simp only [Bool.and_eq_true, decide_eq_true_eq] at z
    have := z.1
    unfold opC
    by_cases c1 : κ = 1
    · rw [if_pos c1, if_pos c1]
    · rw [if_neg c1, if_neg c1, if_pos (by omega)]
  have hg := a5 (tsT S rr (if κ = 1 then 1 else mn)) (fun z => by
    have := ob z
    have gm := a4 z
    refine ⟨by rw [tsT_len, this], fun i hi => ?_⟩
    rw [tsT_ge2 (by omega), gt i (by omega)])
  obtain ⟨S1, R, T1, -⟩ := TLK.host (ρ := ρ) (M := M) (cnt := 0) (SX := lk1 S (st + 1) 0) W hs ek hκ hty hst (Or.inl rfl) H rfl (fun _ => Or.inl ⟨rfl, rfl, rfl⟩) (fun _ => rfl)
  obtain ⟨r1, r2, r3, r4⟩ := R
  have A := lk1_w (S := S) (LL := st + 1) (cnt := 0)
  rw [hg] at T1 r4
  refine ⟨S1, T1 a3, (lk10_off.le (by decide)).tr (r1.le (by decide)), fun f hf i => ?_, ?_, (r4 a3).1, ?_, ?_⟩
  · rw [r2 f hf i]
    refine lk10_off f i ?_
    have : LCH3.all (fun f => !(LFO.elem f)) = true := by decide
    simpa using List.all_eq_true.mp this f (by simpa using hf)
  · rw [r1 _ _ (by decide), a1]; exact A.2.1
  · rw [r1 _ _ (by decide), a2]; exact A.2.2.1
  · rw [r1 _ _ (by decide), el]; exact A.2.2.2.2
/-- a new entry at the host -/
theorem ENV.nhost (el : e f_Md_linker = st + 1) (hst : st = 0 ∨ st = 1) (eg : e f_Md_guard = (c : Int)) (e1 : e f_Md_holder = -1) (e2 : e f_Md_toShape = -1) (h0 : 0 ≤ hkG g κ st c L ts) (ew : e f_Md_which = hkG g κ st c L ts) (gm : hkB g κ st c L = true → e f_Md_guardMany = (opC κ mn : Int) ∧ ts.length = opC κ mn ∧ ∀ i, i < opC κ mn → ts.getD i 0 = gtA (e f_Md_guardTypes) i) : ENV g S κ nm L mn e := by
  have es : e f_Md_linker - 1 = st := by omega
  refine ⟨fun c => by omega, fun c => by omega, fun _ => ?_⟩
  rw [es, eg, Int.toNat_natCast]
  refine ⟨e1, e2, by rw [ew]; exact h0, fun z => (gm z).1, fun ts' H => ?_⟩
  rw [ew]
  by_cases b : hkB g κ st c L = true
  · obtain ⟨-, l1, g1⟩ := gm b
    obtain ⟨l2, g2⟩ := H b
    have : ts' = ts := by
      apply List.ext_getElem
      · rw [l1, l2]
      · intro i h1 h2
        have a := g1 i (by omega)
        have b := g2 i (by omega)
        rw [List.getD_eq_getElem?_getD, List.getElem?_eq_getElem h2] at a
        rw [List.getD_eq_getElem?_getD, List.getElem?_eq_getElem h1] at b
        have a' : ts[i] = gtA (e f_Md_guardTypes) i := a
        have b' : ts'[i] = gtA (e f_Md_guardTypes) i := b
        rw [a', b']
    rw [this]
  · unfold hkB at b
    simp only [Bool.and_eq_true, decide_eq_true_eq, Bool.not_eq_true'] at b
    unfold hkG
    by_cases k0 : κ = 0
    · rw [if_pos k0, if_pos k0]
    · rw [if_neg k0, if_neg k0]
      by_cases k1 : κ = 1
      · rw [if_pos k1, if_pos k1]
        have : hkC g κ st c L = [] := by
          rw [← List.isEmpty_iff]
          cases q : (hkC g κ st c L).isEmpty with
          | true => rfl
          | false => exact absurd ⟨Or.inl k1, q⟩ b
        rw [if_pos this, if_pos this]
      · rw [if_neg k1, if_neg k1]
        by_cases k5 : κ = 5
        · rw [if_pos k5, if_pos k5]
          have : hkC g κ st c L = [] := by
            rw [← List.isEmpty_iff]
            cases q : (hkC g κ st c L).isEmpty with
            | true => rfl
            | false => exact absurd ⟨Or.inr (Or.inl k5), q⟩ b
          rw [if_pos this, if_pos this]
        · rw [if_neg k5, if_neg k5]
          by_cases k6 : κ = 6 ∧ st = 1
          · rw [if_pos k6, if_pos k6]
            have : hkC g κ st c L = [] := by
              rw [← List.isEmpty_iff]
              cases q : (hkC g κ st c L).isEmpty with
              | true => rfl
              | false => exact absurd ⟨Or.inr (Or.inr k6), q⟩ b
            rw [if_pos this, if_pos this]
          · rw [if_neg k6, if_neg k6]
theorem EVS.chg (H : EVS g S ws) (hb : ∀ s : Nat, (s : Int) < S f_Md_shapes 0 → (S f_Md_shapeBefore s).toNat < (S f_Md_shapes 0).toNat) (c : CHG S S') (es : EXS LSS S S') : EVS g S' ws := fun s hs i hi => by
  rw [es _ (by decide)] at hs hi
  have := (H s hs i hi).chg hb c
  rw [es _ (by decide), es _ (by decide), es _ (by decide), rowE_e (S1 := S') (S := S) (m := 5 * s + i) (r := 5 * s + i) (fun f hf => es f (by
    have : LRW.all (fun f => LSS.elem f) = true := by decide
    exact List.all_eq_true.mp this f (by simpa using hf)) _)]
  exact this
theorem CORE.bef (HC : CORE Γ h C ho X Y S N) : ∀ s : Nat, (s : Int) < S f_Md_shapes 0 → (S f_Md_shapeBefore s).toNat < (S f_Md_shapes 0).toNat := fun s hs => by
  obtain ⟨tn, sn, sm', d1, d2, d5, d6', d3, d4, d6, d7, d8, -⟩ := HC.shp
  have := (d8 s (by omega)).bef (by omega)
  omega
end
