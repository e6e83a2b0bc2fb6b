/-! T: looks, joined -/
set_option maxRecDepth 20000
def LFA : List Nat := LFO ++ [f_Md_asked]
def lkG (S : SS) (cnt : Int) (k : Nat) : SS := u2 (lk1 S 0 cnt) f_Md_foundGuard 0 (S f_Md_thingShape k)
/-- T looks at a site -/
def TLK (ρ : Nat → Nat) (g : HG) (N M s : Nat) (cnt : Int) (S : SS) (e : Option (Option AV)) (S' : SS) : Prop := TC ρ (PTO ρ g N M) 131 m_Md_looks 0 [(1, vI (s : Int)), (2, vI cnt)] [] S e S'
section
variable {ρ : Nat → Nat} {P : ah → Nat → Prop} {d : Nat} {Q : QT} {Γ : GH} {h h0 : ah} {C ho T k n m f i j N M b r a s rr mn sn tn row c : Nat} {S S' S1 S2 SX : SS} {X : X3} {Y : Y3} {g : HG} {l L bs ts : List Int} {v p x y nm ty cnt κ hd w La bv el st LL : Int} {ls l2 : List ENT}
theorem lk0_off : OFF LFO S (lk0 S) := by unfold lk0; exact (((OFF.rf.u (by decide)).u (by decide)).u (by decide)).u (by decide)
theorem lk1_off : OFF LFA S (lk1 S LL cnt) := by
  unfold lk1
  split
  · exact (lk0_off.le (by decide)).u (by decide)
  · exact ((lk0_off.le (by decide)).u (by decide)).u (by decide)
theorem lkG_off : OFF LFA S (lkG S cnt k) := by unfold lkG; exact lk1_off.u (by decide)
theorem lk1_w : lk1 S LL cnt f_Md_foundWhich 0 = -1 ∧ lk1 S LL cnt f_Md_foundHolder 0 = -1 ∧ lk1 S LL cnt f_Md_foundShape 0 = -1 ∧ lk1 S LL cnt f_Md_foundMany 0 = 0 ∧ lk1 S LL cnt f_Md_foundLinker 0 = LL := by
  unfold lk1 lk0
  split
  · refine ⟨?_, ?_, ?_, ?_, u2_s⟩ <;> simp (decide := true) [u2_e]
  · refine ⟨?_, ?_, ?_, ?_, ?_⟩ <;> simp (decide := true) [u2_e]
theorem TLK.low (hs : s < 4000) (ek : S f_Md_siteKind s = κ) (ty1 : S f_Md_goesType 0 = ty) (hty : 0 ≤ ty ∧ ty < 3) (hc : cnt = 0 ∨ cnt = 1) : TLK ρ g N M s cnt S none (erS (lk0 S) 3) := fun d h0 T Q K q =>
  s_look0 (d := d + 129) K.1.1 hs ek ty1 (by omega) hc (fun _ => q) (fun c => absurd c (by omega))
/-- the way to a thing -/
theorem s_lkT (O : TOK h0 T) (hs : s < 4000) (ek : S f_Md_siteKind s = κ) (ty1 : S f_Md_goesType 0 = ty) (hty : ty = 4 ∨ ty = 5) (hc : cnt = 0 ∨ cnt = 1) (q : wpB PGm ρ (d + 130) m_Md_looksAtThing 0 [(0, vR T), (1, vI (s : Int)), (2, vI κ), (3, vI cnt)] [] (cn h0 T (lk1 S 0 cnt)) (cV (fun h27 => Q (Sum.inl none) h27) (fun e30 h29 => hK h29 e30 ≠ 0 ∧ Q (Sum.inr e30) h29))) : wpB PGm ρ (d + 131) m_Md_looks 0 [(0, vR T), (1, vI (s : Int)), (2, vI cnt)] [] (cn h0 T S) Q := by
  refine s_look0 (d := d + 129) O hs ek ty1 (by omega) hc (fun c => absurd c (by omega)) (fun _ => ?_)
  have l0 : lkL ty = 0 := by unfold lkL; rw [if_pos hty]
  rw [l0]
  refine b_Md_looks_103 ⟨O.1, ?_⟩
  rw [cnI (by decide), lk1_w.2.2.2.2]
  exact ⟨fun c => absurd rfl c, fun _ => q⟩
theorem lk1_g {f : Nat} (hf : LFA.elem f = false) : lk1 S LL cnt f i = S f i := lk1_off f i hf
theorem TLK.call (hs : s < 4000) (ek : S f_Md_siteKind s = κ) (hκ : κ = 4 ∨ κ = 6) (ty1 : S f_Md_goesType 0 = 5) (v1 : S f_Md_goesValue 0 = (k : Int)) (hk : k < 8000) (hc : cnt = 0 ∨ cnt = 1) : TLK ρ g N M s cnt S (some none) (u2 (lk1 S 0 cnt) f_Md_foundGuard 0 (S f_Md_thingFunction k)) := fun d h0 T Q K q =>
  s_lkT (d := d) K.1.1 hs ek ty1 (by decide) hc (s_lt0 (d := d + 128) (nm := lk1 S 0 cnt f_Md_siteName s) K.1.1 hk (by rw [lk1_g (by decide)]; exact v1) hs (by omega) (fun z => by omega) (fun z => by omega) (fun _ c => absurd (by rw [lk1_g (by decide)]; exact ty1) c) (fun _ _ => by rw [lk1_g (by decide)]; exact q) (fun z => by omega) (fun z => by omega) (fun z => by omega))
theorem TLK.cal5 (hs : s < 4000) (ek : S f_Md_siteKind s = κ) (hκ : κ = 4 ∨ κ = 6) (ty1 : S f_Md_goesType 0 = 4) (v1 : S f_Md_goesValue 0 = (k : Int)) (hk : k < 8000) (hc : cnt = 0 ∨ cnt = 1) : TLK ρ g N M s cnt S none (erS (lk1 S 0 cnt) 5) := fun d h0 T Q K q =>
  s_lkT (d := d) K.1.1 hs ek ty1 (by decide) hc (s_lt0 (d := d + 128) (nm := lk1 S 0 cnt f_Md_siteName s) K.1.1 hk (by rw [lk1_g (by decide)]; exact v1) hs (by omega) (fun z => by omega) (fun z => by omega) (fun _ _ => ⟨K.1.1.kh, q⟩) (fun _ c => absurd c (by rw [lk1_g (by decide), ty1]; decide)) (fun z => by omega) (fun z => by omega) (fun z => by omega))
theorem TLK.nonm (hs : s < 4000) (ek : S f_Md_siteKind s = κ) (hκ : κ = 2 ∨ κ = 3) (ty1 : S f_Md_goesType 0 = ty) (hty : ty = 4 ∨ ty = 5) (v1 : S f_Md_goesValue 0 = (k : Int)) (hk : k < 8000) (hc : cnt = 0 ∨ cnt = 1) (e1 : S f_Md_elementName 0 = nm) (hn : nm < 0) : TLK ρ g N M s cnt S none (erS (lk1 S 0 cnt) 6) := fun d h0 T Q K q =>
  s_lkT (d := d) K.1.1 hs ek ty1 hty hc (s_lt0 (d := d + 128) (nm := nm) K.1.1 hk (by rw [lk1_g (by decide)]; exact v1) hs (by omega) (fun z => by omega) (fun z => by rw [lk1_g (by decide)]; exact e1) (fun z => by omega) (fun z => by omega) (fun _ _ => ⟨K.1.1.kh, q⟩) (fun _ z => absurd (z (by omega)) (by omega)) (fun _ z => absurd (z (by omega)) (by omega)))
/-- the name that a site goes by -/
def SNM (S : SS) (s : Nat) (κ nm : Int) : Prop := (κ = 0 ∨ κ = 1 ∨ κ = 5 → S f_Md_siteName s = nm) ∧ (κ = 2 ∨ κ = 3 → S f_Md_elementName 0 = nm) ∧ 0 ≤ nm
theorem OWN.e (H : OWN S k n nm w) (e : ∀ i, nmT S1 k i = nmT S k i) : OWN S1 k n nm w := by
  rcases H with ⟨i, a, b, c⟩ | ⟨a, b⟩
  · exact Or.inl ⟨i, a, b, by rw [e]; exact c⟩
  · exact Or.inr ⟨a, fun i hi => by rw [e]; exact b i hi⟩
theorem nmT_e (e : EXS LTS S S1) : nmT S1 k i = nmT S k i := by
  have h1 : ∀ i, slS S1 k i = slS S k i := fun i => slS_e e i
  unfold nmT
  rw [h1, e _ (by decide)]
theorem HLD.e (e : EXS LTS S S1) : ∀ {j : Nat} {p v : Int}, HLD S nm j p v → HLD S1 nm j p v := fun {j} => by
  have pe : ∀ k, prS S1 k = prS S k := fun k => by unfold prS; rw [e _ (by decide), e _ (by decide)]
  have oe : ∀ k, OWs S1 k nm ↔ OWs S k nm := fun k => by
    unfold OWs
    rw [e _ (by decide)]
    exact ⟨fun ⟨n, a, i, b, c⟩ => ⟨n, a, i, b, by rw [← nmT_e e]; exact c⟩, fun ⟨n, a, i, b, c⟩ => ⟨n, a, i, b, by rw [nmT_e e]; exact c⟩⟩
  induction j with
  | zero => exact fun A => A
  | succ j ih =>
    intro p v A
    rcases A with A | ⟨a, A⟩
    · exact Or.inl A
    · refine Or.inr ⟨a, ?_⟩
      rw [oe, pe]
      rcases A with A | ⟨a1, a2⟩
      · exact Or.inl A
      · exact Or.inr ⟨a1, ih a2⟩
/-- a property that is written is there -/
theorem TLK.wr (HC : CORE Γ h C ho X Y S N) (hs : s < 4000) (ek : S f_Md_siteKind s = κ) (hκ : κ = 1 ∨ κ = 3) (ty1 : S f_Md_goesType 0 = ty) (hty : ty = 4 ∨ ty = 5) (v1 : S f_Md_goesValue 0 = (k : Int)) (hk : (k : Int) < S f_Md_things 0) (k8 : k < 8000) (kd : S f_Md_thingKind k = 4 ∨ S f_Md_thingKind k = 5) (hc : cnt = 0 ∨ cnt = 1) (nme : SNM S s κ nm) (en : S f_Md_thingCount k = (n : Int)) (ow : OWN S k n nm w) (hw : 0 ≤ w) : TLK ρ g N M s cnt S (some none) (u2 (lkG S cnt k) f_Md_foundWhich 0 w) := fun d h0 T Q K q => by
  refine s_lkT (d := d) K.1.1 hs ek ty1 hty hc (s_lt0 (d := d + 128) (nm := nm) K.1.1 k8 (by rw [lk1_g (by decide)]; exact v1) hs (by omega) (fun z => by rw [lk1_g (by decide)]; exact nme.1 z) (fun z => by rw [lk1_g (by decide)]; exact nme.2.1 z) (fun z => by omega) (fun z => by omega) (fun z zz => absurd nme.2.2 (by omega)) (fun _ _ => ?_) (fun z => by omega))
  rw [lk1_g (by decide)]
  have f0 := lkG_off (S := S) (cnt := cnt) (k := k)
  show wpB PGm ρ _ _ _ _ _ (cn h0 T (lkG S cnt k)) _
  exact s_lt119 (d := d + 127) K.1.1 (HC.fz f0 (by decide +kernel)) (by rw [f0 _ _ (by decide)]; exact hk) (by rw [f0 _ _ (by decide)]; exact kd) (by rw [f0 _ _ (by decide)]; exact en) (ow.e (fun i => nmT_e (f0.ex (by decide)))) (fun _ => q) (fun c => absurd c (by omega)) (fun c => absurd c (by omega))
/-- a property that is written is new: a shape is made -/
theorem TLK.mk (HC : CORE Γ h C ho X Y S N) (hs : s < 4000) (ek : S f_Md_siteKind s = κ) (hκ : κ = 1 ∨ κ = 3) (ty1 : S f_Md_goesType 0 = ty) (hty : ty = 4 ∨ ty = 5) (v1 : S f_Md_goesValue 0 = (k : Int)) (hk : (k : Int) < S f_Md_things 0) (k8 : k < 8000) (kd : S f_Md_thingKind k = 4 ∨ S f_Md_thingKind k = 5) (nme : SNM S s κ nm) (en : S f_Md_thingCount k = (n : Int)) (ow : OWN S k n nm (-1)) : (TMD ρ (u2 (lkG S 1 k) f_Md_foundWhich 0 (-1)) (S f_Md_thingShape k) (prS S k) nm none → TLK ρ g N M s 1 S none (erS (u2 (lkG S 1 k) f_Md_foundWhich 0 (-1)) 99)) ∧ (∀ r S', TMD ρ (u2 (lkG S 1 k) f_Md_foundWhich 0 (-1)) (S f_Md_thingShape k) (prS S k) nm (some (r, S')) → TLK ρ g N M s 1 S (some none) (u2 S' f_Md_foundShape 0 (r : Int))) := by
  have f0 := lkG_off (S := S) (cnt := 1) (k := k)
  have pe : prS (lkG S 1 k) k = prS S k := by unfold prS; rw [f0 _ _ (by decide), f0 _ _ (by decide)]
  have main : ∀ (d : Nat) (h0 : ah) (T : Nat) (Q : QT), PTO ρ g N M h0 T → wpB PGm ρ (d + 129) m_Md_madeShape 0 [(0, vR T), (1, vI (S f_Md_thingShape k)), (2, vI (prS S k)), (3, vI nm)] [] (cn h0 T (u2 (lkG S 1 k) f_Md_foundWhich 0 (-1))) (cI (fun x54 h49 => hK h49 T = k_Md ∧ Q (Sum.inl none) (sI h49 f_Md_foundShape T x54)) (fun e52 h51 => hK h51 e52 ≠ 0 ∧ (hK h51 e52 ≠ 0 ∧ Q (Sum.inr e52) h51))) → wpB PGm ρ (d + 131) m_Md_looks 0 [(0, vR T), (1, vI (s : Int)), (2, vI 1)] [] (cn h0 T S) Q := fun d h0 T Q K q => by
    refine s_lkT (d := d) K.1.1 hs ek ty1 hty (Or.inr rfl) (s_lt0 (d := d + 128) (nm := nm) K.1.1 k8 (by rw [lk1_g (by decide)]; exact v1) hs (by omega) (fun z => by rw [lk1_g (by decide)]; exact nme.1 z) (fun z => by rw [lk1_g (by decide)]; exact nme.2.1 z) (fun z => by omega) (fun z => by omega) (fun z zz => absurd nme.2.2 (by omega)) (fun _ _ => ?_) (fun z => by omega))
    rw [lk1_g (by decide)]
    show wpB PGm ρ _ _ _ _ _ (cn h0 T (lkG S 1 k)) _
    refine s_lt119 (d := d + 127) (w := -1) K.1.1 (HC.fz f0 (by decide +kernel)) (by rw [f0 _ _ (by decide)]; exact hk) (by rw [f0 _ _ (by decide)]; exact kd) (by rw [f0 _ _ (by decide)]; exact en) (ow.e (fun i => nmT_e (f0.ex (by decide)))) (fun c => absurd c (by decide)) (fun _ _ => ?_) (fun _ c => absurd c (by decide))
    change wpB PGm ρ (d + 127 + 2) m_Md_madeShape 0 [(0, vR T), (1, vI (lkG S 1 k f_Md_thingShape k)), (2, vI (prS (lkG S 1 k) k)), (3, vI nm)] [] _ _
    rw [f0 _ _ (by decide), pe]
    exact q
  refine ⟨fun tm d h0 T Q K q => main d h0 T Q K (tm (d + 127) h0 T _ K.1.1 ⟨K.1.1.kh, K.1.1.kh, q⟩), fun r S' tm d h0 T Q K q => main d h0 T Q K (tm (d + 127) h0 T _ K.1.1 ⟨K.1.1.1, ?_⟩)⟩
  rw [cn_sI (by decide)]; exact q
/-- a property that is written is new: the shape is there -/
theorem TLK.ms (HC : CORE Γ h C ho X Y S N) (hs : s < 4000) (ek : S f_Md_siteKind s = κ) (hκ : κ = 1 ∨ κ = 3) (ty1 : S f_Md_goesType 0 = ty) (hty : ty = 4 ∨ ty = 5) (v1 : S f_Md_goesValue 0 = (k : Int)) (hk : (k : Int) < S f_Md_things 0) (k8 : k < 8000) (kd : S f_Md_thingKind k = 4 ∨ S f_Md_thingKind k = 5) (nme : SNM S s κ nm) (en : S f_Md_thingCount k = (n : Int)) (ow : OWN S k n nm (-1)) (r1 : 1 ≤ r) (r2 : (r : Int) < S f_Md_shapes 0) (mt : mtc S (S f_Md_thingShape k) (prS S k) nm r) : TLK ρ g N M s 0 S (some none) (u2 (u2 (lkG S 0 k) f_Md_foundWhich 0 (-1)) f_Md_foundShape 0 (r : Int)) := fun d h0 T Q K q => by
  have f0 := lkG_off (S := S) (cnt := 0) (k := k)
  have f1 : OFF LFA S (u2 (lkG S 0 k) f_Md_foundWhich 0 (-1)) := f0.u (by decide)
  have pe : prS (lkG S 0 k) k = prS S k := by unfold prS; rw [f0 _ _ (by decide), f0 _ _ (by decide)]
  obtain ⟨tn, sn, sm, c1, c2, c5, c6', c3, c4, c6, c7, c8, U, m1, m2, m3, m4⟩ := HC.shp
  have sh := (c7 k (by omega)).p.2.2.1.1 kd
  refine s_lkT (d := d) K.1.1 hs ek ty1 hty (Or.inl rfl) (s_lt0 (d := d + 128) (nm := nm) K.1.1 k8 (by rw [lk1_g (by decide)]; exact v1) hs (by omega) (fun z => by rw [lk1_g (by decide)]; exact nme.1 z) (fun z => by rw [lk1_g (by decide)]; exact nme.2.1 z) (fun z => by omega) (fun z => by omega) (fun z zz => absurd nme.2.2 (by omega)) (fun _ _ => ?_) (fun z => by omega))
  rw [lk1_g (by decide)]
  show wpB PGm ρ _ _ _ _ _ (cn h0 T (lkG S 0 k)) _
  refine s_lt119 (d := d + 127) (w := -1) K.1.1 (HC.fz f0 (by decide +kernel)) (by rw [f0 _ _ (by decide)]; exact hk) (by rw [f0 _ _ (by decide)]; exact kd) (by rw [f0 _ _ (by decide)]; exact en) (ow.e (fun i => nmT_e (f0.ex (by decide)))) (fun c => absurd c (by decide)) (fun _ c => absurd rfl c) (fun _ _ => ?_)
  change wpB PGm ρ (d + 127 + 2) m_Md_findShape 0 [(0, vR T), (1, vI (lkG S 0 k f_Md_thingShape k)), (2, vI (prS (lkG S 0 k) k)), (3, vI nm)] [] _ _
  rw [f0 _ _ (by decide), pe]
  have mt1 : ∀ j, mtc (u2 (lkG S 0 k) f_Md_foundWhich 0 (-1)) (S f_Md_thingShape k) (prS S k) nm j ↔ mtc S (S f_Md_thingShape k) (prS S k) nm j := fun j => by unfold mtc; rw [f1 _ _ (by decide), f1 _ _ (by decide), f1 _ _ (by decide)]
  refine s_findShape (sn := sn) K.1.1 (by rw [f1 _ _ (by decide)]; exact c2) (by omega) (fun c => by have := sh.1; omega) (fun r' a1 a2 a3 => ⟨K.1.1.1, ?_⟩) (fun z => absurd ((mt1 r).mpr mt) (z r r1 (by omega)))
  have e : r' = r := by
    have h1 := (mt1 r').mp a3
    exact U r' r a1 r1 a2 (by omega) (by rw [h1.1, mt.1]) (by rw [h1.2.1, mt.2.1]) (by rw [h1.2.2, mt.2.2])
  rw [cn_sI (by decide), e]; exact q
/-- a property is read -/
theorem TLK.rd (HC : CORE Γ h C ho X Y S N) (hs : s < 4000) (ek : S f_Md_siteKind s = κ) (hκ : κ = 0 ∨ κ = 2 ∨ κ = 5) (ty1 : S f_Md_goesType 0 = ty) (hty : ty = 4 ∨ ty = 5) (v1 : S f_Md_goesValue 0 = (k : Int)) (hk : (k : Int) < S f_Md_things 0) (k8 : k < 8000) (kd : S f_Md_thingKind k = 4 ∨ S f_Md_thingKind k = 5) (hc : cnt = 0 ∨ cnt = 1) (nme : SNM S s κ nm) (lo : LKO S nm k w hd) : TLK ρ g N M s cnt S (some none) (u2 (u2 (lkG S cnt k) f_Md_foundWhich 0 w) f_Md_foundHolder 0 hd) := fun d h0 T Q K q => by
  have f0 := lkG_off (S := S) (cnt := cnt) (k := k)
  have pe : prS (lkG S cnt k) k = prS S k := by unfold prS; rw [f0 _ _ (by decide), f0 _ _ (by decide)]
  have ew : lkG S cnt k f_Md_foundWhich 0 = -1 := by unfold lkG; rw [u2_f (by decide)]; exact lk1_w.1
  have eh : lkG S cnt k f_Md_foundHolder 0 = -1 := by unfold lkG; rw [u2_f (by decide)]; exact lk1_w.2.1
  refine s_lkT (d := d) K.1.1 hs ek ty1 hty hc (s_lt0 (d := d + 128) (nm := nm) K.1.1 k8 (by rw [lk1_g (by decide)]; exact v1) hs (by omega) (fun z => by rw [lk1_g (by decide)]; exact nme.1 z) (fun z => by rw [lk1_g (by decide)]; exact nme.2.1 z) (fun z => by omega) (fun z => by omega) (fun z zz => absurd nme.2.2 (by omega)) (fun z => by omega) (fun _ _ => ?_))
  rw [lk1_g (by decide)]
  show wpB PGm ρ _ _ _ _ _ (cn h0 T (lkG S cnt k)) _
  obtain ⟨j, u', hld, lo⟩ := lo
  refine s_lt192 (d := d + 129) (nm := nm) K.1.1 (HC.fz f0 (by decide +kernel)) ew eh k8 j (k : Int) u' (hld.e (f0.ex (by decide))) (Or.inr ⟨by omega, by rw [f0 _ _ (by decide)]; exact hk, by rw [f0 _ _ (by decide), Int.toNat_natCast]; exact kd⟩) (fun un => ?_) (fun u0 n w' en ow' w0 => ?_)
  · rcases lo with ⟨-, rfl, rfl⟩ | ⟨c, -⟩
    · rw [u2_id (S := lkG S cnt k) ew, u2_id eh] at q; exact q
    · omega
  · rcases lo with ⟨c, -⟩ | ⟨-, ⟨n2, en2, ow2⟩, w2, rfl⟩
    · omega
    · have nn : n = n2 := by
        have h1 : S f_Md_thingCount u'.toNat = (n : Int) := by rw [← f0 _ _ (by decide)]; exact en
        omega
      have e : w' = w := by
        have o3 := ow2.e (S1 := lkG S cnt k) (fun i => nmT_e (f0.ex (by decide)))
        rw [← nn] at o3
        obtain ⟨i1, a1, a2, a3⟩ := ow'.resolve_right (fun c => by omega)
        obtain ⟨i2, b1, b2, b3⟩ := o3.resolve_right (fun c => by omega)
        obtain ⟨z1, z2, z3⟩ := ((hld_v HC (Or.inr ⟨by omega, hk, by rw [Int.toNat_natCast]; exact kd⟩) hld).resolve_left (fun c => by omega)).resolve_left (fun c => by omega)
        obtain ⟨n', sn', s0, e1, L, e2, e3, e4, e5, hnm, dn, nmn, SF, b0, kk, nz⟩ := HC.sth (k := u'.toNat) (by omega) z3
        have h4 := L.2.2.1
        have := dn i1 i2 (by omega) (by omega) (by rw [← nmT_e (f0.ex (by decide)), ← nmT_e (f0.ex (by decide)), a3, b3])
        omega
      rw [e]; exact q
theorem TLK.rows (hs : s < 4000) (ek : S f_Md_siteKind s = κ) (hκ : 0 ≤ κ ∧ κ ≤ 6) (ty1 : S f_Md_goesType 0 = ty) (hty : ty = 3 ∨ ty = 6) (hc : cnt = 0 ∨ cnt = 1) (en : κ = 0 ∨ κ = 5 → ∃ n : Nat, S f_Md_siteName s = (n : Int) ∧ NMT S n L) (em : S f_Md_siteMany s = (mn : Int)) : (rkG κ L mn ty = 0 → TLK ρ g N M s cnt S (some none) (u2 (lk1 S 3 cnt) f_Md_foundGuard 0 (if ty = 6 then 0 else 1))) ∧ (¬ rkG κ L mn ty = 0 → TLK ρ g N M s cnt S none (erS (u2 (lk1 S 3 cnt) f_Md_foundGuard 0 (if ty = 6 then 0 else 1)) (rkG κ L mn ty))) := by
  have l3 : lkL ty = 3 := by rcases hty with w | w <;> (rw [w]; decide)
  have t3 : (0 ≤ ty ∧ ty ≤ 8) ∧ ¬ ty < 3 := by rcases hty with w | w <;> (rw [w]; decide)
  have main : ∀ (d : Nat) (h0 : ah) (T : Nat) (Q : QT), PTO ρ g N M h0 T → (rkG κ L mn ty = 0 → Q (Sum.inl none) (cn h0 T (u2 (lk1 S 3 cnt) f_Md_foundGuard 0 (if ty = 6 then 0 else 1)))) → (¬ rkG κ L mn ty = 0 → Q (Sum.inr (hR h0 f_Md_halt T)) (cn h0 T (erS (u2 (lk1 S 3 cnt) f_Md_foundGuard 0 (if ty = 6 then 0 else 1)) (rkG κ L mn ty)))) → wpB PGm ρ (d + 131) m_Md_looks 0 [(0, vR T), (1, vI (s : Int)), (2, vI cnt)] [] (cn h0 T S) Q := fun d h0 T Q K q1 q2 => by
    refine s_look0 (d := d + 129) K.1.1 hs ek ty1 t3.1 hc (fun c => absurd c t3.2) (fun _ => ?_)
    rw [l3]
    refine b_Md_looks_103 ⟨K.1.1.1, ?_⟩
    rw [cnI (by decide), lk1_w.2.2.2.2]
    refine ⟨fun _ => ⟨fun c => absurd rfl c, fun _ => ?_⟩, fun c => absurd c (by decide)⟩
    exact s_lrow (d := d + 118) K.1 hs hκ (fun z => by
      obtain ⟨n, a1, a2⟩ := en z
      exact ⟨n, by rw [lk1_g (by decide)]; exact a1, a2.ex (lk1_off.ex (by decide))⟩) (by rw [lk1_g (by decide)]; exact em) (by rw [lk1_g (by decide)]; exact ty1) hty q1 (fun z => ⟨K.1.1.kh, q2 z⟩)
  exact ⟨fun z d h0 T Q K q => main d h0 T Q K (fun _ => q) (fun c => absurd z c), fun z d h0 T Q K q => main d h0 T Q K (fun c => absurd c z) (fun _ => q)⟩
/-- at a host's value -/
theorem TLK.host (W : HWF g N M) (hs : s < 4000) (ek : S f_Md_siteKind s = κ) (hκ : 0 ≤ κ ∧ κ ≤ 6) (hty : S f_Md_goesType 0 = if st = 1 then 8 else 7) (hst : st = 0 ∨ st = 1) (hc : cnt = 0 ∨ cnt = 1) (H : LHQ (lk1 S (st + 1) cnt) N s rr mn c κ st L) (et : ts = tsT S rr (if κ = 1 then 1 else mn)) (E : hkB g κ st c L = true → CH2 g ts (hkC g κ st c L) (lk1 S (st + 1) cnt) (c : Int) (hkD κ st) (hkN g κ st c L (S f_Md_siteName s)) cnt (sglG g ts (hkC g κ st c L)) SX) (e0 : hkB g κ st c L = false → SX = lk1 S (st + 1) cnt) : ∃ S', LHR g (lk1 S (st + 1) cnt) SX S' κ st c L ts ∧ (0 ≤ hkG g κ st c L ts → TLK ρ g N M s cnt S (some none) S') ∧ (hkG g κ st c L ts < 0 → TLK ρ g N M s cnt S none (erS S' (-(hkG g κ st c L ts)))) := by
  have e1 : tsT (lk1 S (st + 1) cnt) rr (if κ = 1 then 1 else mn) = ts := by
    rw [et]; unfold tsT tyT
    simp only [lk1_g (S := S) (LL := st + 1) (cnt := cnt) (f := f_Md_pileType) (by decide), lk1_g (S := S) (LL := st + 1) (cnt := cnt) (f := f_Md_pileValue) (by decide), lk1_g (S := S) (LL := st + 1) (cnt := cnt) (f := f_Md_thingClass) (by decide)]
  obtain ⟨S', r1, r2⟩ := s_lhost (ρ := ρ) W H hκ e1.symm (by rw [lk1_g (by decide)]; exact E) e0
  have l3 : lkL (S f_Md_goesType 0) = st + 1 := by
    rw [hty]; unfold lkL
    rcases hst with rfl | rfl <;> decide
  have main : ∀ (d : Nat) (h0 : ah) (T : Nat) (Q : QT), PTO ρ g N M h0 T → (0 ≤ hkG g κ st c L ts → Q (Sum.inl none) (cn h0 T S')) → (hkG g κ st c L ts < 0 → Q (Sum.inr (hR h0 f_Md_halt T)) (cn h0 T (erS S' (-(hkG g κ st c L ts))))) → wpB PGm ρ (d + 131) m_Md_looks 0 [(0, vR T), (1, vI (s : Int)), (2, vI cnt)] [] (cn h0 T S) Q := fun d h0 T Q K q1 q2 => by
    refine s_look0 (d := d + 129) K.1.1 hs ek rfl (by rw [hty]; split <;> omega) hc (fun c => absurd c (by rw [hty]; split <;> omega)) (fun _ => ?_)
    rw [l3]
    refine b_Md_looks_103 ⟨K.1.1.1, ?_⟩
    rw [cnI (by decide), lk1_w.2.2.2.2]
    refine ⟨fun _ => ⟨fun _ => r2 (d + 2) h0 T _ K q1 (fun z => ⟨K.1.1.kh, q2 z⟩), fun c => by omega⟩, fun c => by omega⟩
  exact ⟨S', r1, fun z d h0 T Q K q => main d h0 T Q K (fun _ => q) (fun c => absurd c (by omega)), fun z d h0 T Q K q => main d h0 T Q K (fun c => absurd c (by omega)) (fun _ => q)⟩
end
