/-! what holds of every run: it has one result, the heap grows; more locals, a wider end do no harm -/
abbrev RT : Type := QT → ah → (QT → Prop) → Prop
def RP (R : RT) : Prop := (∀ (Q : QT) (h : ah) (F G : QT → Prop), (∀ Q2, F Q2 → G Q2) → R Q h F → R Q h G) ∧ (∀ (Q : QT) (h h1 : ah) (F : QT → Prop), hz h ≤ hz h1 → hs h ≤ hs h1 → R Q h1 F → R Q h F) ∧ (∀ (Q : QT) (h : ah) (o : Out), Q o h → R Q h (fun Q => Q o h)) ∧ ∀ (Q K : QT) (h : ah) (F : QT → Prop) (K2 : QT → QT), R K h F → (∀ o h1, K o h1 → R Q h1 (fun Q => K2 Q o h1)) → R Q h (fun Q => F (K2 Q))
def lsub (lv lv' : LV) : Prop := ∀ k v, lv.lookup k = some v → lv'.lookup k = some v
section
variable {R : RT} (hR : RP R)
theorem Rim {F G : QT → Prop} {h : ah} {Q : QT} (hR : RP R) (k : ∀ Q2, F Q2 → G Q2) (r : R Q h F) : R Q h G := hR.1 _ _ _ _ k r
theorem Rsame {F : QT → Prop} {h h1 : ah} {Q : QT} (hR : RP R) (e : hz h1 = hz h ∧ hs h1 = hs h) (r : R Q h1 F) : R Q h F := hR.2.1 _ _ h1 _ (by rw [e.1]; exact Nat.le_refl _) (by rw [e.2]; exact Nat.le_refl _) r
theorem RsA {F : QT → Prop} {h : ah} {a i : Nat} {v : Int} {Q : QT} (hR : RP R) (r : R Q (sA h a i v) F) : R Q h F := hR.2.1 _ _ (sA h a i v) _ (Nat.le_refl _) (Nat.le_refl _) r
theorem RsB {F : QT → Prop} {h : ah} {a i v : Nat} {Q : QT} (hR : RP R) (r : R Q (sB h a i v) F) : R Q h F := hR.2.1 _ _ (sB h a i v) _ (Nat.le_refl _) (Nat.le_refl _) r
theorem Rnew {F : QT → Prop} {h : ah} {k n m : Nat} {Q : QT} (hR : RP R) (r : R Q (hn h k n m) F) : R Q h F := hR.2.1 _ _ _ _ (Nat.le_succ _) (Nat.le_add_right _ _) r
theorem Rq {o : Out} {h : ah} {Q : QT} (hR : RP R) (q : Q o h) : R Q h (fun Q => Q o h) := hR.2.2.1 _ _ _ q
theorem RpI {st : List AV} {G0 : Int → List AV → Prop} {G : Int → List AV → QT → Prop} {h : ah} {Q : QT} (hh : pI st G0) (k : ∀ x s, G0 x s → R Q h (G x s)) : R Q h (fun Q => pI st (fun x s => G x s Q)) := by
  match st, hh with
  | Sum.inl x :: s, hh => exact k x s hh
theorem RpL {st : List AV} {G0 : Int → List AV → Prop} {G : Int → List AV → QT → Prop} {h : ah} {Q : QT} (hh : pL st G0) (k : ∀ x s, G0 x s → R Q h (G x s)) : R Q h (fun Q => pL st (fun x s => G x s Q)) := by
  match st, hh with
  | Sum.inr (Sum.inl x) :: s, hh => exact k x s hh
theorem RpR {st : List AV} {G0 : Nat → List AV → Prop} {G : Nat → List AV → QT → Prop} {h : ah} {Q : QT} (hh : pR st G0) (k : ∀ x s, G0 x s → R Q h (G x s)) : R Q h (fun Q => pR st (fun x s => G x s Q)) := by
  match st, hh with
  | Sum.inr (Sum.inr x) :: s, hh => exact k x s hh
theorem RpV {st : List AV} {G0 : AV → List AV → Prop} {G : AV → List AV → QT → Prop} {h : ah} {Q : QT} (hh : pV st G0) (k : ∀ x s, G0 x s → R Q h (G x s)) : R Q h (fun Q => pV st (fun x s => G x s Q)) := by
  match st, hh with
  | v :: s, hh => exact k v s hh
theorem Rgl {lv lv' : LV} {i : Nat} {G0 : AV → Prop} {G : AV → QT → Prop} {h : ah} {Q : QT} (hS : lsub lv lv') (hh : gl lv i G0) (k : ∀ x, G0 x → R Q h (G x)) : R Q h (fun Q => gl lv' i (fun x => G x Q)) := by
  unfold gl at hh ⊢
  cases hl : lv.lookup i with
  | none => rw [hl] at hh; exact hh.elim
  | some v => rw [hl] at hh; simp only [hS _ _ hl]; exact k v hh
theorem Rnd {c G0 : Prop} {G : QT → Prop} {h : ah} {Q : QT} (hR : RP R) (hh : c ∧ G0) (k : G0 → R Q h G) : R Q h (fun Q => c ∧ G Q) := Rim hR (fun _ g => ⟨hh.1, g⟩) (k hh.2)
theorem Rbr {c G0 G1 : Prop} {G G' : QT → Prop} {h : ah} {Q : QT} (hR : RP R) (hh : (c → G0) ∧ (¬ c → G1)) (k : G0 → R Q h G) (k' : G1 → R Q h G') : R Q h (fun Q => (c → G Q) ∧ (¬ c → G' Q)) := by
  by_cases hc : c
  · exact Rim hR (fun _ g => ⟨fun _ => g, fun n => absurd hc n⟩) (k (hh.1 hc))
  · exact Rim hR (fun _ g => ⟨fun n => absurd n hc, fun _ => g⟩) (k' (hh.2 hc))
theorem Rbr' {c G0 G1 : Prop} {G G' : QT → Prop} {h : ah} {Q : QT} (hR : RP R) (hh : (¬ c → G0) ∧ (c → G1)) (k : G0 → R Q h G) (k' : G1 → R Q h G') : R Q h (fun Q => (¬ c → G Q) ∧ (c → G' Q)) := by
  by_cases hc : c
  · exact Rim hR (fun _ g => ⟨fun n => absurd hc n, fun _ => g⟩) (k' (hh.2 hc))
  · exact Rim hR (fun _ g => ⟨fun _ => g, fun n => absurd n hc⟩) (k (hh.1 hc))
theorem Rswt {x : Int} {ts : List Int} {G0 : Nat → Prop} {D0 : Prop} {G : Nat → QT → Prop} {D : QT → Prop} {h : ah} {Q : QT} (hR : RP R) (k : ∀ t, G0 t → R Q h (G t)) (k' : D0 → R Q h D) : ∀ {j : Int}, swt x j ts G0 D0 → R Q h (fun Q => swt x j ts (fun t => G t Q) (D Q)) := by
  induction ts with
  | nil => intro j hh; exact k' hh
  | cons t r ih => intro j hh; exact Rbr hR hh (k _) ih
theorem Rswl {x : Int} {ts : List (Int × Int)} {G0 : Nat → Prop} {D0 : Prop} {G : Nat → QT → Prop} {D : QT → Prop} {h : ah} {Q : QT} (hR : RP R) (k : ∀ t, G0 t → R Q h (G t)) (k' : D0 → R Q h D) : swl x ts G0 D0 → R Q h (fun Q => swl x ts (fun t => G t Q) (D Q)) := by
  induction ts with
  | nil => intro hh; exact k' hh
  | cons t r ih => intro hh; exact Rbr hR hh (k _) ih
theorem Rhndl {hs : List (Nat × Nat × Nat × List Nat × List Nat)} {pc kd : Nat} {G0 : Nat → Prop} {D0 : Prop} {G : Nat → QT → Prop} {D : QT → Prop} {h : ah} {Q : QT} (hR : RP R) (k : ∀ t, G0 t → R Q h (G t)) (k' : D0 → R Q h D) : hndl hs pc kd G0 D0 → R Q h (fun Q => hndl hs pc kd (fun t => G t Q) (D Q)) := by
  induction hs with
  | nil => intro hh; exact k' hh
  | cons t r ih =>
    obtain ⟨a, b, t, ys, ns⟩ := t
    intro hh
    unfold hndl at hh ⊢
    by_cases hc : (Nat.ble a pc && Nat.blt pc b) = true
    · simp only [if_pos hc] at hh ⊢
      exact Rbr hR hh (k _) fun hh => Rnd hR hh ih
    · simp only [if_neg hc] at hh ⊢
      exact ih hh
theorem Rputv {ft : Nat} {v : AV} {h : ah} {f a : Nat} {G0 : ah → Prop} {G : ah → QT → Prop} {Q : QT} (hR : RP R) (hh : putv ft v h f a G0) (k : ∀ h1, hz h1 = hz h → hs h1 = hs h → G0 h1 → R Q h1 (G h1)) : R Q h (fun Q => putv ft v h f a (fun h1 => G h1 Q)) := by
  have kk : ∀ h1, hz h1 = hz h → hs h1 = hs h → G0 h1 → R Q h (G h1) := fun h1 e1 e2 g => Rsame hR ⟨e1, e2⟩ (k h1 e1 e2 g)
  match ft, v, hh with
  | 0, Sum.inl x, hh => exact kk _ rfl rfl hh
  | 1, Sum.inl x, hh => exact Rnd hR hh (kk _ rfl rfl)
  | 2, Sum.inl x, hh => exact Rnd hR hh (kk _ rfl rfl)
  | 3, Sum.inr (Sum.inl x), hh => exact kk _ rfl rfl hh
  | 4, Sum.inr (Sum.inr x), hh => exact kk _ rfl rfl hh
theorem Rxvir {kd : Nat} {ts : List (Nat × MT)} {G0 : MT → Prop} {G : MT → QT → Prop} {h : ah} {Q : QT} (hR : RP R) (k : ∀ T, G0 T → R Q h (G T)) : xvir kd ts G0 → R Q h (fun Q => xvir kd ts (fun T => G T Q)) := by
  induction ts with
  | nil => intro hh; exact hh.elim
  | cons t r ih => intro hh; exact Rbr hR hh (k _) ih
theorem Rxsel {md : Nat} {as : List AV} {ts : List (Nat × MT)} {G0 : MT → List AV → Prop} {G : MT → List AV → QT → Prop} {h h0 : ah} {Q : QT} (hR : RP R) (k : ∀ T as, G0 T as → R Q h (G T as)) (hh : xsel md as ts h0 G0) : R Q h (fun Q => xsel md as ts h0 (fun T as => G T as Q)) := by
  match md, as, ts, hh with
  | 0, as, q :: r, hh => exact k _ _ hh
  | 1, Sum.inr (Sum.inr a) :: as, q :: r, hh => exact Rnd hR hh (k _ _)
  | n + 2, Sum.inr (Sum.inr a) :: as, ts, hh => exact Rxvir hR (G0 := fun T => G0 T (vR a :: as)) (G := fun T Q => G T (vR a :: as) Q) (fun T => k _ _) hh
theorem Rxinv {P : PG} {m : Nat} {st : List AV} {G0 : MT → List AV → List AV → Prop} {G : MT → List AV → List AV → QT → Prop} {h h0 : ah} {Q : QT} (hR : RP R) (k : ∀ T as s, G0 T as s → R Q h (G T as s)) (hh : xinv P m st h0 G0) : R Q h (fun Q => xinv P m st h0 (fun T as s => G T as s Q)) := by
  unfold xinv at hh ⊢
  by_cases hc : (Nat.ble (P.2.1 m).1 st.length && Nat.ble (st.length - (P.2.1 m).1) 14) = true
  · simp only [if_pos hc] at hh ⊢
    exact Rxsel hR (G0 := fun T as => G0 T as (st.drop (P.2.1 m).1)) (G := fun T as Q => G T as (st.drop (P.2.1 m).1) Q) (fun T as => k _ _ _) hh
  · rw [if_neg hc] at hh; exact hh.elim
/-- primitive methods are well behaved -/
def PrimOK (P : PG) : Prop := ∀ (R : RT), RP R → ∀ (p : Nat) (as : List AV) (h : ah) (Q : QT), P.2.2.2.2.2 p as h Q → R Q h (P.2.2.2.2.2 p as h)
theorem Rcall {P : PG} (hR : RP R) (hP : PrimOK P) {d pc : Nat} {M T : MT} {as : List AV} {r : List (Nat × Instr)} {lv lv' : LV} {s : List AV} {X C Y D : XT} {h : ah} {Q : QT} (hS : lsub lv lv')
    (hX : ∀ d M is lv lv' st h Q, lsub lv lv' → X d M is lv st h Q → R Q h (Y d M is lv' st h)) (hC : ∀ d M is lv st h Q, C d M is lv st h Q → R Q h (D d M is lv st h)) (hh : xtgt P d T as h (xcont d M pc r lv s Q X) C) : R Q h (fun Q => xtgt P d T as h (xcont d M pc r lv' s Q Y) D) := by
  have h1 : R (xcont d M pc r lv s Q X) h (fun K => xtgt P d T as h K D) := by
    unfold xtgt at hh ⊢
    cases hc : mCode T with
    | nil =>
      simp only [hc] at hh ⊢
      exact Rnd hR hh (hP R hR _ _ _ _)
    | cons c cs =>
      simp only [hc] at hh ⊢
      cases d with
      | zero => exact hh.elim
      | succ d =>
        by_cases hb : Nat.ble (asz as) (mLoc T) = true
        · simp only [hb, if_true] at hh ⊢
          exact hC _ _ _ _ _ _ _ hh
        · simp only [hb] at hh
          exact hh.elim
  refine hR.2.2.2 _ _ _ _ (fun Q => xcont d M pc r lv' s Q Y) h1 fun o h' a => ?_
  match o, a with
  | Sum.inl none, a => exact hX _ _ _ _ _ _ _ _ hS a
  | Sum.inl (some v), a => exact hX _ _ _ _ _ _ _ _ hS a
  | Sum.inr x, a => exact Rnd hR a fun a => Rhndl hR (G := fun t Q => Y d M (sfx (mCode M) t) lv' [vR x] h' Q) (D := fun Q => Q (Sum.inr x) h') (fun t => hX _ _ _ _ _ _ _ _ hS) (Rq hR) a
theorem lk_filter (p : Nat → Bool) (j : Nat) : ∀ lv : LV, (lv.filter (fun q => p q.1)).lookup j = if p j = true then lv.lookup j else none := by
  intro lv
  induction lv with
  | nil => simp
  | cons q r ih =>
    obtain ⟨k, v⟩ := q
    by_cases hk : j = k
    · subst hk
      by_cases hp : p j = true
      · simp [List.filter_cons, hp, List.lookup_cons]
      · simp [List.filter_cons, hp, ih]
    · have hb : (j == k) = false := by simpa using hk
      by_cases hp : p k = true
      · simp only [List.filter_cons, hp, if_true, List.lookup_cons, hb, ih]
      · rw [List.filter_cons_of_neg (by simpa using hp), ih, List.lookup_cons, hb]
theorem lk_sl1 (lv : LV) (k j : Nat) (v : AV) : (sl1 lv k v).lookup j = if j = k then some v else if j + 1 = k ∧ lg lv j = true then none else lv.lookup j := by
  unfold sl1
  by_cases hk : j = k
  · subst hk; simp [List.lookup_cons]
  · have hb : (j == k) = false := by simpa using hk
    rw [List.lookup_cons, hb, lk_filter (fun j => !(j == k) && !(j + 1 == k && lg lv j)) j lv]
    by_cases hc : j + 1 = k
    · by_cases hg : lg lv j = true <;> simp [hk, hc, hg]
    · simp [hk, hc]
theorem lk_sl2 (lv : LV) (k j : Nat) (v : AV) : (sl2 lv k v).lookup j = if j = k then some v else if j = k + 1 ∨ (j + 1 = k ∧ lg lv j = true) then none else lv.lookup j := by
  unfold sl2
  by_cases hk : j = k
  · subst hk; simp [List.lookup_cons]
  · have hb : (j == k) = false := by simpa using hk
    rw [List.lookup_cons, hb, lk_filter (fun j => !(j == k) && (!(j == k + 1) && !(j + 1 == k && lg lv j))) j lv]
    by_cases h1 : j = k + 1
    · simp [h1]
    · by_cases hc : j + 1 = k
      · by_cases hg : lg lv j = true <;> simp [hk, hc, hg, h1]
      · simp [hk, hc, h1]
theorem lsub_lg {lv lv' : LV} (hS : lsub lv lv') {j : Nat} {v : AV} (h : lv.lookup j = some v) : lg lv' j = lg lv j := by
  unfold lg; rw [h, hS _ _ h]
theorem lsub_sl1 {lv lv' : LV} (k : Nat) (v : AV) (hS : lsub lv lv') : lsub (sl1 lv k v) (sl1 lv' k v) := by
  intro j w h
  rw [lk_sl1] at h ⊢
  by_cases hk : j = k
  · simpa [hk] using h
  · simp only [hk, if_false] at h ⊢
    by_cases hc : j + 1 = k ∧ lg lv j = true
    · simp [hc] at h
    · rw [if_neg hc] at h
      rw [lsub_lg hS h, if_neg hc]
      exact hS _ _ h
theorem lsub_sl2 {lv lv' : LV} (k : Nat) (v : AV) (hS : lsub lv lv') : lsub (sl2 lv k v) (sl2 lv' k v) := by
  intro j w h
  rw [lk_sl2] at h ⊢
  by_cases hk : j = k
  · simpa [hk] using h
  · simp only [hk, if_false] at h ⊢
    by_cases hc : j = k + 1 ∨ (j + 1 = k ∧ lg lv j = true)
    · simp [hc] at h
    · rw [if_neg hc] at h
      rw [lsub_lg hS h, if_neg hc]
      exact hS _ _ h
set_option maxHeartbeats 4000000 in
theorem XI_gen {P : PG} (hR : RP R) (hP : PrimOK P) {ρ : Nat → Nat} {d pc : Nat} {M : MT} {i : Instr} {r : List (Nat × Instr)} {lv lv' : LV} {st : List AV} {h : ah} {Q : QT} {X C Y D : XT} (hS : lsub lv lv')
    (hX : ∀ d M is lv lv' st h Q, lsub lv lv' → X d M is lv st h Q → R Q h (Y d M is lv' st h)) (hC : ∀ d M is lv st h Q, C d M is lv st h Q → R Q h (D d M is lv st h)) (hh : XI P ρ d M pc i r lv st h Q X C) : R Q h (fun Q => XI P ρ d M pc i r lv' st h Q Y D) := by
  cases i with
  | iconst => exact hX _ _ _ _ _ _ _ _ hS hh
  | sipush => exact hX _ _ _ _ _ _ _ _ hS hh
  | aconst_null => exact hX _ _ _ _ _ _ _ _ hS hh
  | ldc => exact hX _ _ _ _ _ _ _ _ hS hh
  | iload => exact Rgl hS hh fun _ hh => RpI hh fun _ _ => hX _ _ _ _ _ _ _ _ hS
  | lload => exact Rgl hS hh fun _ hh => RpL hh fun _ _ => hX _ _ _ _ _ _ _ _ hS
  | aload => exact Rgl hS hh fun _ hh => RpR hh fun _ _ => hX _ _ _ _ _ _ _ _ hS
  | istore k => exact RpI hh fun _ _ => hX _ _ _ _ _ _ _ _ (lsub_sl1 k _ hS)
  | astore k => exact RpR hh fun _ _ => hX _ _ _ _ _ _ _ _ (lsub_sl1 k _ hS)
  | lstore k => exact RpL hh fun _ _ => hX _ _ _ _ _ _ _ _ (lsub_sl2 k _ hS)
  | iinc k => exact Rgl hS hh fun _ hh => RpI hh fun x _ => hX _ _ _ _ _ _ _ _ (lsub_sl1 k _ hS)
  | iadd => exact RpI hh fun _ _ hh => RpI hh fun _ _ => hX _ _ _ _ _ _ _ _ hS
  | isub => exact RpI hh fun _ _ hh => RpI hh fun _ _ => hX _ _ _ _ _ _ _ _ hS
  | imul => exact RpI hh fun _ _ hh => RpI hh fun _ _ => hX _ _ _ _ _ _ _ _ hS
  | ineg => exact RpI hh fun _ _ => hX _ _ _ _ _ _ _ _ hS
  | idiv => exact RpI hh fun _ _ hh => RpI hh fun _ _ hh => Rnd hR hh (hX _ _ _ _ _ _ _ _ hS)
  | iand => exact RpI hh fun _ _ hh => RpI hh fun _ _ => hX _ _ _ _ _ _ _ _ hS
  | ior => exact RpI hh fun _ _ hh => RpI hh fun _ _ => hX _ _ _ _ _ _ _ _ hS
  | ixor => exact RpI hh fun _ _ hh => RpI hh fun _ _ => hX _ _ _ _ _ _ _ _ hS
  | ishl => exact RpI hh fun _ _ hh => RpI hh fun _ _ => hX _ _ _ _ _ _ _ _ hS
  | ishr => exact RpI hh fun _ _ hh => RpI hh fun _ _ => hX _ _ _ _ _ _ _ _ hS
  | iushr => exact RpI hh fun _ _ hh => RpI hh fun _ _ => hX _ _ _ _ _ _ _ _ hS
  | ladd => exact RpL hh fun _ _ hh => RpL hh fun _ _ => hX _ _ _ _ _ _ _ _ hS
  | lsub => exact RpL hh fun _ _ hh => RpL hh fun _ _ => hX _ _ _ _ _ _ _ _ hS
  | lmul => exact RpL hh fun _ _ hh => RpL hh fun _ _ => hX _ _ _ _ _ _ _ _ hS
  | lneg => exact RpL hh fun _ _ => hX _ _ _ _ _ _ _ _ hS
  | ldiv => exact RpL hh fun _ _ hh => RpL hh fun _ _ hh => Rnd hR hh (hX _ _ _ _ _ _ _ _ hS)
  | lrem => exact RpL hh fun _ _ hh => RpL hh fun _ _ hh => Rnd hR hh (hX _ _ _ _ _ _ _ _ hS)
  | land => exact RpL hh fun _ _ hh => RpL hh fun _ _ => hX _ _ _ _ _ _ _ _ hS
  | lor => exact RpL hh fun _ _ hh => RpL hh fun _ _ => hX _ _ _ _ _ _ _ _ hS
  | lshl => exact RpI hh fun _ _ hh => RpL hh fun _ _ => hX _ _ _ _ _ _ _ _ hS
  | lshr => exact RpI hh fun _ _ hh => RpL hh fun _ _ => hX _ _ _ _ _ _ _ _ hS
  | lushr => exact RpI hh fun _ _ hh => RpL hh fun _ _ => hX _ _ _ _ _ _ _ _ hS
  | lcmp => exact RpL hh fun _ _ hh => RpL hh fun _ _ => hX _ _ _ _ _ _ _ _ hS
  | i2l => exact RpI hh fun _ _ => hX _ _ _ _ _ _ _ _ hS
  | l2i => exact RpL hh fun _ _ => hX _ _ _ _ _ _ _ _ hS
  | i2b => exact RpI hh fun _ _ => hX _ _ _ _ _ _ _ _ hS
  | i2c => exact RpI hh fun _ _ => hX _ _ _ _ _ _ _ _ hS
  | dup => exact RpV hh fun _ _ hh => Rnd hR hh (hX _ _ _ _ _ _ _ _ hS)
  | dup_x1 => exact RpV hh fun _ _ hh => RpV hh fun _ _ hh => Rnd hR hh (hX _ _ _ _ _ _ _ _ hS)
  | dup2 => exact RpV hh fun _ _ hh => RpV hh fun _ _ hh => Rnd hR hh (hX _ _ _ _ _ _ _ _ hS)
  | pop => exact RpV hh fun _ _ hh => Rnd hR hh (hX _ _ _ _ _ _ _ _ hS)
  | goto => exact hX _ _ _ _ _ _ _ _ hS hh
  | ifCond => exact RpI hh fun _ _ hh => Rbr hR hh (hX _ _ _ _ _ _ _ _ hS) (hX _ _ _ _ _ _ _ _ hS)
  | if_icmp => exact RpI hh fun _ _ hh => RpI hh fun _ _ hh => Rbr hR hh (hX _ _ _ _ _ _ _ _ hS) (hX _ _ _ _ _ _ _ _ hS)
  | if_acmp => exact RpR hh fun _ _ hh => RpR hh fun _ _ hh => Rbr hR hh (hX _ _ _ _ _ _ _ _ hS) (hX _ _ _ _ _ _ _ _ hS)
  | ifnull => exact RpR hh fun _ _ hh => Rbr hR hh (hX _ _ _ _ _ _ _ _ hS) (hX _ _ _ _ _ _ _ _ hS)
  | ifnonnull => exact RpR hh fun _ _ hh => Rbr' hR hh (hX _ _ _ _ _ _ _ _ hS) (hX _ _ _ _ _ _ _ _ hS)
  | tableswitch df lo hi ts => exact RpI hh fun _ s hh => Rswt hR (G := fun t Q => Y d M (sfx (mCode M) t) lv' s h Q) (D := fun Q => Y d M (sfx (mCode M) df.toNat)  lv' s h Q) (fun _ => hX _ _ _ _ _ _ _ _ hS) (hX _ _ _ _ _ _ _ _ hS) hh
  | lookupswitch df ts => exact RpI hh fun _ s hh => Rswl hR (G := fun t Q => Y d M (sfx (mCode M) t) lv' s h Q) (D := fun Q => Y d M (sfx (mCode M) df.toNat)  lv' s h Q) (fun _ => hX _ _ _ _ _ _ _ _ hS) (hX _ _ _ _ _ _ _ _ hS) hh
  | getfield => exact RpR hh fun _ _ hh => Rnd hR hh (hX _ _ _ _ _ _ _ _ hS)
  | putfield f => exact RpV hh fun _ _ hh => RpR hh fun _ s hh => Rnd hR hh fun hh => Rputv hR (G := fun h1 Q => Y d M r lv' s h1 Q) hh fun h1 _ _ => hX _ _ _ _ _ _ _ _ hS
  | arraylength => exact RpR hh fun _ _ hh => Rnd hR hh (hX _ _ _ _ _ _ _ _ hS)
  | iaload => exact RpI hh fun _ _ hh => RpR hh fun _ _ hh => Rnd hR hh (hX _ _ _ _ _ _ _ _ hS)
  | laload => exact RpI hh fun _ _ hh => RpR hh fun _ _ hh => Rnd hR hh (hX _ _ _ _ _ _ _ _ hS)
  | baload => exact RpI hh fun _ _ hh => RpR hh fun _ _ hh => Rnd hR hh (hX _ _ _ _ _ _ _ _ hS)
  | aaload => exact RpI hh fun _ _ hh => RpR hh fun _ _ hh => Rnd hR hh (hX _ _ _ _ _ _ _ _ hS)
  | iastore => exact RpI hh fun _ _ hh => RpI hh fun _ _ hh => RpR hh fun _ _ hh => Rnd hR hh fun hh => RsA hR (hX _ _ _ _ _ _ _ _ hS hh)
  | lastore => exact RpL hh fun _ _ hh => RpI hh fun _ _ hh => RpR hh fun _ _ hh => Rnd hR hh fun hh => RsA hR (hX _ _ _ _ _ _ _ _ hS hh)
  | bastore => exact RpI hh fun _ _ hh => RpI hh fun _ _ hh => RpR hh fun _ _ hh => Rnd hR hh fun hh => RsA hR (hX _ _ _ _ _ _ _ _ hS hh)
  | multianewarray => exact RpR hh fun _ _ hh => RpI hh fun _ _ hh => RpR hh fun _ _ hh => Rnd hR hh fun hh => RsB hR (hX _ _ _ _ _ _ _ _ hS hh)
  | newarray t =>
    refine RpI hh fun n s hh => Rnd hR hh fun hh => ?_
    cases t with
    | int => exact Rnew hR (hX _ _ _ _ _ _ _ _ hS hh)
    | long => exact Rnew hR (hX _ _ _ _ _ _ _ _ hS hh)
    | byte => exact Rnew hR (hX _ _ _ _ _ _ _ _ hS hh)
    | boolean => exact Rnew hR (hX _ _ _ _ _ _ _ _ hS hh)
    | _ => exact hh.elim
  | anewarray k => exact RpI hh fun n s hh => Rnd hR hh fun hh => Rnew hR (hX _ _ _ _ _ _ _ _ hS hh)
  | new k => exact Rnew hR (hX _ _ _ _ _ _ _ _ hS hh)
  | checkcast => exact RpR hh fun _ _ hh => Rnd hR hh (hX _ _ _ _ _ _ _ _ hS)
  | instanceof => exact RpR hh fun _ _ hh => Rbr hR hh (hX _ _ _ _ _ _ _ _ hS) fun hh => Rbr hR hh (hX _ _ _ _ _ _ _ _ hS) fun hh => Rnd hR hh (hX _ _ _ _ _ _ _ _ hS)
  | invokestatic m => exact Rxinv hR (G := fun T as s Q => xtgt P d T as h (xcont d M pc r lv' s Q Y) D) (fun T as s hh => Rcall hR hP hS hX hC hh) hh
  | ireturn => exact RpV hh fun _ _ hh => Rnd hR hh (Rq hR)
  | return_ => exact Rnd hR hh (Rq hR)
  | athrow => exact RpR hh fun x _ hh => Rnd hR hh fun hh => Rhndl hR (G := fun t Q => Y d M (sfx (mCode M) t) lv' [vR x] h Q) (D := fun Q => Q (Sum.inr x) h) (fun t => hX _ _ _ _ _ _ _ _ hS) (Rq hR) hh
  | _ => exact hh.elim
end
/-! the run itself: the least thing that is closed under the steps -/
def XMon (X : XT) : Prop := ∀ d M is lv lv' st h (Q Q' : QT), lsub lv lv' → (∀ o h, Q o h → Q' o h) → X d M is lv st h Q → X d M is lv' st h Q'
def XCl (P : PG) (ρ : Nat → Nat) (X : XT) : Prop := ∀ d M pc i r lv st h Q, XI P ρ d M pc i r lv st h Q X X → X d M ((pc, i) :: r) lv st h Q
def wp (P : PG) (ρ : Nat → Nat) : XT := fun d M is lv st h Q => ∀ X : XT, XMon X → XCl P ρ X → X d M is lv st h Q
theorem RP_mono : RP (fun Q _ F => ∀ Q' : QT, (∀ o h, Q o h → Q' o h) → F Q') := ⟨fun Q h F G k r Q' q => k _ (r Q' q), fun Q h h1 F _ _ r => r, fun Q h o q Q' k => k _ _ q, fun Q K h F K2 r k Q' q => r _ fun o h1 a => k o h1 a Q' q⟩
def Res (Q : QT) (h : ah) (F : QT → Prop) : Prop := ∃ o h', Q o h' ∧ (hz h ≤ hz h' ∧ hs h ≤ hs h') ∧ ∀ Q2 : QT, Q2 o h' → F Q2
theorem RP_res : RP Res := by
  refine ⟨?_, ?_, ?_, ?_⟩
  · rintro Q h F G k ⟨o, h', a, b, c⟩
    exact ⟨o, h', a, b, fun Q2 q => k Q2 (c Q2 q)⟩
  · rintro Q h h1 F e1 e2 ⟨o, h', a, b, c⟩
    exact ⟨o, h', a, ⟨Nat.le_trans e1 b.1, Nat.le_trans e2 b.2⟩, c⟩
  · intro Q h o q
    exact ⟨o, h, q, ⟨Nat.le_refl _, Nat.le_refl _⟩, fun _ q => q⟩
  · rintro Q K h F K2 ⟨o, h', a, b, c⟩ k
    obtain ⟨o1, h1, a1, b1, c1⟩ := k o h' a
    exact ⟨o1, h1, a1, ⟨Nat.le_trans b.1 b1.1, Nat.le_trans b.2 b1.2⟩, fun Q2 q => c _ (c1 Q2 q)⟩
section
variable {P : PG} {ρ : Nat → Nat} {d pc : Nat} {M : MT} {i : Instr} {is r : List (Nat × Instr)} {lv lv' : LV} {st : List AV} {h : ah} {Q Q' : QT}
theorem lsub_rfl : lsub lv lv := fun _ _ h => h
theorem wp_mon : XMon (wp P ρ) := fun d M is lv lv' st h Q Q' a b k X m c => m _ _ _ _ _ _ _ _ _ a b (k X m c)
theorem XI_mono (hP : PrimOK P) {X Y : XT} (hX : ∀ d M is lv lv' st h (Q Q' : QT), lsub lv lv' → (∀ o h, Q o h → Q' o h) → X d M is lv st h Q → Y d M is lv' st h Q') (hS : lsub lv lv') (hQ : ∀ o h, Q o h → Q' o h) (hh : XI P ρ d M pc i r lv st h Q X X) : XI P ρ d M pc i r lv' st h Q' Y Y :=
  XI_gen (X := X) (C := X) (Y := Y) (D := Y) RP_mono hP hS (fun _ _ _ _ _ _ _ _ a b Q' c => hX _ _ _ _ _ _ _ _ _ a c b) (fun _ _ _ _ _ _ _ b Q' c => hX _ _ _ _ _ _ _ _ _ lsub_rfl c b) hh Q' hQ
theorem wp_fold (hP : PrimOK P) (hh : XI P ρ d M pc i r lv st h Q (wp P ρ) (wp P ρ)) : wp P ρ d M ((pc, i) :: r) lv st h Q := fun X m c =>
  c _ _ _ _ _ _ _ _ _ (XI_mono hP (fun _ _ _ _ _ _ _ _ _ a b k => m _ _ _ _ _ _ _ _ _ a b (k X m c)) lsub_rfl (fun _ _ q => q) hh)
theorem wp_res (hP : PrimOK P) (hh : wp P ρ d M is lv st h Q) : Res Q h (wp P ρ d M is lv st h) := by
  refine hh (fun d M is lv st h Q => Res Q h (wp P ρ d M is lv st h)) ?_ ?_
  · rintro d M is lv lv' st h Q Q' a b ⟨o, h', q, g, k⟩
    exact ⟨o, h', b _ _ q, g, fun Q2 q2 => wp_mon _ _ _ _ _ _ _ _ _ a (fun _ _ q => q) (k Q2 q2)⟩
  · intro d M pc i r lv st h Q hh
    have h1 := XI_gen (Y := wp P ρ) (D := wp P ρ) RP_res hP (lsub_rfl (lv := lv)) (fun d M is lv lv' st h Q a b => RP_res.1 _ _ _ _ (fun Q2 q => wp_mon _ _ _ _ _ _ _ _ _ a (fun _ _ q => q) q) b) (fun _ _ _ _ _ _ _ b => b) hh
    exact RP_res.1 _ _ _ _ (fun Q2 q => wp_fold hP q) h1
/-- a run up to one of some places, at which a choice of the locals stays -/
def pick (ks : List Nat) (lv : LV) : LV := match ks with
  | [] => []
  | k :: r => match lv.lookup k with
    | some v => (k, v) :: pick r lv
    | none => pick r lv
def stp (ss : List (Nat × List Nat)) (pc : Nat) : Option (List Nat) := match ss with
  | [] => none
  | (k, l) :: r => if Nat.beq k pc then some l else stp r pc
def wpB (P : PG) (ρ : Nat → Nat) (d : Nat) (M : MT) (pc : Nat) (lv : LV) (st : List AV) (h : ah) (Q : QT) : Prop := wp P ρ d M (sfx (mCode M) pc) lv st h Q
def XG (P : PG) (ρ : Nat → Nat) (ss : List (Nat × List Nat)) : Nat → XT
  | 0 => fun _ _ _ _ _ _ _ => False
  | n + 1 => fun d M is lv st h Q => match is with
    | [] => False
    | (pc, i) :: r => match stp ss pc with
      | some l => wp P ρ d M ((pc, i) :: r) (pick l lv) st h Q
      | none => XI P ρ d M pc i r lv st h Q (XG P ρ ss n) (wp P ρ)
theorem pick_sub (ks : List Nat) (lv : LV) : lsub (pick ks lv) lv := by
  intro k v
  induction ks with
  | nil => intro h; cases h
  | cons a r ih =>
    intro h
    unfold pick at h
    cases ha : lv.lookup a with
    | none => rw [ha] at h; exact ih h
    | some w =>
      rw [ha] at h
      by_cases hk : k = a
      · subst hk; simp [List.lookup_cons] at h; rw [ha, h]
      · have hb : (k == a) = false := by simpa using hk
        simp only [List.lookup_cons, hb] at h
        exact ih h
theorem XG_wp (hP : PrimOK P) {ss : List (Nat × List Nat)} {n : Nat} : ∀ d M is lv st h Q, XG P ρ ss n d M is lv st h Q → wp P ρ d M is lv st h Q := by
  induction n with
  | zero => intro d M is lv st h Q hh; exact hh.elim
  | succ n ih =>
    intro d M is lv st h Q hh
    match is, hh with
    | (pc, i) :: r, hh =>
      unfold XG at hh
      dsimp only at hh
      cases hs : stp ss pc with
      | some l => rw [hs] at hh; exact wp_mon _ _ _ _ _ _ _ _ _ (pick_sub l lv) (fun _ _ q => q) hh
      | none =>
        rw [hs] at hh
        have hh : XI P ρ d M pc i r lv st h Q (XG P ρ ss n) (wp P ρ) := hh
        refine wp_fold hP ?_
        exact XI_gen (X := XG P ρ ss n) (C := wp P ρ) (Y := wp P ρ) (D := wp P ρ) RP_mono hP (lsub_rfl (lv := lv)) (fun _ _ _ _ _ _ _ _ a b Q' c => wp_mon _ _ _ _ _ _ _ _ _ a c (ih _ _ _ _ _ _ _ b)) (fun _ _ _ _ _ _ _ b Q' c => wp_mon _ _ _ _ _ _ _ _ _ lsub_rfl c b) hh Q (fun _ _ q => q)
/-- a block: from a place up to others -/
theorem blk (hP : PrimOK P) (ss : List (Nat × List Nat)) (n : Nat) (he : sfx (mCode M) pc = (pc, i) :: r) (hh : XI P ρ d M pc i r lv st h Q (XG P ρ ss n) (wp P ρ)) : wpB P ρ d M pc lv st h Q := by
  unfold wpB
  rw [he]
  refine wp_fold hP ?_
  exact XI_gen (X := XG P ρ ss n) (C := wp P ρ) (Y := wp P ρ) (D := wp P ρ) RP_mono hP (lsub_rfl (lv := lv)) (fun _ _ _ _ _ _ _ _ a b Q' c => wp_mon _ _ _ _ _ _ _ _ _ a c (XG_wp hP _ _ _ _ _ _ _ b)) (fun _ _ _ _ _ _ _ b Q' c => wp_mon _ _ _ _ _ _ _ _ _ lsub_rfl c b) hh Q (fun _ _ q => q)
end
theorem Rup {R : RT} (hR : RP R) {o : Out} {h h1 : ah} {Q : QT} (e : hz h ≤ hz h1 ∧ hs h ≤ hs h1) (q : Q o h1) : R Q h (fun Q => Q o h1) := hR.2.1 _ _ h1 _ e.1 e.2 (Rq hR q)
theorem lroom_g (h : ah) (a n : Nat) : hz h ≤ hz (lroom h a n) ∧ hs h ≤ hs (lroom h a n) := ⟨Nat.le_succ _, Nat.le_add_right _ _⟩
theorem ladd_g (h : ah) (a x : Nat) : hz h ≤ hz (ladd h a x) ∧ hs h ≤ hs (ladd h a x) := by
  unfold ladd
  split
  · exact lroom_g h a (lcap (hI h 2 a))
  · exact ⟨Nat.le_refl _, Nat.le_refl _⟩
theorem hcp_g (h : ah) (k a n : Nat) : hz h ≤ hz (hcp h k a n) ∧ hs h ≤ hs (hcp h k a n) := ⟨Nat.le_succ _, Nat.le_add_right _ _⟩
theorem prim_ok {R : RT} (hR : RP R) (p : Nat) (as : List AV) (h : ah) (Q : QT) (hh : primS p as h Q) : R Q h (primS p as h) := by
  match p, hh with
  | 1, hh => exact RpR hh fun a _ hh => Rnd hR hh (Rup hR ⟨Nat.le_refl _, Nat.le_refl _⟩)
  | 2, hh => exact RpR hh fun a _ hh => RpI hh fun n _ hh => Rnd hR hh (Rup hR (lroom_g h a n.toNat))
  | 3, hh => exact RpR hh fun a _ hh => RpR hh fun n _ hh => Rnd hR hh (Rup hR (ladd_g _ _ _))
  | 4, hh => exact RpR hh fun a _ hh => RpI hh fun n _ hh => Rnd hR hh (Rq hR)
  | 5, hh => exact RpR hh fun a _ hh => Rnd hR hh (Rq hR)
  | 6, hh => exact RpR hh fun a _ hh => Rnd hR hh (Rup hR ⟨Nat.le_refl _, Nat.le_refl _⟩)
  | 7, hh => exact RpR hh fun a _ hh => RpI hh fun n _ hh => Rnd hR hh (Rup hR (hcp_g _ _ _ _))
  | 8, hh => exact RpR hh fun a _ hh => RpI hh fun n _ hh => Rnd hR hh (Rup hR (hcp_g _ _ _ _))
  | 9, hh => exact RpR hh fun a _ hh => RpI hh fun n _ hh => Rnd hR hh (Rup hR (hcp_g _ _ _ _))
  | 10, hh => exact RpR hh fun a _ hh => RpI hh fun n _ hh => Rnd hR hh (Rup hR (hcp_g _ _ _ _))
  | 11, hh => exact RpR hh fun a _ hh => Rnd hR hh (Rq hR)
  | 12, hh => exact RpR hh fun a _ hh => RpI hh fun n _ hh => Rnd hR hh (Rq hR)
  | 13, hh => exact RpI hh fun a _ hh => RpI hh fun n _ hh => Rq hR hh
  | 14, hh => exact RpI hh fun a _ hh => RpI hh fun n _ hh => Rq hR hh
  | 15, hh => exact RpL hh fun a _ hh => Rq hR hh
  | 16, hh => exact RpL hh fun a _ hh => RpL hh fun n _ hh => Rq hR hh
  | 17, hh => exact RpR hh fun a _ hh => Rnd hR hh (Rq hR)
  | 18, hh => exact RpR hh fun a _ hh => Rnd hR hh (Rq hR)
  | 19, hh => exact RpR hh fun a _ hh => Rnd hR hh (Rq hR)
/-! behind a call: what comes back, by its type; or something is thrown -/
def cI (F : Int → ah → Prop) (T : Nat → ah → Prop) : QT := fun o h => match o with
  | Sum.inl (some (Sum.inl x)) => F x h
  | Sum.inr e => T e h
  | _ => False
def cL (F : Int → ah → Prop) (T : Nat → ah → Prop) : QT := fun o h => match o with
  | Sum.inl (some (Sum.inr (Sum.inl x))) => F x h
  | Sum.inr e => T e h
  | _ => False
def cR (F : Nat → ah → Prop) (T : Nat → ah → Prop) : QT := fun o h => match o with
  | Sum.inl (some (Sum.inr (Sum.inr x))) => F x h
  | Sum.inr e => T e h
  | _ => False
def cV (F : ah → Prop) (T : Nat → ah → Prop) : QT := fun o h => match o with
  | Sum.inl none => F h
  | Sum.inr e => T e h
  | _ => False
section
variable {P : PG} {ρ : Nat → Nat} {d : Nat} {M : MT} {is : List (Nat × Instr)} {lv : LV} {st : List AV} {h : ah} {K : QT}
theorem wI {F : Int → ah → Prop} {T : Nat → ah → Prop} (hh : wp P ρ d M is lv st h (cI F T)) (hF : ∀ x h, F x h → K (Sum.inl (some (Sum.inl x))) h) (hT : ∀ e h, T e h → K (Sum.inr e) h) : wp P ρ d M is lv st h K := by
  refine wp_mon _ _ _ _ _ _ _ _ _ lsub_rfl (fun o h k => ?_) hh
  match o, k with
  | Sum.inl (some (Sum.inl x)), k => exact hF x h k
  | Sum.inr e, k => exact hT e h k
theorem wL {F : Int → ah → Prop} {T : Nat → ah → Prop} (hh : wp P ρ d M is lv st h (cL F T)) (hF : ∀ x h, F x h → K (Sum.inl (some (Sum.inr (Sum.inl x)))) h) (hT : ∀ e h, T e h → K (Sum.inr e) h) : wp P ρ d M is lv st h K := by
  refine wp_mon _ _ _ _ _ _ _ _ _ lsub_rfl (fun o h k => ?_) hh
  match o, k with
  | Sum.inl (some (Sum.inr (Sum.inl x))), k => exact hF x h k
  | Sum.inr e, k => exact hT e h k
theorem wR {F : Nat → ah → Prop} {T : Nat → ah → Prop} (hh : wp P ρ d M is lv st h (cR F T)) (hF : ∀ x h, F x h → K (Sum.inl (some (Sum.inr (Sum.inr x)))) h) (hT : ∀ e h, T e h → K (Sum.inr e) h) : wp P ρ d M is lv st h K := by
  refine wp_mon _ _ _ _ _ _ _ _ _ lsub_rfl (fun o h k => ?_) hh
  match o, k with
  | Sum.inl (some (Sum.inr (Sum.inr x))), k => exact hF x h k
  | Sum.inr e, k => exact hT e h k
theorem wV {F : ah → Prop} {T : Nat → ah → Prop} (hh : wp P ρ d M is lv st h (cV F T)) (hF : ∀ h, F h → K (Sum.inl none) h) (hT : ∀ e h, T e h → K (Sum.inr e) h) : wp P ρ d M is lv st h K := by
  refine wp_mon _ _ _ _ _ _ _ _ _ lsub_rfl (fun o h k => ?_) hh
  match o, k with
  | Sum.inl none, k => exact hF h k
  | Sum.inr e, k => exact hT e h k
end
theorem mem1 {a b : Nat} (h : a = b) : a ∈ [b] := List.mem_singleton.mpr h
theorem nn_ {c : Prop} (h : ¬ ¬ c) : c := Classical.byContradiction h
theorem hK_fr (h : ah) (k n m : Nat) : hK (hn h k n m) (hz h) = k := if_pos rfl
theorem hK_fr0 {h : ah} {k n m : Nat} (e : k ≠ 0) : hK (hn h k n m) (hz h) ≠ 0 := by rw [hK_fr]; exact e
theorem hK_ne {k a : Nat} (h : a = k + 1) : a ≠ 0 := by rw [h]; exact Nat.succ_ne_zero k
theorem K_sI {h : ah} {f a : Nat} {v : Int} {b k : Nat} (e : hK h b = k) : hK (sI h f a v) b = k := e
theorem KM_sI {h : ah} {f a : Nat} {v : Int} {b : Nat} {k : List Nat} (e : hK h b ∈ k) : hK (sI h f a v) b ∈ k := e
theorem K_sR {h : ah} {f a v : Nat} {b k : Nat} (e : hK h b = k) : hK (sR h f a v) b = k := e
theorem KM_sR {h : ah} {f a v : Nat} {b : Nat} {k : List Nat} (e : hK h b ∈ k) : hK (sR h f a v) b ∈ k := e
theorem K_sA {h : ah} {a i : Nat} {v : Int} {b k : Nat} (e : hK h b = k) : hK (sA h a i v) b = k := e
theorem KM_sA {h : ah} {a i : Nat} {v : Int} {b : Nat} {k : List Nat} (e : hK h b ∈ k) : hK (sA h a i v) b ∈ k := e
theorem K_sB {h : ah} {a i v : Nat} {b k : Nat} (e : hK h b = k) : hK (sB h a i v) b = k := e
theorem KM_sB {h : ah} {a i v : Nat} {b : Nat} {k : List Nat} (e : hK h b ∈ k) : hK (sB h a i v) b ∈ k := e
theorem K_sN {h : ah} {a v : Nat} {b k : Nat} (e : hK h b = k) : hK (sN h a v) b = k := e
theorem KM_sN {h : ah} {a v : Nat} {b : Nat} {k : List Nat} (e : hK h b ∈ k) : hK (sN h a v) b ∈ k := e
theorem kn0 {x k : Nat} (e : x = k) (hk : Nat.beq k 0 = false) : x ≠ 0 := by
  rintro rfl
  subst e
  cases hk
