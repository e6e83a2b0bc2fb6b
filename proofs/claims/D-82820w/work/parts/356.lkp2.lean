/-! kept choices of both: a choice is asked for -/
set_option maxRecDepth 20000
section
variable {h h' : ah} {ho C k n i j N M c kn ac kn2 ac2 e c' : Nat} {S S' SX S2 : SS} {X X2 : X3} {Y Y2 : Y3} {g : HG} {md nm md' nm' κ st κ' st' v vs wo wo2 nn nn' : Int} {L ts L' ts' : List Int} {ws ws2 hw : List (List Int)} {K K0 K' : KEY} {CK CK2 : Nat → KEY} {CV CV2 : Nat → Int} {ca ca2 : Nat → Nat}
theorem LKP.val (H : LKP g hw ws h ho X Y S N M kn ac CK CV ca) (wd : ws.Nodup) (b1 : hkB g κ st c L = true) (s1 : st = 0 ∨ st = 1) (n5 : κ = 5 → ∃ a : Nat, nn = (a : Int) ∧ a < ws.length ∧ ws.getD a [] = L) (t1 : ∀ i, i < ts.length → 0 ≤ ts.getD i 0) : ∀ K0, KEQ hw κ st c L ts K0 → ∀ k, k < kn → CK k = K0 → CV k = sglG g ts (hkC g κ st c L) := fun K0 k1 k hk e => by
  obtain ⟨κ', st', c', L', ts', n', s2, b2, k2, -, hv, -, n5', t2⟩ := H.2.2.2.1 k hk
  obtain ⟨-, -, -, e4, e5⟩ := key_ct (nn := nn) (nn' := n') wd b1 b2 s1 s2 k1 k2 n5 n5' t1 t2 e.symm
  rw [hv, e4, e5]
theorem LKP.chm (H : LKP g hw ws h ho X Y S N M kn ac CK CV ca) (nd : hw.Nodup) (wd : ws.Nodup) (b1 : hkB g κ st c L = true) (s1 : st = 0 ∨ st = 1) (n5 : κ = 5 → ∃ a : Nat, nn = (a : Int) ∧ a < ws.length ∧ ws.getD a [] = L) (t1 : ∀ i, i < ts.length → 0 ≤ ts.getD i 0) (k1 : KEQ hw κ st c L ts K0) (hk : k < kn) : (CHM S k (c : Int) (hkD κ st) (hkN g κ st c L nn) ts ↔ CK k = K0) := by
  obtain ⟨κ', st', c', L', ts', n', s2, b2, k2, cm, hv, -, n5', t2⟩ := H.2.2.2.1 k hk
  constructor
  · intro A
    obtain ⟨e1, e2, e3, e4⟩ := A.fn cm
    exact (key_tc nd b1 b2 s1 s2 k1 k2 n5 n5' e1 e2 e3 e4).symm
  · intro e
    obtain ⟨e1, e2, e3, e4, -⟩ := key_ct (nn := nn) (nn' := n') wd b1 b2 s1 s2 k1 k2 n5 n5' t1 t2 e.symm
    rw [e1, e2, e3, e4]
    exact cm
/-- rows of kept choices stay -/
theorem CKR.keep (H : CKR g hw ws S k K v) (e1 : ∀ f, [f_Md_choiceClass, f_Md_choiceMode, f_Md_choiceName, f_Md_choiceMany, f_Md_choiceFound].elem f = true → S' f k = S f k) (e2 : ∀ i, i < 8 → S' f_Md_choiceTypes (8 * k + i) = S f_Md_choiceTypes (8 * k + i)) (l8 : ∀ ts : List Int, S f_Md_choiceMany k = (ts.length : Int) → ts.length ≤ 8) (hws : ∀ a, a < ws.length → a < ws2.length ∧ ws2.getD a [] = ws.getD a []) : CKR g hw ws2 S' k K v := by
  obtain ⟨κ', st', c', L', ts', n', s2, b2, k2, ⟨m1, m2, m3, m4, m5⟩, hv, hf, n5', t2⟩ := H
  have l := l8 ts' m4
  refine ⟨κ', st', c', L', ts', n', s2, b2, k2, ⟨by rw [e1 _ (by decide)]; exact m1, by rw [e1 _ (by decide)]; exact m2, by rw [e1 _ (by decide)]; exact m3, by rw [e1 _ (by decide)]; exact m4, fun i hi => by rw [e2 i (by omega)]; exact m5 i hi⟩, hv, by rw [e1 _ (by decide)]; exact hf, fun q => ?_, t2⟩
  obtain ⟨a, a1, a2, a3⟩ := n5' q
  exact ⟨a, a1, (hws a a2).1, by rw [(hws a a2).2]; exact a3⟩
/-- what T does when a choice is asked for -/
theorem LKP.che (H : LKP g hw ws h ho X Y S N M kn ac CK CV ca) (nd : hw.Nodup) (wd : ws.Nodup) (b1 : hkB g κ st c L = true) (s1 : st = 0 ∨ st = 1) (n5 : κ = 5 → ∃ a : Nat, nn = (a : Int) ∧ a < ws.length ∧ ws.getD a [] = L) (t1 : ∀ i, i < ts.length → 0 ≤ ts.getD i 0) (t8 : ts.length ≤ 8) (m8 : ∀ k, k < kn → S f_Md_choiceMany k ≤ 8) (k1 : KEQ hw κ st c L ts K0) (CE : CEV kn ac CK CV ca K0 (sglG g ts (hkC g κ st c L)) kn2 ac2 CK2 CV2 ca2 (X 98 f_Lookup_workedOut 0) (X2 98 f_Lookup_workedOut 0) e) (K2 : LKH h' ho X2 Y2 N M kn2 ac2 CK2 CV2 ca2) : ∃ SX, CHE g ts (hkC g κ st c L) S (c : Int) (hkD κ st) (hkN g κ st c L nn) (sglG g ts (hkC g κ st c L)) SX ∧ OFF LCH3 S SX ∧ SX f_Md_allChoices 0 = S f_Md_allChoices 0 + e ∧ ∀ S2, EXS LCH3 SX S2 → LKP g hw ws h' ho X2 Y2 S2 N M kn2 ac2 CK2 CV2 ca2 ∧ ∀ k, k < kn2 → S2 f_Md_choiceMany k ≤ 8 := by
  obtain ⟨⟨⟨x1, x2, l1, l2⟩, -, -⟩, ⟨h1, h2⟩, h3, h4, h5⟩ := id H
  have lk : ∀ {S2 : SS}, EXS LCH3 S S2 → ∀ k, k < kn → CKR g hw ws S2 k (CK k) (CV k) := fun {S2} es k hk => (h4 k hk).keep (fun f hf => es f (by
    have : [f_Md_choiceClass, f_Md_choiceMode, f_Md_choiceName, f_Md_choiceMany, f_Md_choiceFound].all (fun f => LCH3.elem f) = true := by decide
    exact List.all_eq_true.mp this f (by simpa using hf)) k) (fun i _ => es _ (by decide) _) (fun ts' e => by have := m8 k hk; omega) (fun a ha => ⟨ha, rfl⟩)
  rcases CE with ⟨k, hk, ek, nk, hv, rfl, rfl, rfl, rfl, rfl, ew, rfl⟩ | ⟨nk, ew, ⟨ac0, rfl, rfl, rfl, rfl, -, rfl⟩ | ⟨ac0, rfl, rfl, rfl, rfl, rfl, rfl⟩⟩
  · refine ⟨S, Or.inl ⟨k, kn2, hk, by omega, h1, (H.chm nd wd b1 s1 n5 t1 k1 hk).mpr ek, fun j hj c => ?_, ?_, rfl⟩, OFF.rf, by omega, fun S2 es => ⟨⟨K2, ⟨by rw [es _ (by decide)]; exact h1, by rw [es _ (by decide)]; exact h2⟩, by rw [es _ (by decide), ew]; exact h3, lk es, h5⟩, fun k hk => by rw [es _ (by decide)]; exact m8 k hk⟩⟩
    · have := (H.chm nd wd b1 s1 n5 t1 k1 (by omega : j < kn2)).mp c
      exact h5 j k hj hk (this.trans ek.symm)
    · obtain ⟨_, _, _, _, _, _, _, _, _, _, _, hf, _⟩ := h4 k hk
      rw [hf]; exact hv
  · -- a new choice
    have nm : ∀ j, j < kn → ¬ CHM S j (c : Int) (hkD κ st) (hkN g κ st c L nn) ts := fun j hj c => nk j hj ((H.chm nd wd b1 s1 n5 t1 k1 hj).mp c)
    obtain ⟨r1, r2, r3, r4, r5⟩ := chS_n (S := S) (k := kn) (ac := ac) (c := (c : Int)) (md := hkD κ st) (nm := hkN g κ st c L nn) (ts := ts) (v := sglG g ts (hkC g κ st c L))
    have ro := fun j (hj : j < kn) => chS_k (S := S) (k := kn) (j := j) (ac := ac) (c := (c : Int)) (md := hkD κ st) (nm := hkN g κ st c L nn) (ts := ts) (v := sglG g ts (hkC g κ st c L)) hj
    refine ⟨chS S kn ac (c : Int) (hkD κ st) (hkN g κ st c L nn) ts (sglG g ts (hkC g κ st c L)), Or.inr ⟨kn, ac, l1, l2, h1, h2, nm, rfl, by rw [if_pos ac0]⟩, fun f i hf => chS_o hf, by rw [r4, h2]; omega, fun S2 es => ⟨⟨K2, ⟨by rw [es _ (by decide)]; exact r3, by rw [es _ (by decide)]; exact r4⟩, ?_, fun k hk => ?_, fun j k hj hk => ?_⟩, fun k hk => ?_⟩⟩
    · rw [es _ (by decide), r5, ew, h3]
    · by_cases c : k = kn
      · subst c
        unfold upF
        rw [if_pos rfl, if_pos rfl]
        obtain ⟨m1, m2, m3, m4, m5⟩ := r1
        exact ⟨κ, st, _, L, ts, nn, s1, b1, k1, ⟨by rw [es _ (by decide)]; exact m1, by rw [es _ (by decide)]; exact m2, by rw [es _ (by decide)]; exact m3, by rw [es _ (by decide)]; exact m4, fun i hi => by rw [es _ (by decide)]; exact m5 i hi⟩, rfl, by rw [es _ (by decide)]; exact r2, n5, t1⟩
      · have hk' : k < kn := by omega
        unfold upF
        rw [if_neg c, if_neg c]
        refine (h4 k hk').keep (fun f hf => ?_) (fun i hi => ?_) (fun ts' e => by have := m8 k hk'; omega) (fun a ha => ⟨ha, rfl⟩)
        · rw [es f (by
            have : [f_Md_choiceClass, f_Md_choiceMode, f_Md_choiceName, f_Md_choiceMany, f_Md_choiceFound].all (fun f => LCH3.elem f) = true := by decide
            exact List.all_eq_true.mp this f (by simpa using hf))]
          exact (ro k hk').1 f hf
        · rw [es _ (by decide)]; exact (ro k hk').2 i hi
    · unfold upF
      by_cases c : k = kn
      · rw [if_neg (by omega), if_pos c]
        exact nk j (by omega)
      · rw [if_neg (by omega), if_neg c]
        exact h5 j k hj (by omega)
    · rw [es _ (by decide)]
      by_cases c : k = kn
      · rw [c, r1.2.2.2.1]; omega
      · rw [(ro k (by omega)).1 _ (by decide)]; exact m8 k (by omega)
  · -- no room for it
    have nm : ∀ j, j < kn2 → ¬ CHM S j (c : Int) (hkD κ st) (hkN g κ st c L nn) ts := fun j hj c => nk j hj ((H.chm nd wd b1 s1 n5 t1 k1 hj).mp c)
    refine ⟨u2 S f_Md_workedOut 0 (w32 (S f_Md_workedOut 0 + 1)), Or.inr ⟨kn2, ac2, l1, l2, h1, h2, nm, rfl, by rw [if_neg (by omega)]⟩, OFF.rf.u (by decide), by rw [u2_f (by decide)]; omega, fun S2 es => ?_⟩
    have es' : ∀ f, LCH3.elem f = true → f ≠ f_Md_workedOut → ∀ i, S2 f i = S f i := fun f hf hne i => by rw [es f hf, u2_f hne]
    refine ⟨⟨K2, ⟨by rw [es' _ (by decide) (by decide)]; exact h1, by rw [es' _ (by decide) (by decide)]; exact h2⟩, by rw [es _ (by decide), u2_s, ew, h3], fun k hk => ?_, h5⟩, fun k hk => by rw [es' _ (by decide) (by decide)]; exact m8 k hk⟩
    refine (h4 k hk).keep (fun f hf => es' f (by
        have : [f_Md_choiceClass, f_Md_choiceMode, f_Md_choiceName, f_Md_choiceMany, f_Md_choiceFound].all (fun f => LCH3.elem f) = true := by decide
        exact List.all_eq_true.mp this f (by simpa using hf)) (by rintro rfl; exact absurd hf (by decide)) k) (fun i _ => es' _ (by decide) (by decide) _) (fun ts' e => by have := m8 k hk; omega) (fun a ha => ⟨ha, rfl⟩)
end
