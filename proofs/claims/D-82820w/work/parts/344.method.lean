/-! perform: a method of the host does its work -/
set_option maxRecDepth 20000
/-- of the host's fields -/
def HFQ (g : HG) (N M : Nat) : Prop := ∀ f, f < M → (g.1 6 f = 0 → ¬ g.1 8 f = 0) ∧ MOW g N f ∧ ∀ c' : Nat, c' < N → ∀ k : Nat, (k : Int) < g.1 4 c' → (g.1 3 c').toNat + k = f → c' = (g.1 5 f).toNat
/-- of the host's names -/
def HNQ (g : HG) (M : Nat) : Prop := ∀ m, m < M → (g.2 3 m).length ≤ 32 ∧ ∀ i, i < (g.2 3 m).length → 0 ≤ (g.2 3 m).getD i 0 ∧ (g.2 3 m).getD i 0 ≤ 126
/-- the instance that a member's field belongs to -/
def INF (g : HG) (S : SS) (N rr f k i : Nat) : Prop := g.1 7 f = 0 → S f_Md_pileType rr = 7 ∧ S f_Md_pileValue rr = (k : Int) ∧ ∃ c, c < N ∧ S f_Md_thingClass k = (c : Int) ∧ PLC g c f i ∧ S f_Md_thingCount k = ((layG g c).length : Int)
section
variable {ρ : Nat → Nat} {d : Nat} {Q : QT} {Γ Γ' : GH} {h h' h1 h2 H H1 : ah} {C ho k i j N M a z s r f o c t n m mn m0 rr l1 l2 p E us am ab mx tm mb : Nat} {g : HG} {v hd ty κ x y sv it sum : Int} {S S' S1 S2 S3 ST : SS} {X X' X1 X2 : X3} {Y Y' Y1 Y2 : Y3} {hw : List (List Int)} {e : Option Int} {L : List Nat} {w : Nat} {bs : List Int}
theorem fwS_tr : fwS g (trS S w x y) k m i ty v = trS (fwS g S k m i ty v) w x y := by
  have e1 : slS (trS S w x y) k i = slS S k i := slS_e (trS_off.ex (by decide)) i
  unfold fwS
  rw [e1]
  split
  · unfold trS
    funext f j
    simp only [u2_e]
    by_cases c1 : f = f_Md_slotValue
    · subst c1; simp (decide := true)
    · by_cases c2 : f = f_Md_slotType
      · subst c2; simp (decide := true)
      · simp (decide := true) [c1, c2]
  · unfold trS
    funext f j
    simp only [u2_e]
    by_cases c1 : f = f_Md_staticValue
    · subst c1; simp (decide := true)
    · by_cases c2 : f = f_Md_staticType
      · subst c2; simp (decide := true)
      · simp (decide := true) [c1, c2]
theorem fwS_cong (o1 : OFF L S S1) (e : EXS LTS S S1) : OFF L (fwS g S k m i ty v) (fwS g S1 k m i ty v) := fun f j hf => by
  have e1 : slS S1 k i = slS S k i := slS_e e i
  have e2 := o1 f j hf
  unfold fwS
  by_cases c : g.1 7 m = 0
  · rw [if_pos c, if_pos c, e1, u2_e, u2_e, u2_e, u2_e, e2]
  · rw [if_neg c, if_neg c, u2_e, u2_e, u2_e, u2_e, e2]
theorem spS_cong (o1 : OFF L S S1) : OFF L (spS S p bs) (spS S1 p bs) := fun f j hf => by
  unfold spS sp1
  rw [u2_e, u2_e]
  simp only [o1 f j hf]
theorem mtS_cong (o1 : OFF L S S1) : OFF L (mtS S tm mb am ab bs) (mtS S1 tm mb am ab bs) := fun f j hf => by
  unfold mtS tx1 ntS
  simp only [u2_e, o1 f j hf]
theorem spS_off : OFF [f_Md_spelt, f_Md_spelling] S (spS S p bs) := fun f i hf => by
  have h1 : f ≠ f_Md_spelt := by rintro rfl; exact absurd hf (by decide)
  have h2 : f ≠ f_Md_spelling := by rintro rfl; exact absurd hf (by decide)
  unfold spS; rw [u2_f h2, sp1_o h1]
theorem does_full (P : PFX Γ h C ho X Y S N t o n c r s a κ mn m0 rr) (U : HUS ρ Γ h ho S g N M hw) (MM : MMO h ho g M) (W : HWF g N M) (ahq : AHQ S s m κ) (hm : m < M) (k6 : ¬ g.1 6 m = 0) (e1 : S f_Md_traced 0 = (w : Int)) (h1 : w ≤ 100000) (h2 : ¬ w + 2 ≤ 100000) (q : PFD ρ g N M hw Γ h C ho X Y S s Q) : pK Q (Sum.inr (C + 33)) (cc h C (erX X 0) Y) := ⟨kSg P.1.1.2, q (some 0) _ h _ Y (TAC.does0 (ρ := ρ) ahq hm k6 (TDM.full e1 h1 h2)) (RLD.mk (DMX.rf P.1 U MM) W P.full)⟩
/-- a method's work -/
theorem pf_method (P : PFX Γ h C ho X Y S N t o n c r s a κ mn m0 rr) (U : HUS ρ Γ h ho S g N M hw) (MM : MMO h ho g M) (YH : YHO Y ho) (SM : STM ρ h) (W : HWF g N M) (hκ : ¬ κ = 2 ∧ ¬ κ = 3) (fl : S f_Md_foundLinker 0 = 1 ∨ S f_Md_foundLinker 0 = 2) (ew : S f_Md_foundWhich 0 = (m : Int)) (em : Y 53 f_Found_member 0 = hB h (ho + 3) m) (hm : m < M) (k6 : g.1 6 m = 1) (NQ : HNQ g M) (FQ : HFQ g N M) (gs : GOS g S N m rr) (pv : PVS S N rr (esK κ mn)) (ar : (g.2 2 m).length = 1 ∧ g.1 9 m = 0 → 1 ≤ esK κ mn) (ins : ∀ f, kwO g m = some f → ∃ k i, INF g S N rr f k i) (q : PFD ρ g N M hw Γ h C ho X Y S s Q) : wpB PGm ρ (d + 16) m_Machine_does 0 [(0, vR (C + 32)), (1, vR (Y 53 f_Found_member 0)), (2, vI (m0 : Int)), (3, vI (if κ = 0 then 0 else if κ = 1 then 1 else (mn : Int))), (4, vI (if κ = 1 then 1 else 0))] [] (cc h C X Y) (pK Q) := by
  have HC := P.1
  have G := HC.1.1
  have F0 := HC.1.2
  have I := P.2.1.ix
  have ht := I.2.2.1
  have e1 : Y 32 f_Machine_t 0 = C + o := I.2.2.2.1.1
  have e2 : X o f_Task_size 0 = (n : Int) := I.2.2.2.1.2.1
  have hmn := P.2.2.2.2.1
  have hn0 := I.2.2.2.2.1
  obtain ⟨⟨mk, mz, m0'⟩, mnn, mkd, -, mt, mt2, mo5, -⟩ := U.1.me hm
  obtain ⟨w, lo, b1, b2, b3, b4, b5, b6, -⟩ := HC.2.2.2.2.2.2.2.1.2.1
  have ahq : AHQ S s m κ := ⟨P.2.2.2.2.2.1.1, P.2.2.2.2.2.1.2.1, fl, ew⟩
  have ees : S f_Md_es 0 = (esK κ mn : Int) := P.2.2.2.2.2.1.2.2.2.1
  have k01 : 0 ≤ κ := P.2.2.2.2.2.1.2.2.2.2.1.1
  have mn8 : mn ≤ 8 := P.2.2.2.2.2.1.2.2.2.2.2
  have e8 : esK κ mn ≤ 8 := by unfold esK; split <;> (try split) <;> (try split) <;> omega
  have eE : (if κ = 0 then (0 : Int) else if κ = 1 then 1 else (mn : Int)) = ((esK κ mn : Nat) : Int) := by
    unfold esK
    by_cases c0 : κ = 0
    · rw [if_pos c0, if_pos c0]; rfl
    · rw [if_neg c0, if_neg c0, if_neg hκ.2]
      by_cases c1 : κ = 1
      · rw [if_pos c1, if_pos (by omega)]; rfl
      · rw [if_neg c1, if_neg (by omega)]
  obtain ⟨gt, gv⟩ := P.2.2.2.2.2.2.1
  obtain ⟨tn, sn, sm', d1, d2, d5, d6', d3, d4, d6, d7, d8, U', -⟩ := HC.shp
  have V0 := P.pl (i := 0) (by omega)
  rw [Nat.add_zero, Nat.add_zero] at V0
  have gvb : S f_Md_goesType 0 = 7 → 0 ≤ S f_Md_goesValue 0 ∧ S f_Md_goesValue 0 < 8000 ∧ 0 ≤ S f_Md_thingClass (S f_Md_goesValue 0).toNat ∧ S f_Md_thingClass (S f_Md_goesValue 0).toNat < (N : Int) := fun c => by
    rw [gt] at c
    rw [gv]
    have t8 := pv.2.2.1
    have vv : 0 ≤ S f_Md_pileValue rr ∧ S f_Md_pileValue rr < S f_Md_things 0 := by
      rcases V0.2.2 with z | z | z | z | z | z <;> omega
    rcases gs with z | z
    · exact ⟨vv.1, by omega, z.2.2⟩
    · exact absurd c z.2
  obtain ⟨nq1, nq2⟩ := NQ m hm
  have Z : MTQ g N M m (g.1 5 m).toNat := ⟨hm, by omega, by omega, by omega, by omega, nq2, mt2⟩
  have ff := kw_ff W hm mo5.2.1 (fun f hf => (FQ f hf).1)
  have xk : hI (cc h C X Y) f_Member_kind (hB h (ho + 3) m) = g.1 6 m := by rw [ccIo (by decide)]; exact mkd
  have x1 : hI (cc h C X Y) f_Machine_traceSize (C + 32) = (w : Int) := by rw [ccI (by decide)]; exact b1
  have r2 : hR (cc h C X Y) f_Machine_t (C + 32) = C + o := by rw [ccR (by decide)]; exact e1
  have r3 : hR (cc h C X Y) f_Machine_heap (C + 32) = C + 50 := by rw [ccRo (by decide)]; exact F0.2.1.2.2.2.2.1
  have r8 : hI (cc h C X Y) f_Task_size (C + o) = (n : Int) := by rw [ccIt ht (by decide)]; exact e2
  have t1 : ∀ i, hA (cc h C X Y) (hR (cc h C X Y) f_Task_tags (C + o)) i = X o f_Task_tags i := fun i => by rw [ccRo (by decide), ccAt G ht (by decide)]
  have t2 : ∀ i, hA (cc h C X Y) (hR (cc h C X Y) f_Task_words (C + o)) i = X o f_Task_words i := fun i => by rw [ccRo (by decide), ccAt G ht (by decide)]
  have ft := F0.t ht
  unfold FCt at ft
  have bb : 0 ≤ ((n - 1 : Nat) : Int) ∧ ((n - 1 : Nat) : Int) < ((2001 : Nat) : Int) ∧ (1 ≤ n ∧ n ≤ 2000000000) ∧ w + 2 ≤ 2000000000 := by omega
  have ge1 : ((w + 2 : Nat) : Int) ≤ 100000 → w + 2 ≤ 100000 := fun c => by omega
  have ge2 : 100000 < ((w + 2 : Nat) : Int) → ¬ w + 2 ≤ 100000 := fun c => by omega
  have n2 : ¬ g.1 6 m = 2 := by omega
  have n0 : ¬ g.1 6 m = 0 := by omega
  have w2 : w32 ((w : Int) + 2) = ((w + 2 : Nat) : Int) := w32_aa bb.2.2.2
  have wn1 : w32 ((n : Int) - 1) = ((n - 1 : Nat) : Int) := w32_m1 bb.2.2.1
  have full : ¬ w + 2 ≤ 100000 → wpB PGm ρ (d + 15) m_Heap_full 0 [(0, vR (C + 50))] [] (cc h C X Y) (cR (fun x56 h51 => hK h51 x56 ≠ 0 ∧ pK Q (Sum.inr x56) h51) (fun e54 h53 => hK h53 e54 ≠ 0 ∧ pK Q (Sum.inr e54) h53)) := fun c => by
    have := does_full P U MM W ahq hm n0 b2 b3 c q
    exact r_full (d := d + 14) G F0 ⟨kSg F0, this⟩
  rw [em, eE]
  refine b_Machine_does_0 (d := d + 15) ⟨F0.1.1, ?_⟩
  rw [x1, w2, r2, r3, r8, wn1, Int.toNat_natCast, t1, t2, xk]
  refine ⟨fun c9 => ⟨ft.1, ⟨?_, bb.1, ?_⟩, ⟨?_, bb.1, ?_⟩, mk, fun _ => ?_, fun c2 => absurd c2 n2⟩, fun c => ⟨F0.1.2.2.2.2.2.1, full (ge2 c)⟩⟩
  · simp (decide := true) only [ccRo, ccK, KCt G ht]
  · rw [ccRo (by decide), ccl, ft.2.2.1]; exact bb.2.1
  · simp (decide := true) only [ccRo, ccK, KCt G ht]
  · rw [ccRo (by decide), ccl, ft.2.1]; exact bb.2.1
  have hw2 := ge1 c9
  clear full ge1 ge2 w2 wn1
  refine r_know (d := d + 1) G F0 U.1 W YH.1 SM MM hm n2 nq1 (fun i hi => by have := nq2 i hi; omega) (fun H X2 KN eX2 => ?_)
  have A := DMX.know HC U KN eX2
  obtain ⟨P2, -⟩ := P.dmx A
  obtain ⟨-, -, -, -, -, -, -, U2, -, MM2, nx2, -⟩ := id A
  obtain ⟨⟨_, _, frK, -⟩, eb, -, kf, ks⟩ := KN
  have mk2 : hK H (hB h (ho + 3) m) = k_Member := by rw [frK.K mz]; exact mk
  have mz2 := frK.lt mz
  have rf : hR (cc H C X2 Y) f_Member_field (hB h (ho + 3) m) = adO h ho (kwO g m) := by rw [ccRo (by decide)]; exact kf
  refine ⟨mk2, ?_⟩
  rw [rf]
  -- the end, if nothing more has changed
  have fin : ∀ {S2 ST : SS} {H2 : ah} {x y ty v : Int}, DMX ρ Γ h C ho X Y S g N M hw S2 H2 X2 → S2 f_Md_traced 0 = (w : Int) → TDM ρ g N M m S (some none) ST → OFF LZT (trS S2 w (m : Int) ((esK κ mn : Nat) : Int)) ST → ST f_Md_type 0 = ty → ST f_Md_value 0 = v → VR Γ S2 N x y ty v → wpB PGm ρ (d + 16) m_Machine_does 104 [(0, vR (C + 32)), (1, vR (hB h (ho + 3) m)), (2, vI (m0 : Int)), (3, vI ((esK κ mn : Nat) : Int)), (4, vI (if κ = 1 then 1 else 0)), (5, vI (X o f_Task_tags (n - 1))), (6, vL (X o f_Task_words (n - 1)))] [] (cc H2 C (ansX X2 o m0 c x y) Y) (pK Q) := fun {S2 ST H2 x y ty v} B et D oT e3 e4 V => by
    obtain ⟨PB, -⟩ := P.dmx B
    exact pf_end (d := d + 4) P B W U hm n0 ahq rfl PB.1 PB.2.1.2.2.1 GRO.rf EXS.rf (fun _ _ _ => rfl) (fun _ _ _ _ => rfl) Fr.r0 (BND.rf.le (by decide) (by decide)) et hw2 D oT e3 e4 V q
  cases ek : kwO g m with
  | none =>
    rw [ek] at ff
    refine ⟨fun _ => ⟨P2.1.1.2.1.1, ?_⟩, fun z => absurd rfl z⟩
    have e3 : hB h (ho + 3) m = hB H (ho + 3) m := (eb _ _).symm
    have ff' : ffG g m < 0 := by rw [ff]; decide
    obtain ⟨mx, us, sb, mb, tm, am, ab, TK⟩ := P2.1.2.2.2.2.1.kk
    have pl0 : PRL H C 0 := ⟨P2.1.2.2.2.2.2.2.2.1.2.2, Nat.zero_le _⟩
    rw [e3]
    refine r_result (d := d) P2 U2 YH hm pv rfl gs (fun n7 x y V => ?_) (fun c7 => ?_)
    · rw [← e3]
      obtain ⟨S1, o1, D⟩ := TDM.ans (ρ := ρ) W Z b2 hw2 ff' n7 pv e8 ees gvb
      exact fin A b2 D ((trS_cong o1).le (by decide) |>.tr (isS_off.le (by decide))) (by unfold isS; rw [u2_f (by decide), u2_s]) (by unfold isS; rw [u2_s]) V
    · obtain ⟨S1, o1, D0, D1⟩ := TDM.text (ρ := ρ) W Z b2 hw2 ees ff' c7 TK.tms
      refine r_rtext P2 U2.1 YH hm n2 ⟨by omega, nq2⟩ TK.tmx TK.2.2.2.2.1 pl0 TK.rm.1 TK.rm.2 (fun rm h' X' J => ?_) (fun rm h' X' J nk => ?_)
      · rw [← e3]
        obtain ⟨z, s', ⟨M1, K1⟩, g1, bd, nsc, nxc, fr, V3⟩ := P2.1.mkt TK rm (fun i hi => by have := nq2 i hi; omega) J (fun f i hf => spS_off (S := S) (p := 0) (bs := g.2 3 m) f i hf)
        have oM : OFF ([f_Md_textFrom, f_Md_textLength, f_Md_madeTexts, f_Md_madeBytes, f_Md_allTexts, f_Md_allBytes, f_Md_textSigns] ++ [f_Md_spelt, f_Md_spelling]) S (mtS (spS S 0 (g.2 3 m)) tm mb am ab (g.2 3 m)) := (spS_off.le (by decide)).tr (mtS_off.le (by decide))
        refine pf_end (d := d + 4) P A W U hm n0 ahq rfl M1 (K1 P2.2.1.2.2.1) g1 (oM.ex (by decide)) nsc nxc fr (bd.le (by decide) (by decide)) (by rw [oM _ _ (by decide)]; exact b2) hw2 (D1 rm) ?_ ?_ ?_ V3 q
        · refine OFF.le (trS_cong ?_) (L := LWN ++ [f_Md_type, f_Md_value]) (by decide)
          exact ((mtS_cong (spS_cong o1)).le (by decide)).tr (isS_off.le (by decide))
        · unfold trS isS; rw [u2_f (by decide), u2_f (by decide), u2_f (by decide), u2_f (by decide), u2_s]
        · unfold trS isS; rw [u2_f (by decide), u2_f (by decide), u2_f (by decide), u2_s]
      · obtain ⟨z, s', ⟨M1, K1⟩, g1, bd, nsc, nxc, fr⟩ := P2.1.prt J (S' := spS S 0 (g.2 3 m)) (fun f i hf => spS_off (S := S) (p := 0) (bs := g.2 3 m) f i hf)
        have o2 := spS_cong (p := 0) (bs := g.2 3 m) o1
        obtain ⟨⟨M4, K4⟩, g4, bd4⟩ := M1.fzz (L := []) (Pp := []) (h' := h') (X' := X') (Y' := Y) (S' := spS S1 0 (g.2 3 m)) Fr.r0 (by unfold DJ; decide +kernel) (fun y c => by simp at c) (o2.ex (by decide)) (Int.le_of_eq (o2 _ _ (by decide)).symm) EXX.rf (fun _ _ _ _ => rfl)
        have RL := RLC.mem (v := 0) (x := 99) P2.2.1 M4 (K4 (K1 P2.2.1.2.2.1)) (g1.tr g4) ((bd.tr (bd4 (o2.ex (by decide)))).le (by decide) (by decide)) (fun f i hf => (o2.le (L' := LSc) (by decide) f i hf).trans (nsc f i hf)) nxc fr (Or.inl ⟨rfl, rfl⟩)
        exact ⟨nk, kSg M1.1.2, q (some 0) _ _ _ Y (TAC.does0 (ρ := ρ) ahq hm n0 (D0 rm)) (RLD.mk A W RL)⟩
  | some f =>
    rw [ek] at ff
    obtain ⟨f1, f2, f3, -⟩ := kwO_lt W mo5.2.1 ek
    have fne : adO h ho (some f) ≠ 0 := (U.1.me f1).1.2.2
    refine ⟨fun z => absurd z fne, fun _ => ⟨P2.1.1.2.1.1, ?_⟩⟩
    obtain ⟨k, i, IN⟩ := ins f ek
    obtain ⟨fq1, fq2, fq3⟩ := FQ f f1
    have ik : g.1 7 f = 0 → (k : Int) < S f_Md_things 0 ∧ S f_Md_thingKind k = 7 := fun z => by
      obtain ⟨i1, i2, -⟩ := IN z
      rcases V0.2.2 with z | z | z | z | z | z <;> first | omega | skip
      rw [i2, Int.toNat_natCast, i1] at z
      exact ⟨z.2.2.2.1, z.2.2.2.2⟩
    have FI : FIQ g S N M k f i := ⟨f1, fun z => by
      obtain ⟨i1, i2, c0, i3, i4, i5, i6⟩ := IN z
      obtain ⟨cnt, Lg, ecg⟩ := SLG.co HC (ik z).1
      have : cnt = (layG g c0).length := by omega
      subst this
      exact ⟨by rw [gv]; exact i2, by have := (ik z).1; have := pv.2.2.1; omega, c0, i3, i4, i5, Lg⟩⟩
    have kse : kwS g m = 0 → ¬ g.1 8 m = 0 := fun z => by
      unfold kwS at z
      unfold kwO at ek
      by_cases c1 : (g.2 2 m).length = 0 ∧ ¬ g.1 8 m = 0
      · exact c1.2
      · rw [if_neg c1] at ek
        split at ek
        · next c2 => rw [if_pos c2] at z; exact absurd z (by decide)
        · cases ek
    have ksn : ¬ kwS g m = 0 → g.1 8 m = 0 ∧ 1 ≤ esK κ mn := fun z => by
      unfold kwS at z
      by_cases c2 : (g.2 2 m).length = 1 ∧ g.1 9 m = 0 ∧ g.1 8 m = 0
      · exact ⟨c2.2.2, ar ⟨c2.1, c2.2.1⟩⟩
      · rw [if_neg c2] at z; exact absurd rfl z
    refine r_access (d := d) P2 U2 mk2 mz2 (f := f) (by rw [kf, ek]; exact (eb _ _).symm) ks f1 fq2 fq3 IN (fun z => (ksn z).2) (fun z H2 LY => b_Machine_does_94 ?_) (fun z H2 SW => b_Machine_does_94 ?_)
    · obtain ⟨S1, S2, o1, o2, D⟩ := TDM.rd (ρ := ρ) W Z b2 hw2 ff (kse z) ees FI
      have A2 := A.lyr W LY
      have VV := fv_vr (l2 := hB H (C + 51) k) P2.1 U2 fq2 (fun z => by
        obtain ⟨i1, i2, c0, i3, i4, i5, i6⟩ := IN z
        exact ⟨rfl, (ik z).1, (ik z).2, c0, i3, i4, i5, i6⟩) (U.1.me f1).2.2.2.2.2.2.2.2.1
      refine fin A2 b2 D ?_ (by unfold isS; rw [u2_f (by decide), u2_s]) (by unfold isS; rw [u2_s]) VV
      exact (((trS_cong o1).le (by decide)).tr (o2.le (by decide))).tr (isS_off.le (by decide))
    · obtain ⟨kt, ke⟩ := ksn z
      obtain ⟨S1, S2, o1, o2, D⟩ := TDM.wr (ρ := ρ) W Z b2 hw2 ff kt ees P.2.2.1.2.2.1 (by have := pv.2.1; omega) FI
      have A2 := A.swr W SW fwS_off
      refine fin (x := 0) (y := 0) A2 (by rw [fwS_off _ _ (by decide)]; exact b2) D ?_ (by unfold isS; rw [u2_f (by decide), u2_s]) (by unfold isS; rw [u2_s]) ⟨rfl, rfl, Or.inl ⟨rfl, rfl⟩⟩
      have o3 : OFF (LWN ++ LFD) (trS S w (m : Int) ((esK κ mn : Nat) : Int)) S2 := ((trS_cong o1).le (by decide)).tr (o2.le (by decide))
      have o4 := fwS_cong (g := g) (k := k) (m := f) (i := i) (ty := S f_Md_pileType (rr + 1)) (v := S f_Md_pileValue (rr + 1)) o3 (o3.ex (by decide))
      rw [fwS_tr] at o4
      exact (o4.le (by decide)).tr (isS_off.le (by decide))
end
