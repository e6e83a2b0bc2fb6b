/-! T: a site is gone through -/
set_option maxRecDepth 20000
/-- what a site asks at first -/
def ivS (S : SS) (E rr : Nat) : SS := u2 (u2 (u2 (u2 (u2 S f_Md_es 0 (E : Int)) f_Md_r 0 (rr : Int)) f_Md_goesType 0 (S f_Md_pileType rr)) f_Md_goesValue 0 (S f_Md_pileValue rr)) f_Md_elementName 0 (-1)
/-- how many values are behind it -/
def esK (κ : Int) (mn : Nat) : Nat := if κ = 0 then 0 else if κ = 3 then 2 else if κ < 4 then 1 else mn
def LIV : List Nat := [f_Md_es, f_Md_r, f_Md_goesType, f_Md_goesValue, f_Md_elementName]
def TIV (ρ : Nat → Nat) (g : HG) (N M s pc : Nat) (ls : LV) (S : SS) (e : Option (Option AV)) (S' : SS) : Prop := TC ρ (PTO ρ g N M) 199 m_Md_invokes pc ((1, vI (s : Int)) :: ls) [] S e S'
/-- T's run of a step, with more room for calls -/
def TRN (ρ : Nat → Nat) (P : ah → Nat → Prop) (S : SS) (e : Option (Option AV)) (S' : SS) : Prop := TC ρ P 200 m_Md_does 0 [] [] S e S'
section
variable {ρ : Nat → Nat} {P : ah → Nat → Prop} {d : Nat} {Q : QT} {Γ : GH} {h h0 : ah} {C ho T k n m f i j N M b r a s rr mn sn tn row c t E pp : Nat} {S S' S1 S2 SX : SS} {X : X3} {Y : Y3} {g : HG} {l L bs ts : List Int} {ws : List (List Int)} {v p x y nm ty cnt κ hd w La bv el st LL bb : Int} {ls l2 : List ENT} {e : Option (Option AV)}
theorem ivS_off : OFF LIV S (ivS S E rr) := by unfold ivS; exact ((((OFF.rf.u (by decide)).u (by decide)).u (by decide)).u (by decide)).u (by decide)
theorem ivS_g : ivS S E rr f_Md_es 0 = (E : Int) ∧ ivS S E rr f_Md_r 0 = (rr : Int) ∧ ivS S E rr f_Md_goesType 0 = S f_Md_pileType rr ∧ ivS S E rr f_Md_goesValue 0 = S f_Md_pileValue rr ∧ ivS S E rr f_Md_elementName 0 = -1 := by
  unfold ivS
  refine ⟨?_, ?_, ?_, ?_, u2_s⟩ <;> simp (decide := true) [u2_e]
theorem cV_oT (he : e = none ∨ e = some none) {x : Nat} (kh : hK h x ≠ 0) (q : Q (oT e x) h) : cV (fun h11 => Q (Sum.inl none) h11) (fun e14 h13 => hK h13 e14 ≠ 0 ∧ Q (Sum.inr e14) h13) (oT e x) h := by
  rcases he with rfl | rfl
  · exact ⟨kh, q⟩
  · exact q
theorem TRN.site (he : e = none ∨ e = some none) (D : DF S t n c f pp k 27 (s : Int) bb) (H : TIV ρ g N M s 0 [] S e S') : TRN ρ (PTO ρ g N M) S e S' := fun d h0 T Q K q => by
  have O := K.1.1
  obtain ⟨kT, G, kH⟩ := K.1.1
  obtain ⟨F, ⟨d1, d2, d3, d4, d5, d6⟩, e1, e2, e3, e4, e5, e6, e7, e8⟩ := D
  have g1 := H d h0 T (cV (fun h11 => Q (Sum.inl none) h11) (fun e14 h13 => hK h13 e14 ≠ 0 ∧ Q (Sum.inr e14) h13)) K (cV_oT he O.kh q)
  clear H q
  refine b_Md_does_0 ?_
  simp (decide := true) (disch := first | decide | omega) only [cnI, cnIe, cnR, cnK, cnl, cnA' G, cn_sI, cn_sIe, cn_sA' G, kT, kH, KN G, LN G, u2_f, u2_s, w32_aa, w32_ss, w32_p1, w32_m1, Int.toNat_natCast, true_and, and_true, false_and, and_false, or_false, false_or, ne_eq, not_false_eq_true, forall_const, implies_true, not_true_eq_false, false_implies, e1, e2, e3, e4, e5, e6, e7, e8]
  exact ⟨by omega, by omega, by omega, by omega, by omega, g1⟩
theorem s_inv112 (O : TOK h0 T) (hs : s < 4000) (F : TF S t n c) (ht : t ≤ 1) (hn : n ≤ 2000) (ek : S f_Md_siteKind s = κ) (em : S f_Md_siteMany s = (mn : Int)) (hκ : 0 ≤ κ ∧ κ ≤ 6) (eE : E = esK κ mn) (hE : E + 1 ≤ n) (er : rr = 2100 * t + (n - 1 - E)) (q : wpB PGm ρ (d + 1) m_Md_invokes 112 [(0, vR T), (1, vI (s : Int)), (2, vI κ)] [vI (if κ = 2 ∨ κ = 3 then 1 else 0)] (cn h0 T (ivS S E rr)) Q) : wpB PGm ρ (d + 1) m_Md_invokes 0 [(0, vR T), (1, vI (s : Int))] [] (cn h0 T S) Q := by
  obtain ⟨kT, G, kH⟩ := O
  have O : TOK h0 T := ⟨kT, G, kH⟩
  have b1 : 0 ≤ (s : Int) ∧ (s : Int) < ((4000 : Nat) : Int) := by omega
  have b2 : 0 ≤ (rr : Int) ∧ (rr : Int) < ((4200 : Nat) : Int) := by omega
  have g48 : ∀ S1 : SS, u2 S1 f_Md_es 0 (E : Int) = u2 S f_Md_es 0 (E : Int) → wpB PGm ρ (d + 1) m_Md_invokes 48 [(0, vR T), (1, vI (s : Int)), (2, vI κ)] [vI (E : Int), vR T] (cn h0 T S1) Q := fun S1 e1 => by
    have F1 : TF (u2 S f_Md_es 0 (E : Int)) t n c := F.e (u2_f (by decide)) (u2_f (by decide)) (u2_f (by decide)) (by rw [u2_f (by decide)]; exact F.2.2.2.1) (u2_f (by decide))
    have m1 : 1 ≤ 2100 * t + n ∧ 2100 * t + n ≤ 2000000000 := by omega
    have m2 : E ≤ 2100 * t + n - 1 ∧ 2100 * t + n - 1 ≤ 2000000000 := by omega
    have m3 : 2100 * t + n - 1 - E = rr := by omega
    have qq : (κ = 2 → wpB PGm ρ (d + 1) m_Md_invokes 112 [(0, vR T), (1, vI (s : Int)), (2, vI κ)] [vI 1] (cn h0 T (ivS S E rr)) Q) ∧ (¬ κ = 2 → (¬ κ = 3 → wpB PGm ρ (d + 1) m_Md_invokes 112 [(0, vR T), (1, vI (s : Int)), (2, vI κ)] [vI 0] (cn h0 T (ivS S E rr)) Q) ∧ (κ = 3 → wpB PGm ρ (d + 1) m_Md_invokes 112 [(0, vR T), (1, vI (s : Int)), (2, vI κ)] [vI 1] (cn h0 T (ivS S E rr)) Q)) := by
      refine ⟨fun c => ?_, fun c => ⟨fun c2 => ?_, fun c2 => ?_⟩⟩
      · rw [if_pos (Or.inl c)] at q; exact q
      · rw [if_neg (fun z => z.elim c c2)] at q; exact q
      · rw [if_pos (Or.inr c2)] at q; exact q
    unfold ivS at qq
    clear q F em ek
    have y1 : w32 (((2100 * t + n : Nat) : Int) - 1) = ((2100 * t + n - 1 : Nat) : Int) := w32_m1 m1
    have y2 : w32 (((2100 * t + n - 1 : Nat) : Int) - (E : Int)) = (rr : Int) := by rw [← m3]; exact w32_ss m2
    refine b_Md_invokes_48 ⟨kT, ?_⟩
    show hK (sI (cn h0 T S1) f_Md_es T (E : Int)) T = k_Md ∧ _
    refine ⟨kT, ?_⟩
    rw [cn_sI (by decide), e1]
    refine s_h O F1 ht (by omega) ⟨kT, ?_⟩
    clear e1
    simp (decide := true) (disch := first | decide | omega) only [cnI, cnR, cnK, cnl, cnA' G, cn_sI, kT, KN G, LN G, y1, y2, u2_s, u2_f, Int.toNat_natCast, true_and, and_true]
    exact ⟨b2, b2, qq⟩
  have g31 : ∀ x : Int, (¬ κ = 3 → x = (E : Int)) → (κ = 3 → E = 2) → wpB PGm ρ (d + 1) m_Md_invokes 31 [(0, vR T), (1, vI (s : Int)), (2, vI κ)] [vI x, vR T] (cn h0 T S) Q := fun x h1 h2 => by
    refine b_Md_invokes_31 ⟨kT, ?_⟩
    show (¬ κ = 3 → hK (sI (cn h0 T S) f_Md_es T x) T = k_Md ∧ wpB PGm ρ (d + 1) m_Md_invokes 48 [(0, vR T), (1, vI (s : Int)), (2, vI κ)] [vI (hI (sI (cn h0 T S) f_Md_es T x) f_Md_es T), vR T] (sI (cn h0 T S) f_Md_es T x) Q) ∧ (κ = 3 → wpB PGm ρ (d + 1) m_Md_invokes 48 [(0, vR T), (1, vI (s : Int)), (2, vI κ)] [vI 2, vR T] (sI (cn h0 T S) f_Md_es T x) Q)
    rw [cn_sI (by decide)]
    refine ⟨fun c => ⟨kT, ?_⟩, fun c => ?_⟩
    · rw [cnI (by decide), u2_s, h1 c]
      exact g48 _ u2_2
    · have := g48 (u2 S f_Md_es 0 x) u2_2
      rw [h2 c] at this; exact this
  have z1 : κ = 0 → wpB PGm ρ (d + 1) m_Md_invokes 31 [(0, vR T), (1, vI (s : Int)), (2, vI κ)] [vI 0, vR T] (cn h0 T S) Q := fun c => g31 0 (fun _ => by rw [eE]; unfold esK; rw [if_pos c]; rfl) (fun c2 => by omega)
  have z2 : ¬ κ = 0 → 4 ≤ κ → wpB PGm ρ (d + 1) m_Md_invokes 31 [(0, vR T), (1, vI (s : Int)), (2, vI κ)] [vI (mn : Int), vR T] (cn h0 T S) Q := fun c c1 => g31 _ (fun _ => by rw [eE]; unfold esK; rw [if_neg c, if_neg (by omega), if_neg (by omega)]) (fun c2 => by omega)
  have z3 : ¬ κ = 0 → κ < 4 → wpB PGm ρ (d + 1) m_Md_invokes 31 [(0, vR T), (1, vI (s : Int)), (2, vI κ)] [vI 1, vR T] (cn h0 T S) Q := fun c c1 => g31 _ (fun c3 => by rw [eE]; unfold esK; rw [if_neg c, if_neg c3, if_pos c1]; rfl) (fun c2 => by rw [eE]; unfold esK; rw [if_neg c, if_pos c2])
  refine b_Md_invokes_0 ?_
  clear g31 g48 q
  simp (decide := true) (disch := first | decide | omega) only [cnI, cnR, cnK, cnl, cnA' G, kT, KN G, LN G, ek, em, Int.toNat_natCast, true_and, and_true]
  exact ⟨b1, fun c => ⟨fun c1 => ⟨b1, z2 c c1⟩, fun c1 => z3 c c1⟩, z1⟩
/-- what is known of a site that is gone to -/
def SIQ (S : SS) (t n c s mn E rr : Nat) (κ : Int) : Prop := s < 4000 ∧ TF S t n c ∧ t ≤ 1 ∧ n ≤ 2000 ∧ S f_Md_siteKind s = κ ∧ S f_Md_siteMany s = (mn : Int) ∧ (0 ≤ κ ∧ κ ≤ 6) ∧ E = esK κ mn ∧ E + 1 ≤ n ∧ rr = 2100 * t + (n - 1 - E)
theorem TIV.plain (Z : SIQ S t n c s mn E rr κ) (ne : ¬ ((κ = 2 ∨ κ = 3) ∧ (S f_Md_pileType rr = 4 ∨ S f_Md_pileType rr = 5))) (H : TIV ρ g N M s 138 [(2, vI κ), (4, vI (-1)), (5, vI 0)] (ivS S E rr) e S') : TIV ρ g N M s 0 [] S e S' := fun d h0 T Q K q => by
  obtain ⟨z1, z2, z3, z4, z5, z6, z7, z8, z9, z10⟩ := Z
  have O := K.1.1
  have g1 := b_Md_invokes_132 (H d h0 T Q K q)
  refine s_inv112 (d := d + 198) O z1 z2 z3 z4 z5 z6 z7 z8 z9 z10 (b_Md_invokes_112 ⟨fun _ => g1, fun c => ⟨O.1, ?_⟩⟩)
  rw [cnI (by decide), ivS_g.2.2.1]
  have k1 : κ = 2 ∨ κ = 3 := by
    by_cases w : κ = 2 ∨ κ = 3
    · exact w
    · rw [if_neg w] at c; exact absurd rfl c
  exact s_hasShape (fun c2 => absurd ⟨k1, c2⟩ ne) (fun c2 => ⟨fun _ => g1, fun c3 => absurd rfl c3⟩)
theorem TIV.named (Z : SIQ S t n c s mn E rr κ) (k1 : κ = 2 ∨ κ = 3) (k2 : S f_Md_pileType rr = 4 ∨ S f_Md_pileType rr = 5) (NM : NMR h C (ivS S E rr) ws) (gl : ∀ i : Nat, ws.length ≤ i → i < 4000 → S f_Md_isGlobal i = 0) (NE : NEL (ivS S E rr) ws rr el S1) (H : TIV ρ g N M s 138 [(2, vI κ), (4, vI (-1)), (5, vI 0)] (u2 S1 f_Md_elementName 0 el) e S') : TIV ρ g N M s 0 [] S e S' := fun d h0 T Q K q => by
  obtain ⟨z1, z2, z3, z4, z5, z6, z7, z8, z9, z10⟩ := Z
  have O := K.1.1
  have g1 := b_Md_invokes_132 (H d h0 T Q K q)
  have E1 : 1 ≤ E := by rw [z8]; unfold esK; rw [if_neg (by omega)]; split <;> (first | omega | (rw [if_pos (by omega)]; omega))
  refine s_inv112 (d := d + 198) O z1 z2 z3 z4 z5 z6 z7 z8 z9 z10 (b_Md_invokes_112 ⟨fun c => absurd (by rw [if_pos k1] at c; exact c) (by decide), fun c => ⟨O.1, ?_⟩⟩)
  rw [cnI (by decide), ivS_g.2.2.1]
  refine s_hasShape (fun c2 => ⟨fun c3 => absurd c3 (by decide), fun _ => ⟨O.1, ?_⟩⟩) (fun c2 => absurd k2 c2)
  exact s_namesEl (d := d + 196) O NM ivS_g.2.1 (by omega) ivS_g.2.2.2.2 (fun i a b => by rw [ivS_off _ _ (by decide)]; exact gl i a b) NE g1
theorem TIV.nonames (Z : SIQ S t n c s mn E rr κ) (k1 : κ = 2 ∨ κ = 3) (k2 : S f_Md_pileType rr = 4 ∨ S f_Md_pileType rr = 5) (NM : NMR h C (ivS S E rr) ws) (NE : NEM (ivS S E rr) ws rr) : TIV ρ g N M s 0 [] S none (erS (ivS S E rr) 99) := fun d h0 T Q K q => by
  obtain ⟨z1, z2, z3, z4, z5, z6, z7, z8, z9, z10⟩ := Z
  have O := K.1.1
  have E1 : 1 ≤ E := by rw [z8]; unfold esK; rw [if_neg (by omega)]; split <;> (first | omega | (rw [if_pos (by omega)]; omega))
  refine s_inv112 (d := d + 198) O z1 z2 z3 z4 z5 z6 z7 z8 z9 z10 (b_Md_invokes_112 ⟨fun c => absurd (by rw [if_pos k1] at c; exact c) (by decide), fun c => ⟨O.1, ?_⟩⟩)
  rw [cnI (by decide), ivS_g.2.2.1]
  refine s_hasShape (fun c2 => ⟨fun c3 => absurd c3 (by decide), fun _ => ⟨O.1, ?_⟩⟩) (fun c2 => absurd k2 c2)
  exact s_namesElM (d := d + 196) O NM ivS_g.2.1 (by omega) ivS_g.2.2.2.2 NE ⟨O.kh, q⟩
/-- the entry that is hit says what a lookup says -/
theorem TIV.hit (hs : s < 4000) (hr : row < 20000) (LK : TLK ρ g N M s 0 (u2 S f_Md_hits s (w32 (S f_Md_hits s + 1))) (some none) S1) (e1 : S1 f_Md_foundHolder 0 = S1 f_Md_holder row) (e2 : S1 f_Md_foundWhich 0 = S1 f_Md_which row) (e3 : S1 f_Md_foundShape 0 = S1 f_Md_toShape row) (e4 : S1 f_Md_foundLinker 0 = S1 f_Md_linker row) (ew : S1 f_Md_wrong 0 = 0) (H : TIV ρ g N M s 308 [] S1 e S') : TIV ρ g N M s 263 [(4, vI (row : Int))] S e S' := fun d h0 T Q K q => by
  have O := K.1.1
  have kT := O.1
  have G := O.2.1
  have b1 : 0 ≤ (s : Int) ∧ (s : Int) < ((4000 : Nat) : Int) := by omega
  have b2 : 0 ≤ (row : Int) ∧ (row : Int) < ((20000 : Nat) : Int) := by omega
  have c0 : ¬ (row : Int) < 0 := by omega
  have c1 : 0 ≤ (row : Int) := by omega
  have y0 : w32 ((0 : Int) + 0) = 0 := rfl
  have g2 := H d h0 T Q K q
  have U : ∀ {f : Nat} {v : Int}, S1 f 0 = v → u2 S1 f 0 v = S1 := fun e => u2_id e
  have g74 : wpB PGm ρ (d + 198) m_Md_hits 74 [(0, vR T), (2, vI (row : Int))] [vI 0, vI 0, vR T] (cn h0 T S1) (cV (fun h30 => wpB PGm ρ (d + 199) m_Md_invokes 308 [(0, vR T), (1, vI (s : Int))] [] h30 Q) (fun e33 h32 => hK h32 e33 ≠ 0 ∧ Q (Sum.inr e33) h32)) := by
    refine b_Md_hits_74 ?_
    simp (decide := true) (disch := first | decide | omega) only [cnI, cnR, cnK, cnl, cnA' G, cn_sI, kT, KN G, LN G, y0, U ew, U e1, U e2, U e3, U e4, Int.toNat_natCast, true_and, and_true]
    exact ⟨b2, b2, b2, b2, g2⟩
  have g60 : wpB PGm ρ (d + 198) m_Md_hits 60 [(0, vR T), (2, vI (row : Int)), (3, vI 1)] [] (cn h0 T S1) (cV (fun h30 => wpB PGm ρ (d + 199) m_Md_invokes 308 [(0, vR T), (1, vI (s : Int))] [] h30 Q) (fun e33 h32 => hK h32 e33 ≠ 0 ∧ Q (Sum.inr e33) h32)) := b_Md_hits_60 ⟨kT, fun c => absurd c (by decide), fun _ => by rw [cnI (by decide), ew]; exact g74⟩
  have gl : wpB PGm ρ (d + 198) m_Md_hits 0 [(0, vR T), (1, vI (s : Int)), (2, vI (row : Int))] [] (cn h0 T (u2 S f_Md_hits s (w32 (S f_Md_hits s + 1)))) (cV (fun h30 => wpB PGm ρ (d + 199) m_Md_invokes 308 [(0, vR T), (1, vI (s : Int))] [] h30 Q) (fun e33 h32 => hK h32 e33 ≠ 0 ∧ Q (Sum.inr e33) h32)) := by
    refine b_Md_hits_0 ⟨kT, LK (d + 66) h0 T _ K ⟨kT, ?_⟩⟩
    clear LK H g74 U
    simp (decide := true) (disch := first | decide | omega) only [cnI, cnR, cnK, cnl, cnA' G, kT, KN G, LN G, e1, e2, e3, Int.toNat_natCast, true_and, and_true, not_true_eq_false, false_implies, forall_const]
    exact ⟨b2, b2, b2, g60⟩
  refine b_Md_invokes_263 ?_
  clear LK H g74 g60 U
  simp (decide := true) (disch := first | decide | omega) only [cnI, cnR, cnK, cnl, cnA' G, cn_sA' G, kT, KN G, LN G, c0, c1, Int.toNat_natCast, true_and, and_true, false_implies, forall_const]
  exact ⟨b1, b1, gl⟩
theorem TIV.err (LK : TLK ρ g N M s 1 S none S1) : TIV ρ g N M s 263 [(4, vI (-1))] S none S1 := fun d h0 T Q K q =>
  b_Md_invokes_263 ⟨fun _ => ⟨K.1.1.1, LK (d + 67) h0 T _ K ⟨K.1.1.kh, q⟩⟩, fun c => absurd c (by decide)⟩
theorem TIV.mega (hs : s < 4000) (LK : TLK ρ g N M s 1 S (some none) S1) (e1 : ¬ S1 f_Md_isMega s = 0) (H : TIV ρ g N M s 308 [] S1 e S') : TIV ρ g N M s 263 [(4, vI (-1))] S e S' := fun d h0 T Q K q => by
  have kT := K.1.1.1
  have G := K.1.1.2.1
  have b1 : 0 ≤ (s : Int) ∧ (s : Int) < ((4000 : Nat) : Int) := by omega
  have g2 := H d h0 T Q K q
  refine b_Md_invokes_263 ⟨fun _ => ⟨K.1.1.1, LK (d + 67) h0 T _ K ⟨kT, ?_⟩⟩, fun c => absurd c (by decide)⟩
  simp (decide := true) (disch := first | decide | omega) only [cnI, cnR, cnK, cnl, cnA' G, kT, KN G, LN G, e1, Int.toNat_natCast, true_and, and_true, not_false_eq_true, false_implies, forall_const]
  exact ⟨b1, g2⟩
theorem TIV.link (hs : s < 4000) (LK : TLK ρ g N M s 1 S (some none) S1) (e1 : S1 f_Md_isMega s = 0) (TL : TC ρ TOK 1 m_Md_links 0 [(1, vI (s : Int))] [] S1 (some none) S2) (H : TIV ρ g N M s 308 [] S2 e S') : TIV ρ g N M s 263 [(4, vI (-1))] S e S' := fun d h0 T Q K q => by
  have kT := K.1.1.1
  have G := K.1.1.2.1
  have b1 : 0 ≤ (s : Int) ∧ (s : Int) < ((4000 : Nat) : Int) := by omega
  have g2 := H d h0 T Q K q
  have g3 := TL (d + 197) h0 T (cV (fun h20 => wpB PGm ρ (d + 199) m_Md_invokes 308 [(0, vR T), (1, vI (s : Int))] [] h20 Q) (fun e23 h22 => hK h22 e23 ≠ 0 ∧ Q (Sum.inr e23) h22)) K.1.1 g2
  refine b_Md_invokes_263 ⟨fun _ => ⟨K.1.1.1, LK (d + 67) h0 T _ K ⟨kT, ?_⟩⟩, fun c => absurd c (by decide)⟩
  simp (decide := true) (disch := first | decide | omega) only [cnI, cnR, cnK, cnl, cnA' G, kT, KN G, LN G, e1, Int.toNat_natCast, true_and, and_true, not_true_eq_false, false_implies, forall_const]
  exact ⟨b1, g3⟩
/-- what is done -/
def TAC (ρ : Nat → Nat) (g : HG) (N M s : Nat) (S : SS) (e : Option (Option AV)) (S' : SS) : Prop := TC ρ (PTO ρ g N M) 198 m_Md_acts 0 [(1, vI (s : Int))] [] S e S'
theorem TIV.acts (he : e = none ∨ e = some none) (H : TAC ρ g N M s S e S') : TIV ρ g N M s 308 [] S e S' := fun d h0 T Q K q =>
  b_Md_invokes_308 ⟨K.1.1.1, H d h0 T _ K (cV_oT he K.1.1.kh q)⟩
end
