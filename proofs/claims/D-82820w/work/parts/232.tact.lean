/-! T: what is done at a thing: reading, writing -/
set_option maxRecDepth 20000
/-- what is known of the task at a site -/
def GFR (S : SS) (t n c rr m p : Nat) : Prop := TF S t n c ∧ t ≤ 1 ∧ S f_Md_r 0 = (rr : Int) ∧ rr = 2100 * t + m ∧ m < n ∧ n ≤ 2000 ∧ S f_Md_top 0 = ((200 * t + (c - 1) : Nat) : Int) ∧ S f_Md_after 0 = ((p + 1 : Nat) : Int) ∧ 1 ≤ c ∧ c ≤ 200
def LGF : List Nat := [f_Md_t, f_Md_p0, f_Md_f0, f_Md_height, f_Md_frames, f_Md_r, f_Md_top, f_Md_after]
/-- a value comes in place of all that a site had -/
def gvS (S : SS) (t m c p : Nat) (ty v : Int) : SS := atS (pshA S t m ty v) t c ((p + 1 : Nat) : Int)
section
variable {ρ : Nat → Nat} {P : ah → Nat → Prop} {d : Nat} {Q : QT} {Γ : GH} {h h0 : ah} {C ho T k n m f i j N M b r a s rr mn sn tn row c t E pp : Nat} {S S' S1 S2 SX : SS} {X : X3} {Y : Y3} {g : HG} {l L bs ts : List Int} {ws : List (List Int)} {v p x y nm ty cnt κ hd w La bv el st LL bb : Int} {ls l2 : List ENT} {e : Option (Option AV)}
theorem GFR.ex (H : GFR S t n c rr m pp) (e : EXS LGF S S1) : GFR S1 t n c rr m pp := by
  obtain ⟨⟨f1, f2, f3, f4, f5⟩, a1, a2, a3, a4, a5, a6, a7, a8⟩ := H
  exact ⟨⟨by rw [e _ (by decide)]; exact f1, by rw [e _ (by decide)]; exact f2, by rw [e _ (by decide)]; exact f3, by rw [e _ (by decide)]; exact f4, by rw [e _ (by decide)]; exact f5⟩, a1, by rw [e _ (by decide)]; exact a2, a3, a4, a5, by rw [e _ (by decide)]; exact a6, by rw [e _ (by decide)]; exact a7, a8⟩
theorem s_gives (O : TOK h0 T) (H : GFR S t n c rr m pp) (q : Q (Sum.inl none) (cn h0 T (gvS S t m c pp ty v))) : wpB PGm ρ (d + 2) m_Md_gives 0 [(0, vR T), (1, vI ty), (2, vL v)] [] (cn h0 T S) Q := by
  have kT := O.1
  have G := O.2.1
  obtain ⟨F, a1, a2, a3, a4, a5, a6, a7, a8, a9⟩ := H
  obtain ⟨f1, f2, f3, f4, f5⟩ := F
  have b1 : 0 ≤ (t : Int) ∧ (t : Int) < ((2 : Nat) : Int) := by omega
  have b2 : 0 ≤ ((200 * t + (c - 1) : Nat) : Int) ∧ ((200 * t + (c - 1) : Nat) : Int) < ((400 : Nat) : Int) := by omega
  have m1 : 2100 * t ≤ rr ∧ rr ≤ 2000000000 := by omega
  have m2 : rr - 2100 * t = m := by omega
  have F1 : TF (u2 S f_Md_height t (m : Int)) t m c := ⟨by rw [u2_f (by decide)]; exact f1, by rw [u2_f (by decide)]; exact f2, by rw [u2_f (by decide)]; exact f3, u2_s, by rw [u2_f (by decide)]; exact f5⟩
  have e9 : pshS (u2 S f_Md_height t (m : Int)) t m ty v = pshA S t m ty v := by
    unfold pshS pshA putS
    rw [u2_ch (by decide), u2_ch (by decide), u2_2, u2_ch (by decide), u2_ch (by decide)]
  have gp : wpB PGm ρ (d + 1) m_Md_push 0 [(0, vR T), (1, vI ty), (2, vL v)] [] (cn h0 T (u2 S f_Md_height t (m : Int))) (cV (fun h6 => hK h6 T = k_Md ∧ (hK h6 (hR h6 f_Md_frameAt T) = 1 ∧ 0 ≤ (hI h6 f_Md_top T) ∧ (hI h6 f_Md_top T) < (hl h6 (hR h6 f_Md_frameAt T) : Int)) ∧ Q (Sum.inl none) (sA h6 (hR h6 f_Md_frameAt T) (hI h6 f_Md_top T).toNat (hI h6 f_Md_after T))) (fun e9 h8 => hK h8 e9 ≠ 0 ∧ Q (Sum.inr e9) h8)) := by
    refine s_push O F1 a1 (by omega) ⟨kT, ?_⟩
    rw [e9]
    have t1 : pshA S t m ty v f_Md_top 0 = ((200 * t + (c - 1) : Nat) : Int) := by unfold pshA putS; rw [u2_f (by decide), u2_f (by decide), u2_f (by decide)]; exact a6
    have t2 : pshA S t m ty v f_Md_after 0 = ((pp + 1 : Nat) : Int) := by unfold pshA putS; rw [u2_f (by decide), u2_f (by decide), u2_f (by decide)]; exact a7
    unfold gvS atS at q
    generalize pshA S t m ty v = S3 at *
    simp (decide := true) (disch := first | decide | omega) only [cnI, cnR, cnK, cnl, cnA' G, cn_sA' G, kT, KN G, LN G, t1, t2, Int.toNat_natCast, true_and, and_true]
    exact ⟨b2, q⟩
  have y1 : w32 ((rr : Int) - ((2100 * t : Nat) : Int)) = (m : Int) := by rw [w32_ss m1, m2]
  refine b_Md_gives_0 ?_
  simp (decide := true) (disch := first | decide | omega) only [cnI, cnR, cnK, cnl, cnA' G, cn_sA' G, kT, KN G, LN G, f1, f2, a2, y1, Int.toNat_natCast, true_and, and_true]
  exact ⟨b1, gp⟩
/-- what is read out of a thing or its prototypes -/
def RDV (S : SS) (k : Nat) (w hd ty v : Int) : Prop := (w < 0 ∧ ty = 0 ∧ v = 0) ∨ (∃ q n i : Nat, w = (i : Int) ∧ ((hd < 0 ∧ q = k) ∨ hd = (q : Int)) ∧ SLG S q n ∧ i < n ∧ ty = S f_Md_slotType (slS S q i) ∧ v = S f_Md_slotValue (slS S q i))
/-- what is known when something is done at a thing -/
def ATQ (S : SS) (s k : Nat) (κ : Int) : Prop := s < 4000 ∧ S f_Md_siteKind s = κ ∧ S f_Md_foundLinker 0 = 0 ∧ S f_Md_goesValue 0 = (k : Int) ∧ k < 8000
theorem TAC.thing (hs : ATQ S s k κ) (he : e = none ∨ e = some none) (H : TC ρ (PTO ρ g N M) 197 m_Md_actsOnThing 0 [(1, vI (s : Int)), (2, vI κ)] [] S e S') : TAC ρ g N M s S e S' := fun d h0 T Q K q => by
  obtain ⟨a1, a2, a3, a4, a5⟩ := hs
  have kT := K.1.1.1
  have G := K.1.1.2.1
  have b1 : 0 ≤ (s : Int) ∧ (s : Int) < ((4000 : Nat) : Int) := by omega
  have g1 := H d h0 T _ K (cV_oT he K.1.1.kh q)
  clear H
  refine b_Md_acts_0 ?_
  simp (decide := true) (disch := first | decide | omega) only [cnI, cnR, cnK, cnl, cnA' G, kT, KN G, LN G, a2, a3, Int.toNat_natCast, true_and, and_true, not_true_eq_false, false_implies, forall_const]
  exact ⟨b1, g1⟩
/-- T's callsFun -/
def TCL (ρ : Nat → Nat) (g : HG) (N M : Nat) (fn ty v n : Int) (S : SS) (e : Option (Option AV)) (S' : SS) : Prop := TC ρ (PTO ρ g N M) 190 m_Md_callsFun 0 [(1, vI fn), (2, vI ty), (3, vL v), (5, vI n)] [] S e S'
theorem s_at139 (O : TOK h0 T) (hs : ATQ S s k κ) (hκ : κ = 0 ∨ κ = 2 ∨ κ = 5) (ew : S f_Md_foundWhich 0 = w) (eh : S f_Md_foundHolder 0 = hd) (R : RDV S k w hd ty v) (q : wpB PGm ρ (d + 1) m_Md_actsOnThing 139 [(0, vR T), (2, vI κ), (5, vI ty)] [vL v] (cn h0 T S) Q) : wpB PGm ρ (d + 1) m_Md_actsOnThing 0 [(0, vR T), (1, vI (s : Int)), (2, vI κ)] [] (cn h0 T S) Q := by
  obtain ⟨a1, a2, a3, a4, a5⟩ := hs
  have kT := O.1
  have G := O.2.1
  have y1 : w32 (k : Int) = (k : Int) := w32_of (by omega) (by omega)
  have c4 : ¬ κ = 4 := by omega
  have c6 : ¬ κ = 6 := by omega
  have c1 : ¬ κ = 1 := by omega
  have c3 : ¬ κ = 3 := by omega
  refine b_Md_actsOnThing_0 ⟨kT, ?_⟩
  rw [cnI (by decide), cnI (by decide), cnI (by decide), ew, eh, a4, y1]
  refine ⟨fun _ => ⟨fun _ => ⟨fun c => absurd c c1, fun _ => ⟨fun _ => ?_, fun c => absurd c c3⟩⟩, fun c => absurd c c6⟩, fun c => absurd c c4⟩
  rcases R with ⟨w0, rfl, rfl⟩ | ⟨q', n', i', rfl, hq, L, hi, rfl, rfl⟩
  · refine ⟨fun c => absurd c (by omega), fun _ => b_Md_actsOnThing_103 ⟨fun c => absurd c (by decide), fun _ => b_Md_actsOnThing_121 ⟨fun c => absurd c (by decide), fun _ => q⟩⟩⟩
  · have g96 : wpB PGm ρ (d + 1) m_Md_actsOnThing 96 [(0, vR T), (2, vI κ)] [vI (q' : Int), vR T] (cn h0 T S) Q := by
      refine b_Md_actsOnThing_96 ⟨kT, kT, ?_⟩
      rw [cnI (by decide), ew]
      refine s_slotAt O L hi ?_
      have sl := L.2.2.2.2.1 i' hi
      have c0 : (0 : Int) ≤ (slS S q' i' : Int) := by omega
      have c0' : ¬ (slS S q' i' : Int) < 0 := by omega
      have b1 : 0 ≤ (slS S q' i' : Int) ∧ (slS S q' i' : Int) < ((60000 : Nat) : Int) := by omega
      have g121 : wpB PGm ρ (d + 1) m_Md_actsOnThing 121 [(0, vR T), (2, vI κ), (4, vI (slS S q' i' : Int))] [vI (S f_Md_slotType (slS S q' i'))] (cn h0 T S) Q := by
        refine b_Md_actsOnThing_121 ⟨fun _ => ?_, fun c => absurd c c0'⟩
        simp (decide := true) (disch := first | decide | omega) only [cnI, cnR, cnK, cnl, cnA' G, kT, KN G, LN G, Int.toNat_natCast, true_and, and_true]
        exact ⟨b1, q⟩
      show wpB PGm ρ (d + 1) m_Md_actsOnThing 103 [(0, vR T), (2, vI κ)] [vI (slS S q' i' : Int)] (cn h0 T S) Q
      refine b_Md_actsOnThing_103 ⟨fun _ => ?_, fun c => absurd c c0'⟩
      simp (decide := true) (disch := first | decide | omega) only [cnI, cnR, cnK, cnl, cnA' G, kT, KN G, LN G, Int.toNat_natCast, true_and, and_true]
      exact ⟨b1, g121⟩
    refine ⟨fun _ => ⟨fun c => ?_, fun c => ?_⟩, fun c => absurd c (by omega)⟩
    · rcases hq with ⟨h1, -⟩ | rfl
      · omega
      · exact g96
    · rcases hq with ⟨-, rfl⟩ | h1
      · exact g96
      · omega
theorem TAC.read (hs : ATQ S s k κ) (hκ : κ = 0 ∨ κ = 2) (ew : S f_Md_foundWhich 0 = w) (eh : S f_Md_foundHolder 0 = hd) (R : RDV S k w hd ty v) (H : GFR S t n c rr m pp) : TAC ρ g N M s S (some none) (gvS S t m c pp ty v) := TAC.thing hs (Or.inr rfl) (fun d h0 T Q K q => s_at139 (d := d + 196) K.1.1 hs (by omega) ew eh R (b_Md_actsOnThing_139 ⟨fun c => by omega, fun _ => ⟨K.1.1.1, s_gives (d := d + 194) K.1.1 H q⟩⟩))
theorem TAC.nofun (hs : ATQ S s k κ) (hκ : κ = 5) (ew : S f_Md_foundWhich 0 = w) (eh : S f_Md_foundHolder 0 = hd) (R : RDV S k w hd ty v) (ne : ¬ ty = 5) : TAC ρ g N M s S none (erS S (if ty = 0 then 4 else 5)) := TAC.thing hs (Or.inl rfl) (fun d h0 T Q K q => by
  refine s_at139 (d := d + 196) K.1.1 hs (by omega) ew eh R (b_Md_actsOnThing_139 ⟨fun _ => ⟨fun c => absurd c ne, fun _ => ⟨fun c => ?_, fun c => ?_⟩⟩, fun c => absurd hκ c⟩)
  · rw [if_neg c] at q; exact b_Md_actsOnThing_172 ⟨K.1.1.1, s_error (d := d + 195) K.1.1 ⟨K.1.1.kh, q⟩⟩
  · rw [if_pos c] at q; exact b_Md_actsOnThing_172 ⟨K.1.1.1, s_error (d := d + 195) K.1.1 ⟨K.1.1.kh, q⟩⟩)
theorem TAC.send (he : e = none ∨ e = some none) (hs : ATQ S s k κ) (hκ : κ = 5) (ew : S f_Md_foundWhich 0 = w) (eh : S f_Md_foundHolder 0 = hd) (R : RDV S k w hd 5 (n : Int)) (hn : n < 8000) (gt : S f_Md_goesType 0 = ty) (ee : S f_Md_es 0 = (E : Int)) (CF : TCL ρ g N M (n : Int) ty (k : Int) (E : Int) S e S') : TAC ρ g N M s S e S' := TAC.thing hs he (fun d h0 T Q K q => by
  refine s_at139 (d := d + 196) K.1.1 hs (by omega) ew eh R (b_Md_actsOnThing_139 ⟨fun _ => ⟨fun _ => b_Md_actsOnThing_175 ⟨K.1.1.1, ?_⟩, fun c => absurd rfl c⟩, fun c => absurd hκ c⟩)
  have y1 : w32 (n : Int) = (n : Int) := w32_of (by omega) (by omega)
  rw [cnI (by decide), cnI (by decide), cnI (by decide), hs.2.2.2.1, gt, ee, y1]
  exact CF (d + 6) h0 T _ K (cV_oT he K.1.1.kh q))
theorem TAC.call (he : e = none ∨ e = some none) (hs : ATQ S s k κ) (hκ : κ = 4) (ee : S f_Md_es 0 = (E : Int)) (CF : TCL ρ g N M (k : Int) 0 0 (E : Int) S e S') : TAC ρ g N M s S e S' := TAC.thing hs he (fun d h0 T Q K q => by
  have y1 : w32 (k : Int) = (k : Int) := w32_of (by have := hs.2.2.2.2; omega) (by have := hs.2.2.2.2; omega)
  refine b_Md_actsOnThing_0 ⟨K.1.1.1, fun c => absurd hκ c, fun _ => ?_⟩
  rw [cnI (by decide), cnI (by decide), hs.2.2.2.1, ee, y1]
  exact CF (d + 6) h0 T _ K (cV_oT he K.1.1.kh q))
theorem TAC.new (he : e = none ∨ e = some none) (hs : ATQ S s k κ) (hκ : κ = 6) (CF : TC ρ (PTO ρ g N M) 196 m_Md_news 0 [(1, vI (k : Int))] [] S e S') : TAC ρ g N M s S e S' := TAC.thing hs he (fun d h0 T Q K q => by
  have y1 : w32 (k : Int) = (k : Int) := w32_of (by have := hs.2.2.2.2; omega) (by have := hs.2.2.2.2; omega)
  refine b_Md_actsOnThing_0 ⟨K.1.1.1, fun _ => ⟨fun c => absurd hκ c, fun _ => ?_⟩, fun c => by omega⟩
  rw [cnI (by decide), hs.2.2.2.1, y1]
  exact CF d h0 T _ K (cV_oT he K.1.1.kh q))
/-- a property is written -/
theorem TAC.sets (he : e = none ∨ e = some none) (hs : ATQ S s k κ) (hκ : κ = 1 ∨ κ = 3) (en : S f_Md_siteName s = nm ∨ κ = 3) (en2 : S f_Md_elementName 0 = nm ∨ κ = 1) (H : TC ρ (PTO ρ g N M) 196 m_Md_sets 0 [(1, vI (k : Int)), (2, vI nm)] [] S e S') : TAC ρ g N M s S e S' := TAC.thing hs he (fun d h0 T Q K q => by
  obtain ⟨a1, a2, a3, a4, a5⟩ := hs
  have kT := K.1.1.1
  have G := K.1.1.2.1
  have b1 : 0 ≤ (s : Int) ∧ (s : Int) < ((4000 : Nat) : Int) := by omega
  have y1 : w32 (k : Int) = (k : Int) := w32_of (by omega) (by omega)
  have g65 : wpB PGm ρ (d + 197) m_Md_actsOnThing 65 [] [vI nm, vI (k : Int), vR T] (cn h0 T S) Q := b_Md_actsOnThing_65 ⟨kT, H d h0 T _ K (cV_oT he K.1.1.kh q)⟩
  have g45 : wpB PGm ρ (d + 197) m_Md_actsOnThing 45 [(0, vR T), (1, vI (s : Int)), (2, vI κ), (3, vI (k : Int))] [] (cn h0 T S) Q := by
    refine b_Md_actsOnThing_45 ⟨fun c => ⟨kT, ?_⟩, fun c => ?_⟩
    · rw [cnI (by decide), en2.resolve_right c]; exact g65
    · have e1 := en.resolve_right (by omega)
      clear H q
      simp (decide := true) (disch := first | decide | omega) only [cnI, cnR, cnK, cnl, cnA' G, kT, KN G, LN G, e1, Int.toNat_natCast, true_and, and_true]
      exact ⟨b1, g65⟩
  refine b_Md_actsOnThing_0 ⟨kT, ?_⟩
  rw [cnI (by decide), a4, y1]
  exact ⟨fun _ => ⟨fun _ => ⟨fun _ => g45, fun c => ⟨fun c2 => by omega, fun _ => g45⟩⟩, fun c => by omega⟩, fun c => by omega⟩)
theorem s_sets116 (O : TOK h0 T) (H : GFR S t n c rr m pp) (q : Q (Sum.inl none) (cn h0 T (gvS S t m c pp (S f_Md_pileType (2100 * t + (n - 1))) (S f_Md_pileValue (2100 * t + (n - 1)))))) : wpB PGm ρ (d + 3) m_Md_sets 116 [(0, vR T), (3, vI ((2100 * t + (n - 1) : Nat) : Int))] [] (cn h0 T S) Q := by
  have kT := O.1
  have G := O.2.1
  have b1 : 0 ≤ ((2100 * t + (n - 1) : Nat) : Int) ∧ ((2100 * t + (n - 1) : Nat) : Int) < ((4200 : Nat) : Int) := by have := H.2.1; have := H.2.2.2.2.2.1; omega
  have g1 := s_gives (ρ := ρ) (d := d) (Q := cV (fun h5 => Q (Sum.inl none) h5) (fun e8 h7 => hK h7 e8 ≠ 0 ∧ Q (Sum.inr e8) h7)) O H q
  refine b_Md_sets_116 ?_
  clear q
  simp (decide := true) (disch := first | decide | omega) only [cnI, cnR, cnK, cnl, cnA' G, kT, KN G, LN G, Int.toNat_natCast, true_and, and_true]
  exact ⟨b1, b1, g1⟩
/-- what was there is written -/
theorem s_setsW (H : GFR S t n c rr m pp) (L : SLG S k j) (hi : i < j) (ew : S f_Md_foundWhich 0 = (i : Int)) (es : S f_Md_foundShape 0 = -1) : TC ρ (PTO ρ g N M) 196 m_Md_sets 0 [(1, vI (k : Int)), (2, vI nm)] [] S (some none) (gvS (u2 (u2 S f_Md_slotType (slS S k i) (S f_Md_pileType (2100 * t + (n - 1)))) f_Md_slotValue (slS S k i) (S f_Md_pileValue (2100 * t + (n - 1)))) t m c pp (S f_Md_pileType (2100 * t + (n - 1))) (S f_Md_pileValue (2100 * t + (n - 1)))) := fun d h0 T Q K q => by
  have O := K.1.1
  have kT := O.1
  have G := O.2.1
  have o1 : OFF [f_Md_slotType, f_Md_slotValue] S (u2 (u2 S f_Md_slotType (slS S k i) (S f_Md_pileType (2100 * t + (n - 1)))) f_Md_slotValue (slS S k i) (S f_Md_pileValue (2100 * t + (n - 1)))) := (OFF.rf.u (by decide)).u (by decide)
  have H1 := H.ex (o1.ex (by decide))
  have h1 := H.2.1
  have h2 := H.2.2.2.2.2.1
  have h3 := H.2.2.2.2.1
  have b1 : 0 ≤ ((2100 * t + (n - 1) : Nat) : Int) ∧ ((2100 * t + (n - 1) : Nat) : Int) < ((4200 : Nat) : Int) := by omega
  have sl := L.2.2.2.2.1 i hi
  have b2 : 0 ≤ (slS S k i : Int) ∧ (slS S k i : Int) < ((60000 : Nat) : Int) := by omega
  have g1 := s_sets116 (ρ := ρ) (d := d + 193) (Q := Q) O H1 (by rw [o1 _ _ (by decide), o1 _ _ (by decide)]; exact q)
  have m1 : 1 ≤ 2100 * t + n ∧ 2100 * t + n ≤ 2000000000 := by omega
  have m2 : 2100 * t + n - 1 = 2100 * t + (n - 1) := by omega
  have y1 : w32 (((2100 * t + n : Nat) : Int) - 1) = ((2100 * t + (n - 1) : Nat) : Int) := by rw [w32_m1 m1, m2]
  refine b_Md_sets_0 ⟨kT, s_h O H.1 h1 (by omega) ⟨kT, ?_⟩⟩
  rw [cnI (by decide), cnI (by decide), cnI (by decide), ew, es]
  refine ⟨fun _ => s_slotAt O L hi ⟨kT, ?_⟩, fun c => absurd c (by decide)⟩
  clear q L H H1 o1
  rw [y1]
  simp (decide := true) (disch := first | decide | omega) only [cnI, cnR, cnK, cnl, cnA' G, cn_sA' G, kT, KN G, LN G, u2_f, Int.toNat_natCast, true_and, and_true]
  exact ⟨b1, b2, b1, b2, g1⟩
/-- no room for a property -/
theorem s_setsF (H : GFR S t n c rr m pp) (hk : k < 8000) (e1 : S f_Md_allSlots 0 = (r : Int)) (e2 : S f_Md_thingCount k = (j : Int)) (es : 0 ≤ S f_Md_foundShape 0) (nr : ¬ (r < 60000 ∧ j < 64)) : TC ρ (PTO ρ g N M) 196 m_Md_sets 0 [(1, vI (k : Int)), (2, vI nm)] [] S none (erS S 99) := fun d h0 T Q K q => by
  have O := K.1.1
  have kT := O.1
  have G := O.2.1
  have h1 := H.2.1
  have h2 := H.2.2.2.2.2.1
  have b1 : 0 ≤ (k : Int) ∧ (k : Int) < ((8000 : Nat) : Int) := by omega
  have g40 : ∀ x : Int, wpB PGm ρ (d + 196) m_Md_sets 40 [(0, vR T), (1, vI (k : Int)), (2, vI nm), (3, vI x)] [vI 0, vR T] (cn h0 T S) Q := fun x => b_Md_sets_40 ⟨kT, s_room (d := d + 194) O (fun c => absurd rfl c) (fun _ => ⟨O.kh, q⟩)⟩
  have z1 : (60000 : Int) ≤ (r : Int) → ∀ x : Int, wpB PGm ρ (d + 196) m_Md_sets 40 [(0, vR T), (1, vI (k : Int)), (2, vI nm), (3, vI x)] [vI 0, vR T] (cn h0 T S) Q := fun _ => g40
  have z2 : (r : Int) < 60000 → (j : Int) < 64 → False := fun a b => nr ⟨by omega, by omega⟩
  refine b_Md_sets_0 ⟨kT, s_h O H.1 h1 (by omega) ⟨kT, ?_⟩⟩
  clear q
  simp (decide := true) (disch := first | decide | omega) only [cnI, cnR, cnK, cnl, cnA' G, kT, KN G, LN G, e1, e2, Int.toNat_natCast, true_and, and_true]
  exact ⟨fun c => absurd es (by omega), fun _ => ⟨fun c => z1 c _, fun c => ⟨b1, fun _ => g40 _, fun c2 => (z2 c c2).elim⟩⟩⟩
theorem adsS_off' {sk rk : Nat} : OFF LAS S (adsS S k sk rk m nm ty v) := by
  unfold adsS
  split
  · exact ((((((((OFF.rf.u (by decide)).u (by decide)).u (by decide)).u (by decide)).u (by decide)).u (by decide)).u (by decide)).u (by decide)).u (by decide)
  · exact ((((((((OFF.rf.u (by decide)).u (by decide)).u (by decide)).u (by decide)).u (by decide)).u (by decide)).u (by decide)).u (by decide)).u (by decide)
/-- a property more -/
def adpS (S : SS) (k sk rk m : Nat) (nm ty v sh : Int) : SS := grwS (u2 (adsS S k sk rk m nm ty v) f_Md_thingShape k sh) k
theorem s_setsA (H : GFR S t n c rr m pp) (hk : k < 8000) (e0 : S f_Md_slots 0 = (i : Int)) (hi : i < 60000) (e1 : S f_Md_allSlots 0 = (r : Int)) (e2 : S f_Md_thingCount k = (j : Int)) (e3 : j ≠ 0 → S f_Md_thingLast k = (b : Int) ∧ b < 60000) (es : S f_Md_foundShape 0 = (a : Int)) (nr : r < 60000 ∧ j < 64) (he : 0 ≤ S f_Md_epoch k ∧ S f_Md_epoch k ≤ 1000000) (hc : 0 ≤ S f_Md_changes 0 ∧ S f_Md_changes 0 ≤ 1000000) : TC ρ (PTO ρ g N M) 196 m_Md_sets 0 [(1, vI (k : Int)), (2, vI nm)] [] S (some none) (gvS (adpS S k i r j nm (S f_Md_pileType (2100 * t + (n - 1))) (S f_Md_pileValue (2100 * t + (n - 1))) (a : Int)) t m c pp (S f_Md_pileType (2100 * t + (n - 1))) (S f_Md_pileValue (2100 * t + (n - 1)))) := fun d h0 T Q K q => by
  have O := K.1.1
  have kT := O.1
  have G := O.2.1
  have h1 := H.2.1
  have h2 := H.2.2.2.2.2.1
  have h3 := H.2.2.2.2.1
  have b1 : 0 ≤ (k : Int) ∧ (k : Int) < ((8000 : Nat) : Int) := by omega
  have b3 : 0 ≤ ((2100 * t + (n - 1) : Nat) : Int) ∧ ((2100 * t + (n - 1) : Nat) : Int) < ((4200 : Nat) : Int) := by omega
  generalize ep : S f_Md_pileType (2100 * t + (n - 1)) = pt at *
  generalize ev : S f_Md_pileValue (2100 * t + (n - 1)) = pv at *
  have oa : OFF LAS S (adsS S k i r j nm pt pv) := adsS_off'
  have ob : OFF (LAS ++ [f_Md_thingShape]) S (u2 (adsS S k i r j nm pt pv) f_Md_thingShape k (a : Int)) := (oa.le (by decide)).u (by decide)
  have oc : OFF (LAS ++ [f_Md_thingShape, f_Md_epoch, f_Md_changes, f_Md_changedAt]) S (adpS S k i r j nm pt pv (a : Int)) := by
    unfold adpS grwS
    split
    · exact ob.le (by decide)
    · exact (((ob.le (by decide)).u (by decide)).u (by decide)).u (by decide)
  have g116 := s_sets116 (ρ := ρ) (d := d + 193) (Q := Q) O (H.ex (oc.ex (by decide))) (by rw [oc _ _ (by decide), oc _ _ (by decide), ep, ev]; exact q)
  have gch := s_changed (ρ := ρ) (d := d + 195) (S := u2 (adsS S k i r j nm pt pv) f_Md_thingShape k (a : Int)) (Q := cV (fun h22 => wpB PGm ρ (d + 196) m_Md_sets 116 [(0, vR T), (3, vI ((2100 * t + (n - 1) : Nat) : Int))] [] h22 Q) (fun e25 h24 => hK h24 e25 ≠ 0 ∧ Q (Sum.inr e25) h24)) O hk (by rw [ob _ _ (by decide)]; exact he) (by rw [ob _ _ (by decide)]; exact hc) g116
  have efs : adsS S k i r j nm pt pv f_Md_foundShape 0 = (a : Int) := by rw [oa _ _ (by decide)]; exact es
  have gas : wpB PGm ρ (d + 195) m_Md_addSlot 0 [(0, vR T), (1, vI (k : Int)), (2, vI nm), (3, vI pt), (4, vL pv)] [] (cn h0 T S) (cV (fun h12 => hK h12 T = k_Md ∧ (hK h12 (hR h12 f_Md_thingShape T) = 1 ∧ 0 ≤ (k : Int) ∧ (k : Int) < (hl h12 (hR h12 f_Md_thingShape T) : Int)) ∧ wpB PGm ρ (d + 195) m_Md_changed 0 [(0, vR T), (1, vI (k : Int))] [] (sA h12 (hR h12 f_Md_thingShape T) k (hI h12 f_Md_foundShape T)) (cV (fun h22 => wpB PGm ρ (d + 196) m_Md_sets 116 [(0, vR T), (3, vI ((2100 * t + (n - 1) : Nat) : Int))] [] h22 Q) (fun e25 h24 => hK h24 e25 ≠ 0 ∧ Q (Sum.inr e25) h24))) (fun e15 h14 => hK h14 e15 ≠ 0 ∧ Q (Sum.inr e15) h14)) := by
    refine s_addSlot O e0 hi e1 (by omega) hk e2 (by omega) e3 ⟨kT, ?_⟩
    clear q oc ob oa g116 H he hc e3
    simp (decide := true) (disch := first | decide | omega) only [cnI, cnR, cnK, cnl, cnA' G, cn_sA' G, kT, KN G, LN G, efs, Int.toNat_natCast, true_and, and_true]
    exact ⟨b1, gch⟩
  have g40 : wpB PGm ρ (d + 196) m_Md_sets 40 [(0, vR T), (1, vI (k : Int)), (2, vI nm), (3, vI ((2100 * t + (n - 1) : Nat) : Int))] [vI 1, vR T] (cn h0 T S) Q := by
    refine b_Md_sets_40 ⟨kT, s_room (d := d + 194) O (fun _ => ⟨kT, ?_⟩) (fun c => absurd c (by decide))⟩
    clear q oc ob oa g116 H he hc e3
    simp (decide := true) (disch := first | decide | omega) only [cnI, cnR, cnK, cnl, cnA' G, cn_sA' G, kT, KN G, LN G, ep, ev, Int.toNat_natCast, true_and, and_true]
    exact ⟨b3, b3, gas⟩
  have m1 : 1 ≤ 2100 * t + n ∧ 2100 * t + n ≤ 2000000000 := by omega
  have m2 : 2100 * t + n - 1 = 2100 * t + (n - 1) := by omega
  have z1 : ¬ (a : Int) < 0 := by omega
  have z2 : 0 ≤ (a : Int) := by omega
  have z3 : ¬ 60000 ≤ (r : Int) := by omega
  have z4 : (r : Int) < 60000 := by omega
  have z5 : ¬ 64 ≤ (j : Int) := by omega
  have z6 : (j : Int) < 64 := by omega
  have hF := H.1
  have m3 : n ≤ 2100 := by omega
  have y1 : w32 (((2100 * t + n : Nat) : Int) - 1) = ((2100 * t + (n - 1) : Nat) : Int) := by rw [w32_m1 m1, m2]
  refine b_Md_sets_0 ⟨kT, s_h O hF h1 m3 ⟨kT, ?_⟩⟩
  clear q oc ob oa g116 H he hc e3 gas gch
  rw [y1]
  simp (decide := true) (disch := first | decide | omega) only [cnI, cnR, cnK, cnl, cnA' G, kT, KN G, LN G, e1, e2, es, z1, z2, z3, z4, z5, z6, Int.toNat_natCast, true_and, and_true, false_implies, forall_const]
  exact ⟨b1, g40⟩
end
