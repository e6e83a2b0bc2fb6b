/-! the builtin has: joined -/
set_option maxRecDepth 20000
section
variable {ρ : Nat → Nat} {P : ah → Nat → Prop} {d : Nat} {Q : QT} {Γ Γ' : GH} {h h0 h1 h' : ah} {C ho T : Nat} {X X' X1 X2 : X3} {Y Y' : Y3} {S S' S1 S2 : SS} {N t o n c r f i j k m z s n' pu po tn w sn sm l1 s0 nn p0 kk kx : Nat} {ty v x y op a b p : Int} {L : List Nat} {ws : List (List Int)} {l : List Int}
/-- a text of both, for finding -/
theorem TXC.find (H : TXC Γ h C X S) (V : VR Γ S N x y ty v) (e : ty = 3) : ∃ (m : Nat) (l : List Int), v = (m : Int) ∧ TTX S m l ∧ CTX h C X y l := by
  obtain ⟨mn, us, sb, mb, tm, am, ab, TK⟩ := H.kk
  obtain ⟨bs, A, B⟩ := TK.ops V (by omega)
  have e' : x = 3 := by rw [V.1]; exact e
  rcases A.2 with ⟨-, xx, aa, a1, a2, a3, a4, a5, a6⟩ | ⟨a1, -⟩
  · rcases B.2 with ⟨-, x', a', b2, b3, b4, b5, b6, b7, b8, b9, b10⟩ | ⟨b1, -⟩
    · have tb := TK.2.2.1
      exact ⟨xx, bs, a1, ⟨aa, by omega, a3, a4, by omega, a6⟩, ⟨x', a', b2, b8, b3, b4, b5, b6, b7, b9, b10⟩⟩
    · exact absurd e' b1
  · exact absurd e a1
theorem op_HAS (hP : ∀ h0 T, P h0 T → TOK h0 T) (NM : NMR h C S ws) (HC : CORE Γ h C ho X Y S N) (H : OPH Γ h C X Y S N t o n c r) (O : OPT Γ S (fsS S t (c - 1)) (psS S t (c - 1)) 28 5 b) (D : DF S t n c (fsS S t (c - 1)) (psS S t (c - 1)) k 28 5 b) (hh : n = bsS S t (c - 1) + ghs Γ (fsS S t (c - 1)) (psS S t (c - 1))) : OPF ρ P Γ h C ho X Y S N 28 5 b := by
  obtain ⟨-, -, v1, nx⟩ := O.2.2.2.2.2.2.2.2.2.2.2.2.2.2.2.2.2.1 rfl
  have bw : bwN 5 = 2 := rfl
  rw [bw] at v1 nx
  have d2 := D.2.1
  have n2 : 2 ≤ n := by omega
  have VA := H.pl (i := n - 2) (by omega)
  have VB := H.pl (i := n - 1) (by omega)
  have ⟨A1, AE⟩ := VA.obj HC.2.2.2.2.2.2.2.2.2.1 (h := h) (C := C)
  have BE := VB.1
  obtain ⟨tn, sn, sm, c1, c2, c5, c6', c3, c4, c6, c7, c8, U, m1, m2, m3, m4⟩ := HC.shp
  have I := H.ix
  intro d Q q
  have er12 : (∀ d h0 T Q, P h0 T → Q (Sum.inr (hR h0 f_Md_halt T)) (cn h0 T (erS S 12)) → wpB PGm ρ (d + 60) m_Md_does 0 [(0, vR T)] [] (cn h0 T S) Q) → Q (Sum.inr (C + 33)) (cc h C (erX X 12) Y) := fun tr => q (some 12) (erS S 12) _ _ _ tr (RLC.mem (v := 12) (x := 12) H HC H.2.2.1 GRO.rf (BND.rf.le (by decide) (by decide)) (fun _ _ _ => rfl) (fun _ _ _ _ => rfl) (Fr.r0 (L := LHc) (P := [])) (Or.inr ⟨by decide, rfl⟩))
  have ek : ∃ kx : Nat, (X o f_Task_tags (n - 2) = 4 ∨ X o f_Task_tags (n - 2) = 5 → S f_Md_pileValue (2100 * t + (n - 2)) = (kx : Int)) := ⟨(S f_Md_pileValue (2100 * t + (n - 2))).toNat, fun w => by have := (A1 w).2.1; omega⟩
  obtain ⟨kx, ek⟩ := ek
  have V1 : X o f_Task_tags (n - 2) = 4 ∨ X o f_Task_tags (n - 2) = 5 → (0 ≤ X o f_Task_words (n - 2) ∧ X o f_Task_words (n - 2) < (tn : Int) ∧ hK h (hB h (C + 51) (X o f_Task_words (n - 2)).toNat) ∈ [244, 245]) ∧ hB h (C + 51) (X o f_Task_words (n - 2)).toNat ≠ 0 ∧ obA h C (X o f_Task_tags (n - 2)) (X o f_Task_words (n - 2)) = prA h C (kx : Int) ∧ PVL S (kx : Int) := fun w => by
    obtain ⟨a1, a2, a3, a4, a5, a6⟩ := A1 w
    have e := ek w
    refine ⟨⟨by omega, by omega, a5⟩, a6, ?_, Or.inr ⟨by omega, by omega, by rw [← e, a4]; exact w⟩⟩
    have e1 : obA h C (X o f_Task_tags (n - 2)) (X o f_Task_words (n - 2)) = hB h (C + 51) (X o f_Task_words (n - 2)).toNat := if_pos w
    have e2 : prA h C (kx : Int) = hB h (C + 51) kx := by unfold prA; rw [if_neg (by omega), Int.toNat_natCast]
    rw [e1, e2, a1, e, Int.toNat_natCast]
  have et : ∃ (m : Nat) (l : List Int), (X o f_Task_tags (n - 1) = 3 → S f_Md_pileValue (2100 * t + (n - 1)) = (m : Int) ∧ TTX S m l ∧ CTX h C X (X o f_Task_words (n - 1)) l) := by
    by_cases w : X o f_Task_tags (n - 1) = 3
    · obtain ⟨m, l, h1, h2, h3⟩ := HC.2.2.2.2.1.find VB (by rw [← BE]; exact w)
      exact ⟨m, l, fun _ => ⟨h1, h2, h3⟩⟩
    · exact ⟨0, [], fun c => absurd c w⟩
  obtain ⟨m, l, et⟩ := et
  have ansR : ∀ B : Int, (B = 0 ∨ B = 1) → RLC Γ h C ho X Y S N none (atS (pshA S t (n - 2) 1 B) t c ((psS S t (c - 1) + 1 : Nat) : Int)) h (ansX X o (n - 2) c 1 B) Y := fun B hB => RLC.ans H nx HC H.2.2.1 GRO.rf EXS.rf (fun _ _ _ => rfl) (fun _ _ _ _ => rfl) (Fr.r0 (L := LHc) (P := [])) (BND.rf.le (by decide) (by decide)) ⟨rfl, by unfold cw; rw [if_neg (by decide)], Or.inr (Or.inl ⟨rfl, hB⟩)⟩ (by omega) (by omega)
  refine r_HAS (ws := ws) (l := l) (p := (kx : Int)) HC NM I n2 c3 c6 V1 (fun w => (et w).2.2) (fun wa wb v hv => ⟨fun z => ?_, fun z j u hj hu um => ?_⟩) (fun nw => er12 (fun d h0 T Q pp qq => ?_))
  · obtain ⟨t1, t2, t3⟩ := et wb
    have PV := (V1 wa).2.2.2
    have := (A1 wa).2.2.1
    have := ek wa
    exact q none (atS (pshA S t (n - 2) 1 (if (-1 : Int) < 0 then 0 else 1)) t c ((psS S t (c - 1) + 1 : Nat) : Int)) _ _ _ (fun d h0 T Q pp qq => s_HAS (j := 0) (hP _ _ pp) HC NM D n2 (ek wa) (by omega) PV t1 t2 (by rw [← AE]; exact wa) (by rw [← BE]; exact wb) hv (Or.inl ⟨z, rfl⟩) qq) (ansR 0 (Or.inl rfl))
  · obtain ⟨t1, t2, t3⟩ := et wb
    have PV := (V1 wa).2.2.2
    have := (A1 wa).2.2.1
    have := ek wa
    exact q none (atS (pshA S t (n - 2) 1 (if u < 0 then 0 else 1)) t c ((psS S t (c - 1) + 1 : Nat) : Int)) _ _ _ (fun d h0 T Q pp qq => s_HAS (j := j) (hP _ _ pp) HC NM D n2 (ek wa) (by omega) PV t1 t2 (by rw [← AE]; exact wa) (by rw [← BE]; exact wb) hv (Or.inr ⟨z, hu⟩) qq) (ansR _ (by split <;> simp))
  · exact s_PROP (hP _ _ pp) D (Or.inr rfl) n2 (fun w1 w2 => absurd ⟨by rw [AE]; exact w1, by rw [BE]; exact w2⟩ nw) (fun _ => qq)
end
