/-! T: shapes are found and made -/
set_option maxRecDepth 20000
def mtc (S : SS) (b p nm : Int) (k : Nat) : Prop := S f_Md_shapeBefore k = b ∧ S f_Md_shapeProto k = p ∧ S f_Md_shapeName k = nm
def nspS (S : SS) (sn sm : Nat) (b p nm cnt : Int) : SS := u2 (u2 (u2 (u2 (u2 (u2 S f_Md_shapes 0 ((sn + 1 : Nat) : Int)) f_Md_allShapes 0 ((sm + 1 : Nat) : Int)) f_Md_shapeBefore sn b) f_Md_shapeProto sn p) f_Md_shapeName sn nm) f_Md_shapeCount sn cnt
/-- a prototype is watched from now on -/
def watS (S : SS) (k : Nat) : SS := u2 (u2 S f_Md_isWatched k 1) f_Md_epoch k 0
section
variable {ρ : Nat → Nat} {d : Nat} {h h' h0 : ah} {Q : QT} {T k f g n c t i j x sn sm r : Nat} {op a b p nm v w cnt : Int} {S X : SS}
theorem s_find13 (O : TOK h0 T) (en : S f_Md_shapes 0 = (sn : Int)) (hsn : sn ≤ 4001) (q1 : ∀ r : Nat, 1 ≤ r → r < sn → mtc S b p nm r → Q (Sum.inl (some (vI (r : Int)))) (cn h0 T S)) (q0 : (∀ j, 1 ≤ j → j < sn → ¬ mtc S b p nm j) → Q (Sum.inl (some (vI (-1)))) (cn h0 T S)) : ∀ m k : Nat, k + m = sn → 1 ≤ k → (∀ j, 1 ≤ j → j < k → ¬ mtc S b p nm j) → wpB PGm ρ d m_Md_findShape 13 [(0, vR T), (1, vI b), (2, vI p), (3, vI nm), (4, vI (k : Int))] [] (cn h0 T S) Q := by
  obtain ⟨kT, G, kH⟩ := O
  intro m
  induction m with
  | zero =>
    intro k hk h1 hn
    have g := q0 (fun j a b => hn j a (by omega))
    have e : ((sn : Int) ≤ (k : Int)) = True := eq_true (by omega)
    have e2 : ((k : Int) < (sn : Int)) = False := eq_false (by omega)
    clear q1 q0 hn
    refine b_Md_findShape_13 ?_
    simp (decide := true) (disch := first | decide | omega) only [cnI, cnIe, cnR, cnK, cnl, cnA' G, cn_sI, cn_sIe, cn_sA' G, kT, kH, KN G, LN G, u2_f, u2_s, w32_aa, w32_ss, w32_p1, w32_m1, Int.toNat_natCast, true_and, and_true, false_and, and_false, or_false, false_or, ne_eq, not_false_eq_true, forall_const, implies_true, not_true_eq_false, false_implies, en, e, e2]
    exact g
  | succ m ih =>
    intro k hk h1 hn
    have nx : ¬ mtc S b p nm k → wpB PGm ρ d m_Md_findShape 13 [(0, vR T), (1, vI b), (2, vI p), (3, vI nm), (4, vI ((k + 1 : Nat) : Int))] [] (cn h0 T S) Q := fun z => ih (k + 1) (by omega) (by omega) (fun j a b => by
      by_cases w : j = k
      · rw [w]; exact z
      · exact hn j a (by omega))
    have g := q1 k h1 (by omega)
    have c1 : 0 ≤ (k : Int) ∧ (k : Int) < ((4001 : Nat) : Int) := by omega
    have e : ((sn : Int) ≤ (k : Int)) = False := eq_false (by omega)
    have e2 : ((k : Int) < (sn : Int)) = True := eq_true (by omega)
    have w1 : w32 ((k : Int) + 1) = ((k + 1 : Nat) : Int) := w32_s (by omega)
    unfold mtc at nx g
    clear q1 q0 hn ih
    refine b_Md_findShape_13 ?_
    simp (decide := true) (disch := first | decide | omega) only [cnI, cnR, cnK, cnl, cnA' G, kT, KN G, LN G, en, e, e2, w1, Int.toNat_natCast, true_and, and_true, forall_const, false_implies]
    exact ⟨c1, fun z => nx (fun c => z c.1), fun y1 => ⟨c1, fun z => nx (fun c => z c.2.1), fun y2 => ⟨c1, fun z => nx (fun c => z c.2.2), fun y3 => g ⟨y1, y2, y3⟩⟩⟩⟩
theorem s_findShape (O : TOK h0 T) (en : S f_Md_shapes 0 = (sn : Int)) (hsn : 1 ≤ sn ∧ sn ≤ 4001) (ne : ¬ (b < 0 ∧ p < 0)) (q1 : ∀ r : Nat, 1 ≤ r → r < sn → mtc S b p nm r → Q (Sum.inl (some (vI (r : Int)))) (cn h0 T S)) (q0 : (∀ j, 1 ≤ j → j < sn → ¬ mtc S b p nm j) → Q (Sum.inl (some (vI (-1)))) (cn h0 T S)) : wpB PGm ρ d m_Md_findShape 0 [(0, vR T), (1, vI b), (2, vI p), (3, vI nm)] [] (cn h0 T S) Q := by
  have g := s_find13 (ρ := ρ) (d := d) O en hsn.2 q1 q0 (sn - 1) 1 (by omega) (by omega) (fun j a b => by omega)
  exact b_Md_findShape_0 ⟨fun _ => g, fun z => ⟨fun _ => g, fun z2 => absurd ⟨z, z2⟩ ne⟩⟩
theorem s_find0 (q : Q (Sum.inl (some (vI 0))) (cn h0 T S)) : wpB PGm ρ d m_Md_findShape 0 [(0, vR T), (1, vI (-1)), (2, vI (-1)), (3, vI nm)] [] (cn h0 T S) Q := b_Md_findShape_0 ⟨fun z => absurd z (by decide), fun _ => ⟨fun z => absurd z (by decide), fun _ => q⟩⟩
theorem s_made108 (O : TOK h0 T) (hsn : sn ≤ 4000) (hp : p = -1 ∨ ∃ k : Nat, p = (k : Int) ∧ k < 8000) (q1 : (p = -1 ∨ ∃ k : Nat, p = (k : Int) ∧ ¬ S f_Md_isWatched k = 0) → Q (Sum.inl (some (vI (sn : Int)))) (cn h0 T (u2 S f_Md_shapeCount sn cnt))) (q2 : ∀ k : Nat, p = (k : Int) → S f_Md_isWatched k = 0 → Q (Sum.inl (some (vI (sn : Int)))) (cn h0 T (watS (u2 S f_Md_shapeCount sn cnt) k))) : wpB PGm ρ d m_Md_madeShape 108 [(0, vR T), (2, vI p), (4, vI (sn : Int))] [vI cnt, vI (sn : Int), vR (hR h0 f_Md_shapeCount T)] (cn h0 T S) Q := by
  obtain ⟨kT, G, kH⟩ := O
  have c1 : 0 ≤ (sn : Int) ∧ (sn : Int) < ((4001 : Nat) : Int) := by omega
  rcases hp with rfl | ⟨k, rfl, hk⟩
  · have g := q1 (Or.inl rfl)
    clear q1 q2
    refine b_Md_madeShape_108 ?_
    simp (decide := true) (disch := first | decide | omega) only [cnI, cnIe, cnR, cnK, cnl, cnA' G, cn_sI, cn_sIe, cn_sA' G, kT, kH, KN G, LN G, u2_f, u2_s, w32_aa, w32_ss, w32_p1, w32_m1, Int.toNat_natCast, true_and, and_true, false_and, and_false, or_false, false_or, ne_eq, not_false_eq_true, forall_const, implies_true, not_true_eq_false, false_implies]
    exact ⟨c1, g⟩
  · have c2 : 0 ≤ (k : Int) ∧ (k : Int) < ((8000 : Nat) : Int) := by omega
    have nk : ((k : Int) < 0) = False := eq_false (by omega)
    have pk : (0 ≤ (k : Int)) = True := eq_true (by omega)
    have g1 := fun z => q1 (Or.inr ⟨k, rfl, z⟩)
    have g2 := q2 k rfl
    unfold watS at g2
    clear q1 q2
    refine b_Md_madeShape_108 ?_
    simp (decide := true) (disch := first | decide | omega) only [cnI, cnIe, cnR, cnK, cnl, cnA' G, cn_sI, cn_sIe, cn_sA' G, kT, kH, KN G, LN G, u2_f, u2_s, w32_aa, w32_ss, w32_p1, w32_m1, Int.toNat_natCast, true_and, and_true, false_and, and_false, or_false, false_or, ne_eq, not_false_eq_true, forall_const, implies_true, not_true_eq_false, false_implies, nk, pk]
    exact ⟨c1, c2.2, g1, fun z => ⟨c2.2, c2.2, g2 z⟩⟩
/-- a shape is made -/
theorem s_made33 (O : TOK h0 T) (en : S f_Md_shapes 0 = (sn : Int)) (em : S f_Md_allShapes 0 = (sm : Int)) (hsn : 1 ≤ sn ∧ sn ≤ sm + 1) (hb : b = -1 ∧ cnt = 0 ∨ ∃ s : Nat, b = (s : Int) ∧ s < sn ∧ S f_Md_shapeCount s + 1 = cnt ∧ 0 ≤ S f_Md_shapeCount s ∧ S f_Md_shapeCount s ≤ 5000) (hp : p = -1 ∨ ∃ k : Nat, p = (k : Int) ∧ k < 8000) (rm : sm < 4000) (q1 : (p = -1 ∨ ∃ k : Nat, p = (k : Int) ∧ ¬ S f_Md_isWatched k = 0) → Q (Sum.inl (some (vI (sn : Int)))) (cn h0 T (nspS S sn sm b p nm cnt))) (q2 : ∀ k : Nat, p = (k : Int) → S f_Md_isWatched k = 0 → Q (Sum.inl (some (vI (sn : Int)))) (cn h0 T (watS (nspS S sn sm b p nm cnt) k))) : wpB PGm ρ (d + 2) m_Md_madeShape 33 [(0, vR T), (1, vI b), (2, vI p), (3, vI nm)] [vI 1, vR T] (cn h0 T S) Q := by
  have O' := O
  obtain ⟨kT, G, kH⟩ := O
  refine b_Md_madeShape_33 ⟨kT, s_room O' (fun _ => ?_) (fun z => absurd z (by decide))⟩
  have iw : ∀ k, (u2 (u2 (u2 (u2 (u2 S f_Md_shapes 0 ((sn + 1 : Nat) : Int)) f_Md_allShapes 0 ((sm + 1 : Nat) : Int)) f_Md_shapeBefore sn b) f_Md_shapeProto sn p) f_Md_shapeName sn nm) f_Md_isWatched k = S f_Md_isWatched k := fun k => by rw [u2_f (by decide), u2_f (by decide), u2_f (by decide), u2_f (by decide), u2_f (by decide)]
  have g : wpB PGm ρ (d + 1 + 1) m_Md_madeShape 108 [(0, vR T), (2, vI p), (4, vI (sn : Int))] [vI cnt, vI (sn : Int), vR (hR h0 f_Md_shapeCount T)] (cn h0 T (u2 (u2 (u2 (u2 (u2 S f_Md_shapes 0 ((sn + 1 : Nat) : Int)) f_Md_allShapes 0 ((sm + 1 : Nat) : Int)) f_Md_shapeBefore sn b) f_Md_shapeProto sn p) f_Md_shapeName sn nm)) Q := s_made108 O' (by omega) hp (fun z => q1 (by simpa only [iw] using z)) (fun k e z => q2 k e (by rw [← iw k]; exact z))
  have c1 : 0 ≤ (sn : Int) ∧ (sn : Int) < ((4001 : Nat) : Int) := by omega
  have w1 : w32 ((sn : Int) + 1) = ((sn + 1 : Nat) : Int) := w32_s (by omega)
  have w2 : w32 ((sm : Int) + 1) = ((sm + 1 : Nat) : Int) := w32_s (by omega)
  clear q1 q2 iw hp
  rcases hb with ⟨rfl, rfl⟩ | ⟨s, rfl, hs, es, e1, e2⟩
  · clear hsn rm
    show _ ∧ _
    simp (decide := true) only [cnI, cnIe, cnR, cnK, cnl, cnA' G, cn_sI, cn_sIe, cn_sA' G, kT, kH, KN G, LN G, u2_f, u2_s, en, em, w1, w2, Int.toNat_natCast, true_and, and_true, forall_const, false_implies]
    exact ⟨c1, c1, c1, g⟩
  · have c2 : 0 ≤ (s : Int) ∧ (s : Int) < ((4001 : Nat) : Int) := by omega
    have nk : ((s : Int) < 0) = False := eq_false (by omega)
    have pk : (0 ≤ (s : Int)) = True := eq_true (by omega)
    have w3 : w32 (S f_Md_shapeCount s + 1) = cnt := by rw [es, w32_of (by omega) (by omega)]
    clear hsn rm hs e1 e2 es
    show _ ∧ _
    simp (decide := true) only [cnI, cnIe, cnR, cnK, cnl, cnA' G, cn_sI, cn_sIe, cn_sA' G, kT, kH, KN G, LN G, u2_f, u2_s, en, em, w1, w2, w3, nk, pk, Int.toNat_natCast, true_and, and_true, forall_const, false_implies]
    exact ⟨c1, c1, c1, c2.2, g⟩
/-- a shape is found, or made, or there is no room -/
theorem s_madeShape (O : TOK h0 T) (en : S f_Md_shapes 0 = (sn : Int)) (em : S f_Md_allShapes 0 = (sm : Int)) (hsn : 1 ≤ sn ∧ sn ≤ sm + 1) (hsm : sm ≤ 4000) (ne : ¬ (b < 0 ∧ p < 0)) (hb : b = -1 ∧ cnt = 0 ∨ ∃ s : Nat, b = (s : Int) ∧ s < sn ∧ S f_Md_shapeCount s + 1 = cnt ∧ 0 ≤ S f_Md_shapeCount s ∧ S f_Md_shapeCount s ≤ 5000) (hp : p = -1 ∨ ∃ k : Nat, p = (k : Int) ∧ k < 8000) (q : ∀ r : Nat, 1 ≤ r → r < sn → mtc S b p nm r → Q (Sum.inl (some (vI (r : Int)))) (cn h0 T S)) (q1 : (∀ j, 1 ≤ j → j < sn → ¬ mtc S b p nm j) → sm < 4000 → (p = -1 ∨ ∃ k : Nat, p = (k : Int) ∧ ¬ S f_Md_isWatched k = 0) → Q (Sum.inl (some (vI (sn : Int)))) (cn h0 T (nspS S sn sm b p nm cnt))) (q2 : (∀ j, 1 ≤ j → j < sn → ¬ mtc S b p nm j) → sm < 4000 → ∀ k : Nat, p = (k : Int) → S f_Md_isWatched k = 0 → Q (Sum.inl (some (vI (sn : Int)))) (cn h0 T (watS (nspS S sn sm b p nm cnt) k))) (q0 : (∀ j, 1 ≤ j → j < sn → ¬ mtc S b p nm j) → ¬ sm < 4000 → Q (Sum.inr (hR h0 f_Md_halt T)) (cn h0 T (erS S 99))) : wpB PGm ρ (d + 2) m_Md_madeShape 0 [(0, vR T), (1, vI b), (2, vI p), (3, vI nm)] [] (cn h0 T S) Q := by
  have O' := O
  obtain ⟨kT, G, kH⟩ := O
  have kH' : hK h0 (hR h0 f_Md_halt T) ≠ 0 := by rw [kH]; decide
  refine b_Md_madeShape_0 ⟨kT, s_findShape O' en ⟨hsn.1, by omega⟩ ne (fun r r1 r2 r3 => ⟨fun z => absurd z (by omega), fun _ => q r r1 r2 r3⟩) (fun nm' => ⟨fun _ => ⟨kT, ?_, ?_⟩, fun z => absurd z (by decide)⟩)⟩
  · intro z
    rw [cnI (by decide), em] at z
    have rm : ¬ sm < 4000 := by omega
    refine b_Md_madeShape_33 ⟨kT, s_room O' (fun z => absurd rfl z) (fun _ => ⟨kH', q0 nm' rm⟩)⟩
  · intro z
    rw [cnI (by decide), em] at z
    exact s_made33 O' en em hsn hb hp (by omega) (q1 nm' (by omega)) (q2 nm' (by omega))
theorem nspS_o (hf : (f_Md_shapes :: f_Md_allShapes :: LSP).elem f = false) : nspS S sn sm b p nm cnt f i = S f i := by
  have n : ∀ g, (f_Md_shapes :: f_Md_allShapes :: LSP).elem g = true → f ≠ g := by rintro g hg rfl; rw [hg] at hf; cases hf
  unfold nspS
  rw [u2_f (n _ (by decide)), u2_f (n _ (by decide)), u2_f (n _ (by decide)), u2_f (n _ (by decide)), u2_f (n _ (by decide)), u2_f (n _ (by decide))]
theorem nspS_k (hf : LSP.elem f = true) (hi : i ≠ sn) : nspS S sn sm b p nm cnt f i = S f i := by
  have : f = f_Md_shapeProto ∨ f = f_Md_shapeBefore ∨ f = f_Md_shapeName ∨ f = f_Md_shapeCount := by unfold LSP at hf; simpa using hf
  have u : ∀ {S : SS} {g : Nat} {v : Int}, u2 S g sn v f i = S f i := fun {S g v} => by rw [u2_e, if_neg (fun c => hi c.2)]
  unfold nspS
  rw [u, u, u, u]
  rcases this with rfl | rfl | rfl | rfl <;> rw [u2_f (by decide), u2_f (by decide)]
theorem nspS_s : nspS S sn sm b p nm cnt f_Md_shapes 0 = ((sn + 1 : Nat) : Int) ∧ nspS S sn sm b p nm cnt f_Md_allShapes 0 = ((sm + 1 : Nat) : Int) ∧ nspS S sn sm b p nm cnt f_Md_shapeBefore sn = b ∧ nspS S sn sm b p nm cnt f_Md_shapeProto sn = p ∧ nspS S sn sm b p nm cnt f_Md_shapeName sn = nm ∧ nspS S sn sm b p nm cnt f_Md_shapeCount sn = cnt := by
  unfold nspS
  refine ⟨?_, ?_, ?_, ?_, ?_, ?_⟩
  · rw [u2_f (by decide), u2_f (by decide), u2_f (by decide), u2_f (by decide), u2_f (by decide), u2_s]
  · rw [u2_f (by decide), u2_f (by decide), u2_f (by decide), u2_f (by decide), u2_s]
  · rw [u2_f (by decide), u2_f (by decide), u2_f (by decide), u2_s]
  · rw [u2_f (by decide), u2_f (by decide), u2_s]
  · rw [u2_f (by decide), u2_s]
  · rw [u2_s]
end
