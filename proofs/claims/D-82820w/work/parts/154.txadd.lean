/-! a text more on both sides -/
set_option maxRecDepth 20000
def gadd (Γ : GH) (x mn : Nat) : GH := (Γ.1, Γ.2.1, (fun i => if i = x then mn else gtn Γ i), Γ.2.2.2)
def TXK (Γ : GH) (h : ah) (C : Nat) (X : X3) (S : SS) (mn us sb mb tm am ab : Nat) : Prop := (X 46 f_Texts_many 0 = (mn : Int) ∧ X 46 f_Texts_used 0 = (us : Int) ∧ X 46 f_Texts_made 0 = (am : Int) ∧ X 46 f_Texts_bytesMade 0 = (ab : Int)) ∧ (S f_Md_sourceBytes 0 = (sb : Int) ∧ S f_Md_madeBytes 0 = (mb : Int) ∧ S f_Md_madeTexts 0 = (tm : Int) ∧ S f_Md_allTexts 0 = (am : Int) ∧ S f_Md_allBytes 0 = (ab : Int)) ∧ (sb ≤ 69632 ∧ mb ≤ ab ∧ ab ≤ 200000 ∧ tm ≤ am ∧ am ≤ 12000) ∧
  (0 ≤ S f_Md_sourceTexts 0 ∧ S f_Md_sourceTexts 0 ≤ 4000) ∧ TGL h C mn us ∧ (mn ≤ 4000 + tm ∧ us ≤ 65536 + mb) ∧ ∀ x, txO S x → TXV Γ X S mn us sb mb x
/-- rows of texts and of what is spelt -/
def LXS2 : List Nat := [f_Md_textFrom, f_Md_textLength, f_Md_textSigns, f_Md_madeBytes, f_Md_madeTexts, f_Md_allTexts, f_Md_allBytes, f_Md_spelt, f_Md_spelling]
def LXX2 : List Nat := LXX ++ [f_Machine_print, f_Machine_printed]
def LTP : List Nat := LCC ++ (f_Machine_print :: LTG)
section
variable {ρ : Nat → Nat} {d : Nat} {Q : QT} {Γ Γ' : GH} {h h1 h' h2 : ah} {C ho k n m o c x z s f i j p r a mn us l am ab sb mb tm t N : Nat} {X X' X1 X2 : X3} {Y : Y3} {S S' S0 S1 : SS} {L : List Nat} {P : List (Nat × Nat)} {v w ty y xx : Int} {bs cs : List Int}
theorem dgN_ok {k : Nat} : -128 ≤ dgN v k ∧ dgN v k ≤ 127 := by
  unfold dgN
  have := Int.natAbs_tmod (v.tdiv ((10 ^ k : Nat) : Int)) 10
  have : ((v.tdiv ((10 ^ k : Nat) : Int)).tmod 10).natAbs < 10 := by rw [this]; exact Nat.mod_lt _ (by decide)
  omega
theorem dgL_ok : ∀ k i, i < (dgL v k).length → -128 ≤ (dgL v k).getD i 0 ∧ (dgL v k).getD i 0 ≤ 127
  | 0, i, hi => by
    have : i = 0 := by simp [dgL] at hi; exact hi
    subst this
    exact dgN_ok
  | k + 1, 0, _ => by
    exact dgN_ok
  | k + 1, i + 1, hi => by
    have h2 : i < (dgL v k).length := by simp [dgL] at hi; exact hi
    exact dgL_ok k i h2
theorem nuL_ok : (∀ i, i < (nuL v).length → -128 ≤ (nuL v).getD i 0 ∧ (nuL v).getD i 0 ≤ 127) ∧ (nuL v).length ≤ 20 := by
  refine ⟨fun i hi => ?_, nuL_len⟩
  unfold nuL at hi ⊢
  rw [List.getD_eq_getElem?_getD, List.getElem?_append]
  rw [List.length_append] at hi
  by_cases v0 : v < 0
  · rw [if_pos v0] at hi ⊢
    by_cases w : i < [(45 : Int)].length
    · rw [if_pos w]
      have : i = 0 := by simp at w; exact w
      subst this
      show -128 ≤ (45 : Int) ∧ (45 : Int) ≤ 127
      decide
    · rw [if_neg w, ← List.getD_eq_getElem?_getD]
      exact dgL_ok _ _ (by omega)
  · rw [if_neg v0] at hi ⊢
    rw [if_neg (by simp), ← List.getD_eq_getElem?_getD]
    simp only [List.length_nil, Nat.sub_zero, Nat.zero_add] at hi ⊢
    exact dgL_ok _ _ hi
theorem TXC.kk (H : TXC Γ h C X S) : ∃ mn us sb mb tm am ab, TXK Γ h C X S mn us sb mb tm am ab := H
theorem TXK.cc (H : TXK Γ h C X S mn us sb mb tm am ab) : TXC Γ h C X S := ⟨mn, us, sb, mb, tm, am, ab, H⟩
theorem TXK.tms (H : TXK Γ h C X S mn us sb mb tm am ab) : TMS S tm mb am ab := ⟨⟨H.2.1.2.2.1, H.2.1.2.1, H.2.1.2.2.2.1, H.2.1.2.2.2.2⟩, H.2.2.1.2⟩
theorem TXK.tmx (H : TXK Γ h C X S mn us sb mb tm am ab) : TMX X mn us am ab := ⟨H.1.1, H.1.2.1, H.1.2.2.1, H.1.2.2.2, H.2.2.1.2.2.2.2, H.2.2.1.2.2.1⟩
theorem TXK.rm (H : TXK Γ h C X S mn us sb mb tm am ab) : (am < 12000 → mn < 16000) ∧ ∀ z, ab + z ≤ 200000 → us + z ≤ 265600 := by
  obtain ⟨-, -, ⟨-, a1, a2, a3, a4⟩, -, -, ⟨b1, b2⟩, -⟩ := H
  exact ⟨fun _ => by omega, fun z _ => by omega⟩
/-- what a value prints, on both sides -/
theorem TXK.ops (H : TXK Γ h C X S mn us sb mb tm am ab) (V : VR Γ S N xx y ty v) (h6 : ty ≤ 6) : ∃ bs, TOP S tm mb ty v bs ∧ CVB h C X xx y bs := by
  obtain ⟨-, ⟨-, -, y1, -, -⟩, ⟨a0, a1, a2, a3, a4⟩, ⟨z1, z2⟩, ⟨l1, l2, l3, l4, l5⟩, ⟨b1, b2⟩, tx⟩ := H
  obtain ⟨rfl, rfl, V⟩ := V
  by_cases t3 : xx = 3
  · subst t3
    have V3 : 0 ≤ v ∧ txO S v.toNat := by
      unfold VO at V
      rcases V with w | w | w | w | w | w
      · exact absurd w.1 (by decide)
      · exact absurd w.1 (by decide)
      · exact absurd w.1 (by decide)
      · exact w.2
      · exact absurd w.1 (by decide)
      · exact absurd w.1 (by decide)
    obtain ⟨a, n, b, e1, e2, e3, e4, e5, e6, e7, e8⟩ := tx _ V3.2
    have ln : ((List.range n).map (fun i => S f_Md_textSigns (a + i))).length = n := by rw [List.length_map, List.length_range]
    have gt : ∀ i, i < n → ((List.range n).map (fun i => S f_Md_textSigns (a + i))).getD i 0 = S f_Md_textSigns (a + i) := fun i hi => by
      rw [List.getD_eq_getElem?_getD, List.getElem?_map, List.getElem?_range hi]; rfl
    have rg : ∀ i, i < ((List.range n).map (fun i => S f_Md_textSigns (a + i))).length → -128 ≤ ((List.range n).map (fun i => S f_Md_textSigns (a + i))).getD i 0 ∧ ((List.range n).map (fun i => S f_Md_textSigns (a + i))).getD i 0 ≤ 127 := fun i hi => by
      rw [ln] at hi; rw [gt i hi]; exact (e7 i hi).2
    refine ⟨(List.range n).map (fun i => S f_Md_textSigns (a + i)), ⟨rg, Or.inl ⟨rfl, v.toNat, a, by omega, ?_, e1, by rw [ln]; exact e2, ?_, fun i hi => ?_⟩⟩, ⟨rg, Or.inl ⟨rfl, gtn Γ v.toNat, b, ?_, by omega, by omega, e3, by rw [ln]; exact e4, by rw [ln]; omega, by omega, by rw [ln]; omega, fun i hi => ?_⟩⟩⟩
    · rcases V3.2 with w | w
      · omega
      · have := w.2; omega
    · rw [ln]; omega
    · rw [ln] at hi; exact (gt i hi).symm
    · unfold cw; rw [if_pos rfl]
    · rw [ln] at hi; rw [gt i hi]; exact (e7 i hi).1
  · have ev : cw Γ xx v = v := by unfold cw; rw [if_neg t3]
    rw [ev]
    have V2 : (xx = 0 ∨ xx = 1 ∨ xx = 2 ∨ xx = 4 ∨ xx = 5 ∨ xx = 6) ∧ (xx = 2 → -9223372036854775808 ≤ v ∧ v < 9223372036854775808) := by unfold VO at V; omega
    have rg : (∀ i, i < (cvL xx v).length → -128 ≤ (cvL xx v).getD i 0 ∧ (cvL xx v).getD i 0 ≤ 127) ∧ (cvL xx v).length ≤ 20 := by
      rcases V2.1 with rfl | rfl | rfl | rfl | rfl | rfl
      · have : cvL 0 v = [110, 117, 108, 108] := rfl
        rw [this]; exact ⟨by show ∀ i, i < 4 → _; decide, by decide⟩
      · by_cases v0 : v = 0
        · have : cvL 1 v = [102, 97, 108, 115, 101] := by unfold cvL; rw [if_neg (by decide), if_pos rfl, if_pos v0]
          rw [this]; exact ⟨by show ∀ i, i < 5 → _; decide, by show 5 ≤ 20; decide⟩
        · have : cvL 1 v = [116, 114, 117, 101] := by unfold cvL; rw [if_neg (by decide), if_pos rfl, if_neg v0]
          rw [this]; exact ⟨by show ∀ i, i < 4 → _; decide, by show 4 ≤ 20; decide⟩
      · have : cvL 2 v = nuL v := rfl
        rw [this]
        exact nuL_ok
      · have : cvL 4 v = [123, 125] := rfl
        rw [this]; exact ⟨by show ∀ i, i < 2 → _; decide, by decide⟩
      · have : cvL 5 v = [102, 117, 110] := rfl
        rw [this]; exact ⟨by show ∀ i, i < 3 → _; decide, by decide⟩
      · have : cvL 6 v = [91, 93] := rfl
        rw [this]; exact ⟨by show ∀ i, i < 2 → _; decide, by decide⟩
    exact ⟨cvL xx v, ⟨rg.1, Or.inr ⟨t3, V2.1, rfl, rg.2, V2.2⟩⟩, ⟨rg.1, Or.inr ⟨t3, V2.1, rfl, rg.2, V2.2⟩⟩⟩
theorem PIL.bin (H : PIL Γ X S N o t n) (hn : 2 ≤ n) (V : VR Γ S N xx y ty v) : PIL Γ (u3 (u3 (u3 X o f_Task_size 0 ((n - 1 - 1 + 1 : Nat) : Int)) o f_Task_tags (n - 1 - 1) xx) o f_Task_words (n - 1 - 1) y) (binS S t n ty v) N o t (n - 1) := by
  have e1 : 2100 * t + n - 1 - 1 = 2100 * t + (n - 1 - 1) := by omega
  have vr : ∀ {x y ty' v' : Int}, VR Γ S N x y ty' v' → VR Γ (binS S t n ty v) N x y ty' v' := fun {x y ty' v'} V => by
    have es : ∀ f i, [f_Md_sourceTexts, f_Md_madeTexts, f_Md_things, f_Md_thingKind].elem f = true → binS S t n ty v f i = S f i := fun f i hf => by
      have : f = f_Md_sourceTexts ∨ f = f_Md_madeTexts ∨ f = f_Md_things ∨ f = f_Md_thingKind := by simpa using hf
      unfold binS isS
      rcases this with rfl | rfl | rfl | rfl <;> rw [u2_f (by decide), u2_f (by decide), u2_f (by decide), u2_f (by decide), u2_f (by decide)]
    refine ⟨V.1, V.2.1, ?_⟩
    have w := V.2.2
    unfold VO txO at w ⊢
    rw [es _ _ (by decide), es _ _ (by decide), es _ _ (by decide), es _ _ (by decide)]
    exact w
  intro i hi
  have a1 : binS S t n ty v f_Md_pileType (2100 * t + i) = if i = n - 1 - 1 then ty else S f_Md_pileType (2100 * t + i) := by
    unfold binS isS
    rw [u2_f (by decide), u2_e]
    by_cases q : i = n - 1 - 1
    · rw [if_pos ⟨rfl, by omega⟩, if_pos q]
    · rw [if_neg (fun z => q (by omega)), if_neg q, u2_f (by decide), u2_f (by decide), u2_f (by decide)]
  have a2 : binS S t n ty v f_Md_pileValue (2100 * t + i) = if i = n - 1 - 1 then v else S f_Md_pileValue (2100 * t + i) := by
    unfold binS isS
    rw [u2_e]
    by_cases q : i = n - 1 - 1
    · rw [if_pos ⟨rfl, by omega⟩, if_pos q]
    · rw [if_neg (fun z => q (by omega)), if_neg q, u2_f (by decide), u2_f (by decide), u2_f (by decide), u2_f (by decide)]
  have a3 : u3 (u3 (u3 X o f_Task_size 0 ((n - 1 - 1 + 1 : Nat) : Int)) o f_Task_tags (n - 1 - 1) xx) o f_Task_words (n - 1 - 1) y o f_Task_tags i = if i = n - 1 - 1 then xx else X o f_Task_tags i := by
    rw [u3_f (by decide), u3_e]
    by_cases q : i = n - 1 - 1
    · rw [if_pos ⟨rfl, rfl, q⟩, if_pos q]
    · rw [if_neg (fun z => q z.2.2), if_neg q, u3_f (by decide)]
  have a4 : u3 (u3 (u3 X o f_Task_size 0 ((n - 1 - 1 + 1 : Nat) : Int)) o f_Task_tags (n - 1 - 1) xx) o f_Task_words (n - 1 - 1) y o f_Task_words i = if i = n - 1 - 1 then y else X o f_Task_words i := by
    rw [u3_e]
    by_cases q : i = n - 1 - 1
    · rw [if_pos ⟨rfl, rfl, q⟩, if_pos q]
    · rw [if_neg (fun z => q z.2.2), if_neg q, u3_f (by decide), u3_f (by decide)]
  rw [a1, a2, a3, a4]
  by_cases q : i = n - 1 - 1
  · rw [if_pos q, if_pos q, if_pos q, if_pos q]
    exact vr V
  · rw [if_neg q, if_neg q, if_neg q, if_neg q]
    exact vr (H i (by omega))
theorem OUT.prt (H : OUT h C X S) (e : EXS [f_Md_shown, f_Md_output, f_Md_traced, f_Md_trace] S S') (ex : EXX [f_Machine_outputSize, f_Machine_output, f_Machine_traceSize, f_Machine_trace] X X') (l1 : hl h' (hR h' f_Machine_output (C + 32)) = hl h (hR h f_Machine_output (C + 32))) (l2 : hl h' (hR h' f_Machine_trace (C + 32)) = hl h (hR h f_Machine_trace (C + 32))) (pl : PRL h' C p) : OUT h' C X' S' := by
  obtain ⟨⟨w, lo, a1, a2, a3, a4, a5, a6, a7⟩, ⟨w', lo', b1, b2, b3, b4, b5, b6, b7⟩, -⟩ := H
  exact ⟨⟨w, lo, by rw [ex _ (by decide)]; exact a1, by rw [e _ (by decide)]; exact a2, a3, by rw [l1]; exact a4, a5, a6, fun i hi => by rw [ex _ (by decide), e _ (by decide)]; exact a7 i hi⟩, ⟨w', lo', by rw [ex _ (by decide)]; exact b1, by rw [e _ (by decide)]; exact b2, b3, by rw [l2]; exact b4, b5, b6, fun i hi => by rw [ex _ (by decide), e _ (by decide)]; exact b7 i hi⟩, pl.1⟩
/-- texts and what is printed change, all else stays -/
theorem CORE.txs (H : CORE Γ h C ho X Y S N) (G' : AC h' C) (F' : FC h' C) (fr : Fr LTP [] z s h h') (gb : GRB h C h') (g : GRO Γ Γ' h h' C S S') (o0 : ∀ f i, LXS2.elem f = false → S' f i = S f i) (x0 : ∀ o f i, LXX2.elem f = false → X' o f i = X o f i) (k2 : TXC Γ' h' C X' S') (pl : PRL h' C p) : (CORE Γ' h' C ho X' Y S' N ∧ ∀ {t o n c r : Nat}, CT Γ h C X Y S N t o n c r → CT Γ' h' C X' Y S' N t o n c r) ∧ BND h C S h' S' 0 0 ∧ NSc S S' ∧ NXc X X' ∧ Fr LHc [] z s h h' := by
  have H0 := H
  obtain ⟨⟨G, F⟩, -, -, -, -, q3, q4, q5, q6, q7, q8⟩ := H0
  have dT : ∀ o, isT o → ∀ f, [f_Task_tryCall, f_Task_tryTo, f_Task_trySize].elem f = true → hl h' (hR h' f (C + o)) = hl h (hR h f (C + o)) := by
    intro o ho f hf
    have : f = f_Task_tryCall ∨ f = f_Task_tryTo ∨ f = f_Task_trySize := by simpa using hf
    rcases ho with rfl | rfl <;> rcases this with rfl | rfl | rfl <;> exact ac_len G fr (by decide) (by unfold DJ; decide)
  refine ⟨H.gs (S' := S') (X' := X') G' F' fr g (exs_of o0 (by decide)) (exx_of x0 (by decide)) dT (exs_of o0 (by decide)) (Int.le_of_eq (o0 _ _ (by decide)).symm) (by unfold DJ; decide) (by unfold DJ; decide) (by unfold DJ; decide) k2 (q3.ext (C := C) G.2.1 g (exs_of o0 (by decide)) fr (by unfold DJ; decide) (by unfold DJ; decide) (by simp)) (q4.ext g (exs_of o0 (by decide)) (exx_of x0 (by decide)) (ac_len G fr (by decide) (by unfold DJ; decide)) (ac_len G fr (by decide) (by unfold DJ; decide)) (ac_len G fr (by decide) (by unfold DJ; decide))) (q5.prt (exs_of o0 (by decide)) (exx_of x0 (by decide)) (ac_len G fr (by decide) (by unfold DJ; decide)) (ac_len G fr (by decide) (by unfold DJ; decide)) pl) (q6.ext (exs_of o0 (by decide)) (exx_of x0 (by decide))) (q7.ext G F g (exs_of o0 (by decide)) fr (by unfold DJ; decide) (by unfold DJ; decide) (by simp) (fun i _ => q8.eq G.2.1 fr (by unfold DJ; decide) (by simp) i)), (gb S S' (q7.thk G) (exs_of o0 (by decide))).1, fun f i hf => o0 f i ?_, fun o f i hf => x0 o f i ?_, fr.mono (fun f hf => ?_) (fun q hq => by cases hq)⟩
  · cases q : LXS2.elem f with
    | false => rfl
    | true =>
      have e : LXS2.all (fun f => LSc.elem f) = true := by decide
      rw [List.all_eq_true.mp e f (by simpa using q)] at hf; cases hf
  · cases q : LXX2.elem f with
    | false => rfl
    | true =>
      have e : LXX2.all (fun f => LXc.elem f) = true := by decide
      rw [List.all_eq_true.mp e f (by simpa using q)] at hf; cases hf
  · have e : LTP.all (fun f => LHc.elem f) = true := by decide
    simpa using List.all_eq_true.mp e f hf
/-- where bytes were printed and nothing else -/
theorem CORE.prt (H : CORE Γ h C ho X Y S N) (A : PUT h C (u3 X 32 f_Machine_printed 0 v) p bs h' X') (o0 : ∀ f i, [f_Md_spelt, f_Md_spelling].elem f = false → S' f i = S f i) : ∃ z s, (CORE Γ h' C ho X' Y S' N ∧ ∀ {t o n c r : Nat}, CT Γ h C X Y S N t o n c r → CT Γ h' C X' Y S' N t o n c r) ∧ GRO Γ Γ h h' C S S' ∧ BND h C S h' S' 0 0 ∧ NSc S S' ∧ NXc X X' ∧ Fr LHc [] z s h h' := by
  obtain ⟨G', F', pl, -⟩ := A.ok
  obtain ⟨z, s, fr0⟩ := A.2.2.1
  have ⟨G, F⟩ := H.1
  have fr : Fr LTP [] z s h h' := fr0.mono (fun f hf => by
    unfold LTP
    rcases List.mem_append.mp hf with w | w
    · exact List.mem_append_left _ w
    · refine List.mem_append_right _ ?_
      simp only [List.mem_cons, List.not_mem_nil, or_false] at w ⊢
      exact Or.inl w) (fun q hq => by cases hq)
  have o1 : ∀ f i, LXS2.elem f = false → S' f i = S f i := fun f i hf => o0 f i (by
    cases q : [f_Md_spelt, f_Md_spelling].elem f with
    | false => rfl
    | true =>
      have : f = f_Md_spelt ∨ f = f_Md_spelling := by simpa using q
      rcases this with rfl | rfl <;> exact absurd hf (by decide))
  have x1 : ∀ o f i, [f_Machine_print, f_Machine_printed].elem f = false → X' o f i = X o f i := fun o f i hf => by
    rw [A.2.2.2.2.2.2.2.2 o f i hf, u3_f (by rintro rfl; exact absurd hf (by decide))]
  have x2 : ∀ o f i, LXX2.elem f = false → X' o f i = X o f i := fun o f i hf => x1 o f i (by
    cases q : [f_Machine_print, f_Machine_printed].elem f with
    | false => rfl
    | true =>
      have : f = f_Machine_print ∨ f = f_Machine_printed := by simpa using q
      rcases this with rfl | rfl <;> exact absurd hf (by decide))
  have g : GRO Γ Γ h h' C S S' := GRO.fr (exs_of o0 (by decide)) G F fr (by unfold DJ; decide) (by simp)
  obtain ⟨M1, M2, M3, M4, M5⟩ := H.txs (S' := S') (X' := X') G' F' fr A.2.2.2.1 g o1 x2 (H.2.2.2.2.1.ext g (exs_of o0 (by decide)) (exx_of x1 (by decide)) (ac_len G fr0 (by decide) (by unfold DJ; decide)) (ac_len G fr0 (by decide) (by unfold DJ; decide)) (ac_len G fr0 (by decide) (by unfold DJ; decide))) pl
  exact ⟨z, s, M1, g, M2, M3, M4, M5⟩
end
