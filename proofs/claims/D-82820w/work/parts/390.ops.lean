set_option maxRecDepth 20000
section
variable {ρ : Nat → Nat} {d : Nat} {Q : QT} {Γ Γ' Γ1 Γ2 : GH} {h h' h1 h2 : ah} {C ho N M z s t o n c r i j k : Nat} {g g' : HG} {S S' S1 S2 : SS} {X X' X1 X2 : X3} {Y Y' Y1 Y2 : Y3} {ws ws' hw : List (List Int)} {P : ah → Nat → Prop} {op a b kz ks : Int} {e : Option Int}
/-- an instruction, by both, with all that goes by the core -/
def OPS (ρ : Nat → Nat) (Γ : GH) (h : ah) (C ho : Nat) (X : X3) (Y : Y3) (S : SS) (g : HG) (N M : Nat) (hw ws : List (List Int)) (op a b : Int) : Prop := ∀ d Q, (∀ e Γ' S' h' X' Y' ws', TRN ρ (PTO ρ g N M) S (eT e) S' → STG ρ Γ h C ho X Y S g N M hw ws Γ' h' X' Y' S' ws' 3 31 → ER e X' S' → Q (oE e (C + 33)) (cc h' C X' Y')) → wpB PGm ρ (d + 200) m_Machine_instruct 0 [(0, vR (C + 32)), (1, vI op), (2, vI a), (3, vI b)] [] (cc h C X Y) Q
theorem TRUN.trn (H : TRUN ρ P S e S') : TRN ρ P S (eT e) S' := fun d h0 T Q PT q => H (d + 140) h0 T Q PT (by
  cases e with
  | none => exact q
  | some v => exact q)
theorem OPF.ops (A : OPF ρ (PTO ρ g N M) Γ h C ho X Y S N op a b) (HC : CORE Γ h C ho X Y S N) (E : EXT ρ Γ h C ho X Y S g N M hw ws) (W : HWF g N M) : OPS ρ Γ h C ho X Y S g N M hw ws op a b := fun d Q q => A (d + 140) Q (fun e S' h' X' Y' T R => by
  obtain ⟨⟨Γ', ST⟩, er⟩ := STG.rld E HC (RLD.of (RLH.mk (LYR.rf HC E.1.1.1) R) E.1.1.2 E.1.1.1 W HC.inj)
  exact q e Γ' S' h' X' Y' ws T.trn (ST.le (by omega) (by omega)) er)
theorem GEQ.rows (Q : GEQ g g') (H : PTH ρ g N M h1 s) : PTH ρ g' N M h1 s := by
  obtain ⟨e1, e2⟩ := Q
  obtain ⟨a1, b1, b2, b3, b4, b5, b6, b7, b8⟩ := H
  refine ⟨a1, b1, b2, b3, b4, b5, b6, fun i hi => ?_, fun j hj => ?_⟩
  · have := b7 i hi
    unfold HRC at this ⊢
    rw [e2, e1 1 i (by decide) (by decide), e1 2 i (by decide) (by decide), e1 3 i (by decide) (by decide), e1 4 i (by decide) (by decide)]
    exact this
  · have := b8 j hj
    unfold HRM at this ⊢
    rw [e2, e1 5 j (by decide) (by decide), e1 6 j (by decide) (by decide), e1 7 j (by decide) (by decide), e1 8 j (by decide) (by decide), e1 9 j (by decide) (by decide)]
    exact this
/-- tries are few -/
theorem STA.few (H : STA Γ S t n c r) (h1 : 1 ≤ c) : ∀ i, i < c → qsS S t i ≤ 50 * i := fun i => by
  obtain ⟨A, -, B⟩ := H
  induction i with
  | zero =>
    intro _
    have : qsS S t 0 = 0 := by
      rcases Nat.mul_eq_zero.mp B with z | z <;> omega
    omega
  | succ i ih =>
    intro hi
    obtain ⟨-, a2, a3, -⟩ := A i (by omega)
    rw [if_neg (by omega)] at a2
    have := ih (by omega)
    omega
theorem CT.few (K : CT Γ h C X Y S N t o n c r) (h1 : 1 ≤ c) : r ≤ 10000 := by
  obtain ⟨-, -, -, ⟨-, -, c2⟩, -, -, -, A, -⟩ := K
  have := A.few h1 (c - 1) (by omega)
  obtain ⟨-, a2, a3, -⟩ := A.1 (c - 1) (by omega)
  rw [if_pos (by omega)] at a2
  omega
/-- units of both -/
def UNI (Γ : GH) (X : X3) (S : SS) : Prop := ∃ un : Nat, X 32 f_Machine_units 0 = (un : Int) ∧ S f_Md_units 0 = (un : Int) ∧ un ≤ 16 ∧ ∀ u, u < un → X 32 f_Machine_mains u = S f_Md_unitFunction u ∧ 0 ≤ S f_Md_unitFunction u ∧ S f_Md_unitFunction u < S f_Md_functions 0 ∧ gou Γ (S f_Md_unitFunction u).toNat = (S f_Md_unitFunction u).toNat
def sameD (S : SS) (a b : Nat) : Prop := S f_Md_siteKind a = S f_Md_siteKind b ∧ S f_Md_siteName a = S f_Md_siteName b ∧ S f_Md_siteMany a = S f_Md_siteMany b
/-- descriptors of both: dl are the first sites of each -/
def DSC (h : ah) (C : Nat) (S : SS) : Prop := ∃ dl : List Nat, hl h (C + 58) = dl.length ∧ S f_Md_descriptors 0 = (dl.length : Int) ∧ (∀ j, j < dl.length → (dl.getD j 0 : Int) < S f_Md_sites 0 ∧ hB h (C + 58) j = hB h (C + 57) (dl.getD j 0) ∧ S f_Md_descriptor (dl.getD j 0) = (j : Int)) ∧ (∀ s : Nat, (s : Int) < S f_Md_sites 0 → ∃ j, j < dl.length ∧ S f_Md_descriptor s = (j : Int) ∧ sameD S s (dl.getD j 0)) ∧ ∀ i j, i < j → j < dl.length → ¬ sameD S (dl.getD i 0) (dl.getD j 0)
/-- a text of a source -/
def LI1 (S : SS) (b : Nat) (l : List Int) : Prop := ∃ a : Nat, S f_Md_textFrom b = (a : Int) ∧ S f_Md_textLength b = (l.length : Int) ∧ a + l.length ≤ 69632 ∧ ∀ i, i < l.length → S f_Md_textSigns (a + i) = l.getD i 0
def LIW (h : ah) (C : Nat) (X : X3) (S : SS) (lits : List (List Int)) : Prop := (∃ by_ fr sz nx hd, WD h (C + 40) 4000 65536 lits by_ fr sz nx hd) ∧ S f_Md_sourceTexts 0 = (lits.length : Int) ∧ X 32 f_Machine_literalsKnown 0 = (lits.length : Int) ∧ lits.length ≤ 4000 ∧ ∀ b, b < lits.length → LI1 S b (lits.getD b [])
/-- literal texts, the names of kinds, units, descriptors -/
def MSC (ρ : Nat → Nat) (Γ : GH) (h : ah) (C : Nat) (X : X3) (S : SS) : Prop := (∀ b : Nat, (b : Int) < S f_Md_sourceTexts 0 → X 32 f_Machine_literalText b = (gtn Γ b : Int) ∧ b < hl h (hR h f_Machine_literalText (C + 32))) ∧ KND ρ h C ∧ UNI Γ X S ∧ X 32 f_Machine_instructions 0 = S f_Md_instructions 0 ∧ DSC h C S ∧ ∃ lits, LIW h C X S lits
theorem PSs0 : ∀ y, (0, y) ∉ PSs C ho := fun y c => by
  unfold PSs at c
  rcases List.mem_append.mp c with c | c
  · exact PMN0 y c
  · exact nP0 (P := WP (C + 34)) rfl y c
theorem PSs_w {f x : Nat} (e1 : LHs.elem f = false) (e2 : [f_Host_meant + 1, f_Host_met + 1, f_Host_why, f_Words_many, f_Words_used, f_Words_bytes, f_Words_from, f_Words_size, f_Words_next, f_Words_heads + 1].elem f = false) : ¬ okW LHs (PSs C ho) f x := by
  rintro (c | c)
  · have : LHs.elem f = true := by simpa using c
    rw [this] at e1; cases e1
  · unfold PSs PMN WP at c
    simp only [List.mem_append, List.mem_cons, Prod.mk.injEq, List.not_mem_nil, or_false] at c
    have : f ∈ [f_Host_meant + 1, f_Host_met + 1, f_Host_why, f_Words_many, f_Words_used, f_Words_bytes, f_Words_from, f_Words_size, f_Words_next, f_Words_heads + 1] := by
      simp only [List.mem_cons, List.not_mem_nil, or_false]
      omega
    have : [f_Host_meant + 1, f_Host_met + 1, f_Host_why, f_Words_many, f_Words_used, f_Words_bytes, f_Words_from, f_Words_size, f_Words_next, f_Words_heads + 1].elem f = true := by simpa using this
    rw [this] at e2; cases e2
theorem LI1.src {b : Nat} {l : List Int} (H : LI1 S b l) (s : SRC S S') (hb : b < 4000) : LI1 S' b l := by
  obtain ⟨a, h1, h2, h3, h4⟩ := H
  exact ⟨a, by rw [(s.1 b hb).1]; exact h1, by rw [(s.1 b hb).2]; exact h2, h3, fun i hi => by rw [s.2 _ (by omega)]; exact h4 i hi⟩
theorem UNI.mv (H : UNI Γ X S) (g1 : GRO Γ Γ' h h' C S S') (e : EXS [f_Md_units, f_Md_unitFunction] S S') (x : EXX [f_Machine_units, f_Machine_mains] X X') : UNI Γ' X' S' := by
  obtain ⟨un, u1, u2', u3', u4⟩ := H
  refine ⟨un, by rw [x _ (by decide)]; exact u1, by rw [e _ (by decide)]; exact u2', u3', fun u hu => ?_⟩
  obtain ⟨a1, a2, a3, a4⟩ := u4 u hu
  rw [x _ (by decide), e _ (by decide), (g1.1.2 _ (by omega)).2.2.2.2]
  exact ⟨a1, a2, by have := g1.1.1; omega, a4⟩
theorem sameD.ex {a b : Nat} (e : EXS [f_Md_siteKind, f_Md_siteName, f_Md_siteMany] S S') : sameD S' a b ↔ sameD S a b := by
  unfold sameD
  rw [e _ (by decide), e _ (by decide), e _ (by decide), e _ (by decide), e _ (by decide), e _ (by decide)]
theorem DSC.mv (H : DSC h C S) (e : EXS [f_Md_siteKind, f_Md_siteName, f_Md_siteMany, f_Md_sites, f_Md_descriptor, f_Md_descriptors] S S') (s7 : ∀ i, hB h' (C + 57) i = hB h (C + 57) i) (s8 : hl h' (C + 58) = hl h (C + 58) ∧ ∀ i, hB h' (C + 58) i = hB h (C + 58) i) : DSC h' C S' := by
  obtain ⟨dl, a1, a2, a3, a4, a5⟩ := H
  have es : EXS [f_Md_siteKind, f_Md_siteName, f_Md_siteMany] S S' := fun f hf i => e f (by
    have : f = f_Md_siteKind ∨ f = f_Md_siteName ∨ f = f_Md_siteMany := by simpa using hf
    rcases this with rfl | rfl | rfl <;> decide) i
  refine ⟨dl, by rw [s8.1]; exact a1, by rw [e _ (by decide)]; exact a2, fun j hj => ?_, fun s hs => ?_, fun i j hi hj c => a5 i j hi hj ((sameD.ex es).mp c)⟩
  · rw [e _ (by decide), e _ (by decide), s8.2, s7]; exact a3 j hj
  · rw [e _ (by decide)] at hs
    obtain ⟨j, j1, j2, j3⟩ := a4 s hs
    exact ⟨j, j1, by rw [e _ (by decide)]; exact j2, (sameD.ex es).mpr j3⟩
theorem MSC.stg (H : MSC ρ Γ h C X S) (HC : CORE Γ h C ho X Y S N) (ST : STG ρ Γ h C ho X Y S g N M hw ws Γ' h' X' Y' S' ws' kz ks) : MSC ρ Γ' h' C X' S' := by
  obtain ⟨-, -, g1, o1, x1, -, ⟨z, s, fr⟩, -⟩ := ST
  have gz := HC.1.1.1
  have F := HC.1.2
  have ij := HC.1.1.2.1
  have es := o1.ex (L' := [f_Md_sourceTexts, f_Md_units, f_Md_unitFunction, f_Md_instructions, f_Md_siteKind, f_Md_siteName, f_Md_siteMany, f_Md_sites, f_Md_descriptor, f_Md_descriptors]) (by decide +kernel)
  have ex := x1.exx (L' := [f_Machine_literalText, f_Machine_units, f_Machine_mains, f_Machine_instructions, f_Machine_literalsKnown]) (by decide +kernel)
  obtain ⟨h1, h2, h3, h4, h5, lits, ⟨by_, wf, wz, wn, wh, W⟩, l2, l3, l4, l5⟩ := H
  have wk : ∀ {f x : Nat}, LHs.elem f = false → x ≠ C + 34 → [f_Host_meant + 1, f_Host_met + 1, f_Host_why].elem f = false → ¬ okW LHs (PSs C ho) f x := fun {f x} e1 nx e2 => by
    rintro (c | c)
    · have : LHs.elem f = true := by simpa using c
      rw [this] at e1; cases e1
    · unfold PSs at c
      rcases List.mem_append.mp c with c | c
      · unfold PMN at c
        simp only [List.mem_cons, Prod.mk.injEq, List.not_mem_nil, or_false] at c
        have : f ∈ [f_Host_meant + 1, f_Host_met + 1, f_Host_why] := by
          simp only [List.mem_cons, List.not_mem_nil, or_false]
          omega
        have : [f_Host_meant + 1, f_Host_met + 1, f_Host_why].elem f = true := by simpa using this
        rw [this] at e2; cases e2
      · simp only [WP, List.mem_cons, Prod.mk.injEq, List.not_mem_nil, or_false] at c
        omega
  have ar := fun {f x y : Nat} (ow : own f) (hx : x < hz h) (e : hR h f x = y) (h0 : y ≠ 0) (n1 : ¬ okW LHs (PSs C ho) f x) (n2 : ¬ okW LHs (PSs C ho) (f + 1) x) => fr.ar ij ow hx e h0 (fun c => c.elim n1 n2) (PSs0 _)
  have s7 := ar (f := f_Machine_sites) (x := C + 32) (by unfold own; decide) (by omega) F.2.1.2.2.2.2.2.2.2.2.1 (by omega) (PSs_w (by decide +kernel) (by decide)) (PSs_w (by decide +kernel) (by decide))
  have s8 := ar (f := f_Machine_descriptors) (x := C + 32) (by unfold own; decide) (by omega) F.2.1.2.2.2.2.2.2.2.2.2.1 (by omega) (PSs_w (by decide +kernel) (by decide)) (PSs_w (by decide +kernel) (by decide))
  have W' : WD h' (C + 40) 4000 65536 lits by_ wf wz wn wh := W.frm fr (fun f hf c => by
    have ne : C + 40 ≠ C + 34 := by omega
    have q : [f_Words_most, f_Words_mostBytes, f_Words_many, f_Words_used, f_Words_bytes, f_Words_from, f_Words_size, f_Words_next, f_Words_heads].all (fun f => !(LHs.elem f) && (!(LHs.elem (f + 1)) && (!([f_Host_meant + 1, f_Host_met + 1, f_Host_why].elem f) && !([f_Host_meant + 1, f_Host_met + 1, f_Host_why].elem (f + 1))))) = true := by decide +kernel
    have q := List.all_eq_true.mp q f hf
    simp only [Bool.and_eq_true, Bool.not_eq_true'] at q
    exact c.elim (wk q.1 ne q.2.2.1) (wk q.2.1 ne q.2.2.2)) ⟨PSs0 _, PSs0 _, PSs0 _, PSs0 _, PSs0 _⟩
  refine ⟨fun b hb => ?_, fun i hi => ?_, h3.mv g1 (fun f hf i => es f (by
    have : f = f_Md_units ∨ f = f_Md_unitFunction := by simpa using hf
    rcases this with rfl | rfl <;> decide) i) (fun f hf o i => ex f (by
    have : f = f_Machine_units ∨ f = f_Machine_mains := by simpa using hf
    rcases this with rfl | rfl <;> decide) o i), by rw [ex _ (by decide), es _ (by decide)]; exact h4, h5.mv (fun f hf i => es f (by
    have : f = f_Md_siteKind ∨ f = f_Md_siteName ∨ f = f_Md_siteMany ∨ f = f_Md_sites ∨ f = f_Md_descriptor ∨ f = f_Md_descriptors := by simpa using hf
    rcases this with rfl | rfl | rfl | rfl | rfl | rfl <;> decide) i) s7.2.2 ⟨s8.1, s8.2.2⟩, lits, ⟨_, _, _, _, _, W'⟩, by rw [es _ (by decide)]; exact l2, by rw [ex _ (by decide)]; exact l3, l4, fun b hb => (l5 b hb).src g1.2.2.2.2.2.2 (by omega)⟩
  · rw [es _ (by decide)] at hb
    obtain ⟨a1, a2⟩ := h1 b hb
    have w := fr.R (x := C + 32) (f := f_Machine_literalText) (by omega) (by decide) (PSs_w (by decide +kernel) (by decide))
    have zz := ij.1 f_Machine_literalText (C + 32) (by omega) (by unfold own; decide)
    rw [ex _ (by decide), a1, g1.2.2.2.2.2.1 b (Or.inl hb), w]
    refine ⟨rfl, ?_⟩
    have kk : hK h (hR h f_Machine_literalText (C + 32)) < 100 := by
      rw [(HC.1.1.2.2.2.1 (f_Machine_literalText, 32, 1) (by decide)).2]; decide
    rw [fr.la zz kk]
    exact a2
  · rw [← h2 i hi]
    exact (fr.ar0 (y := C + 97) (by omega) (by omega) (PSs0 _) F.2.2.2.2.2.2.2.2.2.1.2.2).2.2 i
end
