/-! STORE: joined -/
set_option maxRecDepth 20000
def LTK : List Nat := L1 ++ L2 ++ L3 ++ L4
theorem tkQ_mem {t f i : Nat} (hf : tkQ t f i) : LTK.elem f = true := by
  unfold LTK
  simp only [List.elem_eq_mem, decide_eq_true_eq, List.mem_append]
  rcases hf with ⟨q, -⟩ | ⟨q, -⟩ | ⟨q, -⟩ | ⟨q, -⟩
  · exact Or.inl (Or.inl (Or.inl (by simpa using q)))
  · exact Or.inl (Or.inl (Or.inr (by simpa using q)))
  · exact Or.inl (Or.inr (by simpa using q))
  · exact Or.inr (by simpa using q)
section
variable {ρ : Nat → Nat} {P : ah → Nat → Prop} {d : Nat} {Q : QT} {Γ Γ' : GH} {h h' : ah} {C ho : Nat} {X X' : X3} {Y Y' : Y3} {S S' : SS} {N t o n c r f i j k m z s : Nat} {L : List Nat} {Pp : List (Nat × Nat)} {ty v x y op a b : Int}
theorem GRO.frs (sr : SRC S S') (es : EXS [f_Md_functions, f_Md_codeSize, f_Md_calls, f_Md_things, f_Md_thingKind, f_Md_sourceTexts, f_Md_madeTexts] S S') (G : AC h C) (F : FC h C) (fr : Fr L Pp z s h h') (d1 : DJ [f_Machine_functions, f_Machine_functions + 1, f_Heap_things, f_Heap_things + 1] L Pp) (p0 : ∀ y, (0, y) ∉ Pp) : GRO Γ Γ h h' C S S' := by
  have g1 := G.1
  have s56 : sameArr h h' (C + 56) := fr.ar G.2.1 (f := f_Machine_functions) (by unfold own; decide) (x := C + 32) (by omega) F.2.1.2.2.2.2.2.2.2.1 (by omega) (fun c => c.elim (d1.w (by decide)) (d1.w (by decide))) (p0 _)
  have s51 : sameArr h h' (C + 51) := fr.ar G.2.1 (f := f_Heap_things) (by unfold own; decide) (x := C + 50) (by omega) F.2.2.1.2.1 (by omega) (fun c => c.elim (d1.w (by decide)) (d1.w (by decide))) (p0 _)
  refine ⟨⟨?_, fun i _ => ⟨?_, s56.2.2 i, rfl, rfl, rfl⟩⟩, ⟨?_, fun _ _ => ⟨rfl, rfl⟩⟩, ⟨?_, fun i _ => ⟨?_, s51.2.2 i⟩⟩, ?_, ?_, fun _ _ => rfl, sr⟩
  · rw [es _ (by decide)]; exact Int.le_refl _
  · rw [es _ (by decide)]
  · rw [es _ (by decide)]; exact Int.le_refl _
  · rw [es _ (by decide)]; exact Int.le_refl _
  · rw [es _ (by decide)]
  · rw [es _ (by decide)]; exact Int.le_refl _
  · rw [es _ (by decide)]; exact Int.le_refl _
/-- lengths of arrays of the machine that are not given up -/
theorem GRO.fr (es : EXS [f_Md_functions, f_Md_codeSize, f_Md_calls, f_Md_things, f_Md_thingKind, f_Md_sourceTexts, f_Md_madeTexts, f_Md_textFrom, f_Md_textLength, f_Md_textSigns] S S') (G : AC h C) (F : FC h C) (fr : Fr L Pp z s h h') (d1 : DJ [f_Machine_functions, f_Machine_functions + 1, f_Heap_things, f_Heap_things + 1] L Pp) (p0 : ∀ y, (0, y) ∉ Pp) : GRO Γ Γ h h' C S S' := GRO.frs ⟨fun x _ => ⟨es _ (by decide) x, es _ (by decide) x⟩, fun j _ => es _ (by decide) j⟩ (fun f hf i => es f (by
  have : f = f_Md_functions ∨ f = f_Md_codeSize ∨ f = f_Md_calls ∨ f = f_Md_things ∨ f = f_Md_thingKind ∨ f = f_Md_sourceTexts ∨ f = f_Md_madeTexts := by simpa using hf
  rcases this with rfl | rfl | rfl | rfl | rfl | rfl | rfl <;> decide) i) G F fr d1 p0
theorem ac_len (G : AC h C) (fr : Fr L Pp z s h h') {f o : Nat} (e : inA arC f o = true) (d : DJ [f] L Pp) : hl h' (hR h' f (C + o)) = hl h (hR h f (C + o)) := by
  obtain ⟨k, m⟩ := inA_mem e
  have o1 := ownA' m
  simp only at o1
  have g1 := G.1
  have k1 : arC.all (fun q => Nat.blt q.2.2 100) = true := by decide
  have k2 := List.all_eq_true.mp k1 _ m
  rw [fr.R (by omega) (own5 o1.1) (d.w (by simp)), fr.la (G.2.1.1 _ _ (by omega) o1.1)]
  rw [(G.2.2.2.1 _ m).2]
  exact Nat.le_of_ble_eq_true k2
/-- a task where the base changes beside it -/
theorem CT.base (H : CT Γ h C X Y S N t o n c r) (G : AC h C) (g : GRO Γ Γ' h h' C S S') (eS : EXS LTK S S') (eX : EXX L6 X X') (eY : ∀ f, L7.elem f = true → ∀ i, Y' o f i = Y o f i) (fr : Fr L Pp z s h h') (d1 : DJ [f_Task_tryCall, f_Task_tryTo, f_Task_trySize] L Pp) : CT Γ' h' C X' Y' S' N t o n c r := by
  have hd : ∀ f, [f_Task_tryCall, f_Task_tryTo, f_Task_trySize].elem f = true → DJ [f] L Pp := fun f hf => by
    have := List.all_eq_true.mp d1 f (by simpa using hf)
    unfold DJ
    simpa using this
  have ho : o = 62 ∨ o = 75 := H.1.to.1
  refine H.ext g (fun f i hf => eS f (tkQ_mem hf) i) (fun f hf i => eX f hf o i) eY ?_ ?_ ?_
  · rcases ho with rfl | rfl
    · exact ac_len G fr (by decide) (hd _ (by decide))
    · exact ac_len G fr (by decide) (hd _ (by decide))
  · rcases ho with rfl | rfl
    · exact ac_len G fr (by decide) (hd _ (by decide))
    · exact ac_len G fr (by decide) (hd _ (by decide))
  · rcases ho with rfl | rfl
    · exact ac_len G fr (by decide) (hd _ (by decide))
    · exact ac_len G fr (by decide) (hd _ (by decide))
/-- a variable is set -/
theorem VRC.set (H : VRC Γ h S N) (G : INJ h) {k b : Nat} (hk : (k : Int) < S f_Md_calls 0) (hb : (b : Int) < S f_Md_variablesOf (gcf Γ k)) (V : VR Γ S N x y ty v) : VRC Γ (sA (sA h (hR h f_Variables_tags (gva Γ k)) b x) (hR h f_Variables_words (gva Γ k)) b y) (u2 (u2 S f_Md_variableTypes ((S f_Md_variablesFrom k).toNat + b) ty) f_Md_variableValue ((S f_Md_variablesFrom k).toNat + b) v) N := by
  obtain ⟨kn, vn, a1, a2, a3, a4, a5, a6, a7⟩ := H
  have oT : own f_Variables_tags := by unfold own; decide
  have oW : own f_Variables_words := by unfold own; decide
  have ev : ∀ {ty v : Int}, VO S N ty v → VO (u2 (u2 S f_Md_variableTypes ((S f_Md_variablesFrom k).toNat + b) ty) f_Md_variableValue ((S f_Md_variablesFrom k).toNat + b) v) N ty v := fun {ty v} q => q.ext (by rw [u2_f (by decide), u2_f (by decide)]) (by rw [u2_f (by decide), u2_f (by decide)]) (by rw [u2_f (by decide), u2_f (by decide)]) (fun i => by rw [u2_f (by decide), u2_f (by decide)])
  generalize hS : u2 (u2 S f_Md_variableTypes ((S f_Md_variablesFrom k).toNat + b) ty) f_Md_variableValue ((S f_Md_variablesFrom k).toNat + b) v = S'
  have e0 : ∀ f i, f ≠ f_Md_variableTypes → f ≠ f_Md_variableValue → S' f i = S f i := fun f i n1 n2 => by rw [← hS, u2_f n2, u2_f n1]
  have e1 : ∀ i, S' f_Md_variableTypes i = if i = (S f_Md_variablesFrom k).toNat + b then ty else S f_Md_variableTypes i := fun i => by
    rw [← hS, u2_f (by decide), u2_e]
    by_cases q : i = (S f_Md_variablesFrom k).toNat + b
    · rw [if_pos ⟨rfl, q⟩, if_pos q]
    · rw [if_neg (fun z => q z.2), if_neg q]
  have e2 : ∀ i, S' f_Md_variableValue i = if i = (S f_Md_variablesFrom k).toNat + b then v else S f_Md_variableValue i := fun i => by
    rw [← hS, u2_e]
    by_cases q : i = (S f_Md_variablesFrom k).toNat + b
    · rw [if_pos ⟨rfl, q⟩, if_pos q]
    · rw [if_neg (fun z => q z.2), if_neg q, u2_f (by decide)]
  have evo : ∀ {ty v : Int}, VO S N ty v → VO S' N ty v := fun {ty v} q => q.ext (e0 _ _ (by decide) (by decide)) (e0 _ _ (by decide) (by decide)) (e0 _ _ (by decide) (by decide)) (fun i => e0 _ _ (by decide) (by decide))
  have evr : ∀ {x y ty v : Int}, VR Γ S N x y ty v → VR Γ S' N x y ty v := fun q => ⟨q.1, q.2.1, evo q.2.2⟩
  clear ev hS
  obtain ⟨⟨k1, k2, k3⟩, k4, k5, k6, k7, ⟨k8, k9, k10, k11, k12, k13⟩, k14⟩ := a5 k (by omega)
  refine ⟨kn, vn, by rw [e0 _ _ (by decide) (by decide)]; exact a1, a2, by rw [e0 _ _ (by decide) (by decide)]; exact a3, a4, fun k' hk' => ?_, a6, fun k1 k2 h1 h2 => by rw [e0 _ _ (by decide) (by decide), e0 _ _ (by decide) (by decide), e0 _ _ (by decide) (by decide)]; exact a7 k1 k2 h1 h2⟩
  obtain ⟨b1, b4, b5, b6, b7, ⟨b8, b9, b10, b11, b12, b13⟩, b14⟩ := a5 k' hk'
  have nTW : ∀ k1 k2, k1 < kn → k2 < kn → hR h f_Variables_tags (gva Γ k1) ≠ hR h f_Variables_words (gva Γ k2) := fun k1 k2 q1 q2 c => by
    have := (G.2.1 _ _ _ _ (a5 k1 q1).1.2.1 (a5 k2 q2).1.2.1 oT oW c (a5 k1 q1).2.2.2.2.2.1.1).1
    revert this; decide
  unfold VC1
  rw [e0 _ _ (show f_Md_functions ≠ _ by decide) (by decide), e0 _ _ (show f_Md_variablesOf ≠ _ by decide) (by decide), e0 _ _ (show f_Md_variablesFrom ≠ _ by decide) (by decide), e0 _ _ (show f_Md_variables ≠ _ by decide) (by decide), e0 _ _ (show f_Md_around ≠ _ by decide) (by decide)]
  refine ⟨b1, b4, b5, b6, b7, ⟨b8, b9, b10, b11, b12, b13⟩, fun j hj => ?_⟩
  show VR Γ S' N (hA (sA (sA h (hR h f_Variables_tags (gva Γ k)) b x) (hR h f_Variables_words (gva Γ k)) b y) (hR h f_Variables_tags (gva Γ k')) j) (hA (sA (sA h (hR h f_Variables_tags (gva Γ k)) b x) (hR h f_Variables_words (gva Γ k)) b y) (hR h f_Variables_words (gva Γ k')) j) _ _
  rw [A_Ane (nTW k' k hk' (by omega)), e1, e2]
  by_cases q : k' = k
  · subst q
    by_cases q2 : j = b
    · subst q2
      rw [A_A, if_pos rfl, if_pos rfl, A_A]
      exact evr V
    · rw [A_Ane' q2, A_Ane' q2, A_Ane (fun c => nTW k' k' hk' hk' c.symm), if_neg (by omega), if_neg (by omega)]
      exact evr (b14 j hj)
  · have n1 : hR h f_Variables_tags (gva Γ k') ≠ hR h f_Variables_tags (gva Γ k) := fun c => q (a6 k' k hk' (by omega) (G.2.1 _ _ _ _ b1.2.1 k2 oT oT c b8).2)
    have n2 : hR h f_Variables_words (gva Γ k') ≠ hR h f_Variables_words (gva Γ k) := fun c => q (a6 k' k hk' (by omega) (G.2.1 _ _ _ _ b1.2.1 k2 oW oW c b10).2)
    have n3 : (S f_Md_variablesFrom k').toNat + j ≠ (S f_Md_variablesFrom k).toNat + b := by
      rcases Nat.lt_or_gt_of_ne q with w | w
      · have := a7 k' k w (by omega); omega
      · have := a7 k k' w hk'; omega
    rw [A_Ane n1, A_Ane n2, A_Ane (fun c => nTW k k' (by omega) hk' c.symm), if_neg n3, if_neg n3]
    exact evr (b14 j hj)
/-- what an instruction of a task has at hand -/
theorem CORE.oph (H : CORE Γ h C ho X Y S N) (K : CT Γ h C X Y S N t o n c r) (hc : 1 ≤ c) (eY : Y 32 f_Machine_t 0 = C + o) (aT : AT S t c) : OPH Γ h C X Y S N t o n c r := ⟨H.1.1, H.1.2, K, hc, H.2.2.2.1, eY, aT⟩
/-- the base and rows beside the tasks change -/
theorem CORE.mv (H : CORE Γ h C ho X Y S N) (fr : Fr L Pp z s h h') (g : GRO Γ Γ' h h' C S S') (eS : EXS LTK S S') (eX : EXX L6 X X') (p0 : ∀ y, (0, y) ∉ Pp) (dA : DJ (arC.map (fun q => q.1) ++ raC.map (fun q => q.1)) L Pp) (dF : DJ LFC L Pp) (dC : DJ LCH L Pp) (dC1 : DJ LCH1 L Pp) (es1 : EXS LFN S S') (hn : S f_Md_names 0 ≤ S' f_Md_names 0) (k2 : TXC Γ' h' C X' S') (k3 : VRC Γ' h' S' N) (k4 : GLB Γ' h' C X' S' N) (k5 : OUT h' C X' S') (k6 : MEM X' S') (k7 : THC Γ' h' C ho S' N) (dO : DJ [f_Host_types, f_Host_types + 1] L Pp) : CORE Γ' h' C ho X' Y S' N ∧ ∀ {t o n c r : Nat}, CT Γ h C X Y S N t o n c r → CT Γ' h' C X' Y S' N t o n c r := by
  obtain ⟨⟨G, F⟩, ⟨n0, c0, r0, K0⟩, ⟨n1, c1, r1, K1⟩, a1, -, -, -, -, -, -, a8⟩ := H
  have dT : DJ [f_Task_tryCall, f_Task_tryTo, f_Task_trySize] L Pp := by
    refine List.all_eq_true.mpr fun f hf => List.all_eq_true.mp dA f ?_
    simp only [List.mem_cons, List.not_mem_nil, or_false] at hf
    rcases hf with rfl | rfl | rfl <;> decide
  have tk : ∀ {t o n c r : Nat}, CT Γ h C X Y S N t o n c r → CT Γ' h' C X' Y S' N t o n c r := fun K => K.base G g eS eX (fun _ _ _ => rfl) fr dT
  exact ⟨⟨⟨G.frm fr dA, F.frm G fr dF ⟨p0 _, p0 _, p0 _⟩⟩, ⟨n0, c0, r0, tk K0⟩, ⟨n1, c1, r1, tk K1⟩, a1.ext G F g es1 hn fr dC dC1 p0, k2, k3, k4, k5, k6, k7, a8.fr fr dO⟩, tk⟩
theorem op_STORE (hP : ∀ h0 T, P h0 T → TOK h0 T) (HC : CORE Γ h C ho X Y S N) (H : OPH Γ h C X Y S N t o n c r) (O : OPT Γ S (fsS S t (c - 1)) (psS S t (c - 1)) 2 a b) (D : DF S t n c (fsS S t (c - 1)) (psS S t (c - 1)) k 2 a b) (hh : n = bsS S t (c - 1) + ghs Γ (fsS S t (c - 1)) (psS S t (c - 1))) : OPC ρ P Γ h C ho X Y S N 2 a b := by
  obtain ⟨h1, nx, v1, v2, v3, v4, v5⟩ := O.2.2.2.1 rfl
  have F1 := H.2.2.1.2.2.2.2.2.2.1 (c - 1) (by have := H.2.2.2.1; omega)
  obtain ⟨-, -, -, ⟨i10, i11, i12, i13⟩, -⟩ := F1
  have d2 := D.2.1
  have Kv := HC.2.2.2.2.2.1
  have Kv0 := Kv
  have up := Kv.up (a := a.toNat) i11 (fun j hj => by rw [i13]; exact v5 j (by omega))
  obtain ⟨kn, vn, a1, a2, a3, a4, a5, a6, a7⟩ := Kv
  obtain ⟨u1, u2', -⟩ := up a.toNat (Nat.le_refl _)
  obtain ⟨⟨b1, b2, b3⟩, b4, b5, b6, -, ⟨b8, b9, b10, b11, b12, b13⟩, b14⟩ := a5 (upN S a.toNat (ksS S t (c - 1))) (by omega)
  have vo : S f_Md_variablesOf (gcf Γ (upN S a.toNat (ksS S t (c - 1)))) = S f_Md_variablesOf (goN Γ a.toNat (fsS S t (c - 1))) := by rw [u2', i13]
  have V := H.pl (i := n - 1) (by omega)
  have ea : a = (a.toNat : Int) := by omega
  have eb : b = (b.toNat : Int) := by omega
  have hv : -128 ≤ X o f_Task_tags (n - 1) ∧ X o f_Task_tags (n - 1) ≤ 127 := by rw [V.1]; exact V.2.2.tag
  have hK' : ∀ j, j < a.toNat → hK h (gva Γ (upN S j (ksS S t (c - 1)))) = k_Variables ∧ hR h f_Variables_around (gva Γ (upN S j (ksS S t (c - 1)))) = gva Γ (upN S (j + 1) (ksS S t (c - 1))) := fun j hj => by
    obtain ⟨w1, w2, w3⟩ := up j (by omega)
    exact ⟨(a5 _ (by omega)).1.1, (w3 hj).2⟩
  have hup : ∀ j, j ≤ a.toNat → upN S j (ksS S t (c - 1)) < 8000 := fun j hj => by have := (up j hj).1; omega
  have hpos : ∀ j, j < a.toNat → 0 ≤ S f_Md_around (upN S j (ksS S t (c - 1))) := fun j hj => ((up j (by omega)).2.2 hj).1
  have ew : S f_Md_variablesFrom (upN S a.toNat (ksS S t (c - 1))) = ((S f_Md_variablesFrom (upN S a.toNat (ksS S t (c - 1)))).toNat : Int) := by omega
  have l5 : b.toNat < hl h (hR h f_Variables_tags (gva Γ (upN S a.toNat (ksS S t (c - 1))))) := by omega
  have l6 : b.toNat < hl h (hR h f_Variables_words (gva Γ (upN S a.toNat (ksS S t (c - 1))))) := by omega
  have hy : (S f_Md_variablesFrom (upN S a.toNat (ksS S t (c - 1)))).toNat + b.toNat < 60000 := by omega
  have hb' : (b.toNat : Int) < S f_Md_variablesOf (gcf Γ (upN S a.toNat (ksS S t (c - 1)))) := by omega
  have a60 : a.toNat ≤ 1000 := by omega
  have hn1 : 1 ≤ n := by omega
  rw [ea, eb] at D ⊢
  clear a5 a6 a7 b14 v5 up
  have G := H.1
  have F := H.2.1
  have oT : own f_Variables_tags := by unfold own; decide
  have oW : own f_Variables_words := by unfold own; decide
  have fr : Fr LVH1 [] 0 0 h (sA (sA h (hR h f_Variables_tags (gva Γ (upN S a.toNat (ksS S t (c - 1))))) b.toNat (X o f_Task_tags (n - 1))) (hR h f_Variables_words (gva Γ (upN S a.toNat (ksS S t (c - 1))))) b.toNat (X o f_Task_words (n - 1))) := by
    refine Fr.wA (Or.inr (Or.inr (Or.inr ⟨f_Variables_words, _, b2, oW, rfl, Or.inr (Or.inl ?_)⟩))) (Fr.wA (Or.inr (Or.inr (Or.inr ⟨f_Variables_tags, _, b2, oT, rfl, Or.inr (Or.inl ?_)⟩))) Fr.r0)
    · decide
    · decide
  have VV : VR Γ S N (X o f_Task_tags (n - 1)) (X o f_Task_words (n - 1)) (tpS S t n) (vpS S t n) := by
    have : 2100 * t + n - 1 = 2100 * t + (n - 1) := by omega
    unfold tpS vpS; rw [this]; exact V
  have kv' := Kv0.set G.2.1 u1 hb' VV
  have e0 : ∀ {L : List Nat}, (L.elem f_Md_variableTypes || L.elem f_Md_variableValue) = false → EXS L S (u2 (u2 S f_Md_variableTypes ((S f_Md_variablesFrom (upN S a.toNat (ksS S t (c - 1)))).toNat + b.toNat) (tpS S t n)) f_Md_variableValue ((S f_Md_variablesFrom (upN S a.toNat (ksS S t (c - 1)))).toNat + b.toNat) (vpS S t n)) := fun q => by
    simp only [Bool.or_eq_false_iff] at q
    exact EXS.u q.2 (EXS.u q.1 EXS.rf)
  generalize hS1 : u2 (u2 S f_Md_variableTypes ((S f_Md_variablesFrom (upN S a.toNat (ksS S t (c - 1)))).toNat + b.toNat) (tpS S t n)) f_Md_variableValue ((S f_Md_variablesFrom (upN S a.toNat (ksS S t (c - 1)))).toNat + b.toNat) (vpS S t n) = S1 at *
  generalize hh1 : sA (sA h (hR h f_Variables_tags (gva Γ (upN S a.toNat (ksS S t (c - 1))))) b.toNat (X o f_Task_tags (n - 1))) (hR h f_Variables_words (gva Γ (upN S a.toNat (ksS S t (c - 1))))) b.toNat (X o f_Task_words (n - 1)) = h1' at *
  have g : GRO Γ Γ h h1' C S S1 := GRO.fr (e0 (by decide)) G F fr (by unfold DJ; decide) (by simp)
  have HC0 := HC
  obtain ⟨-, -, -, -, q2, -, q4, q5, q6, q7, q8⟩ := HC
  obtain ⟨M1, M2⟩ := HC0.mv (S' := S1) (X' := X) fr g (e0 (by decide)) EXX.rf (by simp) (by unfold DJ; decide) (by unfold DJ; decide) (by unfold DJ; decide) (by unfold DJ; decide) (e0 (by decide)) (Int.le_of_eq (e0 (L := [f_Md_names]) (by decide) _ (by decide) _).symm) (q2.ext g (e0 (by decide)) EXX.rf (ac_len G fr (by decide) (by unfold DJ; decide)) (ac_len G fr (by decide) (by unfold DJ; decide)) (ac_len G fr (by decide) (by unfold DJ; decide))) kv' (q4.ext g (e0 (by decide)) EXX.rf (ac_len G fr (by decide) (by unfold DJ; decide)) (ac_len G fr (by decide) (by unfold DJ; decide)) (ac_len G fr (by decide) (by unfold DJ; decide))) (q5.ext (e0 (by decide)) EXX.rf (ac_len G fr (by decide) (by unfold DJ; decide)) (ac_len G fr (by decide) (by unfold DJ; decide)) (ac_len G fr (by decide) (by unfold DJ; decide))) (q6.ext (e0 (by decide)) EXX.rf) (q7.ext G F g (e0 (by decide)) fr (by unfold DJ; decide) (by unfold DJ; decide) (by simp) (fun i _ => q8.eq G.2.1 fr (by unfold DJ; decide) (by simp) i)) (by unfold DJ; decide)
  have K1 := M2 H.2.2.1
  have ef : fsS S1 t (c - 1) = fsS S t (c - 1) := by unfold fsS; rw [e0 (L := [f_Md_frameFunction]) (by decide) _ (by decide)]
  have ep : psS S1 t (c - 1) = psS S t (c - 1) := by unfold psS; rw [e0 (L := [f_Md_frameAt]) (by decide) _ (by decide)]
  have aT : AT S1 t c := by
    obtain ⟨t1, t2, t3, t4, t5⟩ := H.2.2.2.2.2.2
    have w : ∀ f, [f_Md_t, f_Md_p0, f_Md_f0, f_Md_top, f_Md_after].elem f = true → S1 f 0 = S f 0 := fun f hf => e0 (L := [f_Md_t, f_Md_p0, f_Md_f0, f_Md_top, f_Md_after]) (by decide) f hf 0
    exact ⟨by rw [w _ (by decide)]; exact t1, by rw [w _ (by decide)]; exact t2, by rw [w _ (by decide)]; exact t3, by rw [w _ (by decide)]; exact t4, by rw [w _ (by decide), ep]; exact t5⟩
  have H1 := M1.oph K1 H.2.2.2.1 H.2.2.2.2.2.1 aT
  have nx1 : NXT Γ S1 (fsS S1 t (c - 1)) (psS S1 t (c - 1)) 0 0 0 0 := by
    rw [ef, ep]; unfold NXT at nx ⊢; rw [e0 (L := [f_Md_codeSize]) (by decide) _ (by decide)]; exact nx
  obtain ⟨A, B⟩ := CT.nxt (n' := n) (S1 := S1) (X1 := X) H1 nx1 NSt.rf EXS.rf EXX.rf K1.2.2.1.1 K1.2.2.1.2.1 K1.2.2.1.2.2 rfl K1.2.2.2.2.2.1
  rw [ep] at A B
  refine ⟨none, Γ, h1', goX X o c, Y, atS S1 t c ((psS S t (c - 1) + 1 : Nat) : Int), 0, 0, M1.task K1.1 A B (go_nx NXo.rf), g.tr (GRO.nst B), fun f i hf => ?_, (go_nx NXo.rf).co, fun _ _ _ _ => rfl, fr.mono (fun f hf => ?_) (fun q hq => by cases hq), ((BND.fr G F (q7.thk G) (e0 (by decide)) fr (by unfold DJ; decide) (by unfold DJ; decide) (by simp)).tr (BND.rows (B.ex (by decide)))).le (by decide) (by decide), trivial, fun d Q q => ?_, fun d h0 T Q p q => ?_⟩
  · rw [B.co f i hf, ← hS1, u2_f (fun z => by subst z; revert hf; decide), u2_f (fun z => by subst z; revert hf; decide)]
  · unfold LHc; simp only [List.mem_append]; exact Or.inl (Or.inl (Or.inl (Or.inr hf)))
  · subst hh1
    exact r_STORE (d := d + 40) (w := fun j => gva Γ (upN S j (ksS S t (c - 1)))) H.ix hn1 a60 i12 hK' b1 b2 b9 b11 l5 l6 hv M1.1.1 M1.1.2 q
  · subst hS1
    exact s_STORE (d := d + 52) (hP _ _ p) D i10 a60 hup hpos ew hy hn1 q
end
