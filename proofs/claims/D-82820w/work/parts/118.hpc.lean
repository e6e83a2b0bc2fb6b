/-! globals, output, things and shapes of both -/
set_option maxRecDepth 20000
def GLB (Γ : GH) (h : ah) (C : Nat) (X : X3) (S : SS) (N : Nat) : Prop := ∃ l : Nat, hl h (hR h f_Machine_isGlobal (C + 32)) = l ∧ hl h (hR h f_Machine_globalTags (C + 32)) = l ∧ hl h (hR h f_Machine_globalWords (C + 32)) = l ∧ 64 ≤ l ∧ l ≤ 8192 ∧ ∀ i, i < 4000 → (S f_Md_isGlobal i = 0 ∨ S f_Md_isGlobal i = 1) ∧ (i < l → X 32 f_Machine_isGlobal i = S f_Md_isGlobal i) ∧ (S f_Md_isGlobal i = 1 → i < l ∧ VR Γ S N (X 32 f_Machine_globalTags i) (X 32 f_Machine_globalWords i) (S f_Md_globalType i) (S f_Md_globalValue i)) ∧ (S f_Md_names 0 ≤ (i : Int) → S f_Md_isGlobal i = 0)
def OUT (h : ah) (C : Nat) (X : X3) (S : SS) : Prop := (∃ w lo : Nat, X 32 f_Machine_outputSize 0 = (w : Int) ∧ S f_Md_shown 0 = (w : Int) ∧ w ≤ 65536 ∧ hl h (hR h f_Machine_output (C + 32)) = lo ∧ w ≤ lo ∧ (lo = 256 ∨ lo = 4096 ∨ lo = 65536) ∧ ∀ i, i < w → X 32 f_Machine_output i = S f_Md_output i) ∧
  (∃ w lo : Nat, X 32 f_Machine_traceSize 0 = (w : Int) ∧ S f_Md_traced 0 = (w : Int) ∧ w ≤ 100000 ∧ hl h (hR h f_Machine_trace (C + 32)) = lo ∧ w ≤ lo ∧ (lo = 64 ∨ lo = 4096 ∨ lo = 100000) ∧ ∀ i, i < w → X 32 f_Machine_trace i = S f_Md_trace i) ∧
  (hl h (hR h f_Machine_print (C + 32)) = 256 ∨ hl h (hR h f_Machine_print (C + 32)) = 4096 ∨ hl h (hR h f_Machine_print (C + 32)) = 200100)
/-- the i-th slot of a thing -/
def slS (S : SS) (k : Nat) : Nat → Nat
  | 0 => (S f_Md_thingFirst k).toNat
  | i + 1 => (S f_Md_slotNext (slS S k i)).toNat
/-- the latest shape below m that goes on from shape b; 0 without -/
def lastB (S : SS) (b : Nat) : Nat → Nat
  | 0 => 0
  | m + 1 => if m ≠ 0 ∧ S f_Md_shapeBefore m = (b : Int) then m else lastB S b m
/-- the root of a prototype among the shapes below m; 0 without -/
def rooB (S : SS) (k : Nat) : Nat → Nat
  | 0 => 0
  | m + 1 => if m ≠ 0 ∧ S f_Md_shapeBefore m = -1 ∧ S f_Md_shapeProto m = (k : Int) then m else rooB S k m
/-- the shape that is some steps ahead of a shape -/
def anc (S : SS) (s : Nat) : Nat → Nat
  | 0 => s
  | j + 1 => (S f_Md_shapeBefore (anc S s j)).toNat
def shA (h : ah) (C s : Nat) : Nat := if s = 0 then 0 else hB h (C + 52) s
def SH1 (h : ah) (C : Nat) (S : SS) (tn sn s : Nat) : Prop := (hK h (hB h (C + 52) s) = k_Shape ∧ hB h (C + 52) s < hz h ∧ hB h (C + 52) s ≠ 0) ∧ hI h f_Shape_number (hB h (C + 52) s) = (s : Int) ∧
  ((S f_Md_shapeProto s = -1 ∧ hR h f_Shape_prototype (hB h (C + 52) s) = 0) ∨ (0 ≤ S f_Md_shapeProto s ∧ S f_Md_shapeProto s < (tn : Int) ∧ (S f_Md_thingKind (S f_Md_shapeProto s).toNat = 4 ∨ S f_Md_thingKind (S f_Md_shapeProto s).toNat = 5) ∧ hR h f_Shape_prototype (hB h (C + 52) s) = hB h (C + 51) (S f_Md_shapeProto s).toNat)) ∧
  ((S f_Md_shapeBefore s = -1 ∧ hR h f_Shape_before (hB h (C + 52) s) = 0 ∧ S f_Md_shapeName s = -1 ∧ S f_Md_shapeCount s = 0 ∧ (s = 0 ↔ S f_Md_shapeProto s = -1)) ∨ (0 ≤ S f_Md_shapeBefore s ∧ S f_Md_shapeBefore s < (s : Int) ∧ hR h f_Shape_before (hB h (C + 52) s) = hB h (C + 52) (S f_Md_shapeBefore s).toNat ∧ 0 ≤ S f_Md_shapeName s ∧ S f_Md_shapeCount s = S f_Md_shapeCount (S f_Md_shapeBefore s).toNat + 1 ∧ S f_Md_shapeProto s = S f_Md_shapeProto (S f_Md_shapeBefore s).toNat)) ∧
  hI h f_Shape_name (hB h (C + 52) s) = S f_Md_shapeName s ∧ hI h f_Shape_size (hB h (C + 52) s) = S f_Md_shapeCount s ∧ (0 ≤ S f_Md_shapeCount s ∧ S f_Md_shapeCount s ≤ 4000) ∧
  hR h f_Shape_child (hB h (C + 52) s) = shA h C (lastB S s sn) ∧ (0 ≤ S f_Md_shapeBefore s → hR h f_Shape_sibling (hB h (C + 52) s) = shA h C (lastB S (S f_Md_shapeBefore s).toNat s)) ∧
  (∀ i j : Nat, i < j → (j : Int) < S f_Md_shapeCount s → S f_Md_shapeName (anc S s i) ≠ S f_Md_shapeName (anc S s j))
def kdK (kd : Int) : Nat := if kd = 4 then k_Obj else if kd = 5 then k_Fun else if kd = 6 then k_Row else k_Instance
def TH1 (Γ : GH) (h : ah) (C ho : Nat) (S : SS) (N tn sn k : Nat) : Prop := (4 ≤ S f_Md_thingKind k ∧ S f_Md_thingKind k ≤ 7) ∧ (hK h (hB h (C + 51) k) = kdK (S f_Md_thingKind k) ∧ hB h (C + 51) k < hz h ∧ hB h (C + 51) k ≠ 0) ∧ hI h f_Thing_number (hB h (C + 51) k) = (k : Int) ∧ hI h f_Thing_size (hB h (C + 51) k) = S f_Md_thingCount k ∧ (0 ≤ S f_Md_thingCount k ∧ S f_Md_thingCount k ≤ 60000) ∧
  (hR h f_Thing_words (hB h (C + 51) k) ≠ 0 ∧ hK h (hR h f_Thing_words (hB h (C + 51) k)) = 2 ∧ hR h f_Thing_tags (hB h (C + 51) k) ≠ 0 ∧ hK h (hR h f_Thing_tags (hB h (C + 51) k)) = 3 ∧ hl h (hR h f_Thing_tags (hB h (C + 51) k)) = hl h (hR h f_Thing_words (hB h (C + 51) k)) ∧ S f_Md_thingCount k ≤ (hl h (hR h f_Thing_words (hB h (C + 51) k)) : Int) ∧ hl h (hR h f_Thing_words (hB h (C + 51) k)) ≤ 130000) ∧
  (∀ i : Nat, (i : Int) < S f_Md_thingCount k → (slS S k i : Int) < S f_Md_slots 0 ∧ VR Γ S N (hA h (hR h f_Thing_tags (hB h (C + 51) k)) i) (hA h (hR h f_Thing_words (hB h (C + 51) k)) i) (S f_Md_slotType (slS S k i)) (S f_Md_slotValue (slS S k i))) ∧
  (0 < S f_Md_thingCount k → 0 ≤ S f_Md_thingFirst k ∧ S f_Md_thingLast k = (slS S k ((S f_Md_thingCount k).toNat - 1) : Int)) ∧ (∀ i : Nat, ((i + 1 : Nat) : Int) < S f_Md_thingCount k → 0 ≤ S f_Md_slotNext (slS S k i)) ∧
  (S f_Md_thingKind k = 4 ∨ S f_Md_thingKind k = 5 → (0 ≤ S f_Md_thingShape k ∧ S f_Md_thingShape k < (sn : Int)) ∧ hR h f_Obj_shape (hB h (C + 51) k) = hB h (C + 52) (S f_Md_thingShape k).toNat ∧ S f_Md_shapeCount (S f_Md_thingShape k).toNat = S f_Md_thingCount k ∧ S f_Md_thingCount k ≤ 64 ∧ (∀ i : Nat, (i : Int) < S f_Md_thingCount k → S f_Md_slotName (slS S k i) = S f_Md_shapeName (anc S (S f_Md_thingShape k).toNat ((S f_Md_thingCount k).toNat - 1 - i))) ∧
    hI h f_Obj_epoch (hB h (C + 51) k) = (if S f_Md_isWatched k = 0 then -1 else S f_Md_epoch k) ∧ hI h f_Obj_changedAt (hB h (C + 51) k) = S f_Md_changedAt k ∧ hR h f_Obj_root (hB h (C + 51) k) = shA h C (rooB S k sn) ∧ (S f_Md_isWatched k = 1 ↔ rooB S k sn ≠ 0)) ∧ (S f_Md_isWatched k = 0 ∨ S f_Md_isWatched k = 1) ∧ (S f_Md_thingKind k = 6 ∨ S f_Md_thingKind k = 7 → S f_Md_isWatched k = 0 ∧ ∀ i : Nat, (i : Int) < S f_Md_thingCount k → S f_Md_slotName (slS S k i) = -1) ∧ (0 ≤ S f_Md_epoch k ∧ S f_Md_epoch k ≤ S f_Md_changes 0) ∧ (0 ≤ S f_Md_changedAt k ∧ S f_Md_changedAt k ≤ S f_Md_changes 0) ∧
  ((S f_Md_thingKind k ≠ 5 ∧ S f_Md_thingFunction k = -1) ∨ (S f_Md_thingKind k = 5 ∧ 0 ≤ S f_Md_thingFunction k ∧ S f_Md_thingFunction k < S f_Md_functions 0 ∧ hR h f_Fun_code (hB h (C + 51) k) = hB h (C + 56) (S f_Md_thingFunction k).toNat ∧ 0 ≤ S f_Md_thingAround k ∧ S f_Md_thingAround k < S f_Md_calls 0 ∧ hR h f_Fun_around (hB h (C + 51) k) = gva Γ (S f_Md_thingAround k).toNat ∧ gcf Γ (S f_Md_thingAround k).toNat = gou Γ (S f_Md_thingFunction k).toNat ∧ gou Γ (S f_Md_thingFunction k).toNat ≠ (S f_Md_thingFunction k).toNat)) ∧
  ((S f_Md_thingKind k ≠ 7 ∧ S f_Md_thingClass k = -1) ∨ (S f_Md_thingKind k = 7 ∧ 0 ≤ S f_Md_thingClass k ∧ S f_Md_thingClass k < (N : Int) ∧ hR h f_Instance_type (hB h (C + 51) k) = hB h (ho + 2) (S f_Md_thingClass k).toNat))
/-- how much of the memory is gone -/
def MEM (X : X3) (S : SS) : Prop := ∃ mk rm sm tk ck sk vk hk gk : Nat, (X 50 f_Heap_made 0 = (mk : Int) ∧ S f_Md_allMade 0 = (mk : Int) ∧ mk ≤ 8000) ∧ (X 50 f_Heap_room 0 = (rm : Int) ∧ S f_Md_allSlots 0 = (rm : Int) ∧ rm ≤ 60000) ∧ (X 50 f_Heap_shapesMade 0 = (sm : Int) ∧ S f_Md_allShapes 0 = (sm : Int) ∧ sm ≤ 4000) ∧ (S f_Md_things 0 = (tk : Int) ∧ S f_Md_calls 0 = (ck : Int) ∧ X 50 f_Heap_calls 0 = (ck : Int) ∧ tk + ck ≤ mk) ∧ (S f_Md_slots 0 = (sk : Int) ∧ S f_Md_variables 0 = (vk : Int) ∧ sk + vk ≤ rm) ∧ (S f_Md_shapes 0 = (hk : Int) ∧ 1 ≤ hk ∧ hk ≤ sm + 1) ∧ (S f_Md_changes 0 = (gk : Int) ∧ X 50 f_Heap_ticks 0 = (gk : Int) ∧ gk ≤ 1000000)
/-- a thing's prototype; the chain of prototypes comes to an end -/
def prS (S : SS) (k : Nat) : Int := S f_Md_shapeProto (S f_Md_thingShape k).toNat
def pcS (S : SS) : Nat → Int → Int
  | 0, p => p
  | j + 1, p => if p < 0 then -1 else pcS S j (prS S p.toNat)
def ACY (S : SS) : Prop := ∀ k : Nat, (k : Int) < S f_Md_things 0 → S f_Md_thingKind k = 4 ∨ S f_Md_thingKind k = 5 → ∃ j, pcS S j (k : Int) < 0
def THC (Γ : GH) (h : ah) (C ho : Nat) (S : SS) (N : Nat) : Prop := ∃ tn sn : Nat, S f_Md_things 0 = (tn : Int) ∧ S f_Md_shapes 0 = (sn : Int) ∧ hl h (C + 51) = tn ∧ hl h (C + 52) = sn ∧ 1 ≤ sn ∧ tn ≤ 8000 ∧ sn ≤ 4001 ∧ (∀ k, k < tn → TH1 Γ h C ho S N tn sn k) ∧ (∀ s, s < sn → SH1 h C S tn sn s) ∧
  (∀ k i k' i' : Nat, k < tn → k' < tn → (i : Int) < S f_Md_thingCount k → (i' : Int) < S f_Md_thingCount k' → slS S k i = slS S k' i' → k = k' ∧ i = i') ∧
  (∀ s s', 1 ≤ s → 1 ≤ s' → s < sn → s' < sn → S f_Md_shapeBefore s = S f_Md_shapeBefore s' → S f_Md_shapeProto s = S f_Md_shapeProto s' → S f_Md_shapeName s = S f_Md_shapeName s' → s = s') ∧ ACY S
def LTS : List Nat := [f_Md_things, f_Md_shapes, f_Md_slots, f_Md_thingKind, f_Md_thingShape, f_Md_thingFirst, f_Md_thingCount, f_Md_thingLast, f_Md_thingFunction, f_Md_thingAround, f_Md_thingClass, f_Md_isWatched, f_Md_epoch, f_Md_changedAt, f_Md_changes, f_Md_slotType, f_Md_slotValue, f_Md_slotName, f_Md_slotNext, f_Md_shapeProto, f_Md_shapeBefore, f_Md_shapeName, f_Md_shapeCount]
def LHH : List Nat := [f_Thing_number, f_Thing_size, f_Thing_words, f_Thing_tags, f_Obj_shape, f_Obj_root, f_Obj_epoch, f_Obj_changedAt, f_Fun_code, f_Fun_around, f_Instance_type, f_Shape_number, f_Shape_prototype, f_Shape_before, f_Shape_name, f_Shape_size, f_Shape_child, f_Shape_sibling, f_Heap_things, f_Heap_shapes]
def LHH1 : List Nat := [f_Thing_words + 1, f_Thing_tags + 1, f_Heap_things + 1, f_Heap_shapes + 1]
section
variable {ρ : Nat → Nat} {d : Nat} {Q : QT} {Γ Γ' : GH} {h h' : ah} {C ho : Nat} {X X' : X3} {Y Y' : Y3} {S S' : SS} {N t o n c r f i j k m z s : Nat} {L : List Nat} {P : List (Nat × Nat)} {ty v x y : Int}
theorem slS_e (e : EXS LTS S S') : ∀ i, slS S' k i = slS S k i
  | 0 => by unfold slS; rw [e _ (by decide)]
  | i + 1 => by unfold slS; rw [slS_e e i, e _ (by decide)]
theorem lastB_e (e : EXS LTS S S') : ∀ m, lastB S' k m = lastB S k m
  | 0 => rfl
  | m + 1 => by unfold lastB; rw [lastB_e e m, e _ (by decide)]
theorem rooB_e (e : EXS LTS S S') : ∀ m, rooB S' k m = rooB S k m
  | 0 => rfl
  | m + 1 => by unfold rooB; rw [rooB_e e m, e _ (by decide), e _ (by decide)]
theorem anc_e (e : EXS LTS S S') : ∀ j, anc S' s j = anc S s j
  | 0 => rfl
  | j + 1 => by unfold anc; rw [anc_e e j, e _ (by decide)]
theorem GLB.exn (H : GLB Γ h C X S N) (g : GRO Γ Γ' h h' C S S') (hn : S f_Md_names 0 ≤ S' f_Md_names 0) (e : EXS [f_Md_isGlobal, f_Md_globalType, f_Md_globalValue] S S') (ex : EXX [f_Machine_isGlobal, f_Machine_globalTags, f_Machine_globalWords] X X') (l1 : hl h' (hR h' f_Machine_isGlobal (C + 32)) = hl h (hR h f_Machine_isGlobal (C + 32))) (l2 : hl h' (hR h' f_Machine_globalTags (C + 32)) = hl h (hR h f_Machine_globalTags (C + 32))) (l3 : hl h' (hR h' f_Machine_globalWords (C + 32)) = hl h (hR h f_Machine_globalWords (C + 32))) : GLB Γ' h' C X' S' N := by
  obtain ⟨l, a1, a2, a3, a4, a5, a6⟩ := H
  refine ⟨l, by rw [l1]; exact a1, by rw [l2]; exact a2, by rw [l3]; exact a3, a4, a5, fun i hi => ?_⟩
  obtain ⟨b1, b2, b3, b4⟩ := a6 i hi
  rw [e _ (by decide), e _ (by decide), e _ (by decide), ex _ (by decide), ex _ (by decide), ex _ (by decide)]
  exact ⟨b1, b2, fun z => ⟨(b3 z).1, g.vr (b3 z).2⟩, fun z => b4 (Int.le_trans hn z)⟩
theorem GLB.ext (H : GLB Γ h C X S N) (g : GRO Γ Γ' h h' C S S') (e : EXS [f_Md_isGlobal, f_Md_globalType, f_Md_globalValue, f_Md_names] S S') (ex : EXX [f_Machine_isGlobal, f_Machine_globalTags, f_Machine_globalWords] X X') (l1 : hl h' (hR h' f_Machine_isGlobal (C + 32)) = hl h (hR h f_Machine_isGlobal (C + 32))) (l2 : hl h' (hR h' f_Machine_globalTags (C + 32)) = hl h (hR h f_Machine_globalTags (C + 32))) (l3 : hl h' (hR h' f_Machine_globalWords (C + 32)) = hl h (hR h f_Machine_globalWords (C + 32))) : GLB Γ' h' C X' S' N := H.exn g (Int.le_of_eq (e _ (by decide) _).symm) (fun f hf i => e f (by
  have : f = f_Md_isGlobal ∨ f = f_Md_globalType ∨ f = f_Md_globalValue := by simpa using hf
  rcases this with rfl | rfl | rfl <;> decide) i) ex l1 l2 l3
theorem OUT.ext (H : OUT h C X S) (e : EXS [f_Md_shown, f_Md_output, f_Md_traced, f_Md_trace] S S') (ex : EXX [f_Machine_outputSize, f_Machine_output, f_Machine_traceSize, f_Machine_trace] X X') (l1 : hl h' (hR h' f_Machine_output (C + 32)) = hl h (hR h f_Machine_output (C + 32))) (l2 : hl h' (hR h' f_Machine_trace (C + 32)) = hl h (hR h f_Machine_trace (C + 32))) (l3 : hl h' (hR h' f_Machine_print (C + 32)) = hl h (hR h f_Machine_print (C + 32))) : OUT h' C X' S' := by
  obtain ⟨⟨w, lo, a1, a2, a3, a4, a5, a6, a7⟩, ⟨w2, lo2, b1, b2, b3, b4, b5, b6, b7⟩, c1⟩ := H
  refine ⟨⟨w, lo, by rw [ex _ (by decide)]; exact a1, by rw [e _ (by decide)]; exact a2, a3, by rw [l1]; exact a4, a5, a6, fun i hi => by rw [ex _ (by decide), e _ (by decide)]; exact a7 i hi⟩, ⟨w2, lo2, by rw [ex _ (by decide)]; exact b1, by rw [e _ (by decide)]; exact b2, b3, by rw [l2]; exact b4, b5, b6, fun i hi => by rw [ex _ (by decide), e _ (by decide)]; exact b7 i hi⟩, by rw [l3]; exact c1⟩
theorem MEM.ext (H : MEM X S) (e : EXS [f_Md_allMade, f_Md_allSlots, f_Md_allShapes, f_Md_things, f_Md_calls, f_Md_slots, f_Md_variables, f_Md_shapes, f_Md_changes] S S') (ex : EXX [f_Heap_made, f_Heap_room, f_Heap_shapesMade, f_Heap_calls, f_Heap_ticks] X X') : MEM X' S' := by
  obtain ⟨mk, rm, sm, tk, ck, sk, vk, hk, gk, a⟩ := H
  refine ⟨mk, rm, sm, tk, ck, sk, vk, hk, gk, ?_⟩
  rw [e _ (show [f_Md_allMade, f_Md_allSlots, f_Md_allShapes, f_Md_things, f_Md_calls, f_Md_slots, f_Md_variables, f_Md_shapes, f_Md_changes].elem f_Md_allMade = true by decide), e _ (show [f_Md_allMade, f_Md_allSlots, f_Md_allShapes, f_Md_things, f_Md_calls, f_Md_slots, f_Md_variables, f_Md_shapes, f_Md_changes].elem f_Md_allSlots = true by decide), e _ (show [f_Md_allMade, f_Md_allSlots, f_Md_allShapes, f_Md_things, f_Md_calls, f_Md_slots, f_Md_variables, f_Md_shapes, f_Md_changes].elem f_Md_allShapes = true by decide), e _ (show [f_Md_allMade, f_Md_allSlots, f_Md_allShapes, f_Md_things, f_Md_calls, f_Md_slots, f_Md_variables, f_Md_shapes, f_Md_changes].elem f_Md_things = true by decide), e _ (show [f_Md_allMade, f_Md_allSlots, f_Md_allShapes, f_Md_things, f_Md_calls, f_Md_slots, f_Md_variables, f_Md_shapes, f_Md_changes].elem f_Md_calls = true by decide), e _ (show [f_Md_allMade, f_Md_allSlots, f_Md_allShapes, f_Md_things, f_Md_calls, f_Md_slots, f_Md_variables, f_Md_shapes, f_Md_changes].elem f_Md_slots = true by decide), e _ (show [f_Md_allMade, f_Md_allSlots, f_Md_allShapes, f_Md_things, f_Md_calls, f_Md_slots, f_Md_variables, f_Md_shapes, f_Md_changes].elem f_Md_variables = true by decide), e _ (show [f_Md_allMade, f_Md_allSlots, f_Md_allShapes, f_Md_things, f_Md_calls, f_Md_slots, f_Md_variables, f_Md_shapes, f_Md_changes].elem f_Md_shapes = true by decide), e _ (show [f_Md_allMade, f_Md_allSlots, f_Md_allShapes, f_Md_things, f_Md_calls, f_Md_slots, f_Md_variables, f_Md_shapes, f_Md_changes].elem f_Md_changes = true by decide), ex f_Heap_made (by decide), ex f_Heap_room (by decide), ex f_Heap_shapesMade (by decide), ex f_Heap_calls (by decide), ex f_Heap_ticks (by decide)]
  exact a
end
