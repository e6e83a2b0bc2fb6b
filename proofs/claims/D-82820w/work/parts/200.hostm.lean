/-! the hosts while the machines run: T's rows, names -/
set_option maxRecDepth 20000
section
variable {ρ : Nat → Nat} {d : Nat} {Q : QT} {h0 : ah} {T k n m f i x : Nat} {S : SS} {g : HG} {tp l : List Int} {v : Int}
theorem cnH {p : Nat × Nat} (O : TOK h0 T) (H : TH h0 k ∧ hK h0 k = k_MdHost) (e : lkA tabH f = some p) : hA (cn h0 T S) (hR h0 f k) i = hA h0 (hR h0 f k) i := by
  obtain ⟨kT, G, -⟩ := O
  obtain ⟨H, kk⟩ := H
  obtain ⟨a1, a2, a3, a4⟩ := H.g (f := f) (k := p.1) (n := p.2) e
  refine cnAo (fun q hq c => ?_)
  obtain ⟨b1, b2, b3, b4⟩ := G.2.2 q hq
  have := (G.2.1.2.1 q.1 T f k G.1 H.1 b4 a4 c b1).2
  rw [this, kk] at kT
  exact absurd kT (by decide)
theorem tKH (H : TH h0 k) : hK h0 (hR h0 f_MdHost_signs k) = 3 ∧ hK h0 (hR h0 f_MdHost_isInterface k) = 4 ∧ hK h0 (hR h0 f_MdHost_above k) = 1 ∧ hK h0 (hR h0 f_MdHost_supers k) = 1 ∧ hK h0 (hR h0 f_MdHost_superOf k) = 1 ∧ hK h0 (hR h0 f_MdHost_all k) = 2 ∧ hK h0 (hR h0 f_MdHost_first k) = 1 ∧ hK h0 (hR h0 f_MdHost_many k) = 1 ∧ hK h0 (hR h0 f_MdHost_nameFrom k) = 1 ∧ hK h0 (hR h0 f_MdHost_nameTo k) = 1 ∧ hK h0 (hR h0 f_MdHost_itsClass k) = 1 ∧ hK h0 (hR h0 f_MdHost_sort k) = 1 ∧ hK h0 (hR h0 f_MdHost_isStatic k) = 4 ∧ hK h0 (hR h0 f_MdHost_type k) = 1 ∧ hK h0 (hR h0 f_MdHost_parameters k) = 1 ∧ hK h0 (hR h0 f_MdHost_variable k) = 4 ∧ hK h0 (hR h0 f_MdHost_parameter k) = 1 ∧ hK h0 (hR h0 f_MdHost_memberFrom k) = 1 ∧ hK h0 (hR h0 f_MdHost_memberTo k) = 1 := ⟨(H.g (f := f_MdHost_signs) rfl).2.1, (H.g (f := f_MdHost_isInterface) rfl).2.1, (H.g (f := f_MdHost_above) rfl).2.1, (H.g (f := f_MdHost_supers) rfl).2.1, (H.g (f := f_MdHost_superOf) rfl).2.1, (H.g (f := f_MdHost_all) rfl).2.1, (H.g (f := f_MdHost_first) rfl).2.1, (H.g (f := f_MdHost_many) rfl).2.1, (H.g (f := f_MdHost_nameFrom) rfl).2.1, (H.g (f := f_MdHost_nameTo) rfl).2.1, (H.g (f := f_MdHost_itsClass) rfl).2.1, (H.g (f := f_MdHost_sort) rfl).2.1, (H.g (f := f_MdHost_isStatic) rfl).2.1, (H.g (f := f_MdHost_type) rfl).2.1, (H.g (f := f_MdHost_parameters) rfl).2.1, (H.g (f := f_MdHost_variable) rfl).2.1, (H.g (f := f_MdHost_parameter) rfl).2.1, (H.g (f := f_MdHost_memberFrom) rfl).2.1, (H.g (f := f_MdHost_memberTo) rfl).2.1⟩
theorem tLH (H : TH h0 k) : hl h0 (hR h0 f_MdHost_signs k) = 65536 ∧ hl h0 (hR h0 f_MdHost_isInterface k) = 60 ∧ hl h0 (hR h0 f_MdHost_above k) = 60 ∧ hl h0 (hR h0 f_MdHost_supers k) = 60 ∧ hl h0 (hR h0 f_MdHost_superOf k) = 3600 ∧ hl h0 (hR h0 f_MdHost_all k) = 60 ∧ hl h0 (hR h0 f_MdHost_first k) = 60 ∧ hl h0 (hR h0 f_MdHost_many k) = 60 ∧ hl h0 (hR h0 f_MdHost_nameFrom k) = 60 ∧ hl h0 (hR h0 f_MdHost_nameTo k) = 60 ∧ hl h0 (hR h0 f_MdHost_itsClass k) = 400 ∧ hl h0 (hR h0 f_MdHost_sort k) = 400 ∧ hl h0 (hR h0 f_MdHost_isStatic k) = 400 ∧ hl h0 (hR h0 f_MdHost_type k) = 400 ∧ hl h0 (hR h0 f_MdHost_parameters k) = 400 ∧ hl h0 (hR h0 f_MdHost_variable k) = 400 ∧ hl h0 (hR h0 f_MdHost_parameter k) = 3200 ∧ hl h0 (hR h0 f_MdHost_memberFrom k) = 400 ∧ hl h0 (hR h0 f_MdHost_memberTo k) = 400 := ⟨(H.g (f := f_MdHost_signs) rfl).2.2.1, (H.g (f := f_MdHost_isInterface) rfl).2.2.1, (H.g (f := f_MdHost_above) rfl).2.2.1, (H.g (f := f_MdHost_supers) rfl).2.2.1, (H.g (f := f_MdHost_superOf) rfl).2.2.1, (H.g (f := f_MdHost_all) rfl).2.2.1, (H.g (f := f_MdHost_first) rfl).2.2.1, (H.g (f := f_MdHost_many) rfl).2.2.1, (H.g (f := f_MdHost_nameFrom) rfl).2.2.1, (H.g (f := f_MdHost_nameTo) rfl).2.2.1, (H.g (f := f_MdHost_itsClass) rfl).2.2.1, (H.g (f := f_MdHost_sort) rfl).2.2.1, (H.g (f := f_MdHost_isStatic) rfl).2.2.1, (H.g (f := f_MdHost_type) rfl).2.2.1, (H.g (f := f_MdHost_parameters) rfl).2.2.1, (H.g (f := f_MdHost_variable) rfl).2.2.1, (H.g (f := f_MdHost_parameter) rfl).2.2.1, (H.g (f := f_MdHost_memberFrom) rfl).2.2.1, (H.g (f := f_MdHost_memberTo) rfl).2.2.1⟩
theorem tAH (O : TOK h0 T) (H : TH h0 k ∧ hK h0 k = k_MdHost) : (∀ i, hA (cn h0 T S) (hR h0 f_MdHost_signs k) i = hA h0 (hR h0 f_MdHost_signs k) i) ∧ (∀ i, hA (cn h0 T S) (hR h0 f_MdHost_isInterface k) i = hA h0 (hR h0 f_MdHost_isInterface k) i) ∧ (∀ i, hA (cn h0 T S) (hR h0 f_MdHost_above k) i = hA h0 (hR h0 f_MdHost_above k) i) ∧ (∀ i, hA (cn h0 T S) (hR h0 f_MdHost_supers k) i = hA h0 (hR h0 f_MdHost_supers k) i) ∧ (∀ i, hA (cn h0 T S) (hR h0 f_MdHost_superOf k) i = hA h0 (hR h0 f_MdHost_superOf k) i) ∧ (∀ i, hA (cn h0 T S) (hR h0 f_MdHost_all k) i = hA h0 (hR h0 f_MdHost_all k) i) ∧ (∀ i, hA (cn h0 T S) (hR h0 f_MdHost_first k) i = hA h0 (hR h0 f_MdHost_first k) i) ∧ (∀ i, hA (cn h0 T S) (hR h0 f_MdHost_many k) i = hA h0 (hR h0 f_MdHost_many k) i) ∧ (∀ i, hA (cn h0 T S) (hR h0 f_MdHost_nameFrom k) i = hA h0 (hR h0 f_MdHost_nameFrom k) i) ∧ (∀ i, hA (cn h0 T S) (hR h0 f_MdHost_nameTo k) i = hA h0 (hR h0 f_MdHost_nameTo k) i) ∧ (∀ i, hA (cn h0 T S) (hR h0 f_MdHost_itsClass k) i = hA h0 (hR h0 f_MdHost_itsClass k) i) ∧ (∀ i, hA (cn h0 T S) (hR h0 f_MdHost_sort k) i = hA h0 (hR h0 f_MdHost_sort k) i) ∧ (∀ i, hA (cn h0 T S) (hR h0 f_MdHost_isStatic k) i = hA h0 (hR h0 f_MdHost_isStatic k) i) ∧ (∀ i, hA (cn h0 T S) (hR h0 f_MdHost_type k) i = hA h0 (hR h0 f_MdHost_type k) i) ∧ (∀ i, hA (cn h0 T S) (hR h0 f_MdHost_parameters k) i = hA h0 (hR h0 f_MdHost_parameters k) i) ∧ (∀ i, hA (cn h0 T S) (hR h0 f_MdHost_variable k) i = hA h0 (hR h0 f_MdHost_variable k) i) ∧ (∀ i, hA (cn h0 T S) (hR h0 f_MdHost_parameter k) i = hA h0 (hR h0 f_MdHost_parameter k) i) ∧ (∀ i, hA (cn h0 T S) (hR h0 f_MdHost_memberFrom k) i = hA h0 (hR h0 f_MdHost_memberFrom k) i) ∧ (∀ i, hA (cn h0 T S) (hR h0 f_MdHost_memberTo k) i = hA h0 (hR h0 f_MdHost_memberTo k) i) := ⟨fun _ => cnH (f := f_MdHost_signs) O H rfl, fun _ => cnH (f := f_MdHost_isInterface) O H rfl, fun _ => cnH (f := f_MdHost_above) O H rfl, fun _ => cnH (f := f_MdHost_supers) O H rfl, fun _ => cnH (f := f_MdHost_superOf) O H rfl, fun _ => cnH (f := f_MdHost_all) O H rfl, fun _ => cnH (f := f_MdHost_first) O H rfl, fun _ => cnH (f := f_MdHost_many) O H rfl, fun _ => cnH (f := f_MdHost_nameFrom) O H rfl, fun _ => cnH (f := f_MdHost_nameTo) O H rfl, fun _ => cnH (f := f_MdHost_itsClass) O H rfl, fun _ => cnH (f := f_MdHost_sort) O H rfl, fun _ => cnH (f := f_MdHost_isStatic) O H rfl, fun _ => cnH (f := f_MdHost_type) O H rfl, fun _ => cnH (f := f_MdHost_parameters) O H rfl, fun _ => cnH (f := f_MdHost_variable) O H rfl, fun _ => cnH (f := f_MdHost_parameter) O H rfl, fun _ => cnH (f := f_MdHost_memberFrom) O H rfl, fun _ => cnH (f := f_MdHost_memberTo) O H rfl⟩
/-- a name that stands among the host's signs -/
def HSG (h0 : ah) (k a : Nat) (l : List Int) : Prop := a + l.length ≤ 1024 ∧ ∀ j, j < l.length → hA h0 (hR h0 f_MdHost_signs k) (a + j) = l.getD j 0 ∧ (0 ≤ l.getD j 0 ∧ l.getD j 0 ≤ 126)
/-- what T's rows say of classes and members -/
def HRC (h0 : ah) (k : Nat) (g : HG) (i : Nat) : Prop := hA h0 (hR h0 f_MdHost_isInterface k) i = g.1 1 i ∧ (g.1 1 i = 0 ∨ g.1 1 i = 1) ∧ hA h0 (hR h0 f_MdHost_above k) i = g.1 2 i ∧ (-1 ≤ g.1 2 i ∧ g.1 2 i < (i : Int)) ∧ hA h0 (hR h0 f_MdHost_supers k) i = ((g.2 1 i).length : Int) ∧ (g.2 1 i).length ≤ i ∧ (∀ j, j < (g.2 1 i).length → hA h0 (hR h0 f_MdHost_superOf k) (60 * i + j) = (g.2 1 i).getD j 0) ∧ hA h0 (hR h0 f_MdHost_first k) i = g.1 3 i ∧ hA h0 (hR h0 f_MdHost_many k) i = g.1 4 i ∧ ∃ a : Nat, hA h0 (hR h0 f_MdHost_nameFrom k) i = (a : Int) ∧ hA h0 (hR h0 f_MdHost_nameTo k) i = ((a + (g.2 0 i).length : Nat) : Int) ∧ HSG h0 k a (g.2 0 i)
def HRM (h0 : ah) (k : Nat) (g : HG) (j : Nat) : Prop := hA h0 (hR h0 f_MdHost_itsClass k) j = g.1 5 j ∧ hA h0 (hR h0 f_MdHost_sort k) j = g.1 6 j ∧ hA h0 (hR h0 f_MdHost_isStatic k) j = g.1 7 j ∧ hA h0 (hR h0 f_MdHost_type k) j = g.1 8 j ∧ hA h0 (hR h0 f_MdHost_variable k) j = g.1 9 j ∧ hA h0 (hR h0 f_MdHost_parameters k) j = ((g.2 2 j).length : Int) ∧ (g.2 2 j).length ≤ 8 ∧ (∀ i, i < (g.2 2 j).length → hA h0 (hR h0 f_MdHost_parameter k) (8 * j + i) = (g.2 2 j).getD i 0) ∧ ∃ a : Nat, hA h0 (hR h0 f_MdHost_memberFrom k) j = (a : Int) ∧ hA h0 (hR h0 f_MdHost_memberTo k) j = ((a + (g.2 3 j).length : Nat) : Int) ∧ HSG h0 k a (g.2 3 j)
/-- T's host, while T runs -/
def HRW (h0 : ah) (T k : Nat) (g : HG) (n m : Nat) : Prop := hR h0 f_Md_host T = k ∧ (TH h0 k ∧ hK h0 k = k_MdHost) ∧ hI h0 f_MdHost_classes k = (n : Int) ∧ hI h0 f_MdHost_members k = (m : Int) ∧ n ≤ 60 ∧ m ≤ 400 ∧ (∀ i, i < n → HRC h0 k g i) ∧ (∀ j, j < m → HRM h0 k g j)
theorem hsg_of (ot : okTp tp) {a b : Nat} (h1 : a ≤ b) (h2 : b ≤ tp.length) (e : byt (ch tp) a b = l) (sg : ∀ i, i < tp.length → hA h0 (hR h0 f_MdHost_signs k) i = tp.getD i 0) : b = a + l.length ∧ HSG h0 k a l := by
  have ll : l.length = b - a := by rw [← e, byt_len]
  refine ⟨by omega, by have := ot.1; omega, fun j hj => ?_⟩
  have e2 : l.getD j 0 = tp.getD (a + j) 0 := by rw [← e, byt_get (by omega)]; rfl
  have := ot.2 (a + j) (by omega)
  rw [e2]
  exact ⟨sg _ (by omega), by omega⟩
theorem THO.rows (H : THO h0 k g n m tp) (e : hR h0 f_Md_host T = k) : HRW h0 T k g n m := by
  obtain ⟨h1, h2, h3, h4, h5, ot, SS, av, hc, hm, sg⟩ := H
  have av' : ∀ f, (lkA tabH f).isSome = true → ∀ i, hA h0 (hR h0 f k) i = SS f i := av
  have sg' : ∀ i, i < tp.length → hA h0 (hR h0 f_MdHost_signs k) i = tp.getD i 0 := fun i hi => by rw [av' _ rfl]; exact sg i hi
  refine ⟨e, h1, h2, h3, h4, h5, fun i hi => ?_, fun j hj => ?_⟩
  · obtain ⟨a1, a2, a3, a4, a5, a6, a7, a8, a9, a10, ⟨a, b, b1, b2, b3, b4, b5⟩, -⟩ := hc i hi
    obtain ⟨c1, c2⟩ := hsg_of ot b3 b4 b5 sg'
    exact ⟨by rw [av' _ rfl]; exact a1, a2, by rw [av' _ rfl]; exact a3, ⟨a4, a5⟩, by rw [av' _ rfl]; exact a6, a7, fun j hj => by rw [av' _ rfl]; exact a8 j hj, by rw [av' _ rfl]; exact a9, by rw [av' _ rfl]; exact a10, a, by rw [av' _ rfl]; exact b1, by rw [av' _ rfl, ← c1]; exact b2, c2⟩
  · obtain ⟨a1, a2, a3, a4, a5, a6, a7, a8, a, b, b1, b2, b3, b4, b5⟩ := hm j hj
    obtain ⟨c1, c2⟩ := hsg_of ot b3 b4 b5 sg'
    exact ⟨by rw [av' _ rfl]; exact a1, by rw [av' _ rfl]; exact a2, by rw [av' _ rfl]; exact a3, by rw [av' _ rfl]; exact a4, by rw [av' _ rfl]; exact a5, by rw [av' _ rfl]; exact a6, a7, fun i hi => by rw [av' _ rfl]; exact a8 i hi, a, by rw [av' _ rfl]; exact b1, by rw [av' _ rfl, ← c1]; exact b2, c2⟩
/-- the first class of a name -/
def CNV (g : HG) (n : Nat) (l : List Int) (v : Int) : Prop := (∃ i : Nat, v = (i : Int) ∧ i < n ∧ g.2 0 i = l ∧ ∀ j, j < i → g.2 0 j ≠ l) ∨ (v = -1 ∧ ∀ i, i < n → g.2 0 i ≠ l)
theorem list_ext0 {a b : List Int} (h1 : a.length = b.length) (h2 : ∀ i, i < a.length → a.getD i 0 = b.getD i 0) : a = b := by
  apply List.ext_getElem h1
  intro i ha hb
  have := h2 i ha
  simpa only [List.getD, List.getElem?_eq_getElem ha, List.getElem?_eq_getElem hb, Option.getD_some] using this
theorem s_classNamed (O : TOK h0 T) (H : HRW h0 T k g n m) (tx : TTX S x l) (hv : CNV g n l v) (q : Q (Sum.inl (some (vI v))) (cn h0 T S)) : wpB PGm ρ d m_Md_classNamed 0 [(0, vR T), (1, vI (x : Int))] [] (cn h0 T S) Q := by
  obtain ⟨ek, hT, hn, hm, n6, -, hc, -⟩ := H
  obtain ⟨xa, x1, x2, x3, x4, x5⟩ := tx
  have kT := O.1
  have G := O.2.1
  have eI : ∀ {f a}, (!(scM.elem f) && !(scH.elem f)) = true → hI (cn h0 T S) f a = hI h0 f a := fun e => cnIo e
  have cx : 0 ≤ (x : Int) ∧ (x : Int) < ((16000 : Nat) : Int) := by omega
  -- one class
  have one : ∀ c, c < n → (g.2 0 c = l → Q (Sum.inl (some (vI (c : Int)))) (cn h0 T S)) → (g.2 0 c ≠ l → wpB PGm ρ d m_Md_classNamed 2 [(0, vR T), (1, vI (x : Int)), (2, vI ((c + 1 : Nat) : Int))] [] (cn h0 T S) Q) → wpB PGm ρ d m_Md_classNamed 2 [(0, vR T), (1, vI (x : Int)), (2, vI (c : Int))] [] (cn h0 T S) Q := fun c hcn q1 q0 => by
    obtain ⟨-, -, -, -, -, -, -, -, -, a, a1, a2, a3, a4⟩ := hc c hcn
    have xc : c ≤ 2000000000 := by omega
    have end0 : g.2 0 c ≠ l → wpB PGm ρ d m_Md_classNamed 114 [(0, vR T), (1, vI (x : Int)), (2, vI (c : Int)), (4, vI 0)] [] (cn h0 T S) Q := fun ne => b_Md_classNamed_114 ⟨fun _ => by rw [w32_s xc]; exact q0 ne, fun z => absurd rfl z⟩
    have end1 : g.2 0 c = l → wpB PGm ρ d m_Md_classNamed 114 [(0, vR T), (1, vI (x : Int)), (2, vI (c : Int)), (4, vI 1)] [] (cn h0 T S) Q := fun ne => b_Md_classNamed_114 ⟨fun z => absurd z (by decide), fun _ => q1 ne⟩
    have cc0 : 0 ≤ (c : Int) ∧ (c : Int) < ((60 : Nat) : Int) := by omega
    have cl : (c : Int) < (n : Int) := by omega
    generalize hL : (g.2 0 c) = L at *
    have lp : L.length = l.length → ∀ mm j, j + mm = L.length → (∀ i, i < j → L.getD i 0 = l.getD i 0) → wpB PGm ρ d m_Md_classNamed 53 [(0, vR T), (1, vI (x : Int)), (2, vI (c : Int)), (3, vI (L.length : Int)), (4, vI 1), (5, vI (j : Int))] [] (cn h0 T S) Q := fun el mm => by
      induction mm with
      | zero =>
        intro j hj ha
        have e : j = L.length := by omega
        refine b_Md_classNamed_53 ⟨fun _ => end1 (list_ext0 el (fun i hi => ha i (by omega))), fun z => by omega⟩
      | succ mm ih =>
        intro j hj ha
        have lt : ¬ (L.length : Int) ≤ (j : Int) := by omega
        have s1 := (a4 j (by omega)).1
        have s2 := x5 j (by omega)
        have c1 : 0 ≤ ((a + j : Nat) : Int) ∧ ((a + j : Nat) : Int) < ((65536 : Nat) : Int) := by omega
        have c2 : 0 ≤ ((xa + j : Nat) : Int) ∧ ((xa + j : Nat) : Int) < ((269632 : Nat) : Int) := by omega
        have y1 : a + j ≤ 2000000000 := by omega
        have y2 : xa + j ≤ 2000000000 := by omega
        have y3 : j ≤ 2000000000 := by omega
        have nx' : L.getD j 0 = l.getD j 0 → wpB PGm ρ d m_Md_classNamed 53 [(0, vR T), (1, vI (x : Int)), (2, vI (c : Int)), (3, vI (L.length : Int)), (4, vI 1), (5, vI ((j + 1 : Nat) : Int))] [] (cn h0 T S) Q := fun e => ih (j + 1) (by omega) (fun i hi => by
            by_cases q : i = j
            · rw [q]; exact e
            · exact ha i (by omega))
        have w1 : w32 ((a : Int) + (j : Int)) = ((a + j : Nat) : Int) := w32_n y1
        have w2 : w32 ((xa : Int) + (j : Int)) = ((xa + j : Nat) : Int) := w32_n y2
        have w3 : w32 ((j : Int) + 1) = ((j + 1 : Nat) : Int) := w32_s y3
        have nx : L.getD j 0 = l.getD j 0 → wpB PGm ρ d m_Md_classNamed 106 [(0, vR T), (1, vI (x : Int)), (2, vI (c : Int)), (3, vI (L.length : Int)), (5, vI (j : Int))] [vI 1] (cn h0 T S) Q := fun e => b_Md_classNamed_106 (by
          rw [w3]
          exact nx' e)
        have n0 : ¬ L.getD j 0 = l.getD j 0 → wpB PGm ρ d m_Md_classNamed 106 [(0, vR T), (1, vI (x : Int)), (2, vI (c : Int)), (3, vI (L.length : Int)), (5, vI (j : Int))] [vI 0] (cn h0 T S) Q := fun e => by
          have g0 := end0 (fun c => e (by rw [c]))
          refine b_Md_classNamed_106 (b_Md_classNamed_53 ⟨fun _ => g0, fun _ => ⟨fun _ => g0, fun z => absurd rfl z⟩⟩)
        clear ih ha nx' end0 end1 q1 q0 hv q hc
        refine b_Md_classNamed_53 ⟨fun z => absurd z lt, fun _ => ⟨fun z => absurd z (by decide), fun _ => ⟨kT, ?_⟩⟩⟩
        simp (decide := true) only [cnR, cnK, cnl, cnA' G, tAH O hT, KN G, LN G, tKH hT.1, tLH hT.1, ek, hT.2, a1, x2, s1, s2, w1, w2, Int.toNat_natCast, true_and, and_true]
        exact ⟨cc0, c1, cx, c2, fun e => n0 e, fun e => nx e⟩
    have g48 : wpB PGm ρ d m_Md_classNamed 48 [(0, vR T), (1, vI (x : Int)), (2, vI (c : Int)), (3, vI (L.length : Int))] [vI (if L.length = l.length then 1 else 0)] (cn h0 T S) Q := by
      refine b_Md_classNamed_48 ?_
      by_cases e : L.length = l.length
      · rw [if_pos e]; exact lp e L.length 0 (Nat.zero_add _) (fun i hi => absurd hi (Nat.not_lt_zero i))
      · rw [if_neg e]
        have g0 := end0 (fun c => e (by rw [c]))
        exact b_Md_classNamed_53 ⟨fun _ => g0, fun _ => ⟨fun _ => g0, fun z => absurd rfl z⟩⟩
    have w0 : w32 (((a + L.length : Nat) : Int) - (a : Int)) = (L.length : Int) := by
      have e : ((a + L.length : Nat) : Int) - (a : Int) = (L.length : Int) := by omega
      rw [e]; exact w32_of (by omega) (by omega)
    have e1 : L.length = l.length ↔ (L.length : Int) = (l.length : Int) := by omega
    have nle : ¬ (n : Int) ≤ (c : Int) := by omega
    clear lp end0 end1 q1 q0 hv q hc
    refine b_Md_classNamed_2 ⟨kT, ?_⟩
    simp (decide := true) only [eI, hn, cnR, cnK, cnl, cnA' G, tAH O hT, KN G, LN G, tKH hT.1, tLH hT.1, ek, hT.2, a1, a2, x3, w0, Int.toNat_natCast, true_and, and_true]
    refine ⟨fun z => absurd z nle, fun _ => ⟨cc0, cc0, cx, fun ne => ?_, fun e => ?_⟩⟩
    · rw [if_neg (fun c => ne (e1.mp c))] at g48; exact g48
    · rw [if_pos (e1.mpr e)] at g48; exact g48
  have fin : (v = -1 ∧ ∀ i, i < n → g.2 0 i ≠ l) → wpB PGm ρ d m_Md_classNamed 2 [(0, vR T), (1, vI (x : Int)), (2, vI (n : Int))] [] (cn h0 T S) Q := fun hv' => by
    rw [hv'.1] at q
    refine b_Md_classNamed_2 ⟨kT, ?_⟩
    simp (decide := true) only [eI, hn, cnR, cnK, ek, hT.2, true_and, and_true]
    exact ⟨fun _ => q, fun z => absurd z (Int.lt_irrefl _)⟩
  have lp : ∀ mm c, c + mm = n → (∀ i, i < c → g.2 0 i ≠ l) → wpB PGm ρ d m_Md_classNamed 2 [(0, vR T), (1, vI (x : Int)), (2, vI (c : Int))] [] (cn h0 T S) Q := by
    intro mm
    induction mm with
    | zero =>
      intro c hcn ha
      have e : c = n := by omega
      rw [e] at ha ⊢
      refine fin ?_
      rcases hv with ⟨i, -, h1, h2, -⟩ | hv'
      · exact absurd h2 (ha i h1)
      · exact hv'
    | succ mm ih =>
      intro c hcn ha
      refine one c (by omega) (fun e => ?_) (fun ne => ih (c + 1) (by omega) (fun i hi => by
        by_cases q : i = c
        · rw [q]; exact ne
        · exact ha i (by omega)))
      rcases hv with ⟨i, rfl, h1, h2, h3⟩ | hv'
      · have : i = c := by
          by_cases q : i < c
          · exact absurd h2 (ha i q)
          · by_cases q2 : c < i
            · exact absurd e (h3 c q2)
            · omega
        rw [← this]; exact q
      · exact absurd e (hv'.2 c (by omega))
  exact b_Md_classNamed_0 (lp n 0 (by omega) (fun i hi => by omega))
end
