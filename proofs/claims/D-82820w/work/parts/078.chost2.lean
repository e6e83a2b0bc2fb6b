/-! C: host() -/
set_option maxRecDepth 20000
/-- the outer object: its tape, scanner, two hosts, machine -/
def LTO (h : ah) (C ho ho2 : Nat) (tp : List Int) : Prop := hK h C = k_LT ∧ SCB h C ∧ hR h f_LT_scanner C = C + 3 ∧ hR h f_LT_host C = ho ∧ hR h f_LT_spare C = ho2 ∧ hR h f_LT_machine C = C + 32 ∧ hI h f_LT_taped C = (tp.length : Int) ∧ okTp tp ∧ (∀ i, i < tp.length → hA h (C + 1) i = tp.getD i 0) ∧ ((ho = C + 6 ∧ ho2 = C + 19) ∨ (ho = C + 19 ∧ ho2 = C + 6))
def LHo : List Nat := LB ++ LH ++ [f_LT_taped, f_LT_host, f_LT_spare]
def ltof : List Nat := [f_LT_scanner, f_LT_host, f_LT_spare, f_LT_machine, f_LT_taped, f_Scanner_fault, f_Scanner_held, f_LT_tape]
/-- a host that may be cleared -/
def HW (ρ : Nat → Nat) (h : ah) (ho : Nat) : Prop := HS ρ h ho ∧ ∃ ws by_ fr sz nx, WD h (ho + 4) 512 15360 ws by_ fr sz nx (ho + 9)
section
variable {ρ : Nat → Nat} {d : Nat} {h h' h0 : ah} {F : Int → ah → Prop} {G : ah → Prop} {E : Nat → ah → Prop} {Q : QT} {C ho ho2 : Nat} {tp : List Int} {host : Int} {t t' : TKN} {g : HG} {n m : Nat} {ws ws2 : List (List Int)} {by_ fr sz nx_ : Nat}
def gZ : HG := ((fun _ _ => 0), (fun _ _ => []))
theorem HZ_frm2 {L : List Nat} {P : List (Nat × Nat)} {z s : Nat} (W : WD h (ho + 4) 512 15360 ws by_ fr sz nx_ (ho + 9)) (W' : WD h' (ho + 4) 512 15360 ws2 by_ fr sz nx_ (ho + 9)) (hf : Fr L P z s h h') : HZ h' ho ≤ HZ h ho + z ∧ HSl h' ho ≤ HSl h ho + s := by
  have e1 := W.words
  have e2 := W'.words
  have ad := W.addr
  have m1 := hf.la ad.1 (by rw [W.2.2.1.1]; decide)
  have m2 := hf.la ad.2.1 (by rw [W.2.2.1.2.1]; decide)
  have zz := hf.1
  unfold HZ HSl wpz wps
  rw [e1.1, e1.2, e2.1, e2.2, m1, m2]
  omega
theorem LTO.frm {L : List Nat} {P : List (Nat × Nat)} {z s : Nat} (H : LTO h C ho ho2 tp) (hf : Fr L P z s h h') (hM : ∀ f, f ∈ ltof → ∀ a, ¬ okW L P f a) (hT : ¬ okC L P f_LT_tape C) (hP : (0, C + 1) ∉ P) : LTO h' C ho ho2 tp := by
  obtain ⟨a1, a2, a3, a4, a5, a6, a7, a8, a9, b1⟩ := H
  have lc : C < hz h := by have := a2.2.2.2.2.2.2.1; omega
  have s := hf.ar a2.2.2.2.2.2.2.2.2.2.2 (own_of (f := f_LT_tape) rfl) lc a2.2.2.2.2.2.2.2.1 (by omega) hT hP
  have R : ∀ f, f ∈ ltof → 5 ≤ f → hR h' f C = hR h f C := fun f hm h5 => hf.R lc h5 (hM f hm _)
  exact ⟨by rw [hf.K lc]; exact a1, a2.frm hf (fun f hm a => hM f (by simp only [List.mem_cons, List.not_mem_nil, or_false] at hm; rcases hm with e | e | e <;> subst e <;> simp [ltof]) a), by rw [R _ (by simp [ltof]) (by decide)]; exact a3, by rw [R _ (by simp [ltof]) (by decide)]; exact a4, by rw [R _ (by simp [ltof]) (by decide)]; exact a5, by rw [R _ (by simp [ltof]) (by decide)]; exact a6, by rw [hf.I lc (by decide) (hM _ (by simp [ltof]) _)]; exact a7, a8, fun i hi => by rw [s.2.1]; exact a9 i hi, b1⟩
theorem HS.ph {L : List Nat} (H : HS ρ h ho) (fx : FX L (PH ho) h h') (h1 : fhos.all (fun f => !(L.elem f)) = true) : HS ρ h' ho := by
  obtain ⟨z, s, hf⟩ := fx
  refine H.frm hf (fun f hm c => ?_) (nP0 rfl _)
  have := List.all_eq_true.mp h1 f hm
  simp only [Bool.not_eq_true'] at this
  refine nokW this ?_ c
  simp only [fhos, List.mem_cons, List.not_mem_nil, or_false] at hm
  rcases hm with e | e | e | e | e | e | e <;> subst e <;> rfl
theorem c_host (L : LTO h C ho ho2 tp) (Hs : HW ρ h ho2) (S : SHO ρ h) (Hr : ∀ i, i ≤ 12 → ρ i < hz h ∧ ρ i ≠ 0 ∧ UNO h (ρ i)) (hlt : C + 32 < hz h) (hd : 10 ≤ d)
    (q1 : ∀ h' g' n' m' ws' by' fr' sz' nx', rdHost tp = Sum.inr (g', n', m') → HC ρ h' ho2 g' n' m' ws' by' fr' sz' nx' → gOK g' n' m' → FX LHo (PH ho2) h h' → HZ h' ho2 ≤ HZ h ho2 + 12 * (tp.length + 1) → HSl h' ho2 ≤ HSl h ho2 + 3000 * (tp.length + 1) → LTO h' C ho2 ho [] → wpB PGm ρ (d + 8) m_Machine_anew 0 [(0, vR (C + 32)), (1, vR ho2)] [] h' (cV (fun h48 => Q (Sum.inl (some (vI 0))) h48) (fun e h2 => hK h2 e ≠ 0 ∧ Q (Sum.inr e) h2)))
    (q2 : ∀ h' w p, rdHost tp = Sum.inl (w, p) → FX LHo (PH ho2) h h' → HW ρ h' ho2 → HZ h' ho2 ≤ HZ h ho2 + 12 * (tp.length + 1) → HSl h' ho2 ≤ HSl h ho2 + 3000 * (tp.length + 1) → LTO h' C ho ho2 [] → Q (Sum.inl (some (vI (w + 16 * (p : Int))))) h')
    (hM : hK h (C + 32) = k_Machine) :
    wpB PGm ρ (d + 9) m_LT_host 0 [(0, vR C)] [] h Q := by
  obtain ⟨hs, ws, by_, fr, sz, nx_, W⟩ := Hs
  obtain ⟨a1, a2, a3, a4, a5, a6, a7, a8, a9, b1⟩ := id L
  have lc : C < hz h := by omega
  refine b_LT_host_0 ⟨a1, b_LT_useTape_0 ⟨a1, ?_⟩⟩
  intro h3
  have f3 : Fr [f_LT_taped] [] 0 0 h h3 := Fr.wL (by decide) Fr.r0
  have L3 : LTO h3 C ho ho2 [] := by
    refine ⟨a1, a2.frm f3 (nokAllW rfl), a3, a4, a5, a6, I_I _ _ _ _, ⟨by simp, fun k hk => by simp at hk⟩, fun i hi => by simp at hi, b1⟩
  have A3 : ∀ i, i < tp.length → hA h3 (C + 1) i = tp.getD i 0 := a9
  have hs3 : HS ρ h3 ho2 := hs.frm f3 (fun f hm c => nokAllW (L := [f_LT_taped]) (P := []) (fs := fhos) rfl f hm _ c) (fun c => by cases c)
  have W3 : WD h3 (ho2 + 4) 512 15360 ws by_ fr sz nx_ (ho2 + 9) := W.frm f3 (fun f hm => nokAll (L := [f_LT_taped]) (P := []) (fs := [f_Words_most, f_Words_mostBytes, f_Words_many, f_Words_used, f_Words_bytes, f_Words_from, f_Words_size, f_Words_next, f_Words_heads]) rfl f hm _) ⟨(fun c => by cases c), (fun c => by cases c), (fun c => by cases c), (fun c => by cases c), (fun c => by cases c)⟩
  show hK h3 C = k_LT ∧ _
  rw [show hR h3 f_LT_spare C = ho2 from a5, a7]
  refine ⟨a1, hs3.1, c_clear (d := d + 6) (g' := gZ) hs3 W3 (by omega) (fun h13 HC13 f13 => ?_)⟩
  clear_value h3
  have L13 : LTO h13 C ho ho2 [] := L3.frm f13 (nokAllW rfl) (nok rfl rfl rfl rfl) (nP0 rfl _)
  have s13 := f13.ar L3.2.1.2.2.2.2.2.2.2.2.2.2 (own_of (f := f_LT_tape) rfl) (by have := f3.1.1; omega) L3.2.1.2.2.2.2.2.2.2.1 (by omega) (nok rfl rfl rfl rfl) (nP0 rfl _)
  have A13 : ∀ i, i < tp.length → hA h13 (C + 1) i = tp.getD i 0 := fun i hi => by rw [s13.2.1]; exact A3 i hi
  have ea : hR h13 f_LT_tape C = C + 1 := L13.2.1.2.2.2.2.2.2.2.1
  rw [L13.2.2.1, ea]
  have S3 : SHO ρ h3 := S.frm ⟨_, _, f3⟩ (fun y c => by cases c) Hr
  have Hr3 : ∀ i, i ≤ 12 → ρ i < hz h3 ∧ ρ i ≠ 0 ∧ UNO h3 (ρ i) := fun i hi => by
    obtain ⟨r1, r2, r3⟩ := Hr i hi
    exact ⟨f3.lt r1, r2, r3.fr r1 r2 f3⟩
  have S13 : SHO ρ h13 := S3.frm ⟨_, _, f13⟩ (nP0 rfl) Hr3
  have Hr13 : ∀ i, i ≤ 12 → ρ i < hz h13 ∧ ρ i ≠ 0 ∧ UNO h13 (ρ i) := fun i hi => by
    obtain ⟨r1, r2, r3⟩ := Hr3 i hi
    exact ⟨f13.lt r1, r2, r3.fr r1 r2 f13⟩
  have fx13 : FX LHo (PH ho2) h h13 := ⟨_, _, (f3.mono (fun f hm => by simp at hm; subst hm; simp [LHo]) (fun q c => by cases c)).trans (f13.mono (fun f c => by cases c) (fun q c => c))⟩
  have z13 := HZ_frm2 W3 HC13.2.2.2.2.2.2.2 f13
  have z3 := HZ_frm2 W W3 f3
  -- a fault, from any of these heaps on
  have flt : ∀ h24, Fr LB [] 0 0 h13 h24 → ∀ h' w p, rdHost tp = Sum.inl (w, p) → FQ tp h24 h' ho2 → HZ h24 ho2 ≤ HZ h13 ho2 → HSl h24 ho2 ≤ HSl h13 ho2 → hI h' f_Fault_told (C + 2) = w + 16 * (p : Int) → hK h' (C + 2) ≠ 0 ∧ hK h' (C + 2) = k_Fault ∧ wpB PGm ρ (d + 9) m_LT_host 39 [] [vR (C + 2)] h' Q := by
    intro h24 f24 h' w p er fq hz24 hs24 told
    obtain ⟨fx, ⟨ws', by', fr', sz', nx', W'⟩, hz', hs'⟩ := fq
    have L24 : LTO h24 C ho ho2 [] := L13.frm f24 (nokAllW rfl) (nok rfl rfl rfl rfl) (fun c => by cases c)
    have L' : LTO h' C ho ho2 [] := by
      obtain ⟨z, s, ff⟩ := fx
      exact L24.frm ff (nokAllW rfl) (nok rfl rfl rfl rfl) (nP0 rfl _)
    have hS24 : HS ρ h24 ho2 := HC13.1.frm f24 (fun f hm c => nokAllW (L := LB) (P := []) (fs := fhos) rfl f hm _ c) (fun c => by cases c)
    have kf := L'.2.1.2.2.1
    refine ⟨by rw [kf]; decide, kf, b_LT_host_39 ⟨kf, ?_⟩⟩
    rw [told]
    exact q2 h' w p er (fx13.trans (FX.trans ⟨_, _, f24.mono (fun f hm => by simp [LHo, hm]) (fun q c => by cases c)⟩ (FX.into FX.r fx (fun f hm => by simp [LHo, hm]) (fun q hq => Or.inl hq)))) ⟨hS24.ph fx rfl, ws', by', fr', sz', nx', W'⟩ (by omega) (by omega) L'
  have nLB : nHC LB [] ho2 := ⟨⟨nokAll rfl, fun f hm c => nokAllW (L := LB) (P := []) (fs := fhos) rfl f hm _ c⟩, (fun y c => by cases c), fun f hm => nokAll (L := LB) (P := []) (fs := [f_Words_most, f_Words_mostBytes, f_Words_many, f_Words_used, f_Words_bytes, f_Words_from, f_Words_size, f_Words_next, f_Words_heads]) rfl f hm _⟩
  refine ⟨L13.1, L13.2.1.1, c_begin (d := d + 4) L13.2.1 A13 a8 (Or.inr rfl) (fun h24 f24 nb K24 => ?_) (fun h24 f24 nb told => ?_)⟩
  rotate_left
  · have HC24 := HC13.frm f24 nLB
    have z24 := HZ_frm2 HC13.2.2.2.2.2.2.2 HC24.2.2.2.2.2.2.2 f24
    refine flt h24 f24 h24 1 (nx tp 1 t00).1 ?_ ⟨FX.r, ⟨_, _, _, _, _, HC24.2.2.2.2.2.2.2⟩, by omega, by omega⟩ z24.1 z24.2 told
    rw [rdHost, rdAll, if_neg (by rw [show nx tp 1 (0, 0, 0, 0, []) = nx tp 1 t00 from rfl, nb]; decide), if_pos (by rw [show nx tp 1 (0, 0, 0, 0, []) = nx tp 1 t00 from rfl, nb]; intro x; exact absurd x.1 (by decide))]; rfl
  · have HC24 := HC13.frm f24 nLB
    have z24 := HZ_frm2 HC13.2.2.2.2.2.2.2 HC24.2.2.2.2.2.2.2 f24
    have L24 : LTO h24 C ho ho2 [] := L13.frm f24 (nokAllW rfl) (nok rfl rfl rfl rfl) (fun c => by cases c)
    have zz3 := f3.1.1
    have zz13 := f13.1.1
    have zz24 := f24.1.1
    have RC24 : RC ρ h24 h24 C ho2 tp gZ 0 0 [] (nx tp 1 t00) := by
      refine ⟨⟨_, _, _, _, HC24⟩, K24, S13.frm ⟨_, _, f24⟩ (fun y c => by cases c) Hr13, fun i hi => ?_, FX.r, by omega, by omega, ⟨by simp [tot], by simp⟩, by omega, by omega⟩
      obtain ⟨r1, r2, r3⟩ := Hr13 i hi
      exact ⟨f24.lt r1, r2, r3.fr r1 r2 f24⟩
    have er : rdHost tp = rdAll tp (tp.length + 1) gZ 0 0 (nx tp 1 t00) := rfl
    rw [L24.2.2.2.2.1, L24.2.2.1]
    refine ⟨L24.1, HC24.1.1, c_all (d := d + 1) (by omega) (tp.length + 1) gZ 0 0 [] (nx tp 1 t00) h24 (by omega) RC24 ⟨fun i hi => by omega, fun i j hi => by omega, fun i hi => by omega⟩ (fun h35 g' n' m' t' ws' e R35 ok' => ?_) (fun h' w p e fq told => flt h24 f24 h' w p (er.trans e) fq z24.1 z24.2 told)⟩
    obtain ⟨⟨by', fr', sz', nx', HC35⟩, K35, -, -, fx35, -, -, -, hz35, hs35⟩ := R35
    have L35 : LTO h35 C ho ho2 [] := by
      obtain ⟨z, s, ff⟩ := fx35
      exact L24.frm ff (nokAllW rfl) (nok rfl rfl rfl rfl) (nP0 rfl _)
    obtain ⟨p1, p2, p3, p4, p5, p6, p7, p8, p9, p10⟩ := id L35
    refine ⟨p1, ?_⟩
    rw [p4, p5]
    intro h44 h45
    have f45 : Fr [f_LT_host, f_LT_spare] [] 0 0 h35 h45 := Fr.wR (Or.inl (by decide)) (by unfold own; decide) (Fr.wR (Or.inl (by decide)) (by unfold own; decide) Fr.r0)
    have eH : hR h45 f_LT_host C = ho2 := by
      show hR (sR (sR h35 f_LT_host C ho2) f_LT_spare C ho) f_LT_host C = _
      rw [R_Rne (by decide), R_R]
    have eM : hR h45 f_LT_machine C = C + 32 := by
      show hR (sR (sR h35 f_LT_host C ho2) f_LT_spare C ho) f_LT_machine C = _
      rw [R_Rne (by decide), R_Rne (by decide)]; exact p6
    have eSc : hR h45 f_LT_scanner C = C + 3 := by
      show hR (sR (sR h35 f_LT_host C ho2) f_LT_spare C ho) f_LT_scanner C = _
      rw [R_Rne (by decide), R_Rne (by decide)]; exact p3
    have L45 : LTO h45 C ho2 ho [] := ⟨p1, p2.frm f45 (nokAllW rfl), eSc, eH, R_R _ _ _ _, eM, p7, p8, p9, by omega⟩
    have HC45 := HC35.frm f45 ⟨⟨nokAll rfl, fun f hm c => nokAllW (L := [f_LT_host, f_LT_spare]) (P := []) (fs := fhos) rfl f hm _ c⟩, (fun y c => by cases c), fun f hm => nokAll (L := [f_LT_host, f_LT_spare]) (P := []) (fs := [f_Words_most, f_Words_mostBytes, f_Words_many, f_Words_used, f_Words_bytes, f_Words_from, f_Words_size, f_Words_next, f_Words_heads]) rfl f hm _⟩
    have z45 := HZ_frm2 HC35.2.2.2.2.2.2.2 HC45.2.2.2.2.2.2.2 f45
    have k35 : hK h35 (C + 32) = k_Machine := by
      obtain ⟨z, s, ff⟩ := fx35
      rw [ff.K (by omega), f24.K (by omega), f13.K (by omega), f3.K (by omega)]; exact hM
    rw [eM, eH]
    have tl : t'.1 ≤ tp.length := by have := K35.2.2.2.2.2.2.1; have := K35.2.2.2.2.2.2.2.1; omega
    refine ⟨k35, q1 h45 g' n' m' ws' by' fr' sz' nx' (er.trans e) HC45 ok' ?_ (by omega) (by omega) L45⟩
    exact fx13.trans (FX.trans ⟨_, _, f24.mono (fun f hm => by simp [LHo, hm]) (fun q c => by cases c)⟩ (FX.trans (FX.into FX.r fx35 (fun f hm => by simp [LHo, hm]) (fun q hq => Or.inl hq)) ⟨_, _, f45.mono (fun f hm => by simp at hm; rcases hm with e | e <;> subst e <;> simp [LHo]) (fun q c => by cases c)⟩))
end
