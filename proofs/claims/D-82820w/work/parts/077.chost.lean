/-! C: a host is cleared and read -/
set_option maxRecDepth 20000
theorem nokAllW {fs L : List Nat} {P : List (Nat × Nat)} (h : fs.all (fun f => !(L.elem f) && !((P.map Prod.fst).elem f)) = true) : ∀ f, f ∈ fs → ∀ a, ¬ okW L P f a := by
  intro f hm a
  have := List.all_eq_true.mp h f hm
  simp only [Bool.and_eq_true, Bool.not_eq_true'] at this
  exact nokW this.1 this.2
def t00 : TKN := (0, 0, 0, 0, [])
/-- the scanner, when it does not read -/
def SCB (h : ah) (C : Nat) : Prop := hK h (C + 3) = k_Scanner ∧ hR h f_Scanner_fault (C + 3) = C + 2 ∧ hK h (C + 2) = k_Fault ∧ hR h f_Scanner_held (C + 3) = C + 5 ∧ hK h (C + 5) = 3 ∧ hl h (C + 5) = 60 ∧ C + 5 < hz h ∧ hR h f_LT_tape C = C + 1 ∧ hK h (C + 1) = 3 ∧ hl h (C + 1) = 1024 ∧ INJ h
def LB : List Nat := SCM ++ [f_Scanner_text, f_Scanner_size, f_Scanner_host]
section
variable {ρ : Nat → Nat} {d : Nat} {h h' : ah} {F : Int → ah → Prop} {G : ah → Prop} {E : Nat → ah → Prop} {Q : QT} {C ho : Nat} {tp : List Int} {host : Int} {t t' : TKN} {g : HG} {n m : Nat} {ws : List (List Int)} {by_ fr sz nx_ : Nat}
theorem SCB.frm {L : List Nat} {P : List (Nat × Nat)} {z s : Nat} (H : SCB h C) (hf : Fr L P z s h h') (hM : ∀ f, f ∈ [f_Scanner_fault, f_Scanner_held, f_LT_tape] → ∀ a, ¬ okW L P f a) : SCB h' C := by
  obtain ⟨a1, a2, a3, a4, a5, a6, a7, a8, a9, b1, b2⟩ := H
  exact ⟨by rw [hf.K (by omega)]; exact a1, by rw [hf.R (by omega) (by decide) (hM _ (by simp) _)]; exact a2, by rw [hf.K (by omega)]; exact a3, by rw [hf.R (by omega) (by decide) (hM _ (by simp) _)]; exact a4, by rw [hf.K (by omega)]; exact a5, by rw [hf.la (by omega) (by omega)]; exact a6, hf.lt a7, by rw [hf.R (by omega) (by decide) (hM _ (by simp) _)]; exact a8, by rw [hf.K (by omega)]; exact a9, by rw [hf.la (by omega) (by omega)]; exact b1, hf.inj b2⟩
theorem c_begin (B : SCB h C) (tape : ∀ i, i < tp.length → hA h (C + 1) i = tp.getD i 0) (ok : okTp tp) (hh : host = 0 ∨ host = 1)
    (q1 : ∀ h', Fr LB [] 0 0 h h' → ¬ (nx tp host t00).2.1 = -1 → CK h' C tp host (nx tp host t00) → G h')
    (q2 : ∀ h', Fr LB [] 0 0 h h' → (nx tp host t00).2.1 = -1 → hI h' f_Fault_told (C + 2) = 1 + 16 * ((nx tp host t00).1 : Int) → E (C + 2) h') :
    wpB PGm ρ (d + 4) m_Scanner_begin 0 [(0, vR (C + 3)), (1, vR (C + 1)), (2, vI (tp.length : Int)), (3, vI host)] [] h (cV G E) := by
  obtain ⟨a1, a2, a3, a4, a5, a6, a7, a8, a9, b1, b2⟩ := id B
  have o1 := ok.1
  refine b_Scanner_begin_0 ⟨a1, ?_⟩
  intro h1 h4
  refine ⟨hh, ?_⟩
  intro h5 h6
  have f6 : Fr LB [] 0 0 h h6 := Fr.wL (by decide) (Fr.wL (by decide) (Fr.wL (by decide) (Fr.wR (Or.inl (by decide)) (by unfold own; decide) Fr.r0)))
  have B6 : SCB h6 C := B.frm f6 (nokAllW rfl)
  have sc : SC h6 C (C + 3) (C + 1) tp.length (C + 2) (C + 5) := by
    refine ⟨⟨B6.1, ?_, ?_, B6.2.2.2.2.2.2.2.2.1, by rw [B6.2.2.2.2.2.2.2.2.2.1]; exact o1, by omega⟩, B6.2.1, B6.2.2.1, B6.2.2.2.1, B6.2.2.2.2.1, B6.2.2.2.2.2.1, ⟨?_, ?_, ?_, ?_⟩, ?_, B6.2.2.2.2.2.2.2.1, by omega, B6.2.2.2.2.2.2.2.2.2.2⟩
    · show hR (sR h f_Scanner_text (C + 3) (C + 1)) f_Scanner_text (C + 3) = _; exact R_R _ _ _ _
    · show hI (sI (sI (sI h1 f_Scanner_size (C + 3) _) f_Scanner_host (C + 3) host) f_Scanner_to (C + 3) 0) f_Scanner_size (C + 3) = _
      rw [I_Ine (by decide), I_Ine (by decide), I_I]
    all_goals (have := B6.2.2.2.2.2.2.1; omega)
  have A6 : ∀ i, i < tp.length → hA h6 (C + 1) i = tp.getD i 0 := tape
  have ec := ch_ta A6
  have eh : hI h6 f_Scanner_host (C + 3) = host := by
    show hI (sI (sI h4 f_Scanner_host (C + 3) host) f_Scanner_to (C + 3) 0) f_Scanner_host (C + 3) = _
    rw [I_Ine (by decide), I_I]
  have sl := skp_le (ch tp) tp.length _ 0 (Nat.le_refl _) (Nat.zero_le _)
  have trn : ∀ {h'}, Fr SCM [] 0 0 h6 h' → Fr LB [] 0 0 h h' := fun f => (f6.trans (f.mono (fun f hm => by simp [LB, hm]) (fun q c => c))).le (Nat.le_refl _) (Nat.le_refl _)
  have eto : hI h6 f_Scanner_to (C + 3) = ((0 : Nat) : Int) := I_I _ _ _ _
  clear_value h6
  refine c_next sc (p := 0) (Nat.zero_le _) eto (fun k hk => by rw [A6 k hk]; exact ok.2 k hk) (fun h' k to num held hf hk hn _ hK => ?_) (fun h' to num held hf hk ht => ?_)
  · rw [ec] at hk hK
    rw [eh] at hk
    have b := tkE_to (t := (skp (ch tp) tp.length 0, k, to, num, held)) hk hn sl.2
    have S' := sc.fr hf SCM_n
    have ht := sc.tape hf
    have nn : nxT tp host t00 (skp (ch tp) tp.length 0, k, to, num, held) := ⟨rfl, hk⟩
    have sm := nx_same nn
    have CKx : CK h' C tp host (skp (ch tp) tp.length 0, k, to, num, held) := by
      refine ⟨S', fun i hi => ?_, ?_, hK, hk, hn, b.1, b.2, ok⟩
      · have := congrFun ht i
        rw [ta_in hi, ta_in hi] at this
        rw [this]; exact A6 i hi
      · rw [hf.I (by have := B6.2.2.2.2.2.2.1; omega) (by decide) (nokW (by decide) rfl)]; exact eh
    exact q1 h' (trn hf) (by rw [← sm.2.1]; exact hn) (CKx.tr sm (nx_of nn).2)
  · rw [ec] at hk ht
    rw [eh] at hk
    have nn : nxT tp host t00 (skp (ch tp) tp.length 0, -1, to, num, held) := ⟨rfl, hk⟩
    have sm := nx_same nn
    exact ⟨by rw [hf.K (by have := B6.2.2.2.2.2.2.1; omega), B6.2.2.1]; decide, q2 h' (trn hf) (by rw [← sm.2.1]) (by rw [← sm.1]; exact ht)⟩
theorem c_clear (a1 : HS ρ h ho) (a8 : WD h (ho + 4) 512 15360 ws by_ fr sz nx_ (ho + 9)) (hd : 10 ≤ d) {g' : HG} (q : ∀ h', HC ρ h' ho g' 0 0 [] by_ fr sz nx_ → Fr [] (PH ho) 0 0 h h' → G h') : wpB PGm ρ (d + 2) m_Host_clear 0 [(0, vR ho)] [] h (cV G E) := by
  obtain ⟨s1, s2, s3, s4, s5, s6, s7, s8, s9⟩ := id a1
  refine b_Host_clear_0 (by omega) ⟨s1, by rw [s4]; exact s7.1.1, by rw [s4]; exact s7.1, ?_⟩
  rw [s4]
  intro h5
  rw [show hR h5 f_Host_members ho = ho + 3 from s5]
  refine ⟨s8.1.1, s8.1, ?_⟩
  intro h8
  rw [show hR h8 f_Host_words ho = ho + 4 from s6]
  have f8 : Fr [] (PH ho) 0 0 h h8 := by
    refine Fr.wN (Or.inr (Or.inr (Or.inr ⟨f_Host_members, ho, s2, own_of rfl, s5, Or.inr (Or.inr (by simp [PH, WP]))⟩))) (Or.inr (by rw [s8.1.1]; decide)) (Fr.wN (Or.inr (Or.inr (Or.inr ⟨f_Host_types, ho, s2, own_of rfl, s4, Or.inr (Or.inr (by simp [PH, WP]))⟩))) (Or.inr (by rw [s7.1.1]; decide)) Fr.r0)
  have W8 : WD h8 (ho + 4) 512 15360 ws by_ fr sz nx_ (ho + 9) := by
    have ad := a8.addr
    have k1 := a8.2.2.1
    have ne : ∀ x, hK h x < 100 → x ≠ ho + 2 ∧ x ≠ ho + 3 := fun x hx => ⟨fun e => by rw [e, s7.1.1] at hx; exact absurd hx (by decide), fun e => by rw [e, s8.1.1] at hx; exact absurd hx (by decide)⟩
    have L8 : ∀ x, hK h x < 100 → hl h8 x = hl h x := fun x hx => Eq.trans (if_neg (ne x hx).2) (if_neg (ne x hx).1)
    obtain ⟨w1, w2, w3, w4, w5, w6, w7⟩ := a8
    refine ⟨w1, w2, w3, w4, ?_, ?_, w7⟩
    · rw [L8 sz (by rw [k1.2.2.1]; decide), L8 fr (by rw [k1.2.1]; decide), L8 nx_ (by rw [k1.2.2.2.1]; decide), L8 (ho + 9) (by rw [k1.2.2.2.2]; decide), L8 by_ (by rw [k1.1]; decide)]; exact w5
    · rw [L8 by_ (by rw [k1.1]; decide)]; exact w6
  refine ⟨a8.1.1, c_cut (n := 0) W8 (Nat.zero_le _) (fun h11 W11 f11 => ?_)⟩
  have ff : Fr [] (PH ho) 0 0 h8 h11 := f11.mono (fun f c => c) (fun q hq => List.mem_append_left _ hq)
  have nH : ∀ f, f ∈ fhos → ¬ okW [] (WP (ho + 4)) f ho := fun f hm c => by
    simp only [fhos, List.mem_cons, List.not_mem_nil, or_false] at hm
    rcases hm with e | e | e | e | e | e | e <;> subst e <;> exact nokW rfl rfl c
  have S8 : HS ρ h8 ho := a1.frm f8 (fun f hm c => by
    simp only [fhos, List.mem_cons, List.not_mem_nil, or_false] at hm
    rcases hm with e | e | e | e | e | e | e <;> subst e <;> exact nokW rfl rfl c) (nP0 rfl _)
  have t1 := f11.ar S8.2.2.1 (own_of (f := f_Host_types) rfl) S8.2.1 S8.2.2.2.1 (by omega) (nok rfl rfl rfl rfl) (nP0 rfl _)
  have t2 := f11.ar S8.2.2.1 (own_of (f := f_Host_members) rfl) S8.2.1 S8.2.2.2.2.1 (by omega) (nok rfl rfl rfl rfl) (nP0 rfl _)
  refine q h11 ⟨S8.frm f11 nH (nP0 rfl _), ?_, ?_, by omega, by omega, fun i hi => by omega, fun j hj => by omega, W11⟩ ((f8.trans ff).le (Nat.le_refl _) (Nat.le_refl _))
  · rw [t1.1]; exact Eq.trans (if_neg (by omega)) (if_pos rfl)
  · rw [t2.1]; exact if_pos rfl
end
