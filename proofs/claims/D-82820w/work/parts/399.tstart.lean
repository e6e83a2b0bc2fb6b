set_option maxRecDepth 20000
section
variable {ρ : Nat → Nat} {d : Nat} {Q : QT} {h h' : ah} {N M z s t o n c r i j k p a T cd fn ck mk vs rk np un u : Nat} {S S' S1 S2 : SS} {x y ty v fl l1 l2 : Int} {h0 : ah}
/-- T takes a task -/
def tkS (S : SS) (t c : Nat) : SS := u2 (u2 (u2 (u2 S f_Md_t 0 (t : Int)) f_Md_p0 0 ((2100 * t : Nat) : Int)) f_Md_f0 0 ((200 * t : Nat) : Int)) f_Md_top 0 (((200 * t + c : Nat) : Int) - 1)
theorem s_takes (O : TOK h0 T) (ht : t ≤ 1) (ec : S f_Md_frames t = (c : Int)) (hc : c ≤ 200) (q : Q (Sum.inl none) (cn h0 T (tkS S t c))) : wpB PGm ρ d m_Md_takesTask 0 [(0, vR T), (1, vI (t : Int))] [] (cn h0 T S) Q := by
  obtain ⟨kT, G, kH⟩ := O
  have b1 : 0 ≤ (t : Int) ∧ (t : Int) < ((2 : Nat) : Int) := by omega
  refine b_Md_takesTask_0 ?_
  simp (decide := true) (disch := first | decide | omega) only [cnI, cnIe, cnR, cnK, cnl, cnA' G, cn_sI, cn_sIe, cn_sA' G, kT, kH, KN G, LN G, u2_f, u2_s, w32_aa, w32_ss, w32_p1, w32_m1, Int.toNat_natCast, true_and, and_true, false_and, and_false, or_false, false_or, ne_eq, not_false_eq_true, forall_const, implies_true, not_true_eq_false, false_implies, ec]
  have w1 : w32 (2100 * (t : Int)) = ((2100 * t : Nat) : Int) := by rw [w32_of (by omega) (by omega)]; omega
  have w2 : w32 (200 * (t : Int)) = ((200 * t : Nat) : Int) := by rw [w32_of (by omega) (by omega)]; omega
  have w3 : w32 (w32 (((200 * t : Nat) : Int) + (c : Int)) - 1) = ((200 * t + c : Nat) : Int) - 1 := by
    rw [w32_of (x := ((200 * t : Nat) : Int) + (c : Int)) (by omega) (by omega), w32_of (by omega) (by omega)]; omega
  rw [w1, w2, w3]
  first | exact q | exact ⟨b1, q⟩
/-- T begins a unit -/
def sbS (S : SS) (t fn ck mk vs rk np : Nat) : SS := u2 (enS (ncS (tkS (rzS (u2 S f_Md_thrown 0 0) t) t 0) ck mk vs rk (-1) 0 0 np 0) t 0 (fn : Int) (ck : Int) 0 0 (-1) 0 0) f_Md_state t 1
theorem s_start78 (O : TOK h0 T) (ht : t ≤ 1) (hu : u < 16) (ec : S f_Md_frames t = 0) (eh : S f_Md_height t = 0) (er : S f_Md_tries t = 0) (ef : S f_Md_unitFunction u = (fn : Int)) (hf : fn < 400) (e1 : S f_Md_calls 0 = (ck : Int)) (e2 : S f_Md_allMade 0 = (mk : Int)) (e3 : S f_Md_variables 0 = (vs : Int)) (e4 : S f_Md_allSlots 0 = (rk : Int)) (b1 : ck < 8000 ∧ mk < 8000 ∧ vs ≤ 60000 ∧ rk ≤ 60000) (ev : S f_Md_variablesOf fn = 0) (ep : S f_Md_parametersOf fn = (np : Int)) (q : Q (Sum.inl (some (vI 1))) (cn h0 T (u2 (enS (ncS (tkS S t 0) ck mk vs rk (-1) 0 0 np 0) t 0 (fn : Int) (ck : Int) 0 0 (-1) 0 0) f_Md_state t 1))) : wpB PGm ρ (d + 3) m_Md_start 78 [(0, vR T), (1, vI (t : Int)), (2, vI (u : Int))] [] (cn h0 T S) Q := by
  have O' := O
  obtain ⟨kT, G, kH⟩ := O
  have to : ∀ f i, f ≠ f_Md_t → f ≠ f_Md_p0 → f ≠ f_Md_f0 → f ≠ f_Md_top → tkS S t 0 f i = S f i := fun f i h1 h2 h3 h4 => by unfold tkS; rw [u2_f h4, u2_f h3, u2_f h2, u2_f h1]
  have bt : 0 ≤ (t : Int) ∧ (t : Int) < ((2 : Nat) : Int) := by omega
  have bu : 0 ≤ (u : Int) ∧ (u : Int) < ((16 : Nat) : Int) := by omega
  have k1 : hK (cn h0 T S) T = k_Md := by rw [cnK]; exact kT
  refine b_Md_start_78 (d := d + 2) ⟨k1, s_takes O' ht (c := 0) ec (by decide) ?_⟩
  have ef3 : tkS S t 0 f_Md_unitFunction u = (fn : Int) := by rw [to _ _ (by decide) (by decide) (by decide) (by decide)]; exact ef
  have a1 : hA (cn h0 T (tkS S t 0)) (hR (cn h0 T (tkS S t 0)) f_Md_unitFunction T) (u : Int).toNat = (fn : Int) := by
    simp (decide := true) (disch := first | decide | omega) only [cnI, cnIe, cnR, cnK, cnl, cnA' G, cn_sI, cn_sIe, cn_sA' G, kT, kH, KN G, LN G, u2_f, u2_s, w32_aa, w32_ss, w32_p1, w32_m1, Int.toNat_natCast, true_and, and_true, false_and, and_false, or_false, false_or, ne_eq, not_false_eq_true, forall_const, implies_true, not_true_eq_false, false_implies, ef3]
  have aU : (hK (cn h0 T (tkS S t 0)) (hR (cn h0 T (tkS S t 0)) f_Md_unitFunction T) ∈ [1, 11] ∧ 0 ≤ (u : Int) ∧ (u : Int) < (hl (cn h0 T (tkS S t 0)) (hR (cn h0 T (tkS S t 0)) f_Md_unitFunction T) : Int)) := by
    simp (decide := true) (disch := first | decide | omega) only [cnI, cnIe, cnR, cnK, cnl, cnA' G, cn_sI, cn_sIe, cn_sA' G, kT, kH, KN G, LN G, u2_f, u2_s, w32_aa, w32_ss, w32_p1, w32_m1, Int.toNat_natCast, true_and, and_true, false_and, and_false, or_false, false_or, ne_eq, not_false_eq_true, forall_const, implies_true, not_true_eq_false, false_implies]
    first | exact bu | omega
  refine ⟨by rw [cnK]; exact kT, aU, aU, ?_⟩
  rw [a1]
  refine s_newCall (d := d + 1) (nv := 0) (np := np) (fm := 0) (n := 0) O' hf (by rw [to _ _ (by decide) (by decide) (by decide) (by decide)]; exact e1) (by rw [to _ _ (by decide) (by decide) (by decide) (by decide)]; exact e2) (by rw [to _ _ (by decide) (by decide) (by decide) (by decide)]; exact e3) (by rw [to _ _ (by decide) (by decide) (by decide) (by decide)]; exact e4) (by omega) (by rw [to _ _ (by decide) (by decide) (by decide) (by decide)]; exact ev) (by rw [to _ _ (by decide) (by decide) (by decide) (by decide)]; exact ep) (by omega) ?_
  have nco : ∀ f i, LNC.elem f = false → ncS (tkS S t 0) ck mk vs rk (-1) 0 0 np 0 f i = tkS S t 0 f i := fun f i hf => ncS_off f i hf
  have TFn : TF (ncS (tkS S t 0) ck mk vs rk (-1) 0 0 np 0) t 0 0 := by
    refine ⟨?_, ?_, ?_, ?_, ?_⟩
    · rw [nco _ _ (by decide)]; unfold tkS; rw [u2_f (by decide), u2_f (by decide), u2_f (by decide), u2_s]
    · rw [nco _ _ (by decide)]; unfold tkS; rw [u2_f (by decide), u2_f (by decide), u2_s]
    · rw [nco _ _ (by decide)]; unfold tkS; rw [u2_f (by decide), u2_s]
    · rw [nco _ _ (by decide), to _ _ (by decide) (by decide) (by decide) (by decide)]; exact eh
    · rw [nco _ _ (by decide), to _ _ (by decide) (by decide) (by decide) (by decide)]; exact ec
  refine ⟨by rw [cnK]; exact kT, s_enters (m := 0) (c := 0) O' TFn ht (by decide) (by decide) (q0 := 0) (by rw [nco _ _ (by decide), to _ _ (by decide) (by decide) (by decide) (by decide)]; exact er) ?_⟩
  clear a1 aU nco TFn to
  refine ⟨by rw [cnK]; exact kT, ?_⟩
  simp (decide := true) (disch := first | decide | omega) only [cnI, cnIe, cnR, cnK, cnl, cnA' G, cn_sI, cn_sIe, cn_sA' G, kT, kH, KN G, LN G, u2_f, u2_s, w32_aa, w32_ss, w32_p1, w32_m1, Int.toNat_natCast, true_and, and_true, false_and, and_false, or_false, false_or, ne_eq, not_false_eq_true, forall_const, implies_true, not_true_eq_false, false_implies]
  first | exact q | exact ⟨bt, q⟩
end
