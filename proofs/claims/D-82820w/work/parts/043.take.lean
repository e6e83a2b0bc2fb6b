/-! tokens are demanded, taken; T's row of words -/
set_option maxRecDepth 20000
def HTM : List Nat := [f_MdHalt_number, f_MdHalt_place]
/-- T has faulted -/
def HF (T : Nat) (h h' : ah) (why : Int) (pl : Int) : Prop := Fr HTM [] 0 0 h h' ∧ hI h' f_MdHalt_number (hR h f_Md_halt T) = why ∧ hI h' f_MdHalt_place (hR h f_Md_halt T) = pl
def sgv (c : Int) : Int := if 130 ≤ c ∧ c ≤ 136 then c + 126 else c
def sgK (c : Int) : Prop := sgc c ∨ (130 ≤ c ∧ c ≤ 136)
section
variable {ρ : Nat → Nat} {d : Nat} {h : ah} {F : Int → ah → Prop} {G : ah → Prop} {E : Nat → ah → Prop} {Q : QT} {C T : Nat} {tp : List Int} {host : Int} {t : TKN}
theorem c_fl (H : CK h C tp host t) {why : Int} (b1 : 0 ≤ why ∧ why ≤ 20) (q : ∀ h', Fr SCM [] 0 0 h h' → hI h' f_Fault_told (C + 2) = why + 16 * (t.1 : Int) → E (C + 2) h') : wpB PGm ρ (d + 1) m_Scanner_fail 0 [(0, vR (C + 3)), (1, vI why)] [] h (cV G E) := by
  obtain ⟨H1, H2, H3, H4, H5, H6, H7, H8, H9⟩ := H
  have hl := H9.1
  refine c_fail H1.1.1 H1.2.1 H1.2.2.1 H4.2.1 b1 (by omega) (q _ (Fr.wL (by decide) Fr.r0) (I_I _ _ _ _))
/-- a fault at a place -/
theorem c_fl2 (H : CK h C tp host t) {why : Int} {pl : Nat} (b1 : 0 ≤ why ∧ why ≤ 20) (b2 : pl ≤ 70000) (q : ∀ h', Fr SCM [] 0 0 h h' → hI h' f_Fault_told (C + 2) = why + 16 * (pl : Int) → E (C + 2) h') : wpB PGm ρ d m_Scanner_fail_2 0 [(0, vR (C + 3)), (1, vI why), (2, vI (pl : Int))] [] h (cV G E) := by
  obtain ⟨H1, -⟩ := H
  refine b_Scanner_fail_2_0 ⟨H1.1.1, by rw [H1.2.1]; exact H1.2.2.1, ?_⟩
  rw [H1.2.1, w32_of (x := 16 * (pl : Int)) (by omega) (by omega), w32_of (by omega) (by omega)]
  intro h3
  refine ⟨?_, ?_⟩
  · rw [show hR h3 f_Scanner_fault (C + 3) = C + 2 from H1.2.1]; exact hK_f H1.2.2.1
  · rw [show hR h3 f_Scanner_fault (C + 3) = C + 2 from H1.2.1]
    exact q _ (Fr.wL (by decide) Fr.r0) (I_I _ _ _ _)
theorem c_dem (H : CK h C tp host t) {c : Int} (q1 : t.2.1 = c → G h) (q2 : ¬ t.2.1 = c → ∀ h', Fr SCM [] 0 0 h h' → hI h' f_Fault_told (C + 2) = 1 + 16 * (t.1 : Int) → E (C + 2) h') : wpB PGm ρ (d + 2) m_Scanner_demand 0 [(0, vR (C + 3)), (1, vI c)] [] h (cV G E) := by
  have K := H.2.2.2.1.1
  refine b_Scanner_demand_0 ⟨H.1.1.1, fun z => q1 (by rw [← K]; exact z), fun z => c_fl H (by omega) (fun h' a b => ⟨?_, q2 (by rw [← K]; exact z) h' a b⟩)⟩
  rw [a.K H.1.2.2.2.2.2.2.1.2.2.1, H.1.2.2.1]; decide
theorem kF (H : CK h C tp host t) {h' : ah} {L : List Nat} {P : List (Nat × Nat)} {z s : Nat} (a : Fr L P z s h h') : hK h' (C + 2) ≠ 0 := by
  rw [a.K H.1.2.2.2.2.2.2.1.2.2.1, H.1.2.2.1]; decide
theorem c_tk (H : CK h C tp host t) {c : Int} (q1 : ∀ h' t', t.2.1 = c → Fr SCM [] 0 0 h h' → nxT tp host t t' → CK h' C tp host t' → G h') (q2 : ¬ t.2.1 = c → ∀ h', Fr SCM [] 0 0 h h' → hI h' f_Fault_told (C + 2) = 1 + 16 * (t.1 : Int) → E (C + 2) h') (q3 : ∀ h' t', t.2.1 = c → Fr SCM [] 0 0 h h' → nxT tp host t t' → t'.2.1 = -1 → hI h' f_Fault_told (C + 2) = 1 + 16 * (t'.1 : Int) → E (C + 2) h') : wpB PGm ρ (d + 4) m_Scanner_take 0 [(0, vR (C + 3)), (1, vI c)] [] h (cV G E) :=
  b_Scanner_take_0 ⟨H.1.1.1, c_dem H (fun e => ⟨H.1.1.1, c_nx H (fun h' t' a b c => q1 h' t' e a b c) (fun h' t' a b c f => ⟨kF H a, q3 h' t' e a b c f⟩)⟩) (fun e h' a b => ⟨kF H a, q2 e h' a b⟩)⟩
/-! T -/
theorem TK.fr {L : List Nat} {P : List (Nat × Nat)} {z1 s1 : Nat} {h' : ah} (H : TK h T tp host t) (hf : Fr L P z1 s1 h h') (hM : ∀ f, f ∈ [f_Md_tape, f_Md_size, f_Md_text, f_Md_ofHost, f_Md_from, f_Md_to, f_Md_token, f_Md_sign, f_Md_number, f_Md_textSize, f_Md_halt] → ∀ a, ¬ okC L P f a) (hP : ∀ y, (0, y) ∉ P) : TK h' T tp host t := by
  obtain ⟨H1, H2, H3, ⟨k1, k2, k3, k4, k5⟩, H5, H6, H7, H8, H9, H10⟩ := H
  have hW : ∀ f, f ∈ [f_Md_tape, f_Md_size, f_Md_text, f_Md_ofHost, f_Md_from, f_Md_to, f_Md_token, f_Md_sign, f_Md_number, f_Md_textSize, f_Md_halt] → ∀ a, ¬ okW L P f a := fun f hm a c => hM f hm a (Or.inl c)
  have S' := H1.fr hf (fun a => ⟨hW _ (by simp) a, hW _ (by simp) a, hW _ (by simp) a⟩)
  obtain ⟨a1, a2, a3, a4, a5, a6, a7, a8, a9, ⟨c1, c2, c3⟩, c4, c5⟩ := H1
  have e1 : hR h' f_Md_tape T = hR h f_Md_tape T := hf.R c1 (by decide) (hW _ (by simp) _)
  have e2 : hR h' f_Md_text T = hR h f_Md_text T := hf.R c1 (by decide) (hW _ (by simp) _)
  have e3 : hR h' f_Md_halt T = hR h f_Md_halt T := hf.R c1 (by decide) (hW _ (by simp) _)
  have s1 := hf.ar c5 (own_of rfl) c1 rfl c4 (hM f_Md_tape (by simp) _) (hP _)
  have I : ∀ f, f ∈ [f_Md_tape, f_Md_size, f_Md_text, f_Md_ofHost, f_Md_from, f_Md_to, f_Md_token, f_Md_sign, f_Md_number, f_Md_textSize, f_Md_halt] → hI h' f T = hI h f T := fun f hm => hf.I c1 (by simp only [List.mem_cons, List.not_mem_nil, or_false] at hm; rcases hm with e | e | e | e | e | e | e | e | e | e | e <;> subst e <;> decide) (hW _ hm _)
  have s2 := hf.ar c5 (own_of rfl) c1 rfl H10 (hM f_Md_text (by simp) _) (hP _)
  refine ⟨by rw [e1, e2]; exact S', fun i hi => by rw [e1, s1.2.1]; exact H2 i hi, by rw [I _ (by simp)]; exact H3, ⟨by rw [I _ (by simp)]; exact k1, fun c => by rw [I _ (by simp)]; exact k2 c, by rw [I _ (by simp), I _ (by simp)]; exact k3, fun c => by rw [I _ (by simp)]; exact k4 c, fun c => ⟨fun i hi => by rw [e2, s2.2.1]; exact (k5 c).1 i hi, by rw [I _ (by simp)]; exact (k5 c).2.1, (k5 c).2.2⟩⟩, H5, H6, H7, by rw [e3, hf.K H9]; exact H8, by rw [e3]; exact hf.lt H9, by rw [e2]; exact H10⟩
theorem t_must (a1 : hK h T = k_Md) (a2 : hK h (hR h f_Md_halt T) = k_MdHalt) {g why : Int} (q1 : ¬ g = 0 → Q (Sum.inl none) h) (q0 : g = 0 → ∀ h', HF T h h' why (hI h f_Md_from T) → Q (Sum.inr (hR h f_Md_halt T)) h') : wpB PGm ρ (d + 1) m_Md_must 0 [(0, vR T), (1, vI g), (2, vI why)] [] h Q := by
  refine b_Md_must_0 ⟨q1, fun z => ⟨a1, a2, b_MdHalt_of_0 ⟨a2, ?_⟩⟩⟩
  intro h1 h4
  exact ⟨by rw [show hK h4 (hR h f_Md_halt T) = _ from a2]; decide, q0 z h4 ⟨Fr.wL (by decide) (Fr.wL (by decide) Fr.r0), Eq.trans (I_Ine (by decide)) (I_I _ _ _ _), I_I _ _ _ _⟩⟩
theorem t_fault (a1 : hK h T = k_Md) (a2 : hK h (hR h f_Md_halt T) = k_MdHalt) {why : Int} (q0 : ∀ h', HF T h h' why (hI h f_Md_from T) → Q (Sum.inr (hR h f_Md_halt T)) h') : wpB PGm ρ (d + 1) m_Md_fault 0 [(0, vR T), (1, vI why)] [] h Q := by
  refine b_Md_fault_0 ⟨a1, a2, b_MdHalt_of_0 ⟨a2, ?_⟩⟩
  intro h1 h4
  exact ⟨by rw [show hK h4 (hR h f_Md_halt T) = _ from a2]; decide, q0 h4 ⟨Fr.wL (by decide) (Fr.wL (by decide) Fr.r0), Eq.trans (I_Ine (by decide)) (I_I _ _ _ _), I_I _ _ _ _⟩⟩
theorem sgc_n {k : Int} (H : sgc k) : ¬ k = 0 ∧ ¬ k = 1 ∧ ¬ k = 2 ∧ ¬ k = 3 ∧ ¬ k = -1 ∧ k < 126 := by
  unfold sgc at H
  simp only [List.mem_cons, List.not_mem_nil, or_false] at H
  omega
theorem t_isSign (H : TK h T tp host t) {c : Int} (hc : sgK c) (q1 : t.2.1 = c → F 1 h) (q0 : ¬ t.2.1 = c → F 0 h) : wpB PGm ρ d m_Md_isSign 0 [(0, vR T), (1, vI (sgv c))] [] h (cI F E) := by
  have K := H.2.2.2.1.2.2.1
  have hcn : sgc c → ¬ (130 ≤ c ∧ c ≤ 136) := fun x => by have := sgc_n x; omega
  have hkn : sgc t.2.1 → ¬ t.2.1 = 0 ∧ ¬ t.2.1 = 1 ∧ ¬ t.2.1 = 2 ∧ ¬ t.2.1 = 3 ∧ ¬ t.2.1 = -1 ∧ t.2.1 < 126 := sgc_n
  have hcc : sgc c → ¬ c = 0 ∧ ¬ c = 1 ∧ ¬ c = 2 ∧ ¬ c = 3 ∧ ¬ c = -1 ∧ c < 126 := sgc_n
  have iff : (hI h f_Md_token T = 4 ∧ hI h f_Md_sign T = sgv c) ↔ t.2.1 = c := by
    unfold sgv
    constructor
    · rintro ⟨e1, e2⟩
      rcases K with K | K | K | K | K | K | K
      · omega
      · omega
      · omega
      · omega
      · omega
      · rcases hc with hc | hc
        · rw [if_neg (hcn hc)] at e2; have := hcc hc; omega
        · rw [if_pos hc] at e2; omega
      · have := hkn K.2.1
        rcases hc with hc | hc
        · rw [if_neg (hcn hc)] at e2; omega
        · rw [if_pos hc] at e2; omega
    · intro e
      rw [e] at K hkn
      rcases K with K | K | K | K | K | K | K
      · rcases hc with hc | hc
        · have := hcc hc; omega
        · omega
      · rcases hc with hc | hc
        · have := hcc hc; omega
        · omega
      · rcases hc with hc | hc
        · have := hcc hc; omega
        · omega
      · rcases hc with hc | hc
        · have := hcc hc; omega
        · omega
      · rcases hc with hc | hc
        · have := hcc hc; omega
        · omega
      · exact ⟨K.1, by rw [if_pos ⟨K.2.1, K.2.2.1⟩]; omega⟩
      · have := hcc K.2.1
        exact ⟨K.1, by rw [if_neg (by omega)]; exact K.2.2⟩
  exact b_Md_isSign_0 ⟨H.1.1, fun z => q0 fun e => z (iff.mpr e).1, fun z => ⟨fun y => q0 fun e => y (iff.mpr e).2, fun y => q1 (iff.mp ⟨z, y⟩)⟩⟩
theorem t_accepts (H : TK h T tp host t) {c : Int} (hc : sgK c) (q1 : t.2.1 = c → wpB PGm ρ d m_Md_next 0 [(0, vR T)] [] h (cV (F 1) (fun e h' => hK h' e ≠ 0 ∧ E e h'))) (q0 : ¬ t.2.1 = c → F 0 h) : wpB PGm ρ (d + 1) m_Md_accepts 0 [(0, vR T), (1, vI (sgv c))] [] h (cI F E) := by
  refine b_Md_accepts_0 ⟨H.1.1, t_isSign H hc (fun e => ⟨fun z => absurd z (by decide), fun _ => ⟨H.1.1, wpB_mon (fun o h' a => ?_) (q1 e)⟩⟩) (fun e => ⟨fun _ => ⟨Or.inl rfl, q0 e⟩, fun z => absurd rfl z⟩)⟩
  match o, a with
  | Sum.inl none, a => exact ⟨Or.inr rfl, a⟩
  | Sum.inr x, a => exact a
theorem t_takes (H : TK h T tp host t) {c : Int} (hc : sgK c) (q1 : t.2.1 = c → wpB PGm ρ (d + 1) m_Md_next 0 [(0, vR T)] [] h (cV (fun h' => Q (Sum.inl none) h') (fun e h' => hK h' e ≠ 0 ∧ Q (Sum.inr e) h'))) (q0 : ¬ t.2.1 = c → ∀ h', HF T h h' 1 (t.1 : Int) → Q (Sum.inr (hR h f_Md_halt T)) h') : wpB PGm ρ (d + 2) m_Md_takes 0 [(0, vR T), (1, vI (sgv c))] [] h Q := by
  have K := H.2.2.2.1.1
  have hh := H.2.2.2.2.2.2.2.1
  have hlt := H.2.2.2.2.2.2.2.2.1
  refine b_Md_takes_0 ⟨H.1.1, t_isSign H hc (fun e => ⟨H.1.1, t_must H.1.1 hh (fun _ => ⟨H.1.1, q1 e⟩) (fun z => absurd z (by decide))⟩) (fun e => ⟨H.1.1, t_must H.1.1 hh (fun z => absurd rfl z) (fun _ h' a => ⟨?_, q0 e h' (by rw [← K]; exact a)⟩)⟩)⟩
  rw [a.1.K hlt, hh]; decide
end
