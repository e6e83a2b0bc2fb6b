/-! the token at hand, of both -/
set_option maxRecDepth 20000
abbrev TKN : Type := Nat × Int × Nat × Int × List Int
/-- the signs of a tape, 0 behind it -/
def ch (tp : List Int) : Nat → Int := fun k => tp.getD k 0
def okTp (tp : List Int) : Prop := tp.length ≤ 1024 ∧ ∀ k, k < tp.length → tp.getD k 0 = 10 ∨ (32 ≤ tp.getD k 0 ∧ tp.getD k 0 ≤ 126)
def tkE (tp : List Int) (host : Int) (t : TKN) : Prop := tokE (ch tp) tp.length host t.1 t.2.1 t.2.2.1 t.2.2.2.1 t.2.2.2.2
theorem ch_ta {tp : List Int} {f : Nat → Int} (e : ∀ i, i < tp.length → f i = tp.getD i 0) : ta f tp.length = ch tp := by
  funext k
  by_cases c : k < tp.length
  · rw [ta_in c]; exact e k c
  · rw [ta_out (by omega)]
    unfold ch
    simp [List.getD, List.getElem?_eq_none (Nat.le_of_not_lt c)]
theorem ch_out {tp : List Int} {k : Nat} (h : tp.length ≤ k) : ch tp k = 0 := by unfold ch; simp [List.getD, List.getElem?_eq_none h]
theorem tkE_to {tp : List Int} {host : Int} {t : TKN} (H : tkE tp host t) (hk : ¬ t.2.1 = -1) (hq : t.1 ≤ tp.length) : t.1 ≤ t.2.2.1 ∧ t.2.2.1 ≤ tp.length := by
  obtain ⟨q, k, to, num, held⟩ := t
  have z : ∀ i, ch tp i ≠ 0 → i < tp.length := fun i hi => Nat.lt_of_not_le fun c => hi (ch_out c)
  rcases H with ⟨a, b, c⟩ | ⟨a, b, r, ⟨c1, c2, c3⟩, e, f⟩ | ⟨a, b, r, ⟨c1, c2, c3⟩, e, f⟩ | ⟨a, b, c⟩ | ⟨a, b, c, e, m, f, g⟩
  · simp only at *; omega
  · simp only at *; omega
  · simp only at *; omega
  · simp only at *; omega
  · simp only at *
    subst g
    unfold sgn at f
    split at f
    · next c1 => have := z (q + 1) (by rw [c1.1]; decide); omega
    · split at f
      · next c1 => have := z (q + 1) (by rw [c1.1]; decide); omega
      · split at f
        · next c1 => have := z (q + 1) (by rw [c1.1]; decide); omega
        · split at f
          · next c1 => have := z (q + 1) (by rw [c1.1]; decide); omega
          · split at f
            · next c1 => have := z (q + 1) (by rw [c1.2]; decide); omega
            · split at f
              · next c1 => have := z (q + 1) (by rw [c1.2]; decide); omega
              · split at f
                · next c1 => have := z (q + 2) (by rw [c1.2.2.2]; decide); omega
                · rcases f with f | f <;> omega
/-- the bytes of a token that is a name -/
def tkB (tp : List Int) (t : TKN) : List Int := byt (ch tp) t.1 t.2.2.1
/-- C at a token -/
def CK (h : ah) (C : Nat) (tp : List Int) (host : Int) (t : TKN) : Prop := SC h C (C + 3) (C + 1) tp.length (C + 2) (C + 5) ∧ (∀ i, i < tp.length → hA h (C + 1) i = tp.getD i 0) ∧ hI h f_Scanner_host (C + 3) = host ∧ CTK h (C + 3) (C + 5) t.1 t.2.1 t.2.2.1 t.2.2.2.1 t.2.2.2.2 ∧ tkE tp host t ∧ ¬ t.2.1 = -1 ∧ t.1 ≤ t.2.2.1 ∧ t.2.2.1 ≤ tp.length ∧ okTp tp
/-- T at a token -/
def TK (h : ah) (T : Nat) (tp : List Int) (host : Int) (t : TKN) : Prop := TS h T (hR h f_Md_tape T) tp.length (hR h f_Md_text T) ∧ (∀ i, i < tp.length → hA h (hR h f_Md_tape T) i = tp.getD i 0) ∧ hI h f_Md_ofHost T = host ∧ TTK h T (hR h f_Md_text T) t.1 t.2.1 t.2.2.1 t.2.2.2.1 t.2.2.2.2 ∧ tkE tp host t ∧ (¬ t.2.1 = -1 → t.1 ≤ t.2.2.1 ∧ t.2.2.1 ≤ tp.length) ∧ okTp tp ∧ hK h (hR h f_Md_halt T) = k_MdHalt ∧ hR h f_Md_halt T < hz h ∧ hR h f_Md_text T ≠ 0
/-- the token behind one -/
def nxT (tp : List Int) (host : Int) (t t' : TKN) : Prop := t'.1 = skp (ch tp) tp.length t.2.2.1 ∧ tkE tp host t'
section
variable {ρ : Nat → Nat} {d : Nat} {h : ah} {F : Int → ah → Prop} {G : ah → Prop} {E : Nat → ah → Prop} {C T : Nat} {tp : List Int} {host : Int} {t : TKN}
theorem CK.fr {L : List Nat} {P : List (Nat × Nat)} {z1 s1 : Nat} {h' : ah} (H : CK h C tp host t) (hf : Fr L P z1 s1 h h') (hM : ∀ a f, f ∈ [f_Scanner_text, f_Scanner_size, f_Scanner_fault, f_Scanner_held, f_LT_tape, f_Scanner_host, f_Scanner_kind, f_Scanner_from, f_Scanner_to, f_Scanner_number, f_Scanner_heldSize] → ¬ okC L P f a) (hP : ∀ y, (0, y) ∉ P) : CK h' C tp host t := by
  obtain ⟨H1, H2, H3, ⟨k1, k2, k3, k4, k5⟩, H5, H6, H7, H8, H9⟩ := H
  have hW : ∀ a f, f ∈ [f_Scanner_text, f_Scanner_size, f_Scanner_fault, f_Scanner_held, f_LT_tape, f_Scanner_host, f_Scanner_kind, f_Scanner_from, f_Scanner_to, f_Scanner_number, f_Scanner_heldSize] → ¬ okW L P f a := fun a f hm c => hM a f hm (Or.inl c)
  have S' := H1.fr hf (fun a => ⟨hW a _ (by simp), hW a _ (by simp), hW a _ (by simp), hW a _ (by simp), hW a _ (by simp)⟩)
  obtain ⟨-, -, -, b3, -, -, ⟨c1, c2, c3, c4⟩, c5, c6, c7, c8⟩ := H1
  have s1 := hf.ar c8 (own_of rfl) c5 c6 (by omega) (hM _ _ (by simp)) (hP _)
  have s2 := hf.ar c8 (own_of rfl) c1 b3 (by omega) (hM _ _ (by simp)) (hP _)
  refine ⟨S', fun i hi => by rw [s1.2.1 i]; exact H2 i hi, by rw [hf.I c1 (by decide) (hW _ _ (by simp))]; exact H3, ⟨by rw [hf.I c1 (by decide) (hW _ _ (by simp))]; exact k1, by rw [hf.I c1 (by decide) (hW _ _ (by simp))]; exact k2, by rw [hf.I c1 (by decide) (hW _ _ (by simp))]; exact k3, fun e => by rw [hf.I c1 (by decide) (hW _ _ (by simp))]; exact k4 e, fun e => ⟨fun i hi => by rw [s2.2.1 i]; exact (k5 e).1 i hi, by rw [hf.I c1 (by decide) (hW _ _ (by simp))]; exact (k5 e).2.1, (k5 e).2.2⟩⟩, H5, H6, H7, H8, H9⟩
theorem c_nx (H : CK h C tp host t) (q1 : ∀ h' t', Fr SCM [] 0 0 h h' → nxT tp host t t' → CK h' C tp host t' → G h') (q2 : ∀ h' t', Fr SCM [] 0 0 h h' → nxT tp host t t' → t'.2.1 = -1 → hI h' f_Fault_told (C + 2) = 1 + 16 * (t'.1 : Int) → E (C + 2) h') : wpB PGm ρ (d + 3) m_Scanner_next 0 [(0, vR (C + 3))] [] h (cV G E) := by
  obtain ⟨H1, H2, H3, H4, H5, H6, H7, H8, H9⟩ := H
  have ec := ch_ta H2
  have sl := skp_le (ch tp) tp.length _ t.2.2.1 (Nat.le_refl _) H8
  refine c_next H1 H8 H4.2.2.1 (fun k hk => by rw [H2 k hk]; exact H9.2 k hk) (fun h' k to num held hf hk hn _ hK => ?_) (fun h' to num held hf hk ht => ?_)
  · rw [ec] at hk hK
    rw [H3] at hk
    have b := tkE_to (t := (skp (ch tp) tp.length t.2.2.1, k, to, num, held)) hk hn sl.2
    have S' := H1.fr hf SCM_n
    have ht := H1.tape hf
    refine q1 h' (skp (ch tp) tp.length t.2.2.1, k, to, num, held) hf ⟨rfl, hk⟩ ⟨S', fun i hi => ?_, ?_, hK, hk, hn, b.1, b.2, H9⟩
    · have := congrFun ht i
      rw [ta_in hi, ta_in hi] at this
      rw [this]; exact H2 i hi
    · rw [hf.I H1.2.2.2.2.2.2.1.1 (by decide) (nokW (by decide) rfl)]; exact H3
  · rw [ec] at hk ht
    rw [H3] at hk
    exact q2 h' (skp (ch tp) tp.length t.2.2.1, -1, to, num, held) hf ⟨rfl, hk⟩ rfl ht
theorem nxT_u {t1 t2 : TKN} (h1 : nxT tp host t t1) (h2 : nxT tp host t t2) : t1.1 = t2.1 ∧ t1.2.1 = t2.2.1 ∧ (¬ t1.2.1 = -1 → t1.2.2.1 = t2.2.2.1) ∧ (t1.2.1 = 2 → t1.2.2.2.1 = t2.2.2.2.1) ∧ (t1.2.1 = 3 → t1.2.2.2.2 = t2.2.2.2.2) := by
  have e : t1.1 = t2.1 := h1.1.trans h2.1.symm
  have h3 := h1.2
  have h4 := h2.2
  unfold tkE at h3 h4
  rw [← e] at h4
  exact ⟨e, tokE_u h3 h4⟩
/-- T's next one is the one that C has -/
theorem t_nx {Q : QT} (H : TK h T tp host t) (hk : ¬ t.2.1 = -1) {t' : TKN} (hn : nxT tp host t t') (q : ∀ h', Fr TSM [] 0 0 h h' → TK h' T tp host t' → Q (Sum.inl none) h') : wpB PGm ρ (d + 3) m_Md_next 0 [(0, vR T)] [] h Q := by
  obtain ⟨H1, H2, H3, H4, H5, H6, H7, H8, H9, H10⟩ := H
  have ec := ch_ta H2
  have b := H6 hk
  have sl := skp_le (ch tp) tp.length _ t.2.2.1 (Nat.le_refl _) b.2
  refine t_next H1 b.2 (H4.2.1 hk) (fun k hk => by rw [H2 k hk]; exact H7.2 k hk) (fun h' k to num held hf he hT => ?_)
  rw [ec] at he hT
  rw [H3] at he
  have u := nxT_u (t2 := (skp (ch tp) tp.length t.2.2.1, k, to, num, held)) hn ⟨rfl, he⟩
  have eR : ∀ f, f ∈ [f_Md_tape, f_Md_text, f_Md_halt] → hR h' f T = hR h f T := fun f hm => hf.R H1.2.2.2.2.2.2.2.2.2.1.1 (by simp at hm; rcases hm with e | e | e <;> subst e <;> decide) (by simp at hm; rcases hm with e | e | e <;> subst e <;> exact nokW (by decide) rfl)
  have S' := H1.fr hf TSM_n
  refine q h' hf ⟨by rw [eR _ (by simp), eR _ (by simp)]; exact S', fun i hi => by rw [eR _ (by simp), H1.tapA hf]; exact H2 i hi, by rw [hf.I H1.2.2.2.2.2.2.2.2.2.1.1 (by decide) (nokW (by decide) rfl)]; exact H3, ?_, hn.2, fun c => tkE_to hn.2 c (by rw [hn.1]; exact sl.2), H7, by rw [eR _ (by simp), hf.K H9]; exact H8, by rw [eR _ (by simp)]; exact hf.lt H9, by rw [eR _ (by simp)]; exact H10⟩
  obtain ⟨u1, u2, u3, u4, u5⟩ := u
  obtain ⟨v1, v2, v3, v4, v5⟩ := hT
  simp only at u1 u2 u3 u4 u5
  rw [eR _ (by simp)]
  refine ⟨by rw [u1]; exact v1, fun c => by rw [u3 c]; exact v2 (by rw [← u2]; exact c), by rw [u2]; exact v3, fun c => by rw [u4 c]; exact v4 (by rw [← u2]; exact c), fun c => by rw [u5 c]; exact v5 (by rw [← u2]; exact c)⟩
end
