/-! frames without numbers; a new name of the host -/
set_option maxRecDepth 20000
def FX (L : List Nat) (P : List (Nat × Nat)) (h h' : ah) : Prop := ∃ z s, Fr L P z s h h'
theorem FX.of {L : List Nat} {P : List (Nat × Nat)} {z s : Nat} {h h' : ah} (a : Fr L P z s h h') : FX L P h h' := ⟨z, s, a⟩
theorem FX.r {L : List Nat} {P : List (Nat × Nat)} {h : ah} : FX L P h h := ⟨0, 0, Fr.r0⟩
theorem FX.trans {L : List Nat} {P : List (Nat × Nat)} {h h1 h2 : ah} (a : FX L P h h1) (b : FX L P h1 h2) : FX L P h h2 := by
  obtain ⟨z, s, a⟩ := a
  obtain ⟨z2, s2, b⟩ := b
  exact ⟨_, _, a.trans b⟩
/-- what is written into things that came later does not count -/
theorem Fr.into {L L' : List Nat} {P P' : List (Nat × Nat)} {h h1 h2 : ah} {z1 s1 z2 s2 : Nat} (a : Fr L P z1 s1 h h1) (b : Fr L' P' z2 s2 h1 h2) (hL : ∀ f, f ∈ L' → f ∈ L) (hP : ∀ q, q ∈ P' → q ∈ P ∨ (5 ≤ q.1 ∧ q.1 ∈ L) ∨ (5 ≤ q.1 ∧ hz h ≤ q.2)) : Fr L P (z1 + z2) (s1 + s2) h h2 := by
  have hw : ∀ f x, x < hz h → 5 ≤ f → ¬ okW L P f x → ¬ okW L' P' f x := fun f x hx h5 n k => by
    rcases k with k | k
    · exact n (Or.inl (hL f k))
    · rcases hP _ k with c | c | c
      · exact n (Or.inr c)
      · exact n (Or.inl c.2)
      · simp only at c; omega
  obtain ⟨⟨a1, a2, a3, a4⟩, a5, a6, a7, a8, a9, a10, a11⟩ := a
  obtain ⟨⟨b1, b2, b3, b4⟩, b5, b6, b7, b8, b9, b10, b11⟩ := b
  refine ⟨⟨by omega, by omega, by omega, by omega⟩, fun x hx => (b5 x (by omega)).trans (a5 x hx), fun f x hx h5 hf => ?_, fun x h0 hx hp hm => ?_, fun x hx hk => (b8 x (by omega) (by rw [a5 x hx]; exact hk)).trans (a8 x hx hk), fun x hx hk => b9 x (by omega) (a9 x hx hk), fun f x hf hx => ?_, fun k => b11 (a11 k)⟩
  · obtain ⟨e1, e2⟩ := a6 f x hx h5 hf
    obtain ⟨e3, e4⟩ := b6 f x (by omega) h5 (hw f x hx h5 hf)
    exact ⟨e3.trans e1, e4.trans e2⟩
  · have A := a7 x h0 hx hp hm
    suffices B : sameArr h1 h2 x ∧ hI h2 2 x = hI h1 2 x from ⟨A.1.trans B.1, B.2.trans A.2⟩
    refine b7 x h0 (by omega) (fun c => ?_) fun f y hy hf e ho => ?_
    · rcases hP _ c with c | c | c
      · exact hp c
      · simp only at c; omega
      · simp only at c; omega
    · rcases a10 f y hf hy with e0 | e0 | ⟨e0, e1⟩
      · omega
      · omega
      · refine hm f y e0 hf (by rw [← e1]; exact e) ?_
        have h5 := own5 hf
        rcases ho with ho | ho
        · exact Or.inl (Classical.byContradiction fun n => hw f y e0 h5 n ho)
        · exact Or.inr (Classical.byContradiction fun n => hw _ y e0 (by omega) n ho)
  · rcases b10 f x hf hx with e0 | e0 | ⟨e0, e1⟩
    · exact Or.inl e0
    · exact Or.inr (Or.inl (by omega))
    · rw [e1]
      exact a10 f x hf e0
theorem FX.into {L L' : List Nat} {P P' : List (Nat × Nat)} {h h1 h2 : ah} (a : FX L P h h1) (b : FX L' P' h1 h2) (hL : ∀ f, f ∈ L' → f ∈ L) (hP : ∀ q, q ∈ P' → q ∈ P ∨ (5 ≤ q.1 ∧ q.1 ∈ L) ∨ (5 ≤ q.1 ∧ hz h ≤ q.2)) : FX L P h h2 := by
  obtain ⟨z1, s1, a⟩ := a
  obtain ⟨z2, s2, b⟩ := b
  exact ⟨_, _, a.into b hL hP⟩
theorem nokAll {fs L : List Nat} {P : List (Nat × Nat)} (h : fs.all (fun f => (!(L.elem f) && !(L.elem (f + 1))) && (!((P.map Prod.fst).elem f) && !((P.map Prod.fst).elem (f + 1)))) = true) : ∀ f, f ∈ fs → ∀ a, ¬ okC L P f a := by
  intro f hm a
  have := List.all_eq_true.mp h f hm
  simp only [Bool.and_eq_true, Bool.not_eq_true'] at this
  exact nok this.1.1 this.1.2 this.2.1 this.2.2
theorem nP0 {P : List (Nat × Nat)} (h : (P.map Prod.fst).elem 0 = false) : ∀ y, (0, y) ∉ P := by
  intro y c
  have : (0 : Nat) ∈ P.map Prod.fst := List.mem_map.mpr ⟨_, c, rfl⟩
  simp at h
  simp at this
  obtain ⟨b, hb⟩ := this
  exact h b hb
def LH : List Nat := SCM ++ [f_Host_drafted, f_Host_draftVariable]
def PH (ho : Nat) : List (Nat × Nat) := WP (ho + 4) ++ [(f_Host_types + 1, ho), (f_Host_members + 1, ho), (f_Host_draft + 1, ho)]
/-- room with what the words may still want -/
def HZ (h : ah) (ho : Nat) : Nat := hz h + wpz h (hR h f_Words_from (ho + 4)) (hR h f_Words_bytes (ho + 4)) 15360
def HSl (h : ah) (ho : Nat) : Nat := hs h + wps h (hR h f_Words_from (ho + 4)) (hR h f_Words_bytes (ho + 4)) 512 15360
def WI (ws : List (List Int)) (p : Nat) : Prop := tot ws ws.length ≤ p ∧ 2 * ws.length ≤ p + 1
theorem plc_nn {W : List (List Int)} {l : List Int} : 0 ≤ plc W l ↔ l ∈ W := by
  constructor
  · intro x
    apply Classical.byContradiction
    intro n
    rw [plc_no (fun j hj e => n (by rw [← e]; exact getD_mem hj))] at x
    omega
  · intro x
    unfold plc
    split
    · omega
    · next e => rw [List.idxOf?, List.findIdx?_eq_none_iff] at e; have := e l x; simp at this
def resv (l : List Int) : Prop := l ∈ plainW ∨ l ∈ ownW
theorem WD.words {h : ah} {w most mb : Nat} {ws : List (List Int)} {by_ fr sz nx hd : Nat} (H : WD h w most mb ws by_ fr sz nx hd) : hR h f_Words_bytes w = by_ ∧ hR h f_Words_from w = fr := ⟨H.2.1.1, H.2.1.2.1⟩
section
variable {ρ : Nat → Nat} {d : Nat} {h : ah} {F : Int → ah → Prop} {FR : Nat → ah → Prop} {G : ah → Prop} {E : Nat → ah → Prop} {C ho : Nat} {tp : List Int} {t : TKN} {g : HG} {n m : Nat} {ws : List (List Int)} {by_ fr sz nx : Nat}
theorem SHO.frm {L : List Nat} {P : List (Nat × Nat)} {h' : ah} (S : SHO ρ h) (hf : FX L P h h') (hP : ∀ y, (0, y) ∉ P) (hr : ∀ i, i ≤ 12 → ρ i < hz h ∧ ρ i ≠ 0 ∧ UNO h (ρ i)) : SHO ρ h' := by
  obtain ⟨z, s, hf⟩ := hf
  have st : ∀ i w, i ≤ 12 → STR h (ρ i) w → STR h' (ρ i) w := fun i w hi H => by
    obtain ⟨r1, r2, r3⟩ := hr i hi
    have sm := hf.ar0 r1 r2 (hP _) r3
    exact ⟨by rw [hf.K r1]; exact H.1, by rw [sm.1]; exact H.2.1, H.2.2.1, fun k hk => by rw [sm.2.1]; exact H.2.2.2 k hk⟩
  obtain ⟨a, b, c, e, f⟩ := S
  exact ⟨fun i hi => st i _ (by omega) (a i hi), st 10 _ (by omega) b, st 9 _ (by omega) c, st 11 _ (by omega) e, st 12 _ (by omega) f⟩
theorem tkB_len (K : CK h C tp 1 t) (e : t.2.1 = 1) : 1 ≤ (tkB tp t).length ∧ (tkB tp t).length ≤ 30 ∧ t.2.2.1 = t.1 + (tkB tp t).length ∧ t.1 < tp.length := by
  obtain ⟨-, -, -, -, H5, -, H7, H8, -⟩ := K
  rw [tkB, byt_len]
  obtain ⟨q, k, to, num, held⟩ := t
  simp only at *
  subst e
  rcases H5 with ⟨a, b, c⟩ | ⟨a, b, r, ⟨c1, c2, c3⟩, e, f⟩ | ⟨a, b, r, c, e, f⟩ | ⟨a, b, c⟩ | ⟨a, b, c, e, mm, f, g2⟩
  · simp only at b; omega
  · simp only at *
    have : q ≠ r := fun x => c3 (by rw [← x]; exact Or.inl b)
    omega
  · simp only at *; omega
  · simp only at *; omega
  · simp only at f
    unfold sgn at f
    have : ¬ (sgc (ch tp q) ∧ (1 : Int) = ch tp q ∧ mm = 1) := fun x => by have := sgc_n x.1; omega
    grind
theorem tkB_by (K : CK h C tp 1 t) : ∀ i, i < (tkB tp t).length → -128 ≤ (tkB tp t).getD i 0 ∧ (tkB tp t).getD i 0 ≤ 127 := by
  intro i hi
  have h9 := K.2.2.2.2.2.2.2.2.2
  have h8 := K.2.2.2.2.2.2.2.1
  rw [tkB, byt_len] at hi
  rw [tkB, byt_get hi]
  have := h9 (t.1 + i) (by omega)
  unfold ch
  omega
theorem c_newName (H : HC ρ h ho g n m ws by_ fr sz nx) (K : CK h C tp 1 t) (S : SHO ρ h) (hC : C + 2 < ho) (hd : 10 ≤ d) (w1 : tot ws ws.length ≤ t.1) (w2 : 2 * ws.length ≤ t.1)
    (q1 : t.2.1 = 1 → ¬ resv (tkB tp t) → ∀ h' ws' by2 fr2 sz2 nx2 x, HC ρ h' ho g n m ws' by2 fr2 sz2 nx2 → CK h' C tp 1 t → FX [] (WP (ho + 4)) h h' → HZ h' ho ≤ HZ h ho → HSl h' ho ≤ HSl h ho → NMO ws' (tkB tp t) x → tot ws' ws'.length ≤ t.2.2.1 → 2 * ws'.length ≤ t.2.2.1 + 1 → (∀ l v, NMO ws l v → NMO ws' l v) → F x h')
    (q2 : ¬ t.2.1 = 1 → ∀ h', Fr SCM [] 0 0 h h' → hI h' f_Fault_told (C + 2) = 1 + 16 * (t.1 : Int) → E (C + 2) h')
    (q3 : t.2.1 = 1 → resv (tkB tp t) → ∀ h', Fr SCM [] 0 0 h h' → hI h' f_Fault_told (C + 2) = 2 + 16 * (t.1 : Int) → E (C + 2) h') : wpB PGm ρ (d + 3) m_Host_newName 0 [(0, vR ho), (1, vR (C + 3))] [] h (cI F E) := by
  have a1 := H.1.1
  have k1 := K.1.1.1
  obtain ⟨r1, r2, r3⟩ := K.args
  have bt : byt (hA h (C + 1)) t.1 t.2.2.1 = tkB tp t := by
    refine leq (by rw [tkB, byt_len, byt_len]) (fun i hi => ?_)
    rw [byt_len] at hi
    rw [byt_get hi, tkB, byt_get hi]
    exact K.2.1 _ (by have := K.2.2.2.2.2.2.2.1; omega)
  obtain ⟨S0, S1, S2, S3, S4⟩ := id S
  have bad : t.2.1 = 1 → resv (tkB tp t) → wpB PGm ρ (d + 3) m_Host_newName 49 [(0, vR ho), (1, vR (C + 3))] [] h (cI F E) := fun e r => b_Host_newName_49 ⟨k1, c_fl K (by omega) (fun h' a b => ⟨kF K a, q3 e r h' a b⟩)⟩
  have isw : ∀ {r w} {F : Int → ah → Prop} {E : Nat → ah → Prop}, STR h r w → (tkB tp t = w → F 1 h) → (¬ tkB tp t = w → F 0 h) → t.2.1 = 1 → wpB PGm ρ (d + 2) m_Scanner_is 0 [(0, vR (C + 3)), (1, vR r)] [] h (cI F E) := fun s q1 q0 e => c_isw K.1 K.2.2.2.1 K.2.2.2.2.2.2.1 K.2.2.2.2.2.2.2.1 s (by omega) (fun _ x => q1 (by rw [← bt]; exact x)) (fun x => q0 fun y => x ⟨e, by rw [bt]; exact y⟩)
  refine b_Host_newName_0 ⟨k1, c_dem K (fun e1 => ⟨a1, c_plain K.1 K.2.2.2.1 K.2.2.2.2.2.2.1 K.2.2.2.2.2.2.2.1 a1 (H.1.strs S) (by omega) (fun _ => ?_) (fun ne => absurd e1 ne)⟩) (fun ne h' a b => ⟨kF K a, q2 ne h' a b⟩)⟩
  rw [bt]
  refine ⟨fun z => bad e1 (Or.inl (plc_nn.mp z)), fun z => ⟨k1, isw S1 (fun x => ⟨fun _ => bad e1 (Or.inr (by rw [x]; decide)), fun z => absurd z (by decide)⟩) (fun x1 => ⟨fun z => absurd rfl z, fun _ => ⟨k1, isw S2 (fun x => ⟨fun _ => bad e1 (Or.inr (by rw [x]; decide)), fun z => absurd z (by decide)⟩) (fun x2 => ⟨fun z => absurd rfl z, fun _ => ⟨k1, isw S3 (fun x => ⟨fun _ => bad e1 (Or.inr (by rw [x]; decide)), fun z => absurd z (by decide)⟩) (fun x3 => ⟨fun z => absurd rfl z, fun _ => ⟨k1, isw S4 (fun x => ⟨fun z => absurd z (by decide), fun _ => bad e1 (Or.inr (by rw [x]; decide))⟩) (fun x4 => ⟨fun _ => ?_, fun z => absurd rfl z⟩) e1⟩⟩) e1⟩⟩) e1⟩⟩) e1⟩⟩
  have nr : ¬ resv (tkB tp t) := fun c => by
    rcases c with c | c
    · have := plc_nn.mpr c; omega
    · unfold ownW at c
      simp only [List.mem_cons, List.not_mem_nil, or_false] at c
      rcases c with c | c | c | c
      · exact x1 c
      · exact x2 c
      · exact x3 c
      · exact x4 c
  obtain ⟨R1, R2, R3, R4⟩ := K.RW
  obtain ⟨L1, L2, L3, L4⟩ := tkB_len K e1
  have W := H.2.2.2.2.2.2.2
  have htp := K.2.2.2.2.2.2.2.2.1
  refine b_Host_newName_54 ⟨a1, k1, by rw [H.1.2.2.2.2.2.1]; exact W.1.1, ?_⟩
  rw [H.1.2.2.2.2.2.1, r1, r3, r2]
  have wd := W.words
  have hne : C + 1 ≠ by_ := fun e => by
    have i := W.1.2.2.1
    have o := i.2.1 f_LT_tape C f_Words_bytes (ho + 4) K.1.2.2.2.2.2.2.2.1 W.1.2.1 (own_of rfl) (own_of rfl) (by rw [K.1.2.2.2.2.2.2.2.2.1, wd.1, e]) (by rw [K.1.2.2.2.2.2.2.2.2.1]; omega)
    exact absurd o.1 (by decide)
  have nSC : ∀ a f, f ∈ [f_Scanner_text, f_Scanner_size, f_Scanner_fault, f_Scanner_held, f_LT_tape, f_Scanner_host, f_Scanner_kind, f_Scanner_from, f_Scanner_to, f_Scanner_number, f_Scanner_heldSize] → ¬ okC [] (WP (ho + 4)) f a := fun a f hm => nokAll rfl f hm a
  have nP : ∀ y, (0, y) ∉ WP (ho + 4) := nP0 rfl
  refine c_take W R2 R1 R3 (tkB_by K) hne R4 (by omega) (by omega) (fun k hk e => ?_) (fun hn e => by omega) (fun hn hlt h' by2 fr2 sz2 nx2 W' F' p1 p2 => ?_)
  · exact q1 e1 nr h ws by_ fr sz nx _ H K FX.r (Nat.le_refl _) (Nat.le_refl _) ⟨k, hk, e, rfl⟩ (by omega) (by omega) (fun l v x => x)
  · have wd' := W'.words
    have hi := H.1.2.2.1
    have s1 := F'.ar hi (own_of (f := f_Host_types) rfl) H.1.2.1 H.1.2.2.2.1 (by omega) (nok rfl rfl rfl rfl) (nP _)
    have s2 := F'.ar hi (own_of (f := f_Host_members) rfl) H.1.2.1 H.1.2.2.2.2.1 (by omega) (nok rfl rfl rfl rfl) (nP _)
    have nt : ∀ f, f ∈ ftyp → ∀ a, ¬ okC [] (WP (ho + 4)) f a := nokAll rfl
    have nm : ∀ f, f ∈ fmem → ∀ a, ¬ okC [] (WP (ho + 4)) f a := nokAll rfl
    have nh : ∀ f, f ∈ fhos → ¬ okW [] (WP (ho + 4)) f ho := fun f hm c => nokAll rfl f hm ho (Or.inl c)
    have mono : ∀ l v, NMO ws l v → NMO (ws ++ [tkB tp t]) l v := fun l v x => x.app
    refine q1 e1 nr h' (ws ++ [tkB tp t]) by2 fr2 sz2 nx2 _ ?_ (K.fr F' nSC nP) ⟨_, _, F'⟩ ?_ ?_ ⟨ws.length, by simp, by rw [app_getD1 (Nat.le_refl _), if_pos rfl], rfl⟩ ?_ (by simp; omega) mono
    · obtain ⟨b0, b1, b2, b3, b4, b5, b6, b7⟩ := H
      refine ⟨b0.frm F' nh (nP _), by rw [s1.1]; exact b1, by rw [s2.1]; exact b2, b3, b4, fun i hi2 => ?_, fun j hj => ?_, W'⟩
      · rw [s1.2.2]
        have := (b5 i hi2).frm hi F' (fun f hm => nt f hm _) nP (fun k _ => s1.2.2 k) (fun k _ => s2.2.2 _)
        exact ⟨this.1, this.2.1, mono _ _ this.2.2.1, this.2.2.2⟩
      · rw [s2.2.2]
        obtain ⟨c1, c2, c3, c4, c5, c6, c7, c8, c9, c10, c11⟩ := (b6 j hj).frm F' (fun f hm c => nm f hm _ (Or.inl c)) nP (fun k _ => s1.2.2 k)
        exact ⟨c1, c2, c3, c4, c5, c6, c7, c8, c9, c10.imp id (fun x => ⟨x.1, mono _ _ x.2⟩), c11⟩
    · unfold HZ; rw [wd'.1, wd'.2, wd.1, wd.2]; exact p1
    · unfold HSl; rw [wd'.1, wd'.2, wd.1, wd.2]; exact p2
    · simp only [List.length_append, List.length_cons, List.length_nil, tot]
      rw [tot_app _ (Nat.le_refl _), app_getD1 (Nat.le_refl _), if_pos rfl]
      omega
end
