/-! T: one class above, and the next token -/
set_option maxRecDepth 20000
theorem nd_len : ∀ {n : Nat} {l : List Int}, l.Nodup → (∀ x, x ∈ l → 0 ≤ x ∧ x < (n : Int)) → l.length ≤ n
  | 0, l, _, hb => by
    match l, hb with
    | [], _ => exact Nat.le_refl _
    | x :: r, hb => have := hb x List.mem_cons_self; omega
  | n + 1, l, hn, hb => by
    by_cases c : (n : Int) ∈ l
    · have h1 := nd_len (n := n) (l := l.erase (n : Int)) (hn.erase _) (fun x hx => by
        have h2 := (hn.mem_erase_iff).mp hx
        have := hb x h2.2
        have := h2.1
        omega)
      rw [List.length_erase_of_mem c] at h1
      omega
    · have h1 := nd_len (n := n) hn (fun x hx => by
        have := hb x hx
        have : x ≠ (n : Int) := fun e => c (by rw [← e]; exact hx)
        omega)
      omega
def supOK (g : HG) (n : Nat) : Prop := (g.2 1 n).Nodup ∧ ∀ x, x ∈ g.2 1 n → 0 ≤ x ∧ x < (n : Int)
theorem supOK.lt {g : HG} {n s : Nat} (H : supOK g n) (hs : s < n) (ht : ¬ twice g n s) : (g.2 1 n).length < n := by
  have : ((s : Int) :: g.2 1 n).length ≤ n := nd_len (List.nodup_cons.mpr ⟨fun c => ht (Or.inl c), H.1⟩) (fun x hx => by
    rcases List.mem_cons.mp hx with e | e
    · omega
    · exact H.2 x e)
  simp only [List.length_cons] at this
  omega
theorem supOK.sup {g : HG} {n s : Nat} (H : supOK g n) (hs : s < n) (ht : ¬ twice g n s) : supOK (gSup g n s) n := by
  have l2 : (gSup g n s).2 1 n = g.2 1 n ++ [(s : Int)] := by
    show u2 g.2 1 n _ 1 n = _
    rw [u2_e, if_pos ⟨rfl, rfl⟩]
  unfold supOK
  rw [l2]
  refine ⟨List.nodup_append.mpr ⟨H.1, by simp, fun a ha b hb e => ht (Or.inl (by simp at hb; rw [← hb, ← e]; exact ha))⟩, fun x hx => ?_⟩
  rcases List.mem_append.mp hx with c | c
  · exact H.2 x c
  · simp at c; omega
theorem mem_gD {l : List Int} {v : Int} : v ∈ l ↔ ∃ k, k < l.length ∧ l.getD k 0 = v := by
  constructor
  · intro x
    obtain ⟨k, hk, e⟩ := List.getElem_of_mem x
    exact ⟨k, hk, by simp [List.getD, List.getElem?_eq_getElem hk, e]⟩
  · rintro ⟨k, hk, e⟩
    rw [← e]
    simp [List.getD, List.getElem?_eq_getElem hk]
section
variable {ρ : Nat → Nat} {d : Nat} {h h' : ah} {F : Int → ah → Prop} {G : ah → Prop} {E : Nat → ah → Prop} {Q : QT} {T k : Nat} {tp : List Int} {t t' t1 : TKN} {S : Nat → Nat → Int} {g : HG} {n m N : Nat}
theorem HGS.le {g : HG} {N n m : Nat} {tp : List Int} {S : Nat → Nat → Int} (H : HGS g N m tp S) (h : n ≤ N) : HGS g n m tp S := fun i hi => H i (by omega)
theorem o64or {S : Nat → Nat → Int} {n s : Nat} : o64 (· ||| ·) (S f_MdHost_all n) (S f_MdHost_all s) = o64 (fun x1 x2 => x1 ||| x2) (S f_MdHost_all n) (S f_MdHost_all s) := rfl
theorem t_sup (H : TQ ρ h T k tp S n m t1) (hg : HGS g (n + 1) m tp S) (ho : supOK g n) (hn9 : n < 60)
    (q1 : ∀ s, t1.2.1 = 1 → s < n → g.2 0 s = tkB tp t1 → ¬ twice g n s → ∃ t2, nxT tp 1 t1 t2 ∧ ∀ h', FX LTq (PTq k) h h' → TQ ρ h' T k tp (sSup S g n s) n m t2 → Q (Sum.inl none) h')
    (qf : ∀ (why : Int) h', ((¬ t1.2.1 = 1 ∧ why = 1) ∨ (t1.2.1 = 1 ∧ (∀ i, i < n → g.2 0 i ≠ tkB tp t1) ∧ why = 3) ∨ (t1.2.1 = 1 ∧ ∃ s, s < n ∧ g.2 0 s = tkB tp t1 ∧ twice g n s ∧ why = 4)) → HF T h h' why (t1.1 : Int) → Q (Sum.inr (hR h f_Md_halt T)) h') : wpB PGm ρ (d + 4) m_Md_readsSuper 0 [(0, vR T), (1, vI (n : Int))] [] h Q := by
  have hn60 := H.2.2.2.2.2.2.1
  obtain ⟨a1, a2, a3, a4, a5, a6, a7, a8, a9, -⟩ := id H
  have c1 := a9.1.1
  have k1 := TKC_1 a9.2.2.2.1.2.2.1
  have kfr := a9.2.2.2.1.1
  have hh := a9.2.2.2.2.2.2.2.1
  have hlt := a9.2.2.2.2.2.2.2.2.1
  have hk : ∀ {why : Int} {h'}, HF T h h' why (hI h f_Md_from T) → hK h' (hR h f_Md_halt T) ≠ 0 := fun a => by rw [a.1.K hlt, hh]; decide
  refine b_Md_readsSuper_0 ⟨c1, fun z => b_Md_readsSuper_14 ⟨c1, t_must c1 hh (fun y => absurd rfl y) (fun _ h' a => ⟨hk a, qf 1 h' (Or.inl ⟨fun c => z (k1.mpr c), rfl⟩) (by rw [← kfr]; exact a)⟩)⟩, fun z => b_Md_readsSuper_14 ⟨c1, t_must c1 hh (fun _ => ⟨c1, ?_⟩) (fun y => absurd y (by decide))⟩⟩
  have e1 := k1.mp z
  refine t_classHere H (hg.le (Nat.le_succ n)) (fun s hs _ e2 => ⟨fun y => by omega, fun _ => ?_⟩) (fun no => ⟨fun _ => b_Md_readsSuper_33 ⟨c1, t_must c1 hh (fun y => absurd rfl y) (fun _ h' a => ⟨hk a, qf 3 h' (Or.inr (Or.inl ⟨e1, fun i hi e => no ⟨e1, i, hi, e⟩, rfl⟩)) (by rw [← kfr]; exact a)⟩)⟩, fun y => absurd y (by decide)⟩)
  -- found
  obtain ⟨g1, g2, g3, g4, g5, g6, g7, g8, g9, g10, -, g12⟩ := hg n (Nat.lt_succ_self n)
  obtain ⟨s1, s2, -⟩ := hg s (by omega)
  have iN : (0 : Int) ≤ (n : Int) ∧ (n : Int) < ((60 : Nat) : Int) := by omega
  have iS : (0 : Int) ≤ (s : Int) ∧ (s : Int) < ((60 : Nat) : Int) := by omega
  have go : ∀ b : Int, (b = 0 ∨ b = 1) → (b = 1 ↔ (g.1 1 s = 0 ∧ (¬ g.1 1 n = 0 ∨ 0 ≤ g.1 2 n))) → wpB PGm ρ (d + 4) m_Md_readsSuper 78 [(0, vR T), (1, vI (n : Int)), (2, vI (s : Int))] [vI b] h Q := by
    intro b hb hiff
    refine b_Md_readsSuper_78 ?_
    have lp : ∀ mm j v, (g.2 1 n).length - j < mm → j ≤ (g.2 1 n).length → (v = 0 ∨ v = 1) → (v = 1 ↔ (b = 1 ∨ ∃ i, i < j ∧ (g.2 1 n).getD i 0 = (s : Int))) → wpB PGm ρ (d + 4) m_Md_readsSuper 82 [(0, vR T), (1, vI (n : Int)), (2, vI (s : Int)), (3, vI v), (4, vI (j : Int))] [] h Q := by
      intro mm
      induction mm with
      | zero => intro j v hm; omega
      | succ mm ih =>
        intro j v hm hj hv hvi
        have j9 : j ≤ 2000000000 := by clear hvi hiff; omega
        have x1 : j < (g.2 1 n).length → (g.2 1 n).length - (j + 1) < mm := by clear hvi hiff; omega
        have nxt : ∀ w : Int, (w = 0 ∨ w = 1) → (w = 1 ↔ (b = 1 ∨ ∃ i, i < j + 1 ∧ (g.2 1 n).getD i 0 = (s : Int))) → j < (g.2 1 n).length → wpB PGm ρ (d + 4) m_Md_readsSuper 124 [(0, vR T), (1, vI (n : Int)), (2, vI (s : Int)), (4, vI (j : Int))] [vI w] h Q := fun w hw hwi hj2 => by
          refine b_Md_readsSuper_124 ?_
          rw [w32_s j9]
          exact ih (j + 1) w (x1 hj2) hj2 hw hwi
        have ez : hA h (hR h f_MdHost_supers k) n = ((g.2 1 n).length : Int) := (a4.g rfl n).trans g6
        refine b_Md_readsSuper_82 ⟨c1, by rw [a3]; exact a2, ?_⟩
        rw [a3, Int.toNat_natCast, ez]
        refine ⟨a1.ri rfl iN, fun z => ?_, fun z => ?_⟩
        · have ej : j = (g.2 1 n).length := by clear hvi hiff; omega
          subst ej
          have tw : v = 1 ↔ twice g n s := by
            rw [hvi, hiff]
            unfold twice
            rw [mem_gD]
            exact Or.comm
          refine ⟨fun y => b_Md_readsSuper_141 ⟨c1, t_must c1 hh (fun y => absurd rfl y) (fun _ h' a => ⟨hk a, qf 4 h' (Or.inr (Or.inr ⟨e1, s, hs, e2, tw.mp (hv.resolve_left y), rfl⟩)) (by rw [← kfr]; exact a)⟩)⟩, fun y => b_Md_readsSuper_141 ⟨c1, t_must c1 hh (fun _ => ⟨c1, by rw [a3]; exact a2, ?_⟩) (fun y => absurd y (by decide))⟩⟩
          have nt : ¬ twice g n s := fun c => absurd (tw.mpr c) (by rw [y]; decide)
          have ll := ho.lt hs nt
          clear hvi hiff tw
          obtain ⟨t2, n2, q2⟩ := q1 s e1 hs e2 nt
          have w60 : w32 (w32 (60 * (n : Int)) + ((g.2 1 n).length : Int)) = ((60 * n + (g.2 1 n).length : Nat) : Int) := w32_60 (by omega) (by omega)
          have i36 : (0 : Int) ≤ ((60 * n + (g.2 1 n).length : Nat) : Int) ∧ ((60 * n + (g.2 1 n).length : Nat) : Int) < ((3600 : Nat) : Int) := by clear w60; omega
          have l9 : (g.2 1 n).length ≤ 2000000000 := by clear w60; omega
          rw [a3, Int.toNat_natCast, ez, w60, Int.toNat_natCast]
          clear w60
          refine ⟨a1.ri rfl iN, a1.wi rfl i36, ?_⟩
          intro h12
          have Q12 : TQ ρ h12 T k tp (u2 S f_MdHost_superOf (60 * n + (g.2 1 n).length) (s : Int)) n m t1 := H.w rfl (H.ne rfl (by decide)).1 (H.ne rfl (by decide)).2.1
          have F12 : FX LTq (PTq k) h h12 := FX.r.wH a1.1 rfl rfl (H.ne rfl (by decide)).2.2
          have r12 : ∀ f, hR h12 f k = hR h f k := fun _ => rfl
          have ez2 : hA h12 (hR h12 f_MdHost_supers k) n = ((g.2 1 n).length : Int) := (Q12.2.2.2.1.g rfl n).trans (by rw [u2_e, if_neg (fun c => absurd c.1 (by decide))]; exact g6)
          rw [show hR h12 f_Md_making T = k from a3, ez2, w32_s l9]
          refine ⟨a2, a1.ri rfl iN, a1.wi rfl iN, ?_⟩
          intro h15
          have Q15 := Q12.w (f := f_MdHost_supers) (i := n) (v := (((g.2 1 n).length + 1 : Nat) : Int)) rfl (Q12.ne rfl (by decide)).1 (Q12.ne rfl (by decide)).2.1
          have F15 : FX LTq (PTq k) h h15 := F12.wH a1.1 rfl rfl (H.ne (f := f_MdHost_supers) rfl (by decide)).2.2
          have z1 : hA h15 (hR h15 f_MdHost_all k) n = S f_MdHost_all n := (Q15.2.2.2.1.g rfl n).trans (by rw [u2_e, if_neg (fun c => absurd c.1 (by decide)), u2_e, if_neg (fun c => absurd c.1 (by decide))])
          have z2 : hA h15 (hR h15 f_MdHost_all k) s = S f_MdHost_all s := (Q15.2.2.2.1.g rfl s).trans (by rw [u2_e, if_neg (fun c => absurd c.1 (by decide)), u2_e, if_neg (fun c => absurd c.1 (by decide))])
          rw [show hR h15 f_Md_making T = k from a3, Int.toNat_natCast, z1, z2]
          have rl : ∀ {i : Int}, 0 ≤ i ∧ i < ((60 : Nat) : Int) → hK h (hR h f_MdHost_all k) ∈ [2] ∧ 0 ≤ i ∧ i < (hl h (hR h f_MdHost_all k) : Int) := fun b => ⟨by rw [(a1.g (f := f_MdHost_all) rfl).2.1]; decide, b.1, by rw [a1.len (f := f_MdHost_all) rfl]; exact b.2⟩
          refine ⟨a2, rl iN, rl iS, a1.wl rfl iN, ?_⟩
          intro h18
          have Q18 := Q15.w (f := f_MdHost_all) (i := n) (v := o64 (· ||| ·) (S f_MdHost_all n) (S f_MdHost_all s)) rfl (Q15.ne rfl (by decide)).1 (Q15.ne rfl (by decide)).2.1
          have F18 : FX LTq (PTq k) h h18 := F15.wH a1.1 rfl rfl (H.ne (f := f_MdHost_all) rfl (by decide)).2.2
          have z3 : hA h18 (hR h18 f_MdHost_isInterface k) s = g.1 1 s := (Q18.2.2.2.1.g rfl s).trans (by rw [u2_e, if_neg (fun c => absurd c.1 (by decide)), u2_e, if_neg (fun c => absurd c.1 (by decide)), u2_e, if_neg (fun c => absurd c.1 (by decide))]; exact s1)
          rw [show hR h18 f_Md_making T = k from a3, z3]
          have fin : ∀ h9, FX LTq (PTq k) h h9 → TQ ρ h9 T k tp (sSup S g n s) n m t1 → wpB PGm ρ (d + 4) m_Md_readsSuper 224 [(0, vR T)] [] h9 Q := fun h9 F9 Q9 => b_Md_readsSuper_224 ⟨Q9.2.2.2.2.2.2.2.2.1.1.1, t_hnx Q9 (by rw [e1]; decide) n2 (fun h10 F10 Q10 => q2 h10 (F9.into ⟨_, _, F10⟩ (fun f hm => by simp [LTq, hm]) (fun q c => by cases c)) Q10)⟩
          refine ⟨a2, a1.rt rfl iS, fun y => fin h18 F18 ?_, fun y => ⟨a1.wi rfl iN, fin _ (F18.wH a1.1 rfl rfl (H.ne (f := f_MdHost_above) rfl (by decide)).2.2) ?_⟩⟩
          · have : sSup S g n s = u2 (u2 (u2 S f_MdHost_superOf (60 * n + (g.2 1 n).length) (s : Int)) f_MdHost_supers n (((g.2 1 n).length + 1 : Nat) : Int)) f_MdHost_all n (o64 (· ||| ·) (S f_MdHost_all n) (S f_MdHost_all s)) := by
              unfold sSup; rw [if_neg y]
            rw [this]; exact Q18
          · have := Q18.w (f := f_MdHost_above) (i := n) (v := (s : Int)) rfl (Q18.ne rfl (by decide)).1 (Q18.ne rfl (by decide)).2.1
            have e : sSup S g n s = u2 (u2 (u2 (u2 S f_MdHost_superOf (60 * n + (g.2 1 n).length) (s : Int)) f_MdHost_supers n (((g.2 1 n).length + 1 : Nat) : Int)) f_MdHost_all n (o64 (· ||| ·) (S f_MdHost_all n) (S f_MdHost_all s))) f_MdHost_above n (s : Int) := by
              unfold sSup; rw [if_pos y]
            rw [e]; exact this
        · have hj2 : j < (g.2 1 n).length := by clear hvi hiff; omega
          refine ⟨fun y => nxt 1 (Or.inr rfl) ⟨fun _ => ?_, fun _ => rfl⟩ hj2, fun y => ?_⟩
          · rcases hvi.mp (hv.resolve_left y) with c | ⟨i, hi, e⟩
            · exact Or.inl c
            · exact Or.inr ⟨i, Nat.lt_succ_of_lt hi, e⟩
          · have nv : ¬ (b = 1 ∨ ∃ i, i < j ∧ (g.2 1 n).getD i 0 = (s : Int)) := fun c => absurd (hvi.mpr c) (by rw [y]; decide)
            have i36 : (0 : Int) ≤ ((60 * n + j : Nat) : Int) ∧ ((60 * n + j : Nat) : Int) < ((3600 : Nat) : Int) := by clear hvi hiff nv; omega
            have e8 : hA h (hR h f_MdHost_superOf k) (60 * n + j) = (g.2 1 n).getD j 0 := (a4.g rfl _).trans (g8 j hj2)
            have b60 : n ≤ 4000 ∧ j ≤ 60 := by clear hvi hiff nv; omega
            rw [w32_60 b60.1 b60.2, Int.toNat_natCast, e8]
            refine ⟨a1.ri rfl i36, fun ne => nxt 0 (Or.inl rfl) ⟨fun c => absurd c (by decide), fun c => ?_⟩ hj2, fun e => nxt 1 (Or.inr rfl) ⟨fun _ => Or.inr ⟨j, Nat.lt_succ_self _, e⟩, fun _ => rfl⟩ hj2⟩
            rcases c with c | ⟨i, hi, e⟩
            · exact absurd (Or.inl c) nv
            · by_cases c2 : i = j
              · rw [c2] at e; exact absurd e ne
              · exact absurd (Or.inr ⟨i, (by clear hvi hiff nv; omega), e⟩) nv
    exact lp _ 0 b (Nat.lt_succ_self _) (Nat.zero_le _) hb ⟨fun c => Or.inl c, fun c => c.elim id (fun ⟨i, hi, _⟩ => absurd hi (Nat.not_lt_zero _))⟩
  refine b_Md_readsSuper_33 ⟨c1, t_must c1 hh (fun _ => ⟨c1, by rw [a3]; exact a2, ?_⟩) (fun y => absurd y (by decide))⟩
  have v1 : hA h (hR h f_MdHost_isInterface k) s = g.1 1 s := (a4.g rfl s).trans s1
  have v2 : hA h (hR h f_MdHost_isInterface k) n = g.1 1 n := (a4.g rfl n).trans g1
  have v3 : hA h (hR h f_MdHost_above k) n = g.1 2 n := (a4.g rfl n).trans g3
  rw [a3, Int.toNat_natCast, Int.toNat_natCast, v1, v2, v3]
  refine ⟨a1.rt rfl iS, fun y => go 0 (Or.inl rfl) ⟨fun c => absurd c (by decide), fun c => absurd c.1 y⟩, fun y => ⟨a1.rt rfl iN, fun x => go 1 (Or.inr rfl) ⟨fun _ => ⟨y, Or.inl x⟩, fun _ => rfl⟩, fun x => ⟨a1.ri rfl iN, fun w => go 0 (Or.inl rfl) ⟨fun c => absurd c (by decide), fun c => c.2.elim (fun q => absurd x q) (fun q => by omega)⟩, fun w => go 1 (Or.inr rfl) ⟨fun _ => ⟨y, Or.inr w⟩, fun _ => rfl⟩⟩⟩⟩
end
