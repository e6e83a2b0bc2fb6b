/-! T reads a member -/
set_option maxRecDepth 20000
section
variable {ρ : Nat → Nat} {d : Nat} {h h' h0 k0 : ah} {F : Int → ah → Prop} {G : ah → Prop} {E : Nat → ah → Prop} {Q : QT} {C T ho a k : Nat} {tp : List Int} {t t' t1 t2 : TKN} {g g' : HG} {n m N c : Nat} {ws : List (List Int)} {S S0 : Nat → Nat → Int} {b so st ty va : Int} {ps nm : List Int}
theorem t_halt {w p : Int} (a1 : hK h T = k_Md) (a2 : hK h (hR h f_Md_halt T) = k_MdHalt) (q : ∀ h', HF T h h' w p → E (hR h f_Md_halt T) h') : wpB PGm ρ d m_MdHalt_of 0 [(0, vR (hR h f_Md_halt T)), (1, vI w), (2, vI p)] [] h (cR (fun x h' => hK h' x ≠ 0 ∧ E x h') (fun e h' => hK h' e ≠ 0 ∧ E e h')) := by
  refine b_MdHalt_of_0 ⟨a2, ?_⟩
  intro h1 h4
  exact ⟨by rw [show hK h4 (hR h f_Md_halt T) = _ from a2]; decide, q h4 ⟨Fr.wL (by decide) (Fr.wL (by decide) Fr.r0), Eq.trans (I_Ine (by decide)) (I_I _ _ _ _), I_I _ _ _ _⟩⟩
theorem t_field {pl : Nat} (H : TW ρ k0 h T k tp S n m t) (hg : HGS g n m tp S) (mg : MGS g m tp S) (ok : mOK g n c m) (hm4 : m < 400) (hn60 : n ≤ 60) (et : S f_MdHost_type m = ty) (en : mnm tp S m nm) (hd : 10 ≤ d)
    (q1 : ∀ h' S', t.2.1 = 59 → ¬ ty = 0 → ¬ hasF g c m nm → g.1 1 c = 0 → TW ρ k0 h' T k tp S' n m t → S' = u2 (u2 (u2 S f_MdHost_sort m 0) f_MdHost_parameters m 0) f_MdHost_variable m 0 → Q (Sum.inl none) h')
    (q2 : ∀ h' w p, ((¬ (t.2.1 = 59 ∧ ¬ ty = 0) ∧ w = 1 ∧ p = t.1) ∨ (t.2.1 = 59 ∧ ¬ ty = 0 ∧ hasF g c m nm ∧ w = 2 ∧ p = pl) ∨ (t.2.1 = 59 ∧ ¬ ty = 0 ∧ ¬ hasF g c m nm ∧ ¬ g.1 1 c = 0 ∧ w = 6 ∧ p = pl)) → FLq k0 h' T k w p → Q (Sum.inr (T + 1)) h') :
    wpB PGm ρ (d + 5) m_Md_readsField 0 [(0, vR T), (1, vI (c : Int)), (2, vI (m : Int)), (3, vI (pl : Int))] [] h Q := by
  obtain ⟨fo, hc, hm, df, hnr, h10, -⟩ := ok
  obtain ⟨c1, c2, c3, c4, c5, c6, c7⟩ := H.1.kn
  have gm : (0 : Int) ≤ (m : Int) ∧ (m : Int) < ((400 : Nat) : Int) := by omega
  have gc : (0 : Int) ≤ (c : Int) ∧ (c : Int) < ((60 : Nat) : Int) := by omega
  have foc := fo c hc
  have sg : (59 : Int) = sgv 59 := by decide
  have bad : ¬ (t.2.1 = 59 ∧ ¬ ty = 0) → wpB PGm ρ (d + 5) m_Md_readsField 27 [(0, vR T), (1, vI (c : Int)), (2, vI (m : Int)), (3, vI (pl : Int))] [vI 0, vR T] h Q := fun ne => b_Md_readsField_27 ⟨c1, t_mustQ H.1 (fun x => absurd rfl x) (fun _ h' a => by rw [H.2.2.2.1]; exact q2 h' 1 t.1 (Or.inl ⟨ne, rfl, rfl⟩) (H.fl a))⟩
  have ety : hA h (hR h f_MdHost_type k) m = ty := (H.1.2.2.2.1.g rfl m).trans et
  refine b_Md_readsField_0 ⟨c1, ?_⟩
  rw [sg]
  refine t_isSign H.1.2.2.2.2.2.2.2.2.1 (Or.inl (by unfold sgc; decide)) (fun e59 => ⟨fun x => absurd x (by decide), fun _ => ⟨c1, by rw [c6]; exact c7, ?_⟩⟩) (fun ne => ⟨fun _ => bad (fun x => ne x.1), fun x => absurd rfl x⟩)
  rw [c6, Int.toNat_natCast, ety]
  refine ⟨H.1.1.ri rfl gm, fun x => bad (fun y => y.2 x), fun nty => b_Md_readsField_27 ⟨c1, t_mustQ H.1 (fun _ => ⟨c1, by rw [c6]; exact c7, ?_⟩) (fun x => absurd x (by decide))⟩⟩
  rw [c6, Int.toNat_natCast]
  refine ⟨H.1.1.wi rfl gm, ?_⟩
  intro h12
  have H12 : TW ρ k0 h12 T k tp (u2 S f_MdHost_sort m 0) n m t := H.w rfl (by decide)
  rw [show hR h12 f_Md_making T = k from c6]
  refine ⟨c7, H.1.1.wi rfl gm, ?_⟩
  intro h15
  have H15 : TW ρ k0 h15 T k tp (u2 (u2 S f_MdHost_sort m 0) f_MdHost_parameters m 0) n m t := H12.w rfl (by decide)
  rw [show hR h15 f_Md_making T = k from c6]
  refine ⟨c7, H.1.1.wt rfl (Or.inl rfl) gm, ?_⟩
  intro h18
  have H18 : TW ρ k0 h18 T k tp (u2 (u2 (u2 S f_MdHost_sort m 0) f_MdHost_parameters m 0) f_MdHost_variable m 0) n m t := H15.w rfl (by decide)
  generalize eS : u2 (u2 (u2 S f_MdHost_sort m 0) f_MdHost_parameters m 0) f_MdHost_variable m 0 = S1 at *
  have ag : AGR S S1 m := by
    rw [← eS]
    exact ((AGR.r.w (by simp [mfs])).w (by simp [mfs])).w (by simp [mfs])
  have hg1 := ag.hg hg
  have mg1 := ag.mg mg
  have en1 : mnm tp S1 m nm := by
    obtain ⟨x, y, e1, e2, e3⟩ := en
    refine ⟨x, y, ?_, ?_, e3⟩
    · rw [← eS, u2_e, if_neg (fun c => absurd c.1 (by decide)), u2_e, if_neg (fun c => absurd c.1 (by decide)), u2_e, if_neg (fun c => absurd c.1 (by decide))]; exact e1
    · rw [← eS, u2_e, if_neg (fun c => absurd c.1 (by decide)), u2_e, if_neg (fun c => absurd c.1 (by decide)), u2_e, if_neg (fun c => absurd c.1 (by decide))]; exact e2
  have ef : hA h18 (hR h18 f_MdHost_first k) c = g.1 3 c := (H18.1.2.2.2.1.g rfl c).trans (hg1 c hc).2.2.2.2.2.2.2.2.1
  rw [show hR h18 f_Md_making T = k from c6, Int.toNat_natCast, ef]
  refine ⟨c7, H.1.1.ri rfl gc, ?_⟩
  clear_value h18
  obtain ⟨d1, d2, d3, d4, d5, d6, d7⟩ := H18.1.kn
  have eh := H18.2.2.2.1
  have flp : ∀ {w : Int} {h'}, HF T h18 h' w (pl : Int) → FLq k0 h' T k w pl := fun a => HF.fl H18.2.1 eh a
  have lp : ∀ mm j, m - j < mm → (g.1 3 c).toNat ≤ j → j ≤ m → (∀ l, (g.1 3 c).toNat ≤ l → l < j → ¬ (g.1 6 l = 0 ∧ g.2 3 l = nm)) → wpB PGm ρ (d + 5) m_Md_readsField 72 [(0, vR T), (1, vI (c : Int)), (2, vI (m : Int)), (3, vI (pl : Int)), (4, vI (j : Int))] [] h18 Q := by
    intro mm
    induction mm with
    | zero => intro j hm; omega
    | succ mm ih =>
      intro j hmm hj0 hj no
      refine b_Md_readsField_72 ⟨fun z => ⟨d1, by rw [d6]; exact d7, ?_⟩, fun z => ⟨d1, by rw [d6]; exact d7, ?_⟩⟩
      · have nF : ¬ hasF g c m nm := fun ⟨l, l1, l2, l3⟩ => no l l1 (by omega) l3
        have ei : hA h18 (hR h18 f_MdHost_isInterface k) c = g.1 1 c := (H18.1.2.2.2.1.g rfl c).trans (hg1 c hc).1
        rw [d6, Int.toNat_natCast, ei]
        refine ⟨H18.1.1.rt rfl gc, fun x => q1 h18 S1 e59 nty nF x H18 rfl, fun x => ⟨d2, t_halt d1 d2 (fun h' a => ?_)⟩⟩
        rw [eh]
        exact q2 h' 6 pl (Or.inr (Or.inr ⟨e59, nty, nF, x, rfl, rfl⟩)) (flp a)
      · have hj2 : j < m := by omega
        have j9 : j ≤ 2000000000 := by omega
        obtain ⟨m1, m2, m3, m4, m5, m6, m7, m8, m9⟩ := mg1 j hj2
        have gj : (0 : Int) ≤ (j : Int) ∧ (j : Int) < ((400 : Nat) : Int) := by omega
        have ej : hA h18 (hR h18 f_MdHost_sort k) j = g.1 6 j := (H18.1.2.2.2.1.g rfl j).trans m2
        rw [d6, Int.toNat_natCast, ej]
        have nxt : ¬ (g.1 6 j = 0 ∧ g.2 3 j = nm) → wpB PGm ρ (d + 5) m_Md_readsField 72 [(0, vR T), (1, vI (c : Int)), (2, vI (m : Int)), (3, vI (pl : Int)), (4, vI (w32 ((j : Int) + 1)))] [] h18 Q := fun ne => by
          rw [w32_s j9]
          exact ih (j + 1) (by omega) (by omega) (by omega) (fun l l1 l2 => by
            by_cases e : l = j
            · rw [e]; exact ne
            · exact no l l1 (by omega))
        refine ⟨H18.1.1.ri rfl gj, fun x => nxt (fun y => x y.1), fun x => t_same H18.1 (by omega) hm4 m9 en1 (fun e3 => ⟨fun y => absurd y (by decide), fun _ => ⟨d1, d2, t_halt d1 d2 (fun h' a => ?_)⟩⟩) (fun n3 => ⟨fun _ => nxt (fun y => n3 y.2), fun y => absurd rfl y⟩)⟩
        rw [eh]
        exact q2 h' 2 pl (Or.inr (Or.inl ⟨e59, nty, ⟨j, hj0, hj2, x, e3⟩, rfl, rfl⟩)) (flp a)
  have := lp _ (g.1 3 c).toNat (Nat.lt_succ_self _) (Nat.le_refl _) (by omega) (fun l l1 l2 => by omega)
  rw [Int.toNat_of_nonneg foc.1] at this
  exact this
end
