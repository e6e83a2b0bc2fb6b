/-! T looks at rows; the front of a look -/
set_option maxRecDepth 20000
def xSIZE : List Int := [115, 105, 122, 101]
def xSUB : List Int := [115, 117, 98]
def xPUSH : List Int := [112, 117, 115, 104]
def xPOP : List Int := [112, 111, 112]
/-- how a look at a list or text comes out: 0, or an error -/
def rkG (κ : Int) (L : List Int) (mn : Nat) (ty : Int) : Int := if κ = 0 then (if L = xSIZE then 0 else 4) else if κ = 5 then (if ty = 6 then (if (L = xPUSH ∧ mn = 1) ∨ (L = xPOP ∧ mn = 0) then 0 else 4) else (if L = xSUB ∧ mn = 2 then 0 else 4)) else if κ = 2 then 0 else if κ = 3 ∧ ty = 6 then 0 else 5
section
variable {ρ : Nat → Nat} {P : ah → Nat → Prop} {d : Nat} {Q : QT} {Γ : GH} {h h0 : ah} {C ho T k n m f i j N M b r a s rr mn sn tn : Nat} {S S' S1 S2 SX : SS} {X : X3} {Y : Y3} {g : HG} {l L bs : List Int} {v p x y nm ty cnt κ u hd w : Int}
theorem s_isNamed (K : TKS ρ h0 T) (sk : SOK h0 r bs) (hb : bs.length ≤ 60) (hs : s < 4000) (en : S f_Md_siteName s = (n : Int)) (nt : NMT S n L) (q1 : L = bs → Q (Sum.inl (some (vI 1))) (cn h0 T S)) (q0 : ¬ L = bs → Q (Sum.inl (some (vI 0))) (cn h0 T S)) : wpB PGm ρ (d + 10) m_Md_isNamed 0 [(0, vR T), (1, vI (s : Int)), (2, vR r)] [] (cn h0 T S) Q := by
  obtain ⟨⟨kT, G, kH⟩, -, hT⟩ := K
  obtain ⟨n1, n2, n3, n4, n5⟩ := nt
  obtain ⟨s1, s2, s3⟩ := cnS (S := S) sk hT tabO
  have b1 : 0 ≤ (s : Int) ∧ (s : Int) < ((4000 : Nat) : Int) := by omega
  have b2 : 0 ≤ (n : Int) ∧ (n : Int) < ((4000 : Nat) : Int) := by omega
  have z30 : ¬ L = bs → ∀ j : Int, wpB PGm ρ (d + 10) m_Md_isNamed 30 [(0, vR T), (2, vR r), (3, vI (n : Int)), (4, vI 0), (5, vI j)] [] (cn h0 T S) Q := fun z j => b_Md_isNamed_30 (by omega) ⟨s1, s1, fun _ => ⟨Or.inl rfl, q0 z⟩, fun _ => ⟨fun _ => ⟨Or.inl rfl, q0 z⟩, fun c => absurd rfl c⟩⟩
  have lp : L.length = bs.length → ∀ mm j, j + mm = bs.length → (∀ i, i < j → L.getD i 0 = bs.getD i 0) → wpB PGm ρ (d + 10) m_Md_isNamed 30 [(0, vR T), (2, vR r), (3, vI (n : Int)), (4, vI 1), (5, vI (j : Int))] [] (cn h0 T S) Q := fun le mm => by
    induction mm with
    | zero =>
      intro j hj hp
      refine b_Md_isNamed_30 (by omega) ⟨s1, s1, fun _ => ⟨Or.inr rfl, q1 (list_ext0 le (fun i hi => hp i (by omega)))⟩, fun z => by rw [s2] at z; omega⟩
    | succ mm ih =>
      intro j hj hp
      have jl : j < bs.length := by omega
      have e1 := n4 j (by omega)
      have e2 := s3 j jl
      have b3 : 0 ≤ ((60 * n + j : Nat) : Int) ∧ ((60 * n + j : Nat) : Int) < ((240000 : Nat) : Int) := by omega
      have b4 : 0 ≤ (j : Int) ∧ (j : Int) < (bs.length : Int) := by omega
      have nf : ¬ (bs.length : Int) ≤ (j : Int) := by omega
      have m1 : (60 * (n : Int)) = ((60 * n : Nat) : Int) := by omega
      have m2 : 60 * n + j ≤ 2000000000 := by omega
      have m4 : -2147483648 ≤ ((60 * n : Nat) : Int) ∧ ((60 * n : Nat) : Int) < 2147483648 := by omega
      have m5 : j ≤ 2000000000 := by omega
      have z1 : L.getD j 0 = bs.getD j 0 → wpB PGm ρ (d + 10) m_Md_isNamed 30 [(0, vR T), (2, vR r), (3, vI (n : Int)), (4, vI 1), (5, vI ((j + 1 : Nat) : Int))] [] (cn h0 T S) Q := fun e => ih (j + 1) (by omega) (fun i hi => by
        by_cases w : i = j
        · rw [w]; exact e
        · exact hp i (by omega))
      have z0 : ¬ L.getD j 0 = bs.getD j 0 → wpB PGm ρ (d + 10) m_Md_isNamed 30 [(0, vR T), (2, vR r), (3, vI (n : Int)), (4, vI 0), (5, vI ((j + 1 : Nat) : Int))] [] (cn h0 T S) Q := fun e => z30 (fun c => e (by rw [c])) _
      have y0 : w32 (60 * (n : Int)) = ((60 * n : Nat) : Int) := by rw [m1]; exact w32_of m4.1 m4.2
      have y1 : w32 (((60 * n : Nat) : Int) + (j : Int)) = ((60 * n + j : Nat) : Int) := w32_aa m2
      have y2 : w32 ((j : Int) + 1) = ((j + 1 : Nat) : Int) := w32_p1 m5
      refine b_Md_isNamed_30 (by omega) ⟨s1, s1, fun z => by rw [s2] at z; exact absurd z nf, fun _ => ⟨fun z => absurd z (by decide), fun _ => ?_⟩⟩
      rw [Int.toNat_natCast, e2]
      have rest : ((¬ L.getD j 0 = bs.getD j 0 → wpB PGm ρ (d + 10) m_Md_isNamed 70 [(0, vR T), (2, vR r), (3, vI (n : Int)), (5, vI (j : Int))] [vI 0] (cn h0 T S) Q) ∧ (L.getD j 0 = bs.getD j 0 → wpB PGm ρ (d + 10) m_Md_isNamed 70 [(0, vR T), (2, vR r), (3, vI (n : Int)), (5, vI (j : Int))] [vI 1] (cn h0 T S) Q)) := ⟨fun z => b_Md_isNamed_70 (by rw [y2]; exact z0 z), fun z => b_Md_isNamed_70 (by rw [y2]; exact z1 z)⟩
      have kr : hK h0 r = 191 := s1
      have lr : hl h0 r = bs.length := s2
      generalize bs.getD j 0 = bv at *
      generalize L.getD j 0 = lv at *
      clear ih z30 z1 z0 s1 s2 s3 e2 q1 q0 hp n4 n5 sk
      simp (decide := true) (disch := first | decide | omega) only [cnI, cnR, cnK, cnl, cnA' G, kT, kr, lr, KN G, LN G, y0, y1, e1, Int.toNat_natCast, true_and, and_true]
      exact ⟨b3, b4, rest⟩
  have zy : L.length = bs.length → wpB PGm ρ (d + 10) m_Md_isNamed 30 [(0, vR T), (2, vR r), (3, vI (n : Int)), (4, vI 1), (5, vI 0)] [] (cn h0 T S) Q := fun e => lp e bs.length 0 (by omega) (fun i hi => absurd hi (by omega))
  have zn : ¬ L.length = bs.length → wpB PGm ρ (d + 10) m_Md_isNamed 30 [(0, vR T), (2, vR r), (3, vI (n : Int)), (4, vI 0), (5, vI 0)] [] (cn h0 T S) Q := fun e => z30 (fun c => e (by rw [c])) 0
  have kr : hK h0 r = 191 := s1
  have lr : hl h0 r = bs.length := s2
  refine b_Md_isNamed_0 (by omega) ?_
  clear lp z30 s1 s2 s3 q1 q0 n4 n5 sk
  simp (decide := true) (disch := first | decide | omega) only [cnI, cnR, cnK, cnl, cnA' G, kT, kr, lr, KN G, LN G, en, n2, Int.toNat_natCast, true_and, and_true, Int.natCast_inj]
  exact ⟨b1, b2, fun z => b_Md_isNamed_25 (zn z), fun z => b_Md_isNamed_25 (zy z)⟩
theorem s_lrow (K : TKS ρ h0 T) (hs : s < 4000) (hκ : 0 ≤ κ ∧ κ ≤ 6) (en : κ = 0 ∨ κ = 5 → ∃ n : Nat, S f_Md_siteName s = (n : Int) ∧ NMT S n L) (em : S f_Md_siteMany s = (mn : Int)) (ty1 : S f_Md_goesType 0 = ty) (hty : ty = 3 ∨ ty = 6) (q1 : rkG κ L mn ty = 0 → Q (Sum.inl none) (cn h0 T (u2 S f_Md_foundGuard 0 (if ty = 6 then 0 else 1)))) (q0 : ¬ rkG κ L mn ty = 0 → Q (Sum.inr (hR h0 f_Md_halt T)) (cn h0 T (erS (u2 S f_Md_foundGuard 0 (if ty = 6 then 0 else 1)) (rkG κ L mn ty)))) : wpB PGm ρ (d + 12) m_Md_looksAtRow 0 [(0, vR T), (1, vI (s : Int)), (2, vI κ)] [] (cn h0 T S) Q := by
  have O := K.1
  have kT := O.1
  have G := O.2.1
  have b1 : 0 ≤ (s : Int) ∧ (s : Int) < ((4000 : Nat) : Int) := by omega
  generalize eg : (if ty = 6 then (0 : Int) else 1) = gv at *
  have f0 : OFF [f_Md_foundGuard] S (u2 S f_Md_foundGuard 0 gv) := OFF.rf.u (by decide)
  have em1 : u2 S f_Md_foundGuard 0 gv f_Md_siteMany s = (mn : Int) := by rw [u2_f (by decide)]; exact em
  have en1 : κ = 0 ∨ κ = 5 → ∃ n : Nat, u2 S f_Md_foundGuard 0 gv f_Md_siteName s = (n : Int) ∧ NMT (u2 S f_Md_foundGuard 0 gv) n L := fun z => by
    obtain ⟨n, e1, e2⟩ := en z
    exact ⟨n, by rw [u2_f (by decide)]; exact e1, e2.ex (f0.ex (by decide))⟩
  -- the ends
  have t1 : rkG κ L mn ty = 0 → wpB PGm ρ (d + 12) m_Md_looksAtRow 167 [(0, vR T), (4, vI 1)] [] (cn h0 T (u2 S f_Md_foundGuard 0 gv)) Q := fun z => b_Md_looksAtRow_167 ⟨fun _ => q1 z, fun c => absurd c (by decide)⟩
  have t5 : rkG κ L mn ty = 5 → wpB PGm ρ (d + 12) m_Md_looksAtRow 167 [(0, vR T), (4, vI 0)] [] (cn h0 T (u2 S f_Md_foundGuard 0 gv)) Q := fun z => b_Md_looksAtRow_167 ⟨fun c => absurd rfl c, fun _ => ⟨kT, s_error (d := d + 10) O ⟨O.kh, by have := q0 (by rw [z]; decide); rw [z] at this; exact this⟩⟩⟩
  have x1 : rkG κ L mn ty = 0 → wpB PGm ρ (d + 12) m_Md_looksAtRow 152 [(0, vR T)] [vI 1] (cn h0 T (u2 S f_Md_foundGuard 0 gv)) Q := fun z => b_Md_looksAtRow_152 ⟨fun _ => t1 z, fun c => absurd c (by decide)⟩
  have x0 : rkG κ L mn ty = 4 → wpB PGm ρ (d + 12) m_Md_looksAtRow 152 [(0, vR T)] [vI 0] (cn h0 T (u2 S f_Md_foundGuard 0 gv)) Q := fun z => b_Md_looksAtRow_152 ⟨fun c => absurd rfl c, fun _ => ⟨kT, s_error (d := d + 10) O ⟨O.kh, by have := q0 (by rw [z]; decide); rw [z] at this; exact this⟩⟩⟩
  have h8 : ∀ (a b : wpB PGm ρ (d + 12) m_Md_looksAtRow 152 [(0, vR T)] [vI 0] (cn h0 T (u2 S f_Md_foundGuard 0 gv)) Q → True), True := fun _ _ => trivial
  have g58 : κ = 0 ∨ κ = 5 → wpB PGm ρ (d + 12) m_Md_looksAtRow 58 [(0, vR T), (1, vI (s : Int)), (2, vI κ), (3, vI (if ty = 6 then 1 else 0))] [] (cn h0 T (u2 S f_Md_foundGuard 0 gv)) Q := fun z => by
    obtain ⟨n, e1, nt⟩ := en1 z
    have kk : hK (cn h0 T (u2 S f_Md_foundGuard 0 gv)) T = k_Md := kT
    refine b_Md_looksAtRow_58 ⟨fun k0 => ⟨fun l0 => ⟨kT, s_isNamed (d := d + 1) K (K.2.1 (27, xSUB) (by decide)) (by decide) hs e1 nt (fun eL => ⟨fun c => absurd c (by decide), fun _ => ⟨kT, ?_⟩⟩) (fun eL => ⟨fun _ => x0 ?_, fun c => absurd rfl c⟩)⟩, fun l0 => ⟨kT, s_isNamed (d := d + 1) K (K.2.1 (28, xPUSH) (by decide)) (by decide) hs e1 nt (fun eL => ⟨fun c => absurd c (by decide), fun _ => ⟨kT, ?_⟩⟩) (fun eL => ⟨fun _ => ?_, fun c => absurd rfl c⟩)⟩⟩, fun k0 => ⟨kT, s_isNamed (d := d + 1) K (K.2.1 (26, xSIZE) (by decide)) (by decide) hs e1 nt (fun eL => x1 (by unfold rkG; rw [if_pos k0, if_pos eL])) (fun eL => x0 (by unfold rkG; rw [if_pos k0, if_neg eL]))⟩⟩
    · have k5 : κ = 5 := by omega
      have t6 : ¬ ty = 6 := fun c => by rw [if_pos c] at l0; exact absurd l0 (by decide)
      have y1 : mn = 2 → wpB PGm ρ (d + 12) m_Md_looksAtRow 152 [(0, vR T)] [vI 1] (cn h0 T (u2 S f_Md_foundGuard 0 gv)) Q := fun c => x1 (by unfold rkG; rw [if_neg k0, if_pos k5, if_neg t6, if_pos ⟨eL, c⟩])
      have y0 : ¬ mn = 2 → wpB PGm ρ (d + 12) m_Md_looksAtRow 152 [(0, vR T)] [vI 0] (cn h0 T (u2 S f_Md_foundGuard 0 gv)) Q := fun c => x0 (by unfold rkG; rw [if_neg k0, if_pos k5, if_neg t6, if_neg (fun z => c z.2)])
      clear t1 t5 x1 x0 q1 q0 en en1 z K nt
      simp (decide := true) (disch := first | decide | omega) only [cnI, cnR, cnK, cnl, cnA' G, kT, KN G, LN G, em1, Int.toNat_natCast, true_and, and_true]
      exact ⟨b1, fun c => y0 (fun z => c (by omega)), fun c => y1 (by omega)⟩
    · have k5 : κ = 5 := by omega
      have t6 : ¬ ty = 6 := fun c => by rw [if_pos c] at l0; exact absurd l0 (by decide)
      unfold rkG; rw [if_neg k0, if_pos k5, if_neg t6, if_neg (fun z => eL z.1)]
    all_goals
      have k5 : κ = 5 := by omega
      have t6 : ty = 6 := by
        by_cases c : ty = 6
        · exact c
        · rw [if_neg c] at l0; exact absurd rfl l0
      have g98 : ¬ (L = xPUSH ∧ mn = 1) → wpB PGm ρ (d + 12) m_Md_looksAtRow 98 [(0, vR T), (1, vI (s : Int))] [] (cn h0 T (u2 S f_Md_foundGuard 0 gv)) Q := fun np => by
        refine b_Md_looksAtRow_98 ⟨kT, s_isNamed (d := d + 1) K (K.2.1 (29, xPOP) (by decide)) (by decide) hs e1 nt (fun eP => ⟨fun c => absurd c (by decide), fun _ => ⟨kT, ?_⟩⟩) (fun eP => ⟨fun _ => x0 ?_, fun c => absurd rfl c⟩)⟩
        · have y1 : mn = 0 → wpB PGm ρ (d + 12) m_Md_looksAtRow 152 [(0, vR T)] [vI 1] (cn h0 T (u2 S f_Md_foundGuard 0 gv)) Q := fun c => x1 (by unfold rkG; rw [if_neg k0, if_pos k5, if_pos t6, if_pos (Or.inr ⟨eP, c⟩)])
          have y0 : ¬ mn = 0 → wpB PGm ρ (d + 12) m_Md_looksAtRow 152 [(0, vR T)] [vI 0] (cn h0 T (u2 S f_Md_foundGuard 0 gv)) Q := fun c => x0 (by unfold rkG; rw [if_neg k0, if_pos k5, if_pos t6, if_neg (fun z => z.elim np (fun z => c z.2))])
          clear t1 t5 x1 x0 q1 q0 en en1 z K nt
          simp (decide := true) (disch := first | decide | omega) only [cnI, cnR, cnK, cnl, cnA' G, kT, KN G, LN G, em1, Int.toNat_natCast, true_and, and_true]
          exact ⟨b1, fun c => y0 (fun z => c (by omega)), fun c => y1 (by omega)⟩
        · unfold rkG; rw [if_neg k0, if_pos k5, if_pos t6, if_neg (fun z => z.elim np (fun z => eP z.1))]
    · have y1 : mn = 1 → wpB PGm ρ (d + 12) m_Md_looksAtRow 152 [(0, vR T)] [vI 1] (cn h0 T (u2 S f_Md_foundGuard 0 gv)) Q := fun c => x1 (by unfold rkG; rw [if_neg k0, if_pos k5, if_pos t6, if_pos (Or.inl ⟨eL, c⟩)])
      have y0 : ¬ mn = 1 → wpB PGm ρ (d + 12) m_Md_looksAtRow 98 [(0, vR T), (1, vI (s : Int))] [] (cn h0 T (u2 S f_Md_foundGuard 0 gv)) Q := fun c => g98 (fun z => c z.2)
      clear t1 t5 x1 x0 q1 q0 en en1 z K nt g98
      simp (decide := true) (disch := first | decide | omega) only [cnI, cnR, cnK, cnl, cnA' G, kT, KN G, LN G, em1, Int.toNat_natCast, true_and, and_true]
      exact ⟨b1, fun c => y1 (by omega), fun c => y0 (fun z => c (by omega))⟩
    · exact g98 (fun z => eL z.1)
  have g47 : ∀ s0 : Int, (¬ (κ = 0 ∨ κ = 5) → (s0 = 1 ∧ rkG κ L mn ty = 0) ∨ (s0 = 0 ∧ rkG κ L mn ty = 5)) → wpB PGm ρ (d + 12) m_Md_looksAtRow 47 [(0, vR T), (1, vI (s : Int)), (2, vI κ), (3, vI (if ty = 6 then 1 else 0))] [vI s0] (cn h0 T (u2 S f_Md_foundGuard 0 gv)) Q := fun s0 hz => b_Md_looksAtRow_47 ⟨fun c => g58 (Or.inl c), fun c => ⟨fun c2 => by
    rcases hz (fun z => z.elim c c2) with ⟨rfl, e⟩ | ⟨rfl, e⟩
    · exact t1 e
    · exact t5 e, fun c2 => g58 (Or.inr c2)⟩⟩
  have g25 : wpB PGm ρ (d + 12) m_Md_looksAtRow 25 [(0, vR T), (1, vI (s : Int)), (2, vI κ), (3, vI (if ty = 6 then 1 else 0))] [vI gv, vR T] (cn h0 T S) Q := by
    refine b_Md_looksAtRow_25 ⟨kT, ?_⟩
    show (κ = 2 → wpB PGm ρ (d + 12) m_Md_looksAtRow 47 [(0, vR T), (1, vI (s : Int)), (2, vI κ), (3, vI (if ty = 6 then 1 else 0))] [vI 1] (sI (cn h0 T S) f_Md_foundGuard T gv) Q) ∧ (¬ κ = 2 → (¬ κ = 3 → wpB PGm ρ (d + 12) m_Md_looksAtRow 47 [(0, vR T), (1, vI (s : Int)), (2, vI κ), (3, vI (if ty = 6 then 1 else 0))] [vI 0] (sI (cn h0 T S) f_Md_foundGuard T gv) Q) ∧ (κ = 3 → ((if ty = 6 then (1 : Int) else 0) = 0 → wpB PGm ρ (d + 12) m_Md_looksAtRow 47 [(0, vR T), (1, vI (s : Int)), (2, vI κ), (3, vI (if ty = 6 then 1 else 0))] [vI 0] (sI (cn h0 T S) f_Md_foundGuard T gv) Q) ∧ (¬ (if ty = 6 then (1 : Int) else 0) = 0 → wpB PGm ρ (d + 12) m_Md_looksAtRow 47 [(0, vR T), (1, vI (s : Int)), (2, vI κ), (3, vI (if ty = 6 then 1 else 0))] [vI 1] (sI (cn h0 T S) f_Md_foundGuard T gv) Q)))
    rw [cn_sI (by decide)]
    refine ⟨fun c => g47 1 (fun z => Or.inl ⟨rfl, ?_⟩), fun c => ⟨fun c2 => g47 0 (fun z => Or.inr ⟨rfl, ?_⟩), fun c2 => ⟨fun c3 => g47 0 (fun z => Or.inr ⟨rfl, ?_⟩), fun c3 => g47 1 (fun z => Or.inl ⟨rfl, ?_⟩)⟩⟩⟩
    · unfold rkG; rw [if_neg (by omega), if_neg (by omega), if_pos c]
    · unfold rkG; rw [if_neg (by omega), if_neg (by omega), if_neg c, if_neg (fun z => c2 z.1)]
    · have t6 : ¬ ty = 6 := fun c => by rw [if_pos c] at c3; exact absurd c3 (by decide)
      unfold rkG; rw [if_neg (by omega), if_neg (by omega), if_neg c, if_neg (fun z => t6 z.2)]
    · have t6 : ty = 6 := by
        by_cases c : ty = 6
        · exact c
        · rw [if_neg c] at c3; exact absurd rfl c3
      unfold rkG; rw [if_neg (by omega), if_neg (by omega), if_neg c, if_pos ⟨c2, t6⟩]
  refine b_Md_looksAtRow_0 ⟨kT, ?_⟩
  rw [cnI (by decide), ty1]
  refine ⟨fun c => b_Md_looksAtRow_14 ⟨fun _ => ?_, fun z => absurd rfl z⟩, fun c => b_Md_looksAtRow_14 ⟨fun z => absurd z (by decide), fun _ => ?_⟩⟩
  · rw [if_neg c] at g25 eg; rw [← eg] at g25; exact g25
  · rw [if_pos c] at g25 eg; rw [← eg] at g25; exact g25
/-- the front of a look -/
theorem s_look0 (O : TOK h0 T) (hs : s < 4000) (ek : S f_Md_siteKind s = κ) (ty1 : S f_Md_goesType 0 = ty) (hty : 0 ≤ ty ∧ ty ≤ 8) (hc : cnt = 0 ∨ cnt = 1) (q3 : ty < 3 → Q (Sum.inr (hR h0 f_Md_halt T)) (cn h0 T (erS (lk0 S) 3))) (q : 3 ≤ ty → wpB PGm ρ (d + 2) m_Md_looks 103 [(0, vR T), (1, vI (s : Int)), (2, vI cnt), (3, vI κ)] [] (cn h0 T (lk1 S (lkL ty) cnt)) Q) : wpB PGm ρ (d + 2) m_Md_looks 0 [(0, vR T), (1, vI (s : Int)), (2, vI cnt)] [] (cn h0 T S) Q := by
  have kT := O.1
  have G := O.2.1
  have b1 : 0 ≤ (s : Int) ∧ (s : Int) < ((4000 : Nat) : Int) := by omega
  have ty0 : lk0 S f_Md_goesType 0 = ty := by unfold lk0; rw [u2_f (by decide), u2_f (by decide), u2_f (by decide), u2_f (by decide)]; exact ty1
  have ask0 : ∀ i, lk0 S f_Md_asked i = S f_Md_asked i := fun i => by unfold lk0; rw [u2_f (by decide), u2_f (by decide), u2_f (by decide), u2_f (by decide)]
  have g83 : 3 ≤ ty → ∀ Lk : Int, Lk = lkL ty → wpB PGm ρ (d + 2) m_Md_looks 83 [(0, vR T), (1, vI (s : Int)), (2, vI cnt), (3, vI κ)] [vI Lk, vR T] (cn h0 T (lk0 S)) Q := fun z Lk hL => by
    have lr : 0 ≤ Lk ∧ Lk < ((4 : Nat) : Int) := by
      rw [hL]; unfold lkL
      split
      · omega
      · split
        · omega
        · split <;> omega
    have qq := q z
    rw [← hL] at qq
    unfold lk1 at qq
    have a1 := ask0 Lk.toNat
    refine b_Md_looks_83 ?_
    rcases hc with rfl | rfl
    · rw [if_pos rfl] at qq
      clear q q3 ask0
      simp (decide := true) (disch := first | decide | omega) only [cnI, cnR, cnK, cnl, cnA' G, cn_sI, kT, KN G, LN G, true_and, and_true, false_implies, forall_const, not_true_eq_false]
      exact qq
    · rw [if_neg (by decide)] at qq
      clear q q3 ask0
      simp (decide := true) (disch := first | decide | omega) only [cnI, cnR, cnK, cnl, cnA' G, cn_sI, cn_sA' G, kT, KN G, LN G, u2_s, u2_f, a1, true_and, and_true, false_implies, forall_const]
      exact ⟨lr, lr, qq⟩
  have g40 : 3 ≤ ty → wpB PGm ρ (d + 2) m_Md_looks 40 [(0, vR T), (1, vI (s : Int)), (2, vI cnt), (3, vI κ)] [] (cn h0 T (lk0 S)) Q := fun z => by
    refine b_Md_looks_40 ⟨kT, ?_⟩
    rw [cnI (by decide), ty0]
    refine s_hasShape (fun c => ⟨fun e => absurd e (by decide), fun _ => g83 z 0 (by unfold lkL; rw [if_pos c])⟩) (fun c => ⟨fun _ => ⟨kT, ?_⟩, fun e => absurd rfl e⟩)
    rw [cnI (by decide), ty0]
    exact ⟨fun e => ⟨fun e2 => g83 z 3 (by unfold lkL; rw [if_neg c, if_neg e, if_neg e2]), fun e2 => g83 z 2 (by unfold lkL; rw [if_neg c, if_neg e, if_pos e2])⟩, fun e => g83 z 1 (by unfold lkL; rw [if_neg c, if_pos e])⟩
  have e3 : ty < 3 → wpB PGm ρ (d + 1) m_Md_error 0 [(0, vR T), (1, vI 3)] [] (cn h0 T (lk0 S)) (cV (fun h14 => wpB PGm ρ (d + 2) m_Md_looks 40 [(0, vR T), (1, vI (s : Int)), (2, vI cnt), (3, vI κ)] [] h14 Q) (fun e17 h16 => hK h16 e17 ≠ 0 ∧ Q (Sum.inr e17) h16)) := fun z => s_error O ⟨O.kh, q3 z⟩
  unfold lk0 at g40 e3 ty0
  refine b_Md_looks_0 (d := d + 1) ?_
  clear q q3 g83 ask0
  simp (decide := true) (disch := first | decide | omega) only [cnI, cnR, cnK, cnl, cnA' G, cn_sI, kT, KN G, LN G, u2_f, ek, ty1, Int.toNat_natCast, true_and, and_true]
  exact ⟨b1, g40, e3⟩
end
