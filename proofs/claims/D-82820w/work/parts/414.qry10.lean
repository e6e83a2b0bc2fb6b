set_option maxRecDepth 20000
section
variable {ρ : Nat → Nat} {d : Nat} {Q K : QT} {Γ Γ' Γ1 Γ2 : GH} {h h' h1 h2 H : ah} {C ho N M z s t o n c r i j k p a T cd fn ck mk vs rk np sn tn : Nat} {g g' : HG} {S S' S1 S2 : SS} {X X' X1 X2 : X3} {Y Y' Y1 Y2 : Y3} {ws ws' hw : List (List Int)} {x y ty v fl l1 l2 l3 l4 kd : Int} {h0 : ah}
/-- T's certificate of steps -/
def TSQ (ρ : Nat → Nat) (P : ah → Nat → Prop) (S : SS) (l1 l2 r : Int) (S' : SS) : Prop := ∀ (d : Nat) (h0 : ah) (T : Nat) (Q : QT), P h0 T → Q (Sum.inl (some (vI r))) (cn h0 T S') → wpB PGm ρ (d + 201) m_Md_steps 0 [(0, vR T), (1, vI l1), (2, vI l2)] [] (cn h0 T S) Q
theorem t_stepsF (OK : TOK h0 T) (ht : t ≤ 1) (hn : 1 ≤ n ∧ n ≤ 1000) (w1 : S f_Md_state t = 1 → wpB PGm ρ (d + 200) m_Md_takesTask 0 [(0, vR T), (1, vI (t : Int))] [] (cn h0 T (thQ S 0)) (cV (fun h30 => wpB PGm ρ (d + 201) m_Md_steps 58 [(0, vR T), (2, vI (n : Int)), (3, vI 0)] [] h30 Q) (fun e33 h32 => hK h32 e33 ≠ 0 ∧ Q (Sum.inr e33) h32))) (w2 : ¬ S f_Md_state t = 1 → Q (Sum.inl (some (vI 0))) (cn h0 T (thQ S 2))) : wpB PGm ρ (d + 201) m_Md_steps 0 [(0, vR T), (1, vI (t : Int)), (2, vI (n : Int))] [] (cn h0 T S) Q := by
  obtain ⟨kT, G, kH⟩ := OK
  have kM : ∀ S : SS, hK (cn h0 T S) T = k_Md := fun S => by rw [cnK]; exact kT
  have bt : 0 ≤ (t : Int) ∧ (t : Int) < ((2 : Nat) : Int) := by omega
  refine b_Md_steps_0 (d := d + 200) (t_inF (fun _ _ => ⟨fun c => absurd c (by decide), fun _ => ?_⟩) (fun c => absurd ⟨by omega, by omega⟩ c))
  refine t_inF (fun _ _ => ⟨fun _ => ⟨kM _, ?_⟩, fun c => absurd c (by decide)⟩) (fun c => absurd ⟨by omega, by omega⟩ c)
  have cs : hA (cn h0 T S) (hR (cn h0 T S) f_Md_state T) t = S f_Md_state t := by
    clear w1 w2
    simp (decide := true) (disch := first | decide | omega) only [cnI, cnIe, cnR, cnK, cnl, cnA' G, cn_sI, cn_sIe, cn_sA' G, kT, kH, KN G, LN G, u2_f, u2_s, w32_aa, w32_ss, w32_p1, w32_m1, Int.toNat_natCast, true_and, and_true, false_and, and_false, or_false, false_or, ne_eq, not_false_eq_true, forall_const, implies_true, not_true_eq_false, false_implies]
  rw [Int.toNat_natCast, cs]
  refine ⟨?_, fun st => ?_, fun st => ?_⟩
  · clear w1 w2
    simp (decide := true) (disch := first | decide | omega) only [cnI, cnIe, cnR, cnK, cnl, cnA' G, cn_sI, cn_sIe, cn_sA' G, kT, kH, KN G, LN G, u2_f, u2_s, w32_aa, w32_ss, w32_p1, w32_m1, Int.toNat_natCast, true_and, and_true, false_and, and_false, or_false, false_or, ne_eq, not_false_eq_true, forall_const, implies_true, not_true_eq_false, false_implies, bt]
  · dsimp only
    rw [cn_tq]
    exact w1 st
  · dsimp only
    rw [cn_tq]
    exact w2 st
/-- steps, by both -/
theorem j_stepsQ (A : ALL ρ Γ h C ho X Y S g N M hw ws) (O : HSF g N M) (LT : LTM h C) (hc : S f_Md_changes 0 - (lyc h ho N : Int) + 3 * (1000 : Int) + 61 ≤ 1000000)
    (q1 : TSQ ρ (PTO ρ g N M) S l1 l2 0 (thQ S 1) → Q (Sum.inr (hz h)) (cc (hn h k_IllegalArgumentException 6 0) C X Y))
    (q2 : TSQ ρ (PTO ρ g N M) S l1 l2 0 (thQ S 2) → Q (Sum.inr (hz h)) (cc (hn h k_IllegalStateException 6 0) C X Y))
    (q0 : ∀ (r : Nat) Γ' S' h' X' Y' ws', r ≤ 1000 → TSQ ρ (PTO ρ g N M) S l1 l2 (r : Int) S' → STW ρ Γ h C ho S g N M hw Γ' h' X' Y' S' ws' (3 * l2) (31 * l2) → S' f_Md_thrown 0 = 0 → l2 ≤ 1000 → Q (Sum.inl (some (vI (r : Int)))) (cc h' C X' Y')) : wpB PGm ρ (d + 202) m_LT_steps 0 [(0, vR C), (1, vI l1), (2, vI l2)] [] (cc h C X Y) Q := by
  obtain ⟨HC, E, MS⟩ := id A
  have G := HC.1.1
  have F := HC.1.2
  have rm : hR (cc h C X Y) f_LT_machine C = C + 32 := by rw [ccRo (by decide)]; exact LT.2.1
  have rf : hR (cc h C X Y) f_Machine_tasks (C + 32) = C + 61 := by rw [ccRo (by decide)]; exact F.2.1.2.2.2.2.2.2.2.2.2.2.1
  have bad : ¬ ((0 ≤ l1 ∧ l1 ≤ 1) ∧ 1 ≤ l2 ∧ l2 ≤ 1000) → wpB PGm ρ (d + 202) m_LT_steps 21 [] [] (cc h C X Y) Q := fun z => by
    have := q1 (fun d' h0 T' Q' PT q' => by
      obtain ⟨kT, G', kH⟩ := PT.1.1
      have b22 : wpB PGm ρ (d' + 201) m_Md_steps 22 [(0, vR T')] [] (cn h0 T' S) Q' := by
        refine b_Md_steps_22 ⟨by rw [cnK]; exact kT, ?_⟩
        rw [cn_tq]
        exact q'
      refine b_Md_steps_0 (d := d' + 200) (t_inF (fun a1 a2 => ⟨fun c => absurd c (by decide), fun _ => ?_⟩) (fun a1 => ⟨fun _ => b22, fun c => absurd rfl c⟩))
      exact t_inF (fun a3 a4 => absurd ⟨⟨a1, a2⟩, a3, a4⟩ z) (fun a3 => ⟨fun c => absurd rfl c, fun _ => b22⟩))
    have kk : hK (cc (hn h k_IllegalArgumentException 6 0) C X Y) (hz h) = k_IllegalArgumentException := by rw [ccK, g_hK_hn, if_pos rfl]
    refine b_LT_steps_21 (by omega) ?_
    dsimp only
    rw [cc_hn G, show hz (cc h C X Y) = hz h from rfl, kk]
    exact ⟨by decide, by decide, this⟩
  clear q1
  refine b_LT_steps_0 (by omega) ⟨fun c => bad (by omega), fun a1 => ⟨fun c => bad (by omega), fun a2 => ⟨fun c => bad (by omega), fun a3 => ⟨fun a4 => ⟨LT.1, ?_⟩, fun c => bad (by omega)⟩⟩⟩⟩
  clear bad
  have ⟨t, et⟩ : ∃ t : Nat, l1 = (t : Int) := ⟨l1.toNat, by omega⟩
  have ⟨n, en⟩ : ∃ n : Nat, l2 = (n : Int) := ⟨l2.toNat, by omega⟩
  subst et en
  have ht : t ≤ 1 := by omega
  obtain ⟨o, hto⟩ := isTO.ex ht
  obtain ⟨-, io⟩ := hto.le
  obtain ⟨n0, c0, r0, K⟩ := A.ct hto
  have i1 : hI (cc h C X Y) f_Task_state (C + o) = S f_Md_state t := by rw [ccIt io (by decide)]; exact K.2.1.1
  rw [rm, rf, Int.toNat_natCast, eTk F G hto, i1]
  have bt : 0 ≤ (t : Int) ∧ (t : Int) < ((2 : Nat) : Int) := by omega
  refine ⟨F.1.1, kTk F ht, (F.t io).1, fun st => ?_, fun st => ?_⟩
  · have ec := K.2.2.2.1.2.1
    have c2 := K.2.2.2.1.2.2
    have o0 : OFF LSb S (tkS (thQ S 0) t c0) := by
      unfold tkS thQ
      exact ((((OFF.rf.u (by decide +kernel)).u (by decide +kernel)).u (by decide +kernel)).u (by decide +kernel)).u (by decide +kernel)
    have o1 : OFF [f_Md_thrown, f_Md_t, f_Md_p0, f_Md_f0, f_Md_top] S (tkS (thQ S 0) t c0) := by
      unfold tkS thQ
      exact ((((OFF.rf.u (by decide)).u (by decide)).u (by decide)).u (by decide)).u (by decide)
    have ta : TAT (tkS (thQ S 0) t c0) t := by
      unfold tkS
      exact ⟨by rw [u2_f (by decide), u2_f (by decide), u2_f (by decide), u2_s], by rw [u2_f (by decide), u2_f (by decide), u2_s], by rw [u2_f (by decide), u2_s], by
        rw [u2_f (by decide), u2_f (by decide), u2_f (by decide), u2_f (by decide)]
        exact u2_s⟩
    have C1 : CORE Γ h C ho X Y (tkS (thQ S 0) t c0) N := HC.fz o1 (by decide +kernel)
    have ST0 := STW.any A C1 OFX.rf OFX.rf o0 E.1.2.2.2.2.2.2.2.1
    refine j_steps (d := d) (n := n) (i := 0) (m := n) O hto (by omega) Γ h X Y (tkS (thQ S 0) t c0) ws ST0.1 ta LT (by omega) (by rw [o1 _ _ (by decide)]; omega) (fun r Γ' S' h' X' Y' ws' hr TS ST th => ?_)
    refine q0 r Γ' S' h' X' Y' ws' (by omega) (fun d' h0 T' Q' PT q' => ?_) ((ST0.tr ST).le (by omega) (by omega)) ?_ a4
    · refine t_stepsF PT.1.1 ht ⟨by omega, by omega⟩ (fun _ => ?_) (fun c => absurd st c)
      refine s_takes (c := c0) PT.1.1 ht (by rw [show thQ S 0 f_Md_frames t = S f_Md_frames t from u2_f (by decide)]; exact ec) c2 ?_
      exact TS d' h0 T' Q' PT q'
    · exact th
  · have kk : hK (cc (hn h k_IllegalStateException 6 0) C X Y) (hz h) = k_IllegalStateException := by rw [ccK, g_hK_hn, if_pos rfl]
    dsimp only
    rw [cc_hn G, show hz (cc h C X Y) = hz h from rfl, kk]
    refine ⟨by decide, by decide, q2 (fun d' h0 T' Q' PT q' => ?_)⟩
    exact t_stepsF PT.1.1 ht ⟨by omega, by omega⟩ (fun c => absurd c st) (fun _ => q')
end
