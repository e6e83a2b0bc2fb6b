set_option maxRecDepth 20000
section
variable {ρ : Nat → Nat} {d : Nat} {Q : QT} {Γ Γ' Γ1 Γ2 : GH} {h h' h1 h2 : ah} {C ho N M z s t o n c r i j k p a T : Nat} {g g' : HG} {S S' S1 S2 : SS} {X X' X1 X2 : X3} {Y Y' Y1 Y2 : Y3} {ws ws' hw : List (List Int)} {x y ty v : Int} {h0 : ah}
def LXa : List Nat := L6 ++ LX0
def LYa : List Nat := L7 ++ f_Machine_t :: LY0
def LSa : List Nat := LTK ++ L5 ++ LS0
def LSb : List Nat := [f_Md_thrown, f_Md_t, f_Md_p0, f_Md_f0] ++ LSa
/-- where tasks change, or what is written down for the while, all else stays -/
theorem EXT.any (E : EXT ρ Γ h C ho X Y S g N M hw ws) (HC : CORE Γ h C ho X Y S N) (x : OFX LXa X X') (y : OFX LYa Y Y') (o : OFF LSb S S') (it : X' 53 f_Found_isText 0 = 0 ∨ X' 53 f_Found_isText 0 = 1) : EXT ρ Γ h C ho X' Y' S' g N M hw ws ∧ GRO Γ Γ h h C S S' ∧ BNA h C ho N S h S' 0 0 := by
  have p0 : ∀ y, (0, y) ∉ ([] : List (Nat × Nat)) := fun y c => by cases c
  have es := fun {K : List Nat} (q : K.all (fun f => !(LSb.elem f)) = true) => o.ex (L' := K) q
  have ex := fun {K : List Nat} (q : K.all (fun f => !(LXa.elem f)) = true) => x.exx (L' := K) q
  have fr : Fr [] [] 0 0 h h := Fr.r0
  have G := HC.1.1
  have F := HC.1.2
  have g1 : GRO Γ Γ h h C S S' := GRO.fr (es (by decide +kernel)) G F fr (by unfold DJ; decide +kernel) p0
  have bd : BND h C S h S' 0 0 := BND.rows (es (by decide +kernel))
  obtain ⟨E0, ⟨NM, SN⟩, SI, EV, LK⟩ := E
  have ij := G.2.1
  have HX := E0.1.1.1
  obtain ⟨U2, ly⟩ := E0.1.1.mvp ij g1 fr HX (by unfold DJ; decide +kernel) p0 (es (by decide +kernel))
  have K : EKP h C ho S N M h S' := EKP.gro HX G g1 bd.2.2.2 fr (by unfold DJ; decide +kernel) p0
  refine ⟨⟨E0.mv U2 E0.1.2 fr p0 bd.2.2.2.1 ⟨by rw [y _ _ _ (by decide)]; exact E0.2.1.1, by rw [y _ _ _ (by decide)]; exact E0.2.1.2⟩ (fun i hi => ?_) (ex (by decide +kernel)) it (es (K := [f_Md_wrong]) (by decide +kernel) _ (by decide) _), ⟨NM.exs (es (by decide +kernel)), SN.ex (es (by decide +kernel))⟩, SI.ext ij F HC.hz57 K fr (by unfold DJ; decide +kernel) p0 (es (by decide +kernel)) (y _ _ _ (by decide)), EV.chg HC.bef bd.2.2.2.1 (es (by decide +kernel)), LK.mv HX ij fr (by unfold DJ; decide +kernel) p0 (es (by decide +kernel)) (ex (by decide +kernel)) (fun b => y _ _ _ (by decide))⟩, g1, BNA.of bd ⟨rfl, rfl⟩ ly⟩
  rw [es (K := [f_Md_asked]) (by decide +kernel) _ (by decide), ex (K := [f_Lookup_asked]) (by decide +kernel) _ (by decide)]
  exact E0.2.2.2.2.2.1 i hi
theorem NSt.off (ns : NSt t S S') : OFF LSa S S' := fun f i hf => ns f i (fun c => by
  have nm : f ∉ LSa := by simpa using hf
  have sub : ∀ {K : List Nat}, K.all (fun f => LSa.elem f) = true → K.elem f = true → False := fun {K} e q => nm (by simpa using List.all_eq_true.mp e f (by simpa using q))
  rcases c with c | c | c | c | c
  · exact sub (K := L1) (by decide +kernel) c.1
  · exact sub (K := L2) (by decide +kernel) c.1
  · exact sub (K := L3) (by decide +kernel) c.1
  · exact sub (K := L4) (by decide +kernel) c.1
  · exact sub (K := L5) (by decide +kernel) c)
theorem NXo.ofx (nx : NXo o X X') : OFX LXa X X' := fun a f i hf => nx a f i (fun c => by
  have nm : f ∉ LXa := by simpa using hf
  rcases c with c | c
  · exact nm (by
      have : L6.all (fun f => LXa.elem f) = true := by decide
      simpa using List.all_eq_true.mp this f (by simpa using c.2))
  · subst c
    exact absurd hf (by decide))
theorem NXo.it (nx : NXo o X X') (ho : isT o) : X' 53 f_Found_isText 0 = X 53 f_Found_isText 0 := nx _ _ _ (fun c => by
  rcases c with c | c
  · exact absurd c.2 (by decide)
  · exact absurd c (by decide))
/-- a value is thrown, whatever the task is at -/
theorem CT.raise2 (H : CT Γ h C X Y S N t o n c r) (G : AC h C) (F : FC h C) (t1 : S f_Md_t 0 = (t : Int)) (t2 : S f_Md_p0 0 = ((2100 * t : Nat) : Int)) (t3 : S f_Md_f0 0 = ((200 * t : Nat) : Int)) (V : VR Γ S N x y ty v) (hv : -128 ≤ x ∧ x ≤ 127) :
    ∃ X' S' n' c' r', CT Γ h C X' Y S' N t o n' c' r' ∧ NSt t S S' ∧ NXo o X X' ∧ (∀ d Q, Q (Sum.inl none) (cc h C X' Y) → wpB PGm ρ (d + 1) m_Task_raise 0 [(0, vR (C + o)), (1, vI x), (2, vL y)] [] (cc h C X Y) Q) ∧ (∀ d h0 T Q, TOK h0 T → Q (Sum.inl none) (cn h0 T S') → wpB PGm ρ (d + 2) m_Md_thrownIs 0 [(0, vR T), (1, vI ty), (2, vL v)] [] (cn h0 T S) Q) := by
  by_cases hc : 1 ≤ c
  · exact H.raise G F hc (fun _ _ _ => rfl) EXS.rf t1 t2 t3 n H.2.2.1.2.1 V
  · have hto := H.1
    have r0 : r = 0 := by
      by_cases q : 0 < r
      · obtain ⟨j, _, _, q2, -⟩ := H.2.2.2.2.2.2.2.2.1 0 q; omega
      · omega
    have ht : t ≤ 1 := by unfold isTO at hto; omega
    have io : isT o := by unfold isTO at hto; unfold isT; omega
    obtain ⟨q1, q2⟩ := H.2.2.2.2.1
    refine ⟨endX X o 3 x y, finS S t 3 ty v, 0, 0, 0, H.finish (fun _ _ _ => rfl) V (Or.inr rfl), ?_, ?_, fun d Q q => r_raise0 G F io (by rw [q1, r0]; rfl) hv q, fun d h0 T Q O q => s_thrown0 (d := d + 1) O t1 ht (by rw [q2, r0]; rfl) q⟩
    · unfold finS
      exact NSt.u (tk1 (by decide)) (NSt.u (tk1 (by decide)) (NSt.u (tk1 (by decide)) (NSt.u (tk1 (by decide)) (NSt.u (tk1 (by decide)) (NSt.u (tk1 (by decide)) NSt.rf)))))
    · intro a f i hf
      unfold endX
      have hn : ∀ g, L6.elem g = true → ¬ (a = o ∧ f = g) := fun g hg c => hf (Or.inl ⟨c.1, by rw [c.2]; exact hg⟩)
      have e := fun g (hg : L6.elem g = true) (Z : X3) (w : Int) => show u3 Z o g 0 w a f i = Z a f i by
        rw [u3_e, if_neg (fun c => hn g hg ⟨c.1, c.2.1⟩)]
      rw [e _ (by decide), e _ (by decide), e _ (by decide), e _ (by decide), e _ (by decide), e _ (by decide)]
/-- a task is stopped -/
theorem CT.stop (H : CT Γ h C X Y S N t o n c r) (hc : 1 ≤ c) : CT Γ h C (u3 X o f_Task_state 0 4) Y (u2 S f_Md_state t 4) N t o n c r := by
  have e : ∀ f i, f ≠ f_Md_state → u2 S f_Md_state t 4 f i = S f i := fun f i hf => u2_f hf
  have x : ∀ a f i, f ≠ f_Task_state → u3 X o f_Task_state 0 4 a f i = X a f i := fun a f i hf => u3_f hf
  have s4 : u2 S f_Md_state t 4 f_Md_state t = 4 := u2_s
  have x4 : u3 X o f_Task_state 0 4 o f_Task_state 0 = 4 := u3_s
  generalize u2 S f_Md_state t 4 = S' at *
  generalize u3 X o f_Task_state 0 4 = X' at *
  obtain ⟨a0, -, a2, a3, a4, a5, a6, a7, a8, -, a10⟩ := H
  refine ⟨a0, ⟨by rw [s4, x4], by rw [s4]; decide, by rw [s4]; decide, fun _ => hc, fun c => absurd (Or.inr s4) c⟩, ?_, ?_, ?_, fun i hi => ?_, fun i hi => ?_, ?_, fun k hk => ?_, fun c => by rw [s4] at c; exact absurd c (by decide), a10⟩
  · rw [x _ _ _ (by decide), e _ _ (by decide)]; exact a2
  · rw [x _ _ _ (by decide), e _ _ (by decide)]; exact a3
  · rw [x _ _ _ (by decide), e _ _ (by decide)]; exact a4
  · have := a5 i hi
    unfold VR VO txO at this ⊢
    simp (disch := decide) only [e, x]
    exact this
  · have := a6 i hi
    unfold FR1 fsS psS bsS qsS ksS VR VO txO at this ⊢
    simp (disch := decide) only [e, x]
    exact this
  · unfold STA fsS psS bsS qsS at a7 ⊢
    simp (disch := decide) only [e]
    exact a7
  · have := a8 k hk
    unfold TR1 fsS bsS qsS at this ⊢
    simp (disch := decide) only [e, x]
    exact this
theorem s_oom {l2 l3 : Int} (O : TOK h0 T) (ht : t ≤ 1) (ee : S f_MdHalt_number 0 = 99) (tt : S f_Md_t 0 = (t : Int)) (q : wpB PGm ρ (d + 1) m_Md_steps 58 [(0, vR T), (2, vI l2), (3, vI (w32 (w32 (l3 + (-1)) + 1)))] [] (cn h0 T (u2 S f_Md_state t 4)) Q) : wpB PGm ρ (d + 1) m_Md_steps 118 [(0, vR T), (2, vI l2), (3, vI l3)] [vR (hR h0 f_Md_halt T)] (cn h0 T S) Q := by
  obtain ⟨kT, G, kH⟩ := O
  refine b_Md_steps_118 ?_
  simp (decide := true) (disch := first | decide | omega) only [cnI, cnIe, cnR, cnK, cnl, cnA' G, cn_sI, cn_sIe, cn_sA' G, kT, kH, KN G, LN G, u2_f, u2_s, w32_aa, w32_ss, w32_p1, w32_m1, Int.toNat_natCast, true_and, and_true, false_and, and_false, or_false, false_or, ne_eq, not_false_eq_true, forall_const, implies_true, not_true_eq_false, false_implies, ee, tt]
  first | exact q | exact ⟨by omega, q⟩
end
