set_option maxRecDepth 20000
section
variable {ρ : Nat → Nat} {d : Nat} {Q : QT} {Γ Γ' Γ1 Γ2 : GH} {h h' h1 h2 H : ah} {C ho N M z s t o n c r i j k p a T cd fn ck : Nat} {g g' : HG} {S S' S1 S2 : SS} {X X' X1 X2 : X3} {Y Y' Y1 Y2 : Y3} {ws ws' hw : List (List Int)} {x y ty v fl : Int} {h0 : ah}
/-- a task begins -/
def bgX (X : X3) (o : Nat) : X3 := u3 (u3 (u3 (u3 X o f_Task_size 0 0) o f_Task_calls 0 0) o f_Task_tries 0 0) o f_Task_state 0 1
theorem r_begin (G : AC h C) (F : FC h C) (ht : isT o) (kc : hK h cd = k_Code) (cz : cd < hz h) (q : ∀ H, AC H C → FC H C → NV (cc h C (bgX X o) Y) H 0 0 0 (fun _ => 0) (fun _ => 0) → Q (Sum.inl none) (cc H C (entX (bgX X o) o 0 0 0 0) (entY Y o 0 cd (hz h) 0))) : wpB PGm ρ (d + 12) m_Task_begin 0 [(0, vR (C + o)), (1, vR cd)] [] (cc h C X Y) Q := by
  have gz := G.1
  have oz : C + o < hz h := by rcases ht with rfl | rfl <;> omega
  refine b_Task_begin_0 (d := d + 11) ⟨(F.t ht).1, ?_⟩
  dsimp only
  rw [cc_sIt ht (by decide), cc_sIt ht (by decide), cc_sIt ht (by decide), cc_sIt ht (by decide)]
  show wpB PGm ρ (d + 11) m_Variables_init 0 [(0, vR (hz (cc h C (bgX X o) Y))), (1, vR 0), (2, vI ((0 : Nat) : Int))] [] (hn (cc h C (bgX X o) Y) k_Variables 3 0) _
  refine nv_init (tg := fun _ => 0) (wd := fun _ => 0) (cc_INJ G.2.1) (by omega) (by omega) (fun H A => ?_)
  obtain ⟨G2, F2, E2, R2⟩ := mat G F A.1 (by unfold DJ; decide)
  have g1 := q H G2 F2 A
  refine ⟨(F2.t ht).1, ?_⟩
  show wpB PGm ρ (d + 11) m_Task_call 0 [(0, vR (C + o)), (1, vR cd), (2, vR (hz h)), (3, vI 0), (4, vL 0), (6, vR 0)] [] H _
  rw [← E2]
  refine r_call (m0 := 0) (c := 0) G2 F2 ht ?_ (by decide) ?_ (by rw [R2.K cz]; exact kc) A.2.2.1 (Or.inl rfl) ⟨by decide, by decide⟩ g1
  · unfold bgX; rw [u3_f (by decide), u3_f (by decide), u3_s]; rfl
  · unfold bgX; rw [u3_f (by decide), u3_f (by decide), u3_f (by decide), u3_s]; rfl
/-- a task that does not run may be emptied -/
def rzX (X : X3) (o : Nat) : X3 := u3 (u3 (u3 X o f_Task_size 0 0) o f_Task_calls 0 0) o f_Task_tries 0 0
def rzS (S : SS) (t : Nat) : SS := u2 (u2 (u2 S f_Md_frames t 0) f_Md_height t 0) f_Md_tries t 0
def zrX (X : X3) (o : Nat) : X3 := u3 (rzX X o) o f_Task_state 0 0
def zrS (S : SS) (t : Nat) : SS := u2 (rzS S t) f_Md_state t 0
theorem CT.zero (K : CT Γ h C X Y S N t o n c r) : CT Γ h C (zrX X o) Y (zrS S t) N t o 0 0 0 := by
  have e0 : zrS S t f_Md_state t = 0 := u2_s
  have x0 : zrX X o o f_Task_state 0 = 0 := u3_s
  have s1 : zrS S t f_Md_frames t = 0 := by unfold zrS rzS; rw [u2_f (by decide), u2_f (by decide), u2_f (by decide), u2_s]
  have s2 : zrS S t f_Md_height t = 0 := by unfold zrS rzS; rw [u2_f (by decide), u2_f (by decide), u2_s]
  have s3 : zrS S t f_Md_tries t = 0 := by unfold zrS rzS; rw [u2_f (by decide), u2_s]
  have x1 : zrX X o o f_Task_calls 0 = 0 := by unfold zrX rzX; rw [u3_f (by decide), u3_f (by decide), u3_s]
  have x2 : zrX X o o f_Task_size 0 = 0 := by unfold zrX rzX; rw [u3_f (by decide), u3_f (by decide), u3_f (by decide), u3_s]
  have x3 : zrX X o o f_Task_tries 0 = 0 := by unfold zrX rzX; rw [u3_f (by decide), u3_s]
  generalize zrS S t = S' at *
  generalize zrX X o = X' at *
  obtain ⟨a0, -, -, -, -, -, -, -, -, -, l, l1, l2, l3, l4, l5, l6⟩ := K
  exact ⟨a0, ⟨x0.trans e0.symm, by rw [e0]; decide, by rw [e0]; decide, fun c => by rw [e0] at c; revert c; decide, fun _ => ⟨rfl, rfl, rfl⟩⟩, ⟨x2, s2, by omega⟩, ⟨x1, s1, by omega⟩, ⟨x3, s3⟩, fun i hi => absurd hi (by omega), fun i hi => absurd hi (by omega), ⟨fun i hi => absurd hi (by omega), rfl, rfl⟩, fun k hk => absurd hk (by omega), fun c => by rw [e0] at c; exact absurd c (by decide), l, l1, l2, l3, by omega, l5, l6⟩
theorem rz_ns : NSt t S (rzS S t) := by
  unfold rzS
  exact NSt.u (tk1 (by decide)) (NSt.u (tk1 (by decide)) (NSt.u (tk1 (by decide)) NSt.rf))
theorem rz_nx : NXo o X (rzX X o) := fun a f i hf => by
  unfold rzX
  have hn : ∀ g, L6.elem g = true → ¬ (a = o ∧ f = g) := fun g hg c => hf (Or.inl ⟨c.1, by rw [c.2]; exact hg⟩)
  have e := fun g (hg : L6.elem g = true) (Z : X3) (w : Int) => show u3 Z o g 0 w a f i = Z a f i by
    rw [u3_e, if_neg (fun c => hn g hg ⟨c.1, c.2.1⟩)]
  rw [e _ (by decide), e _ (by decide), e _ (by decide)]
theorem zr_ns : NSt t S (zrS S t) := NSt.u (tk1 (by decide)) rz_ns
theorem zr_nx : NXo o X (zrX X o) := fun a f i hf => by
  unfold zrX
  rw [u3_e, if_neg (fun c => hf (Or.inl ⟨c.1, by rw [c.2.1]; decide⟩))]
  exact rz_nx a f i hf
end
