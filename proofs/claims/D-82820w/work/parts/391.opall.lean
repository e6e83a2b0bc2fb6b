set_option maxRecDepth 20000
section
variable {ρ : Nat → Nat} {d : Nat} {Q : QT} {Γ Γ' Γ1 Γ2 : GH} {h h' h1 h2 : ah} {C ho N M z s t o n c r i j k : Nat} {g g' : HG} {S S' S1 S2 : SS} {X X' X1 X2 : X3} {Y Y' Y1 Y2 : Y3} {ws ws' hw : List (List Int)} {P : ah → Nat → Prop} {op a b kz ks : Int} {e : Option Int}
/-- an instruction of a site -/
theorem op_SITE (HC : CORE Γ h C ho X Y S N) (H : OPH Γ h C X Y S N t o n c r) (E : EXT ρ Γ h C ho X Y S g N M hw ws) (O : HSF g N M) (D : DF S t n c (fsS S t (c - 1)) (psS S t (c - 1)) k 27 a b) (OT : OPT Γ S (fsS S t (c - 1)) (psS S t (c - 1)) 27 a b) (hnb : n = bsS S t (c - 1) + ghs Γ (fsS S t (c - 1)) (psS S t (c - 1))) (hc : S f_Md_changes 0 + 1 ≤ 1000000) : OPS ρ Γ h C ho X Y S g N M hw ws 27 a b := fun d Q q => by
  have I := H.ix
  obtain ⟨G, F, ht, ⟨e1, e2, e3⟩, hn, hc1, hc2⟩ := I
  obtain ⟨a0, hs, -⟩ := OT.2.2.2.2.2.2.2.2.2.2.2.2.2.2.2.2.1 rfl
  have ⟨s, es⟩ : ∃ s : Nat, a = (s : Int) := ⟨a.toNat, by omega⟩
  subst es
  have eT : hR (cc h C X Y) f_Machine_t (C + 32) = C + o := by rw [ccR (by decide), e1]
  have kT : hK (cc h C X Y) (C + o) = k_Task := (F.t ht).1
  have rS : hR (cc h C X Y) f_Machine_sites (C + 32) = C + 57 := by rw [ccRo (by decide)]; exact F.2.1.2.2.2.2.2.2.2.2.1
  have eB : hB (cc h C X Y) (C + 57) s = hB h (C + 57) s := by
    have gz := G.1
    have := ccBo (X := X) (Y := Y) (i := s) G (f := f_Machine_sites) (b := C + 32) (by decide) (by omega)
    rw [F.2.1.2.2.2.2.2.2.2.2.1] at this
    exact this
  obtain ⟨⟨ka, az, an0⟩, -⟩ := SIE.at E.2.2.1 hs
  have lk : lok (cc h C X Y) (C + 57) := by rw [cclok]; exact F.2.2.2.1.2.2.2.1
  have ll : ((s : Nat) : Int) < (hl (cc h C X Y) (C + 57) : Int) := by
    obtain ⟨ea, sp, ⟨-, -, b3⟩, -⟩ := E.2.2.1
    rw [ccl]
    omega
  have g1 := j_inv (d := d + 118) (Q := cV (fun h322 => Q (Sum.inl none) h322) (fun e325 h324 => hK h324 e325 ≠ 0 ∧ Q (Sum.inr e325) h324)) HC H E O D OT hnb hc (fun e Γ' S' h' X' Y' ws' T ST er => by
    have := q e Γ' S' h' X' Y' ws' T ST er
    exact oE_pK (fun v _ => kSg ST.1.1.2) this)
  refine b_Machine_instruct_0 (by omega) ⟨F.1.1, ?_, ?_⟩
  · rw [eT]; exact kT
  · clear q e1 e2 e3 hn hc1 hc2 OT D
    rw [rS]
    simp (decide := true) only [true_and, and_true, false_implies, forall_const]
    rw [Int.toNat_natCast, eB]
    exact ⟨lk.1, ⟨lk, by omega, ll⟩, Or.inr (by rw [show hK (cc h C X Y) (hB h (C + 57) s) = hK h (hB h (C + 57) s) from ccK, ka]; decide), g1⟩
end
