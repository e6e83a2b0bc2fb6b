set_option maxRecDepth 20000
section
variable {ρ : Nat → Nat} {d : Nat} {Q : QT} {Γ Γ' Γ1 Γ2 : GH} {h h' h1 h2 : ah} {C ho N M z s t o n c r i j k : Nat} {g g' : HG} {S S' S1 S2 : SS} {X X' X1 X2 : X3} {Y Y' Y1 Y2 : Y3} {ws ws' hw : List (List Int)} {P : ah → Nat → Prop} {op a b kz ks : Int} {e : Option Int}
/-- any instruction, by both -/
theorem op_ALL (HC : CORE Γ h C ho X Y S N) (H : OPH Γ h C X Y S N t o n c r) (E : EXT ρ Γ h C ho X Y S g N M hw ws) (O : HSF g N M) (MS : MSC ρ Γ h C X S) (D : DF S t n c (fsS S t (c - 1)) (psS S t (c - 1)) k op a b) (OT : OPT Γ S (fsS S t (c - 1)) (psS S t (c - 1)) op a b) (hh : n = bsS S t (c - 1) + ghs Γ (fsS S t (c - 1)) (psS S t (c - 1)) ∧ r = qsS S t (c - 1) + gtd Γ (fsS S t (c - 1)) (psS S t (c - 1))) (hc : S f_Md_changes 0 + 1 ≤ 1000000) : OPS ρ Γ h C ho X Y S g N M hw ws op a b := by
  have W := O.1
  have hP : ∀ h0 T, PTO ρ g N M h0 T → TOK h0 T := fun h0 T p => p.1.1
  have hPs : ∀ h0 T, PTO ρ g N M h0 T → TKS ρ h0 T := fun h0 T p => p.1
  have NM := E.2.1.1
  have hN : S f_Md_names 0 ≤ 4000 := by rw [NM.2.2.1]; have := NM.2.2.2.1; omega
  have KS := E.1.2.2.1
  have YH := E.1.2.1
  have ff : ∀ {op a b : Int}, OPF ρ (PTO ρ g N M) Γ h C ho X Y S N op a b → OPS ρ Γ h C ho X Y S g N M hw ws op a b := fun A => A.ops HC E W
  have fe : ∀ {op a b : Int}, OPE ρ (PTO ρ g N M) Γ h C ho X Y S N op a b → OPS ρ Γ h C ho X Y S g N M hw ws op a b := fun A => ff A.ff
  have fc : ∀ {op a b : Int}, OPC ρ (PTO ρ g N M) Γ h C ho X Y S N op a b → OPS ρ Γ h C ho X Y S g N M hw ws op a b := fun A => fe A.e
  have fq : ∀ {op a b : Int}, SOQ ρ (PTO ρ g N M) Γ h C X Y S N t o op a b → OPS ρ Γ h C ho X Y S g N M hw ws op a b := fun A => fc (A.core HC)
  have fp : ∀ {op a b : Int}, SOP ρ (PTO ρ g N M) Γ h C X Y S N t o c op a b → OPS ρ Γ h C ho X Y S g N M hw ws op a b := fun A => fq A.q
  have TX := HC.2.2.2.2.1
  have h33 := OT.1
  by_cases o0 : op = 0
  · subst o0; exact fp (op_PUSH hP H OT D MS.1)
  by_cases o1 : op = 1
  · subst o1; exact fp (op_LOAD hP HC.2.2.2.2.2.1 H OT D)
  by_cases o2 : op = 2
  · subst o2; exact fc (op_STORE hP HC H OT D hh.1)
  by_cases o3 : op = 3
  · subst o3; exact fp (op_GLOAD hP HC.2.2.2.2.2.2.1 hN H OT D)
  by_cases o4 : op = 4
  · subst o4; exact fc (op_GSTORE hP hN HC H OT D hh.1)
  by_cases o5 : op = 5
  · subst o5; exact fp (op_POP hP H OT D hh.1)
  by_cases o6 : op = 6
  · subst o6; exact fp (op_DUP hP H OT D hh.1)
  by_cases oA : op = 7 ∨ op = 8 ∨ op = 9 ∨ op = 10 ∨ op = 11
  · by_cases nj : op = 7 ∧ ¬ (X o f_Task_tags (n - 1 - 1) = 2 ∧ X o f_Task_tags (n - 1) = 2)
    · obtain ⟨z, nj⟩ := nj
      subst z
      exact fe (op_JOIN hPs KS HC H OT D hh.1 nj)
    · exact fp (op_ARI hP H oA OT D hh.1 nj)
  by_cases o12 : op = 12
  · subst o12; exact fp (op_MINUS hP H OT D hh.1)
  by_cases o13 : op = 13
  · subst o13; exact fp (op_NOT hP H OT D hh.1)
  by_cases oS : op = 14 ∨ op = 15
  · exact fp (op_SAME hP TX H oS OT D hh.1)
  by_cases oL : op = 16 ∨ op = 17 ∨ op = 18 ∨ op = 19
  · exact fp (op_LESS hP TX H oL OT D hh.1)
  by_cases o20 : op = 20
  · subst o20; exact fp (op_JUMP hP H OT D hh.1)
  by_cases o21 : op = 21
  · subst o21; exact fp (op_UNLESS hP H OT D hh.1)
  by_cases oO : op = 22 ∨ op = 23
  · exact fp (op_OR hP H oO OT D hh.1)
  by_cases o24 : op = 24
  · subst o24; exact fe (op_FUN hP HC H OT D)
  by_cases o25 : op = 25
  · subst o25; exact fe (op_LIST hP HC H OT D hh.1)
  by_cases o26 : op = 26
  · subst o26; exact fe (op_OBJECT hP HC H OT D)
  by_cases o27 : op = 27
  · subst o27; exact op_SITE HC H E O D OT hh.1 hc
  by_cases o28 : op = 28
  · subst o28
    obtain ⟨a1, a2, -⟩ := OT.2.2.2.2.2.2.2.2.2.2.2.2.2.2.2.2.2.1 rfl
    obtain ⟨g', ge, HM⟩ := E.1.1.1.1
    have hPh : ∀ h0 T, PTO ρ g N M h0 T → PTH ρ g' N M h0 T := fun h0 T p => ge.rows p.pth
    have gn : ∀ i, i < N → NMW (g'.2 0 i) := fun i hi => by rw [ge.2]; exact O.2.2.2.2.2 i hi
    by_cases b0 : a = 0
    · subst b0; exact ff (op_SHOW hPh KS HM YH gn HC H OT D hh.1)
    by_cases b1 : a = 1
    · subst b1; exact ff (op_MAKE hP HC H OT D hh.1)
    by_cases b2 : a = 2
    · subst b2; exact fe (op_PROTO hP HC H OT D hh.1)
    by_cases b3 : a = 3
    · subst b3; exact ff (op_TURN hP hc HC H OT D hh.1)
    by_cases b4 : a = 4
    · subst b4; exact ff (op_DROP hP hc NM HC H OT D hh.1)
    by_cases b5 : a = 5
    · subst b5; exact ff (op_HAS hP NM HC H OT D hh.1)
    by_cases b6 : a = 6
    · subst b6; exact fe (op_KIND hPs KS MS.2.1 HC H OT D hh.1)
    have b7 : a = 7 := by omega
    subst b7; exact ff (op_HOST hPh HM YH HC H OT D hh.1)
  by_cases o29 : op = 29
  · subst o29; exact fq (op_RETURN hP HC.2.2.2.2.2.2.2.2.2.1.mko H OT D hh.1)
  by_cases o30 : op = 30
  · subst o30; exact fq (op_THROW hP H OT D hh.1)
  by_cases o31 : op = 31
  · subst o31; exact fc (op_TRY hP HC H OT D hh)
  by_cases o32 : op = 32
  · subst o32; exact fp (op_TRIED hP H OT D hh (H.2.2.1.few H.2.2.2.1))
  have o33 : op = 33 := by omega
  subst o33
  exact fp (op_THIS hP H OT D)
end
