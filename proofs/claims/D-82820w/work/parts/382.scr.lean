set_option maxRecDepth 20000
section
variable {ρ : Nat → Nat} {d : Nat} {Q : QT} {Γ Γ' Γ1 Γ2 : GH} {h h' h1 h2 : ah} {C ho N M z s t o n c r a mn m0 rr i : Nat} {g : HG} {S S' S1 S2 : SS} {X X' X1 X2 : X3} {Y Y' Y1 Y2 : Y3} {ws hw : List (List Int)} {L : List Int} {κ ty v el nm w0 x x' : Int} {e : ENT}
/-- what is only written down for the while -/
def LS0 : List Nat := [f_MdHalt_number, f_MdHalt_place] ++ LIV ++ LFO ++ LHK
def LX0 : List Nat := [f_Signal_error, f_Found_linker, f_Found_element, f_Found_operands, f_Found_isText, f_Found_classes, f_Found_action, f_Found_place, f_Found_byClasses]
def LY0 : List Nat := [f_Found_shape, f_Found_type, f_Found_code, f_Found_holder, f_Found_to, f_Found_member]
theorem STG.scr (E : EXT ρ Γ h C ho X Y S g N M hw ws) (HC : CORE Γ h C ho X Y S N) (W : HWF g N M) (x : OFX LX0 X X') (y : OFX LY0 Y Y') (o : OFF LS0 S S') (it : X' 53 f_Found_isText 0 = 0 ∨ X' 53 f_Found_isText 0 = 1) : STG ρ Γ h C ho X Y S g N M hw ws Γ h X' Y' S' ws 0 0 ∧ ∀ {t o n c r : Nat}, CT Γ h C X Y S N t o n c r → CT Γ h C X' Y' S' N t o n c r := by
  have p0 : ∀ y, (0, y) ∉ ([] : List (Nat × Nat)) := fun y c => by cases c
  have es := fun {K : List Nat} (q : K.all (fun f => !(LS0.elem f)) = true) => o.ex (L' := K) q
  have ex := fun {K : List Nat} (q : K.all (fun f => !(LX0.elem f)) = true) => x.exx (L' := K) q
  have fr : Fr [] [] 0 0 h h := Fr.r0
  obtain ⟨⟨c1, c2⟩, g1, bd⟩ := HC.fzz (L := []) (Pp := []) (X' := X') (Y' := Y') (S' := S') fr (by unfold DJ; decide +kernel) p0 (es (by decide +kernel)) (Int.le_of_eq (es (K := [f_Md_names]) (by decide +kernel) _ (by decide) _).symm) (ex (by decide +kernel)) (fun o f hf i => y o f i (by
    have : L7.all (fun f => !(LY0.elem f)) = true := by decide
    simpa using List.all_eq_true.mp this f (by simpa using hf)))
  have bd := bd (es (by decide +kernel))
  obtain ⟨E0, ⟨NM, SN⟩, SI, EV, LK⟩ := E
  have G := HC.1.1
  have ij := G.2.1
  have HX := E0.1.1.1
  obtain ⟨U2, ly⟩ := E0.1.1.mvp ij g1 fr HX (by unfold DJ; decide +kernel) p0 (es (by decide +kernel))
  have K : EKP h C ho S N M h S' := EKP.gro HX G g1 bd.2.2.2 fr (by unfold DJ; decide +kernel) p0
  refine ⟨⟨c1, ⟨E0.mv U2 E0.1.2 fr p0 bd.2.2.2.1 ⟨by rw [y _ _ _ (by decide)]; exact E0.2.1.1, by rw [y _ _ _ (by decide)]; exact E0.2.1.2⟩ (fun i hi => ?_) (ex (by decide +kernel)) it (es (K := [f_Md_wrong]) (by decide +kernel) _ (by decide) _), ⟨NM.exs (es (by decide +kernel)), SN.ex (es (by decide +kernel))⟩, SI.ext ij HC.1.2 HC.hz57 K fr (by unfold DJ; decide +kernel) p0 (es (by decide +kernel)) (y _ _ _ (by decide)), EV.chg HC.bef bd.2.2.2.1 (es (by decide +kernel)), LK.mv HX ij fr (by unfold DJ; decide +kernel) p0 (es (by decide +kernel)) (ex (by decide +kernel)) (fun b => y _ _ _ (by decide))⟩, g1, o.le (by decide +kernel), x.le (by decide +kernel), y.le (by decide +kernel), ⟨0, 0, fr.mono (fun f hf => by cases hf) (fun q hq => by cases hq)⟩, BNA.of bd ⟨rfl, rfl⟩ ly⟩, fun K => c2 K⟩
  rw [es (K := [f_Md_asked]) (by decide +kernel) _ (by decide), ex (K := [f_Lookup_asked]) (by decide +kernel) _ (by decide)]
  exact E0.2.2.2.2.2.1 i hi
theorem STG.err (E : EXT ρ Γ h C ho X Y S g N M hw ws) (HC : CORE Γ h C ho X Y S N) (W : HWF g N M) : STG ρ Γ h C ho X Y S g N M hw ws Γ h (erX X x) Y (erS S x') ws 0 0 := by
  have a : OFX LX0 X (erX X x) := by unfold erX; exact OFX.rf.u (by decide)
  have b : OFF LS0 S (erS S x') := by unfold erS; exact (OFF.rf.u (by decide)).u (by decide)
  exact (STG.scr E HC W a OFX.rf b (by unfold erX; rw [u3_f (by decide)]; exact E.1.2.2.2.2.2.2.2.1)).1
theorem FTC.off {L : List Nat} (fc : FTC S) (o : OFF L S S2) (q : (L.elem f_Md_frames || L.elem f_Md_t) = false) : FTC S2 := by
  rw [Bool.or_eq_false_iff] at q
  unfold FTC at *
  rw [o _ _ q.1, o _ _ q.2]
  exact fc
theorem er_of (fc : FTC S) (q : (x = 0 ∧ x' = 99) ∨ (ern x ∧ x' = x)) : ER (some x) (erX X x) (erS S x') := by
  unfold ER
  have fd := fc.er (x := x')
  refine ⟨u3_s, ?_, ?_, fd⟩
  · unfold erS
    rw [u2_f (by decide), u2_s]
    rcases q with ⟨q1, q2⟩ | ⟨q1, q2⟩
    · rw [if_pos q1, q2]
    · rw [if_neg q1.1, q2]
  · rcases q with ⟨q1, q2⟩ | ⟨q1, q2⟩
    · exact ⟨by omega, by omega⟩
    · exact q1.2
/-- what is asked stays asked -/
theorem FDA.mv (A : FDA h C ho X Y S κ ty v el nm rr mn) (K : EKP h C ho S N M h2 S2) (hs : ty = 4 ∨ ty = 5 → 0 ≤ S f_Md_thingShape v.toNat ∧ S f_Md_thingShape v.toNat < S f_Md_shapes 0) (hf : ty = 5 → 0 ≤ S f_Md_thingFunction v.toNat ∧ S f_Md_thingFunction v.toNat < S f_Md_functions 0) (hc : ty = 7 ∨ ty = 8 → 0 ≤ gdG S ty v ∧ gdG S ty v < (N : Int)) (x : EXX [f_Found_linker, f_Found_element, f_Found_operands, f_Found_isText, f_Found_classes] X X2) (y : ∀ o f i, f = f_Found_shape ∨ f = f_Found_type ∨ f = f_Found_code → Y2 o f i = Y o f i) (e : EXS [f_Md_thingShape, f_Md_thingFunction, f_Md_thingClass, f_Md_pileType, f_Md_pileValue] S S2) : FDA h2 C ho X2 Y2 S2 κ ty v el nm rr mn := by
  obtain ⟨a1, a2, a3, a4⟩ := A
  have tt : ∀ a b, tyT S2 a b = tyT S a b := fun a b => by unfold tyT; rw [e _ (by decide)]
  have gg : gdG S2 ty v = gdG S ty v := by unfold gdG; rw [e _ (by decide)]
  refine ⟨by rw [x _ (by decide)]; exact a1, fun z => ?_, fun z => by rw [x _ (by decide)]; exact a3 z, fun z => ?_⟩
  · obtain ⟨b1, b2, b3⟩ := a2 z
    refine ⟨?_, by rw [x _ (by decide)]; exact b2, ?_⟩
    · rw [y _ _ _ (Or.inl rfl), e _ (by decide), K.2.1 _ (by have := hs z; omega)]; exact b1
    · rw [y _ _ _ (Or.inr (Or.inr rfl)), b3]
      by_cases q : ty = 5
      · rw [if_pos q, if_pos q, e _ (by decide), K.2.2.1 _ (by have := hf q; omega)]
      · rw [if_neg q, if_neg q]
  · obtain ⟨b1, b2, b3⟩ := a4 z
    refine ⟨?_, by rw [x _ (by decide)]; exact b2, fun i hi => ?_⟩
    · rw [y _ _ _ (Or.inr (Or.inl rfl)), gg, K.2.2.2.1 _ (by have := hc z; omega)]; exact b1
    · rw [x _ (by decide), tt, e _ (by decide), e _ (by decide)]; exact b3 i hi
end
