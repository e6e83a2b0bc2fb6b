/-! C: an entry is set -/
set_option maxRecDepth 20000
/-- what is found is put into an entry, but its classes -/
def stA (h : ah) (e : Nat) (X : X3) (Y : Y3) : ah :=
  sI (sR (sR (sI (sR (sR (sR (sR (sI (sI (sI (sI h f_Entry_linker e (X 53 f_Found_linker 0)) f_Entry_element e (X 53 f_Found_element 0)) f_Entry_action e (X 53 f_Found_action 0)) f_Entry_place e (X 53 f_Found_place 0)) f_Entry_shape e (if X 53 f_Found_action 0 = 4 ∨ X 53 f_Found_action 0 = 5 then 0 else Y 53 f_Found_shape 0)) f_Entry_to e (Y 53 f_Found_to 0)) f_Entry_type e (Y 53 f_Found_type 0)) f_Entry_code e (if X 53 f_Found_action 0 = 4 ∨ X 53 f_Found_action 0 = 5 then Y 53 f_Found_code 0 else 0)) f_Entry_isText e (X 53 f_Found_isText 0)) f_Entry_holder e (Y 53 f_Found_holder 0)) f_Entry_member e (Y 53 f_Found_member 0)) f_Entry_operands e (if X 53 f_Found_byClasses 0 = 0 then -1 else X 53 f_Found_operands 0)
section
variable {ρ : Nat → Nat} {d : Nat} {Q : QT} {Γ : GH} {h h' h0 h1 h2 : ah} {C ho T k n m f i j N M b a rr mn sn tn row e t z s be : Nat} {S S' S1 S2 SX : SS} {X : X3} {Y Y1 Y2 : Y3} {g : HG} {v p x y nm ty κ hd w La bv el now : Int}
theorem r_set102 {H : ah} {s0 : Nat} (ko : hK H (C + 53) = k_Found) (ke : hK H e = k_Entry) (ti : X 53 f_Found_isText 0 = 0 ∨ X 53 f_Found_isText 0 = 1) (q : wpB PGm ρ d m_Entry_set 145 [(0, vR e), (1, vR (C + 53)), (2, vR be), (3, vI now)] [vI (if X 53 f_Found_byClasses 0 = 0 then -1 else X 53 f_Found_operands 0), vR e] (cc (sR (sR (sI (sR H f_Entry_code e s0) f_Entry_isText e (X 53 f_Found_isText 0)) f_Entry_holder e (Y 53 f_Found_holder 0)) f_Entry_member e (Y 53 f_Found_member 0)) C X Y) Q) : wpB PGm ρ d m_Entry_set 102 [(0, vR e), (1, vR (C + 53)), (2, vR be), (3, vI now)] [vR s0, vR e] (cc H C X Y) Q := by
  have q0 : X 53 f_Found_byClasses 0 = 0 → wpB PGm ρ d m_Entry_set 145 [(0, vR e), (1, vR (C + 53)), (2, vR be), (3, vI now)] [vI (-1), vR e] (cc (sR (sR (sI (sR H f_Entry_code e s0) f_Entry_isText e (X 53 f_Found_isText 0)) f_Entry_holder e (Y 53 f_Found_holder 0)) f_Entry_member e (Y 53 f_Found_member 0)) C X Y) Q := fun z => by rw [if_pos z] at q; exact q
  have q1 : ¬ X 53 f_Found_byClasses 0 = 0 → wpB PGm ρ d m_Entry_set 145 [(0, vR e), (1, vR (C + 53)), (2, vR be), (3, vI now)] [vI (X 53 f_Found_operands 0), vR e] (cc (sR (sR (sI (sR H f_Entry_code e s0) f_Entry_isText e (X 53 f_Found_isText 0)) f_Entry_holder e (Y 53 f_Found_holder 0)) f_Entry_member e (Y 53 f_Found_member 0)) C X Y) Q := fun z => by rw [if_neg z] at q; exact q
  refine b_Entry_set_102 ⟨ke, ?_⟩
  clear q
  simp (decide := true) (disch := first | decide | omega) only [ccI, ccR, cc_sIo, cc_sRo]
  exact ⟨ko, ke, ti, q0, q1⟩
theorem r_set69 {H : ah} {s0 : Nat} {l4 : Int} (ko : hK H (C + 53) = k_Found) (ke : hK H e = k_Entry) (q : wpB PGm ρ d m_Entry_set 102 [(0, vR e), (1, vR (C + 53)), (2, vR be), (3, vI now)] [vR (if l4 = 0 then 0 else Y 53 f_Found_code 0), vR e] (cc (sR (sR (sR H f_Entry_shape e s0) f_Entry_to e (Y 53 f_Found_to 0)) f_Entry_type e (Y 53 f_Found_type 0)) C X Y) Q) : wpB PGm ρ d m_Entry_set 69 [(0, vR e), (1, vR (C + 53)), (2, vR be), (3, vI now), (4, vI l4)] [vR s0, vR e] (cc H C X Y) Q := by
  have q0 : l4 = 0 → wpB PGm ρ d m_Entry_set 102 [(0, vR e), (1, vR (C + 53)), (2, vR be), (3, vI now)] [vR 0, vR e] (cc (sR (sR (sR H f_Entry_shape e s0) f_Entry_to e (Y 53 f_Found_to 0)) f_Entry_type e (Y 53 f_Found_type 0)) C X Y) Q := fun z => by rw [if_pos z] at q; exact q
  have q1 : ¬ l4 = 0 → wpB PGm ρ d m_Entry_set 102 [(0, vR e), (1, vR (C + 53)), (2, vR be), (3, vI now)] [vR (Y 53 f_Found_code 0), vR e] (cc (sR (sR (sR H f_Entry_shape e s0) f_Entry_to e (Y 53 f_Found_to 0)) f_Entry_type e (Y 53 f_Found_type 0)) C X Y) Q := fun z => by rw [if_neg z] at q; exact q
  refine b_Entry_set_69 ⟨ke, ?_⟩
  clear q
  simp (decide := true) (disch := first | decide | omega) only [ccI, ccR, cc_sIo, cc_sRo]
  exact ⟨ko, ke, q0, q1⟩
theorem r_set145 (HC : CORE Γ h C ho X Y S N) (ke : hK h e = k_Entry) (ti : X 53 f_Found_isText 0 = 0 ∨ X 53 f_Found_isText 0 = 1) (q : ∀ H, sI H f_Entry_operands e (if X 53 f_Found_byClasses 0 = 0 then -1 else X 53 f_Found_operands 0) = stA h e X Y → hK H e = k_Entry → wpB PGm ρ d m_Entry_set 145 [(0, vR e), (1, vR (C + 53)), (2, vR be), (3, vI now)] [vI (if X 53 f_Found_byClasses 0 = 0 then -1 else X 53 f_Found_operands 0), vR e] (cc H C X Y) Q) : wpB PGm ρ d m_Entry_set 0 [(0, vR e), (1, vR (C + 53)), (2, vR be), (3, vI now)] [] (cc h C X Y) Q := by
  have ko : hK h (C + 53) = k_Found := by
    have f2 := HC.1.2
    unfold FC at f2
    exact f2.1.2.2.2.2.2.2.1
  have i1 : hI (cc h C X Y) f_Found_linker (C + 53) = X 53 f_Found_linker 0 := ccI (by decide)
  have g53 : ∀ b : Int, (b = 1 ∧ (X 53 f_Found_action 0 = 4 ∨ X 53 f_Found_action 0 = 5) ∨ b = 0 ∧ ¬ (X 53 f_Found_action 0 = 4 ∨ X 53 f_Found_action 0 = 5)) → wpB PGm ρ d m_Entry_set 53 [(0, vR e), (1, vR (C + 53)), (2, vR be), (3, vI now)] [vI b] (cc (sI (sI (sI (sI h f_Entry_linker e (X 53 f_Found_linker 0)) f_Entry_element e (X 53 f_Found_element 0)) f_Entry_action e (X 53 f_Found_action 0)) f_Entry_place e (X 53 f_Found_place 0)) C X Y) Q := fun b hb => by
    generalize eH : sI (sI (sI (sI h f_Entry_linker e (X 53 f_Found_linker 0)) f_Entry_element e (X 53 f_Found_element 0)) f_Entry_action e (X 53 f_Found_action 0)) f_Entry_place e (X 53 f_Found_place 0) = H at *
    have koH : hK H (C + 53) = k_Found := by rw [← eH]; exact ko
    have keH : hK H e = k_Entry := by rw [← eH]; exact ke
    have y2 : hR (cc H C X Y) f_Found_shape (C + 53) = Y 53 f_Found_shape 0 := ccR (by decide)
    refine b_Entry_set_53 ⟨fun z => ⟨koH, ?_⟩, fun z => ?_⟩
    · rw [y2]
      have nb : ¬ (X 53 f_Found_action 0 = 4 ∨ X 53 f_Found_action 0 = 5) := by rcases hb with ⟨c, -⟩ | ⟨-, c⟩; omega; exact c
      refine r_set69 koH keH ?_
      rw [if_pos z]
      refine r_set102 koH keH ti (q _ ?_ keH)
      unfold stA; rw [eH, if_neg nb, if_neg nb]
    · have nb : X 53 f_Found_action 0 = 4 ∨ X 53 f_Found_action 0 = 5 := by rcases hb with ⟨-, c⟩ | ⟨c, -⟩; exact c; omega
      refine r_set69 koH keH ?_
      rw [if_neg z]
      refine r_set102 koH keH ti (q _ ?_ keH)
      unfold stA; rw [eH, if_pos nb, if_pos nb]
  refine b_Entry_set_0 ⟨ko, ke, ?_⟩
  clear q
  simp (decide := true) (disch := first | decide | omega) only [ccI, cc_sIo]
  exact ⟨fun z => g53 1 (Or.inl ⟨rfl, Or.inl z⟩), fun z => ⟨fun z2 => g53 0 (Or.inr ⟨rfl, fun c => c.elim z z2⟩), fun z2 => g53 1 (Or.inl ⟨rfl, Or.inr z2⟩)⟩⟩
end
