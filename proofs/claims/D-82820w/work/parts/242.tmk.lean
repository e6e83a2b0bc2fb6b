/-! T: an instance is made -/
set_option maxRecDepth 20000
/-- the first j values have joined thing l -/
def lsvS (S : SS) (l sk rk : Nat) (vt vv : Nat → Int) : Nat → SS
  | 0 => S
  | j + 1 => adsS (lsvS S l sk rk vt vv j) l (sk + j) (rk + j) j (-1) (vt j) (vv j)
/-- which value goes to which field -/
def mkA (n : Nat) (tys want : Nat → Int) : Nat → (Nat → Option Nat)
  | 0 => fun _ => none
  | k + 1 => match (List.range n).find? (fun f => (mkA n tys want k f).isNone && decide (tys f = want k)) with
    | some f => fun x => if x = f then some k else mkA n tys want k x
    | none => mkA n tys want k
/-- fields have got values -/
def flS (S : SS) (n sk rr : Nat) (A : Nat → Option Nat) : SS := fun f i =>
  if f = f_Md_used1 ∧ i < n then (if (A i).isNone = true then 0 else 1)
  else if f = f_Md_slotType ∧ sk ≤ i ∧ i < sk + n then (match A (i - sk) with | some k => S f_Md_pileType (rr + 1 + k) | none => S f i)
  else if f = f_Md_slotValue ∧ sk ≤ i ∧ i < sk + n then (match A (i - sk) with | some k => S f_Md_pileValue (rr + 1 + k) | none => S f i)
  else S f i
def uzS (S : SS) (j : Nat) : SS := fun f i => if f = f_Md_used1 ∧ i < j then 0 else S f i
/-- what a field has at first -/
def firT (ty : Int) : Int := if ty = 1 ∨ ty = 2 then 2 else if ty = 3 then 1 else 0
section
variable {ρ : Nat → Nat} {P : ah → Nat → Prop} {d : Nat} {Q : QT} {Γ : GH} {h h0 : ah} {C ho T k n m f i j N M r a s rr mn sn tn row c t E pp x sz tm mb am ab sk rk y0 w l mk : Nat} {S S' S1 S2 SX X : SS} {g : HG} {v p y nm ty cnt κ hd La bv el st LL bb iv it sum : Int} {vt vv : Nat → Int} {A : Nat → Option Nat} {tys want : Nat → Int} {e : Option (Option AV)}
theorem lsvS_o (e : LAS.elem f = false) : ∀ j, lsvS S l sk rk vt vv j f i = S f i
  | 0 => rfl
  | j + 1 => by unfold lsvS; rw [adsS_o e]; exact lsvS_o e j
theorem lsvS_t (hf : LTT.elem f = true) (hk : k ≠ l) : ∀ j, lsvS S l sk rk vt vv j f k = S f k
  | 0 => rfl
  | j + 1 => by unfold lsvS; rw [adsS_t hf hk]; exact lsvS_t hf hk j
theorem lsvS_1 (e1 : S f_Md_slots 0 = (sk : Int)) (e2 : S f_Md_allSlots 0 = (rk : Int)) (e3 : S f_Md_thingCount l = 0) : ∀ j, lsvS S l sk rk vt vv j f_Md_slots 0 = ((sk + j : Nat) : Int) ∧ lsvS S l sk rk vt vv j f_Md_allSlots 0 = ((rk + j : Nat) : Int) ∧ lsvS S l sk rk vt vv j f_Md_thingCount l = (j : Int) ∧ (j ≠ 0 → lsvS S l sk rk vt vv j f_Md_thingLast l = ((sk + (j - 1) : Nat) : Int)) ∧ (∀ i, i < j → slS (lsvS S l sk rk vt vv j) l i = sk + i) ∧ (∀ i, i < j → lsvS S l sk rk vt vv j f_Md_slotType (sk + i) = vt i ∧ lsvS S l sk rk vt vv j f_Md_slotValue (sk + i) = vv i ∧ lsvS S l sk rk vt vv j f_Md_slotName (sk + i) = -1) ∧ (∀ f i, LSL.elem f = true → i < sk → lsvS S l sk rk vt vv j f i = S f i) ∧ (j ≠ 0 → lsvS S l sk rk vt vv j f_Md_thingFirst l = (sk : Int)) ∧ (∀ i, i + 1 < j → lsvS S l sk rk vt vv j f_Md_slotNext (sk + i) = ((sk + i + 1 : Nat) : Int))
  | 0 => ⟨by rw [Nat.add_zero]; exact e1, by rw [Nat.add_zero]; exact e2, e3, fun z => absurd rfl z, fun i hi => by omega, fun i hi => by omega, fun f i _ _ => rfl, fun z => absurd rfl z, fun i hi => by omega⟩
  | j + 1 => by
    obtain ⟨a1, a2, a3, a4, a5, a6, a7, a8, a9⟩ := lsvS_1 e1 e2 e3 j
    obtain ⟨b1, b2, b3, b4, b5, b6, b7, b8⟩ := adsS_1 (S := lsvS S l sk rk vt vv j) (k := l) (sk := sk + j) (rk := rk + j) (m := j) (nm := -1) (ty := vt j) (v := vv j)
    have lst : (lsvS S l sk rk vt vv j f_Md_thingLast l).toNat = sk + (j - 1) ∨ j = 0 := by
      by_cases z : j = 0
      · exact Or.inr z
      · rw [a4 z, Int.toNat_natCast]; exact Or.inl rfl
    have sl := adsS_s (S := lsvS S l sk rk vt vv j) (k := l) (sk := sk + j) (rk := rk + j) (m := j) (nm := -1) (ty := vt j) (v := vv j) (fun z => by rw [a4 z, a5 _ (by omega)]) (fun i i' hi hi' e => by rw [a5 i hi, a5 i' hi'] at e; omega) (fun i hi => by rw [a5 i hi]; omega)
    unfold lsvS
    refine ⟨by rw [b1]; rfl, by rw [b2]; rfl, b3, fun _ => by rw [b4]; rfl, fun i hi => ?_, fun i hi => ?_, fun f i hf hi => ?_, fun _ => ?_, fun i hi => ?_⟩
    · rw [sl i (by omega)]
      by_cases z : i = j
      · rw [if_pos z, z]
      · rw [if_neg z]; exact a5 i (by omega)
    · by_cases z : i = j
      · subst z; exact ⟨b6, b7, b8⟩
      · obtain ⟨c1, c2, c3⟩ := a6 i (by omega)
        rw [adsS_l (by decide) (by omega) (fun _ w => absurd w (by decide)), adsS_l (by decide) (by omega) (fun _ w => absurd w (by decide)), adsS_l (by decide) (by omega) (fun _ w => absurd w (by decide))]
        exact ⟨c1, c2, c3⟩
    · rw [adsS_l hf (by omega) (fun z _ => by omega)]; exact a7 f i hf hi
    · rw [b5]
      by_cases z : j = 0
      · rw [if_pos z, z]; rfl
      · rw [if_neg z]; exact a8 z
    · by_cases z : i + 1 = j
      · have jz : j ≠ 0 := by omega
        have e : sk + i = (lsvS S l sk rk vt vv j f_Md_thingLast l).toNat := by omega
        rw [e, adsS_n jz]; omega
      · rw [adsS_l (by decide) (by omega) (fun _ _ => by omega)]; exact a9 i (by omega)
theorem uzS_0 : uzS S 0 = S := by
  funext f i; exact if_neg (fun c => by omega)
theorem uzS_u : u2 (uzS S j) f_Md_used1 j 0 = uzS S (j + 1) := by
  funext f i
  rw [u2_e]
  unfold uzS
  by_cases w : f = f_Md_used1
  · subst w
    simp only [true_and]
    by_cases w2 : i = j
    · rw [if_pos w2, if_pos (by omega)]
    · rw [if_neg w2]
      by_cases w3 : i < j
      · rw [if_pos w3, if_pos (by omega)]
      · rw [if_neg w3, if_neg (by omega)]
  · rw [if_neg (fun c => w c.1), if_neg (fun c => w c.1), if_neg (fun c => w c.1)]
theorem uzS_fl : uzS S n = flS S n sk rr (fun _ => none) := by
  funext f i
  unfold uzS flS
  by_cases w : f = f_Md_used1 ∧ i < n
  · rw [if_pos w, if_pos w]; rfl
  · rw [if_neg w, if_neg w]
    by_cases w2 : f = f_Md_slotType ∧ sk ≤ i ∧ i < sk + n
    · rw [if_pos w2]
    · rw [if_neg w2]
      by_cases w3 : f = f_Md_slotValue ∧ sk ≤ i ∧ i < sk + n
      · rw [if_pos w3]
      · rw [if_neg w3]
def LFL : List Nat := [f_Md_used1, f_Md_slotType, f_Md_slotValue]
theorem flS_off : OFF LFL S (flS S n sk rr A) := fun f i hf => by
  have ne : ∀ x, LFL.elem x = true → f ≠ x := fun x hx e => by subst e; rw [hx] at hf; cases hf
  unfold flS
  rw [if_neg (fun c => ne _ (by decide) c.1), if_neg (fun c => ne _ (by decide) c.1), if_neg (fun c => ne _ (by decide) c.1)]
theorem flS_us (hi : i < n) : flS S n sk rr A f_Md_used1 i = if (A i).isNone = true then 0 else 1 := if_pos ⟨rfl, hi⟩
theorem flS_t (hi : i < n) : flS S n sk rr A f_Md_slotType (sk + i) = match A i with | some k => S f_Md_pileType (rr + 1 + k) | none => S f_Md_slotType (sk + i) := by
  unfold flS
  rw [if_neg (fun c => absurd c.1 (by decide)), if_pos ⟨rfl, by omega, by omega⟩, show sk + i - sk = i by omega]
theorem flS_v (hi : i < n) : flS S n sk rr A f_Md_slotValue (sk + i) = match A i with | some k => S f_Md_pileValue (rr + 1 + k) | none => S f_Md_slotValue (sk + i) := by
  unfold flS
  rw [if_neg (fun c => absurd c.1 (by decide)), if_neg (fun c => absurd c.1 (by decide)), if_pos ⟨rfl, by omega, by omega⟩, show sk + i - sk = i by omega]
theorem flS_o (hi : i < sk ∨ sk + n ≤ i) (hf : f ≠ f_Md_used1) : flS S n sk rr A f i = S f i := by
  unfold flS
  rw [if_neg (fun c => hf c.1), if_neg (fun c => by omega), if_neg (fun c => by omega)]
theorem flS_u (hx : x < n) : u2 (u2 (u2 (flS S n sk rr A) f_Md_used1 x 1) f_Md_slotType (sk + x) (S f_Md_pileType (rr + 1 + k))) f_Md_slotValue (sk + x) (S f_Md_pileValue (rr + 1 + k)) = flS S n sk rr (fun y => if y = x then some k else A y) := by
  funext f i
  by_cases w1 : f = f_Md_used1
  · subst w1
    rw [u2_f (by decide), u2_f (by decide), u2_e]
    simp only [true_and]
    by_cases w2 : i = x
    · subst w2
      rw [if_pos rfl, flS_us hx, if_pos rfl]; rfl
    · rw [if_neg w2]
      by_cases w3 : i < n
      · rw [flS_us w3, flS_us w3, if_neg w2]
      · unfold flS
        rw [if_neg (fun c => w3 c.2), if_neg (fun c => absurd c.1 (by decide)), if_neg (fun c => absurd c.1 (by decide)), if_neg (fun c => w3 c.2), if_neg (fun c => absurd c.1 (by decide)), if_neg (fun c => absurd c.1 (by decide))]
  by_cases w4 : sk ≤ i ∧ i < sk + n
  · obtain ⟨j, rfl⟩ : ∃ j, i = sk + j := ⟨i - sk, by omega⟩
    by_cases w5 : f = f_Md_slotValue
    · subst w5
      rw [u2_e, flS_v (by omega)]
      simp only [true_and]
      by_cases w6 : j = x
      · subst w6; rw [if_pos rfl, if_pos rfl]
      · rw [if_neg (by omega), if_neg w6, u2_f (by decide), u2_f (by decide), flS_v (by omega)]
    · rw [u2_f w5]
      by_cases w7 : f = f_Md_slotType
      · subst w7
        rw [u2_e, flS_t (by omega)]
        simp only [true_and]
        by_cases w6 : j = x
        · subst w6; rw [if_pos rfl, if_pos rfl]
        · rw [if_neg (by omega), if_neg w6, u2_f (by decide), flS_t (by omega)]
      · rw [u2_f w7, u2_f w1]
        have o : LFL.elem f = false := by
          cases c : LFL.elem f with
          | false => rfl
          | true =>
            have : f = f_Md_used1 ∨ f = f_Md_slotType ∨ f = f_Md_slotValue := by simpa [LFL] using c
            rcases this with z | z | z
            · exact absurd z w1
            · exact absurd z w7
            · exact absurd z w5
        rw [flS_off f _ o, flS_off f _ o]
  · rw [flS_o (by omega) w1, u2_e, if_neg (fun c => by omega), u2_e, if_neg (fun c => by omega), u2_f w1, flS_o (by omega) w1]
end
