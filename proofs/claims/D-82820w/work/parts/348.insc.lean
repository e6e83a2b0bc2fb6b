/-! states of T with a new instance: what does not matter -/
set_option maxRecDepth 20000
section
variable {h h' : ah} {C ho k i j N M a z s r f o c t n m rr l E mk rk sk tn w : Nat} {g : HG} {v ty x y nm kd : Int} {S S1 : SS} {L : List Nat} {vt vv : Nat → Int} {A : Nat → Option Nat}
theorem u2_cong (o1 : OFF L S S1) : OFF L (u2 S f i v) (u2 S1 f i v) := fun f' i' hf => by rw [u2_e, u2_e, o1 f' i' hf]
theorem adsS_cong (o1 : OFF L S S1) (e : S1 f_Md_thingLast k = S f_Md_thingLast k) : OFF L (adsS S k sk rk m nm ty v) (adsS S1 k sk rk m nm ty v) := fun f' i' hf => by
  unfold adsS
  simp only [e]
  split
  · simp only [u2_e, o1 f' i' hf]
  · simp only [u2_e, o1 f' i' hf]
theorem nthS_cong (o1 : OFF L S S1) : OFF L (nthS S tn mk kd) (nthS S1 tn mk kd) := by
  unfold nthS
  exact u2_cong (u2_cong (u2_cong (u2_cong (u2_cong (u2_cong (u2_cong (u2_cong (u2_cong (u2_cong (u2_cong (u2_cong o1)))))))))))
theorem lsvS_cong (o1 : OFF L S S1) (hL : L.elem f_Md_thingLast = false) : ∀ j, OFF L (lsvS S l sk rk vt vv j) (lsvS S1 l sk rk vt vv j)
  | 0 => o1
  | j + 1 => by
    unfold lsvS
    exact adsS_cong (lsvS_cong o1 hL j) (lsvS_cong o1 hL j _ _ hL)
theorem niS_cong (o1 : OFF L S S1) (hL : L.elem f_Md_thingLast = false) : OFF L (niS S tn mk sk rk c n vt) (niS S1 tn mk sk rk c n vt) := by
  unfold niS
  exact lsvS_cong (u2_cong (nthS_cong o1)) hL n
theorem flS_cong (o1 : OFF L S S1) (h1 : L.elem f_Md_pileType = false) (h2 : L.elem f_Md_pileValue = false) : OFF L (flS S n sk rr A) (flS S1 n sk rr A) := fun f' i' hf => by
  unfold flS
  simp only [o1 f' i' hf, o1 _ _ h1, o1 _ _ h2]
theorem flS_tr : flS (trS S w x y) n sk rr A = trS (flS S n sk rr A) w x y := by
  funext f' i'
  have e1 : ∀ i, trS S w x y f_Md_pileType i = S f_Md_pileType i := fun i => trS_off _ _ (by decide)
  have e2 : ∀ i, trS S w x y f_Md_pileValue i = S f_Md_pileValue i := fun i => trS_off _ _ (by decide)
  by_cases c : [f_Md_trace, f_Md_traced].elem f' = true
  · have : f' = f_Md_trace ∨ f' = f_Md_traced := by simpa using c
    have hl : flS (trS S w x y) n sk rr A f' i' = trS S w x y f' i' := flS_off _ _ (by rcases this with rfl | rfl <;> decide)
    have hr : ∀ i, flS S n sk rr A f' i = S f' i := fun i => flS_off _ _ (by rcases this with rfl | rfl <;> decide)
    rw [hl]
    unfold trS
    simp only [u2_e, hr]
  · have c' : [f_Md_trace, f_Md_traced].elem f' = false := by simpa using c
    rw [trS_off _ _ c']
    unfold flS
    simp only [e1, e2, trS_off (S := S) (w := w) (v := x) (y := y) f' i' c']
/-- what changes nothing of the trace may be done before it -/
theorem tr_swap {T : SS → SS} {LL : List Nat} (off : ∀ S, OFF LL S (T S)) (d : LL.all (fun f => !([f_Md_trace, f_Md_traced].elem f)) = true) (cong : ∀ S S1, OFF [f_Md_trace, f_Md_traced] S S1 → OFF [f_Md_trace, f_Md_traced] (T S) (T S1)) : T (trS S w x y) = trS (T S) w x y := by
  funext f' i'
  by_cases c : [f_Md_trace, f_Md_traced].elem f' = true
  · have n : LL.elem f' = false := by
      cases q : LL.elem f' with
      | false => rfl
      | true =>
        have := List.all_eq_true.mp d f' (by simpa using q)
        rw [c] at this; cases this
    rw [off _ _ _ n]
    unfold trS
    simp only [u2_e]
    rw [off _ _ _ n]
  · have c' : [f_Md_trace, f_Md_traced].elem f' = false := by simpa using c
    rw [trS_off _ _ c']
    exact cong S (trS S w x y) trS_off f' i' c'
theorem niS_tr : niS (trS S w x y) tn mk sk rk c n vt = trS (niS S tn mk sk rk c n vt) w x y := tr_swap (T := fun S => niS S tn mk sk rk c n vt) (LL := LNI) (fun S => niS_off) (by decide) (fun S S1 o => niS_cong o (by decide))
theorem mkS_off (o1 : OFF LFD S S1) : OFF LZT (trS (flS (niS S tn mk sk rk c (layG g c).length (fun i => firT (tyL g c i))) (layG g c).length sk rr (mkA (layG g c).length (tyL g c) (parG g m) E)) w (m : Int) (E : Int)) (mkS g S1 c tn mk sk rk w m E rr) := by
  have e : mkS g S1 c tn mk sk rk w m E rr = isS (flS (niS (trS S1 w (m : Int) (E : Int)) tn mk sk rk c (layG g c).length (fun i => firT (tyL g c i))) (layG g c).length sk rr (mkA (layG g c).length (tyL g c) (parG g m) E)) 7 (tn : Int) := rfl
  rw [e, niS_tr, flS_tr]
  exact ((trS_cong (flS_cong (niS_cong o1 (by decide)) (by decide) (by decide))).le (by decide)).tr (isS_off.le (by decide))
end
