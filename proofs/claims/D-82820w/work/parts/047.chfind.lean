/-! C's host: names and types are found -/
set_option maxRecDepth 20000
theorem nd_getD {ws : List (List Int)} (hd : ws.Nodup) {i j : Nat} (hi : i < ws.length) (hj : j < ws.length) (e : ws.getD i [] = ws.getD j []) : i = j := by
  simp only [List.getD, List.getElem?_eq_getElem hi, List.getElem?_eq_getElem hj, Option.getD_some] at e
  exact (List.getElem_inj hd).mp e
theorem NMO.iff {ws : List (List Int)} (hd : ws.Nodup) {l l2 : List Int} {v : Int} (H : NMO ws l v) {k : Nat} (hk : k < ws.length) (e : ws.getD k [] = l2) : v = (k : Int) ↔ l = l2 := by
  obtain ⟨w, a, b, c⟩ := H
  constructor
  · intro x
    have : w = k := by omega
    rw [← b, ← e, this]
  · intro x
    have := nd_getD hd a hk (by rw [b, e, x])
    omega
def plainW : List (List Int) := [[118, 111, 105, 100], [105, 110, 116], [108, 111, 110, 103], [98, 111, 111, 108], [73, 110, 116], [76, 111, 110, 103], [66, 111, 111, 108], [84, 101, 120, 116], [65, 110, 121]]
def ownW : List (List Int) := [[99, 108, 97, 115, 115], [105, 110, 116, 101, 114, 102, 97, 99, 101], [115, 116, 97, 116, 105, 99], [110, 101, 119]]
/-- the texts that the readers of hosts use -/
def SHO (ρ : Nat → Nat) (h : ah) : Prop := (∀ i, i < 9 → STR h (ρ i) (plainW.getD i [])) ∧ STR h (ρ 10) [99, 108, 97, 115, 115] ∧ STR h (ρ 9) [105, 110, 116, 101, 114, 102, 97, 99, 101] ∧ STR h (ρ 11) [115, 116, 97, 116, 105, 99] ∧ STR h (ρ 12) [110, 101, 119]
section
variable {ρ : Nat → Nat} {d : Nat} {h : ah} {F : Int → ah → Prop} {FR : Nat → ah → Prop} {G : ah → Prop} {E : Nat → ah → Prop} {C ho : Nat} {tp : List Int} {t : TKN} {g : HG} {n m : Nat} {ws : List (List Int)} {by_ fr sz nx : Nat}
theorem CK.RW (K : CK h C tp 1 t) : RW h (C + 1) t.1 (tkB tp t) ∧ hK h (C + 1) ∈ [3, 4, 13] ∧ t.1 + (tkB tp t).length ≤ 1000000 ∧ C + 1 < hz h := by
  obtain ⟨⟨⟨-, -, -, k4, k5, -⟩, -, -, -, -, -, ⟨-, k6, -, -⟩, -⟩, H2, -, -, -, -, H7, H8, H9⟩ := K
  have hl9 := H9.1
  refine ⟨⟨by rw [tkB, byt_len]; omega, fun i hi => ?_⟩, by rw [k4]; decide, by rw [tkB, byt_len]; omega, k6⟩
  rw [tkB, byt_len] at hi
  rw [H2 _ (by omega), tkB, byt_get hi]; rfl
theorem CK.args (K : CK h C tp 1 t) : hR h f_Scanner_text (C + 3) = C + 1 ∧ hI h f_Scanner_from (C + 3) = (t.1 : Int) ∧ w32 (hI h f_Scanner_to (C + 3) - hI h f_Scanner_from (C + 3)) = ((tkB tp t).length : Int) := by
  obtain ⟨⟨⟨-, k2, -⟩, -⟩, -, -, ⟨-, c2, c3, -⟩, -, -, H7, H8, H9⟩ := K
  have hl9 := H9.1
  exact ⟨k2, c2, by rw [c2, c3, tkB, byt_len, w32_of (by omega) (by omega)]; omega⟩
theorem HC.ty (H : HC ρ h ho g n m ws by_ fr sz nx) {i : Nat} (hi : i < n) : hK h (hB h (ho + 2) i) = k_HostType ∧ hB h (ho + 2) i ≠ 0 := ⟨(H.2.2.2.2.2.1 i hi).1.1, (H.2.2.2.2.2.1 i hi).1.2.2⟩
theorem c_hfind (H : HC ρ h ho g n m ws by_ fr sz nx) (K : CK h C tp 1 t) (hd : 10 ≤ d + 1) (q1 : ∀ i, i < n → g.2 0 i = tkB tp t → FR (hB h (ho + 2) i) h) (q0 : (∀ i, i < n → g.2 0 i ≠ tkB tp t) → FR 0 h) : wpB PGm ρ (d + 2) m_Host_find 0 [(0, vR ho), (1, vR (C + 1)), (2, vI (t.1 : Int)), (3, vI ((tkB tp t).length : Int))] [] h (cR FR E) := by
  obtain ⟨⟨a1, a2, a3, a4, a5, a6, a7, -⟩, b1, b2, b3, b4, b5, b6, b7⟩ := id H
  obtain ⟨r1, r2, r3, r4⟩ := K.RW
  have no : (∀ i, i < n → g.2 0 i ≠ tkB tp t) → ∀ j : Nat, wpB PGm ρ (d + 2) m_Host_find 15 [(0, vR ho), (4, vI (-1)), (5, vI (j : Int))] [] h (cR FR E) := fun ne j => b_Host_find_15 (by omega) ⟨a1, by rw [a4]; exact a7.1.1, by rw [a4]; exact a7.1, fun _ => q0 ne, fun _ => ⟨fun _ => q0 ne, fun z => absurd z (by decide)⟩⟩
  refine b_Host_find_0 ⟨a1, by rw [a6]; exact b7.1.1, ?_⟩
  rw [a6]
  refine c_find b7 r2 r1 r3 (fun k hk ek => ?_) (fun hn => no (fun i hi e => ?_) 0)
  · have lp : ∀ mm j, n - j < mm → j ≤ n → (∀ i, i < j → g.2 0 i ≠ tkB tp t) → wpB PGm ρ (d + 2) m_Host_find 15 [(0, vR ho), (4, vI (k : Int)), (5, vI (j : Int))] [] h (cR FR E) := by
      intro mm
      induction mm with
      | zero => intro j hm; omega
      | succ mm ih =>
        intro j hm hj hno
        refine b_Host_find_15 (by omega) ⟨a1, by rw [a4]; exact a7.1.1, by rw [a4]; exact a7.1, fun z => ?_, fun z => ⟨fun z => by omega, fun _ => ?_⟩⟩
        · rw [a4, b1] at z
          exact q0 (fun i hi => hno i (by omega))
        · rw [a4, b1] at z
          have hj2 : j < n := by omega
          have ty := H.ty hj2
          have nm := (b5 j hj2).2.2.1.iff b7.2.2.2.2.2.2.2.2 hk ek
          rw [a4, Int.toNat_natCast]
          refine ⟨a7.1.1, ⟨a7.1, by omega, by omega⟩, Or.inr (by rw [ty.1]; decide), ty.1, fun ne => ?_, fun e => ⟨a7.1.1, ⟨a7.1, by omega, by omega⟩, Or.inr (by rw [ty.1]; decide), q1 j hj2 (nm.mp e)⟩⟩
          rw [w32_s (by omega)]
          exact ih (j + 1) (by omega) (by omega) (fun i hi => by
            by_cases c : i = j
            · rw [c]; exact fun x => ne (nm.mpr x)
            · exact hno i (by omega))
    exact lp _ 0 (Nat.lt_succ_self _) (Nat.zero_le _) (fun i hi => by omega)
  · obtain ⟨w, w1, w2, -⟩ := (b5 i hi).2.2.1
    exact hn (by rw [← e, ← w2]; exact getD_mem w1)
theorem HS.strs (H : HS ρ h ho) (S : SHO ρ h) : STRS h (hR h f_Host_plainWords ho) plainW := by
  obtain ⟨-, -, -, -, -, -, -, -, ⟨b1, b2, b3, b4, b5, b6⟩, -⟩ := H
  rw [b1]
  exact ⟨by rw [b3]; decide, by rw [b3]; decide, by rw [b4]; rfl, by decide, fun i hi => by rw [b6 i hi]; exact S.1 i hi⟩
/-- the type that a name tells -/
def tyOf (g : HG) (n : Nat) (l : List Int) (k : Int) : Prop := (0 ≤ plc plainW l ∧ k = plc plainW l) ∨ (plc plainW l < 0 ∧ ∃ i, i < n ∧ g.2 0 i = l ∧ k = 9 + (i : Int))
theorem c_type (H : HC ρ h ho g n m ws by_ fr sz nx) (K : CK h C tp 1 t) (S : SHO ρ h) (hd : 10 ≤ d) (q1 : ∀ k, t.2.1 = 1 → tyOf g n (tkB tp t) k → F k h) (q2 : ¬ t.2.1 = 1 → ∀ h', Fr SCM [] 0 0 h h' → hI h' f_Fault_told (C + 2) = 1 + 16 * (t.1 : Int) → E (C + 2) h')
    (q3 : t.2.1 = 1 → plc plainW (tkB tp t) < 0 → (∀ i, i < n → g.2 0 i ≠ tkB tp t) → ∀ h', Fr SCM [] 0 0 h h' → hI h' f_Fault_told (C + 2) = 3 + 16 * (t.1 : Int) → E (C + 2) h') : wpB PGm ρ (d + 3) m_Host_type 0 [(0, vR ho), (1, vR (C + 3))] [] h (cI F E) := by
  have a1 := H.1.1
  have k1 := K.1.1.1
  obtain ⟨r1, r2, r3⟩ := K.args
  have bt : byt (hA h (C + 1)) t.1 t.2.2.1 = tkB tp t := by
    refine leq (by rw [tkB, byt_len, byt_len]) (fun i hi => ?_)
    rw [byt_len] at hi
    rw [byt_get hi, tkB, byt_get hi]
    exact K.2.1 _ (by have := K.2.2.2.2.2.2.2.1; omega)
  refine b_Host_type_0 ⟨k1, c_dem K (fun e1 => ⟨a1, c_plain K.1 K.2.2.2.1 K.2.2.2.2.2.2.1 K.2.2.2.2.2.2.2.1 a1 (H.1.strs S) (by omega) (fun _ => ?_) (fun ne => absurd e1 ne)⟩) (fun ne h' a b => ⟨kF K a, q2 ne h' a b⟩)⟩
  rw [bt]
  refine ⟨fun z => ⟨k1, a1, ?_⟩, fun z => q1 _ e1 (Or.inl ⟨z, rfl⟩)⟩
  rw [r1, r3, r2]
  refine c_hfind H K (by omega) (fun i hi e => ⟨fun _ => b_Host_type_48 ⟨(H.ty hi).1, ?_⟩, fun z => absurd z (H.ty hi).2⟩) (fun ne => ⟨fun z => absurd rfl z, fun _ => ⟨k1, c_fl K (by omega) (fun h' a b => ⟨kF K a, q3 e1 z ne h' a b⟩)⟩⟩)
  have hn := H.2.2.2.1
  rw [(H.2.2.2.2.2.1 i hi).2.1, w32_of (by omega) (by omega)]
  exact q1 _ e1 (Or.inr ⟨z, i, hi, e, rfl⟩)
end
