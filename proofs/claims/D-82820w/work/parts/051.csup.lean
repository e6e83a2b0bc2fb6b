/-! C reads what a class is below of -/
set_option maxRecDepth 20000
/-- a class (an interface) more above the one that is read -/
def gSup (g : HG) (n s : Nat) : HG := ((fun a b => if a = 2 ∧ b = n ∧ g.1 1 s = 0 then (s : Int) else if a = 100 + n then (if g.1 (100 + n) b ≠ 0 ∨ g.1 (100 + s) b ≠ 0 then 1 else 0) else g.1 a b), u2 g.2 1 n (g.2 1 n ++ [(s : Int)]))
def twice (g : HG) (n s : Nat) : Prop := (s : Int) ∈ g.2 1 n ∨ (g.1 1 s = 0 ∧ (¬ g.1 1 n = 0 ∨ 0 ≤ g.1 2 n))
/-- C while it reads a host -/
def RC (ρ : Nat → Nat) (h0 h : ah) (C ho : Nat) (tp : List Int) (g : HG) (n m : Nat) (ws : List (List Int)) (t : TKN) : Prop :=
  (∃ by_ fr sz nx, HC ρ h ho g n m ws by_ fr sz nx) ∧ CK h C tp 1 t ∧ SHO ρ h ∧ (∀ i, i ≤ 12 → ρ i < hz h ∧ ρ i ≠ 0 ∧ UNO h (ρ i)) ∧ FX LH (PH ho) h0 h ∧ C + 5 < ho ∧ ho + 12 < hz h0 ∧ WI ws t.1 ∧ HZ h ho ≤ HZ h0 ho + 12 * t.1 ∧ HSl h ho ≤ HSl h0 ho + 3000 * t.1
section
variable {ρ : Nat → Nat} {d : Nat} {h h' h0 : ah} {F : Int → ah → Prop} {FR : Nat → ah → Prop} {G : ah → Prop} {E : Nat → ah → Prop} {Q : QT} {C ho a : Nat} {tp : List Int} {t t' : TKN} {g : HG} {n m : Nat} {ws : List (List Int)} {by_ fr sz nx : Nat}
theorem WI.mono {p q : Nat} (H : WI ws p) (h : p ≤ q) : WI ws q := ⟨by have := H.1; omega, by have := H.2; omega⟩
theorem nxT_le (K : CK h C tp 1 t) (H : nxT tp 1 t t') : t.2.2.1 ≤ t'.1 ∧ t.1 ≤ t'.1 ∧ t'.1 ≤ tp.length := by
  have := skp_le (ch tp) tp.length _ t.2.2.1 (Nat.le_refl _) K.2.2.2.2.2.2.2.1
  have h7 := K.2.2.2.2.2.2.1
  rw [H.1]; omega
theorem HZ_SCM {L : List Nat} {z s : Nat} {by_ fr sz nx : Nat} (W : WD h (ho + 4) 512 15360 ws by_ fr sz nx (ho + 9)) (hf : Fr L [] z s h h') (hn : L.all (fun f => !(f == f_Words_bytes || f == f_Words_from || f == f_Words_bytes + 1 || f == f_Words_from + 1)) = true) : HZ h' ho = HZ h ho + (hz h' - hz h) ∧ HSl h' ho = HSl h ho + (hs h' - hs h) := by
  obtain ⟨⟨a1, a2, a3, -⟩, ⟨b1, b2, -⟩, ⟨c1, c2, -⟩, -⟩ := W
  have no : ∀ f, (f = f_Words_bytes ∨ f = f_Words_from) → f ∉ L := fun f hf c => by
    have := List.all_eq_true.mp hn f c
    rcases hf with e | e <;> subst e <;> simp at this
  have e1 : hR h' f_Words_bytes (ho + 4) = hR h f_Words_bytes (ho + 4) := hf.R a2 (by decide) (fun c => c.elim (no _ (Or.inl rfl)) (fun c => by cases c))
  have e2 : hR h' f_Words_from (ho + 4) = hR h f_Words_from (ho + 4) := hf.R a2 (by decide) (fun c => c.elim (no _ (Or.inr rfl)) (fun c => by cases c))
  have l1 : by_ < hz h := by rw [← b1]; exact a3.1 _ _ a2 (own_of rfl)
  have l2 : fr < hz h := by rw [← b2]; exact a3.1 _ _ a2 (own_of rfl)
  have m1 := hf.la l1 (by omega)
  have m2 := hf.la l2 (by omega)
  have z1 := hf.1.1
  have z2 := hf.1.2.2.1
  unfold HZ HSl wpz wps
  rw [e1, e2, b1, b2, m1, m2]
  omega
/-- behind a fault: what stays; the words are whole; the room -/
def FQ (tp : List Int) (h0 h' : ah) (ho : Nat) : Prop := FX LH (PH ho) h0 h' ∧ (∃ ws by_ fr sz nx, WD h' (ho + 4) 512 15360 ws by_ fr sz nx (ho + 9)) ∧ HZ h' ho ≤ HZ h0 ho + 12 * (tp.length + 1) ∧ HSl h' ho ≤ HSl h0 ho + 3000 * (tp.length + 1)
theorem FQ.mk' (fx : FX LH (PH ho) h0 h) (W : WD h (ho + 4) 512 15360 ws by_ fr sz nx (ho + 9)) (hz1 : HZ h ho ≤ HZ h0 ho + 12 * (tp.length + 1)) (hs1 : HSl h ho ≤ HSl h0 ho + 3000 * (tp.length + 1)) (hf : Fr SCM [] 0 0 h h') : FQ tp h0 h' ho := by
  have e := HZ_SCM W hf (by decide)
  have z := hf.1
  exact ⟨fx.into ⟨_, _, hf⟩ (fun f hm => by simp [LH, hm]) (fun q c => by cases c), ⟨_, _, _, _, _, W.frm hf (fun f hm => nokAll (L := SCM) (P := []) (fs := [f_Words_most, f_Words_mostBytes, f_Words_many, f_Words_used, f_Words_bytes, f_Words_from, f_Words_size, f_Words_next, f_Words_heads]) rfl f hm _) ⟨(fun c => by cases c), (fun c => by cases c), (fun c => by cases c), (fun c => by cases c), (fun c => by cases c)⟩⟩, by omega, by omega⟩
theorem RC.fx (H : RC ρ h0 h C ho tp g n m ws t) (hf : Fr SCM [] 0 0 h h') : FQ tp h0 h' ho := by
  obtain ⟨⟨by_, fr, sz, nx, H1⟩, H2, H3, H4, H5, H6, H6', H7, H8, H9⟩ := H
  have a := H2.2.2.2.2.2.2.1
  have b := H2.2.2.2.2.2.2.2.1
  exact FQ.mk' H5 H1.2.2.2.2.2.2.2 (by omega) (by omega) hf
theorem RC.nxt (H : RC ρ h0 h C ho tp g n m ws t) (hf : Fr SCM [] 0 0 h h') (hn : nxT tp 1 t t') (K : CK h' C tp 1 t') : RC ρ h0 h' C ho tp g n m ws t' := by
  obtain ⟨⟨by_, fr, sz, nx, H1⟩, H2, H3, H4, H5, H6, H6', H7, H8, H9⟩ := H
  have le := nxT_le H2 hn
  have hz1 := HZ_SCM H1.2.2.2.2.2.2.2 hf (by decide)
  have z := hf.1
  refine ⟨⟨by_, fr, sz, nx, H1.frm hf ⟨⟨nokAll rfl, fun f hm c => nokAll (L := SCM) (P := []) (fs := fhos) rfl f hm _ (Or.inl c)⟩, (fun y c => by cases c), fun f hm => nokAll (L := SCM) (P := []) (fs := [f_Words_most, f_Words_mostBytes, f_Words_many, f_Words_used, f_Words_bytes, f_Words_from, f_Words_size, f_Words_next, f_Words_heads]) rfl f hm _⟩⟩, K, H3.frm ⟨_, _, hf⟩ (fun y c => by cases c) H4, fun i hi => ?_, H5.into ⟨_, _, hf⟩ (fun f hm => by simp [LH, hm]) (fun q c => by cases c), H6, H6', H7.mono (by omega), by omega, by omega⟩
  obtain ⟨r1, r2, r3⟩ := H4 i hi
  exact ⟨hf.lt r1, r2, r3.fr r1 r2 hf⟩
theorem TYO.nxt {i : Nat} (H : TYO h ho g ws i a) (HR : RC ρ h0 h C ho tp g n m ws t) (hi : i ≤ n) (hm : (g.1 3 i).toNat + (g.1 4 i).toNat ≤ m) (hf : Fr SCM [] 0 0 h h') : TYO h' ho g ws i a := by
  obtain ⟨⟨by_, fr, sz, nx, H1⟩, -⟩ := HR
  have hi2 := H1.1.2.2.1
  have s1 := hf.ar hi2 (own_of (f := f_Host_types) rfl) H1.1.2.1 H1.1.2.2.2.1 (by omega) (nok (by decide) (by decide) rfl rfl) (fun c => by cases c)
  have s2 := hf.ar hi2 (own_of (f := f_Host_members) rfl) H1.1.2.1 H1.1.2.2.2.2.1 (by omega) (nok (by decide) (by decide) rfl rfl) (fun c => by cases c)
  exact H.frm hi2 hf (fun f hm => nokAll rfl f hm _) (fun y c => by cases c) (fun k _ => s1.2.2 k) (fun k _ => s2.2.2 _)
/-- what rise writes -/
def PR (a : Nat) : List (Nat × Nat) := [(f_HostType_above, a), (f_HostType_supers + 1, a), (f_HostType_over + 1, a)]
theorem c_rise {s : Nat} (H : RC ρ h0 h C ho tp g n m ws t) (TY : TYO h ho g ws n a) (h10 : g.1 10 n = 0) (hd : 10 ≤ d) (hs : s < n) (hlen : (g.2 1 n).length ≤ 60) (q : ∀ h', Fr [] (PR a) 1 130 h h' → TYO h' ho (gSup g n s) ws n a → G h') : wpB PGm ρ d m_HostType_rise 0 [(0, vR a), (1, vR (hB h (ho + 2) s))] [] h (cV G E) := by
  obtain ⟨⟨by_, fr, sz, nx, H1⟩, -⟩ := H
  have hi := H1.1.2.2.1
  have TS := H1.2.2.2.2.2.1 s hs
  obtain ⟨⟨a1, a2, a3⟩, b1, b2, b3, b4, b5, b6, b7, ⟨c1, c2, c3⟩, ⟨d1, d2, d3⟩, ⟨e1, e2, e3, e4⟩, sv⟩ := TY
  obtain ⟨⟨sa1, sa2, sa3⟩, sb1, sb2, sb3, sb4, -, -, -, -, -, ⟨se1, se2, se3, se4⟩, -⟩ := TS
  have ne : hB h (ho + 2) s ≠ a := fun e => by rw [e, b1] at sb1; omega
  -- the list
  have F1 : Fr [] (PR a) 1 130 h (ladd h (hR h f_HostType_supers a) (hB h (ho + 2) s)) := by
    have := Fr.lad (L := []) (P := PR a) (a := hR h f_HostType_supers a) (x := hB h (ho + 2) s) (Or.inr (Or.inr (Or.inr ⟨f_HostType_supers, a, a2, own_of rfl, rfl, Or.inr (Or.inr (by simp [PR]))⟩))) (Or.inr (by rw [c1.1.1]; decide)) (Fr.r0 (h := h))
    exact this.le (by omega) (by omega)
  refine b_HostType_rise_0 hd ⟨a1, c1.1.1, ⟨c1.1, by omega, Or.inr (by rw [sa1]; decide)⟩, ?_⟩
  intro h5
  have K5 : ∀ y, y < hz h → hK h5 y = hK h y := fun y hy => K_ladd hy
  have I5 : ∀ f y, 5 ≤ f → y < hz h → hI h5 f y = hI h f y := fun f y h5 hy => I_ladd h5 hy
  have R5 : ∀ f y, 5 ≤ f → y < hz h → hR h5 f y = hR h f y := fun f y h5 hy => R_ladd h5 hy
  have ov : hR h f_HostType_over a ≠ hR h f_HostType_over (hB h (ho + 2) s) := fun e => ne (hi.2.1 _ _ _ _ a2 sa2 (own_of rfl) (own_of rfl) e e1).2.symm
  have lo : hR h f_HostType_over a < hz h := hi.1 _ _ a2 (own_of rfl)
  have los : hR h f_HostType_over (hB h (ho + 2) s) < hz h := hi.1 _ _ sa2 (own_of rfl)
  have lsu : hR h f_HostType_supers a < hz h := c1.2.2
  have lme : hR h f_HostType_members a < hz h := d1.2.2
  have lt2 : ho + 2 < hz h := H1.1.2.2.2.2.2.2.1.2.2
  have lt3 : ho + 3 < hz h := H1.1.2.2.2.2.2.2.2.1.2.2
  have nsm : hR h f_HostType_members a ≠ hR h f_HostType_supers a := fun e => absurd (hi.2.1 _ _ _ _ a2 a2 (own_of rfl) (own_of rfl) e d1.2.1).1 (by decide)
  have ns2 : ho + 2 ≠ hR h f_HostType_supers a := fun e => absurd (hi.2.1 f_Host_types ho f_HostType_supers a H1.1.2.1 a2 (own_of rfl) (own_of rfl) (by rw [H1.1.2.2.2.1, e]) (by rw [H1.1.2.2.2.1]; omega)).1 (by decide)
  have ns3 : ho + 3 ≠ hR h f_HostType_supers a := fun e => absurd (hi.2.1 f_Host_members ho f_HostType_supers a H1.1.2.1 a2 (own_of rfl) (own_of rfl) (by rw [H1.1.2.2.2.2.1, e]) (by rw [H1.1.2.2.2.2.1]; omega)).1 (by decide)
  -- the loop: over
  have lp : ∀ mm j h6, 60 - j < mm → j ≤ 60 → Fr [] (PR a) 1 130 h h6 → (∀ f y, 5 ≤ f → y < hz h → ¬ (f = f_HostType_above ∧ y = a) → hR h6 f y = hR h f y) → hR h6 f_HostType_above a = (if g.1 1 s = 0 then hB h (ho + 2) s else hR h f_HostType_above a) → (∀ y, y < hz h → hl h6 y = if y = hR h f_HostType_supers a then (g.2 1 n).length + 1 else hl h y) → (∀ y i, y < hz h → hB h6 y i = if y = hR h f_HostType_supers a ∧ i = (g.2 1 n).length then hB h (ho + 2) s else hB h y i) → (∀ f y, 5 ≤ f → y < hz h → hI h6 f y = hI h f y) →
      (∀ i, i < 60 → hA h6 (hR h f_HostType_over a) i = if i < j then (gSup g n s).1 (100 + n) i else g.1 (100 + n) i) → (∀ i, hA h6 (hR h f_HostType_over (hB h (ho + 2) s)) i = hA h (hR h f_HostType_over (hB h (ho + 2) s)) i) → wpB PGm ρ d m_HostType_rise 23 [(0, vR a), (1, vR (hB h (ho + 2) s)), (2, vI (j : Int))] [] h6 (cV G E) := by
    intro mm
    induction mm with
    | zero => intro j h6 hm; omega
    | succ mm ih =>
      intro j h6 hm hj F6 R6 A6 L6 B6 I6 O6 P6
      have kk := F6.K sa2
      have ka := F6.K a2
      have er : hR h6 f_HostType_over (hB h (ho + 2) s) = hR h f_HostType_over (hB h (ho + 2) s) := R6 _ _ (by decide) sa2 (fun c => absurd c.1 (by decide))
      have ea : hR h6 f_HostType_over a = hR h f_HostType_over a := R6 _ _ (by decide) a2 (fun c => absurd c.1 (by decide))
      have ls : hl h6 (hR h f_HostType_over (hB h (ho + 2) s)) = 60 := by rw [F6.la los (by omega)]; exact se3
      have la : hl h6 (hR h f_HostType_over a) = 60 := by rw [F6.la lo (by omega)]; exact e3
      have k4 : hK h6 (hR h f_HostType_over a) = 4 := by rw [F6.K lo]; exact e2
      have k4s : hK h6 (hR h f_HostType_over (hB h (ho + 2) s)) = 4 := by rw [F6.K los]; exact se2
      refine b_HostType_rise_23 ⟨by rw [kk]; exact sa1, by rw [er, k4s]; decide, fun z => ?_, fun z => ⟨by rw [ka]; exact a1, ?_⟩⟩
      · rw [er, ls] at z
        have ej : j = 60 := by omega
        have gk : ∀ k, k < 100 → k ≠ 2 → (gSup g n s).1 k n = g.1 k n := fun k h1 h2 => by
          simp only [gSup]; rw [if_neg (fun c => h2 c.1), if_neg (by omega)]
        refine q h6 F6 ⟨⟨by rw [ka]; exact a1, F6.lt a2, a3⟩, by rw [I6 _ _ (by decide) a2]; exact b1, ?_, by rw [I6 _ _ (by decide) a2, gk 1 (by omega) (by omega)]; exact b3, by rw [gk 1 (by omega) (by omega)]; exact b4, by rw [I6 _ _ (by decide) a2, gk 3 (by omega) (by omega)]; exact b5, by rw [gk 3 (by omega) (by omega)]; exact b6, ?_, ?_, ?_, ?_, ?_⟩
        · rw [I6 _ _ (by decide) a2]
          have : (gSup g n s).2 0 n = g.2 0 n := by simp [gSup, u2_e]
          rw [this]; exact b2
        · have B2 : ∀ i, hB h6 (ho + 2) i = hB h (ho + 2) i := fun i => by rw [B6 _ _ lt2, if_neg (fun c => ns2 c.1)]
          rw [A6, B2]
          by_cases c : g.1 1 s = 0
          · refine Or.inr ?_
            have : (gSup g n s).1 2 n = (s : Int) := by simp [gSup, c]
            rw [this, if_pos c]
            exact ⟨by omega, by omega, by simp⟩
          · have : (gSup g n s).1 2 n = g.1 2 n := by
              simp only [gSup]; rw [if_neg (fun x => c x.2.2), if_neg (by omega)]
            rw [this, if_neg c]
            rcases b7 with b7 | b7
            · exact Or.inl b7
            · exact Or.inr b7
        · have e0 : hR h6 f_HostType_supers a = hR h f_HostType_supers a := R6 _ _ (by decide) a2 (fun c => absurd c.1 (by decide))
          have g2 : (gSup g n s).2 1 n = g.2 1 n ++ [(s : Int)] := by simp [gSup, u2_e]
          rw [e0, g2]
          refine ⟨c1.fr F6, by rw [L6 _ lsu, if_pos rfl]; simp, fun k hk => ?_⟩
          simp only [List.length_append, List.length_cons, List.length_nil] at hk
          have B2 : ∀ i, hB h6 (ho + 2) i = hB h (ho + 2) i := fun i => by rw [B6 _ _ lt2, if_neg (fun c => ns2 c.1)]
          rw [app_getD1 (by omega), B6 _ _ lsu, B2]
          by_cases c : k = (g.2 1 n).length
          · rw [if_pos c, if_pos ⟨rfl, c⟩]
            exact ⟨by omega, by omega, by simp⟩
          · rw [if_neg c, if_neg (fun x => c x.2)]
            exact c3 k (by omega)
        · have e0 : hR h6 f_HostType_members a = hR h f_HostType_members a := R6 _ _ (by decide) a2 (fun c => absurd c.1 (by decide))
          have g4 : (gSup g n s).1 4 n = g.1 4 n := by simp only [gSup]; rw [if_neg (by omega), if_neg (by omega)]
          have g3 : (gSup g n s).1 3 n = g.1 3 n := by simp only [gSup]; rw [if_neg (by omega), if_neg (by omega)]
          rw [e0, g4, g3]
          have l0 : hl h6 (hR h f_HostType_members a) = hl h (hR h f_HostType_members a) := by rw [L6 _ lme, if_neg nsm]
          refine ⟨d1.fr F6, by rw [l0]; exact d2, fun k hk => ?_⟩
          rw [l0] at hk
          rw [B6 _ _ lme, if_neg (fun c => nsm c.1), B6 _ _ lt3, if_neg (fun c => ns3 c.1)]
          exact d3 k hk
        · rw [ea]
          refine ⟨e1, k4, la, fun i hi => ⟨by rw [O6 i hi, if_pos (by omega)], ?_⟩⟩
          have gv : (gSup g n s).1 (100 + n) i = if g.1 (100 + n) i ≠ 0 ∨ g.1 (100 + s) i ≠ 0 then 1 else 0 := by
            show (if 100 + n = 2 ∧ i = n ∧ g.1 1 s = 0 then (s : Int) else if 100 + n = 100 + n then _ else _) = _
            rw [if_neg (by omega), if_pos rfl]
          rw [gv]
          split
          · exact Or.inr rfl
          · exact Or.inl rfl
        · rcases sv with sv | sv
          · refine Or.inl ⟨by rw [gk 10 (by omega) (by omega)]; exact h10, ?_, ?_⟩
            · rw [R6 _ _ (by decide) a2 (fun c => absurd c.1 (by decide))]; exact sv.2.1
            · rw [R6 _ _ (by decide) a2 (fun c => absurd c.1 (by decide))]; exact sv.2.2
          · rw [h10] at sv; exact absurd sv.1 (by decide)
      · rw [er, ls] at z
        have hj2 : j < 60 := by omega
        have gj : (0 : Int) ≤ (j : Int) ∧ (j : Int) < (60 : Int) := by omega
        have oj := O6 j hj2
        rw [if_neg (by omega)] at oj
        have w : j ≤ 2000000000 := by omega
        have go : ∀ v : Int, v = (gSup g n s).1 (100 + n) j → (v = 0 ∨ v = 1) → wpB PGm ρ d m_HostType_rise 60 [(0, vR a), (1, vR (hB h (ho + 2) s)), (2, vI (j : Int))] [vI v, vI (j : Int), vR (hR h f_HostType_over a)] h6 (cV G E) := fun v ev hv => by
          refine b_HostType_rise_60 ⟨⟨Or.inr ⟨k4, hv⟩, gj.1, by rw [la]; exact gj.2⟩, ?_⟩
          rw [Int.toNat_natCast, w32_s w]
          refine ih (j + 1) _ (by omega) (by omega) (Fr.wA (Or.inr (Or.inr (Or.inr ⟨f_HostType_over, a, a2, own_of rfl, rfl, Or.inr (Or.inr (by simp [PR]))⟩))) F6) R6 A6 L6 B6 I6 (fun i hi => ?_) (fun i => ?_)
          · rw [g_hA_sA]
            by_cases c : i = j
            · rw [if_pos ⟨rfl, c⟩, if_pos (by omega), c]; exact ev
            · rw [if_neg (fun x => c x.2), O6 i hi]
              by_cases c2 : i < j
              · rw [if_pos c2, if_pos (by omega)]
              · rw [if_neg c2, if_neg (by omega)]
          · rw [g_hA_sA, if_neg (fun x => ov x.1.symm)]; exact P6 i
        have gv : (gSup g n s).1 (100 + n) j = if g.1 (100 + n) j ≠ 0 ∨ g.1 (100 + s) j ≠ 0 then 1 else 0 := by
          show (if 100 + n = 2 ∧ j = n ∧ g.1 1 s = 0 then (s : Int) else if 100 + n = 100 + n then _ else _) = _
          rw [if_neg (by omega), if_pos rfl]
        rw [ea, er, Int.toNat_natCast, oj, P6, (se4 j hj2).1]
        refine ⟨⟨by rw [k4]; decide, gj.1, by rw [la]; exact gj.2⟩, fun z => go 1 ?_ (Or.inr rfl), fun z => ⟨⟨by rw [k4s]; decide, gj.1, by rw [ls]; exact gj.2⟩, fun y => go 0 ?_ (Or.inl rfl), fun y => go 1 ?_ (Or.inr rfl)⟩⟩
        · rw [gv, if_pos (Or.inl z)]
        · rw [gv, if_neg (fun c => c.elim (fun x => x z) (fun x => x y))]
        · rw [gv, if_pos (Or.inr y)]
  have B5 : ∀ y i, y < hz h → hB h5 y i = if y = hR h f_HostType_supers a ∧ i = (g.2 1 n).length then hB h (ho + 2) s else hB h y i := fun y i hy => by rw [← c2]; exact B_ladd lsu hy
  have L5 : ∀ y, y < hz h → hl h5 y = if y = hR h f_HostType_supers a then (g.2 1 n).length + 1 else hl h y := fun y hy => by rw [← c2]; exact l_ladd lsu hy
  have z5 : hz h ≤ hz h5 := z_ladd.1
  refine ⟨by rw [K5 _ sa2]; exact sa1, fun z => ?_, fun z => ⟨by rw [K5 _ a2]; exact a1, ?_⟩⟩
  · rw [I5 _ _ (by decide) sa2, sb3] at z
    refine lp _ 0 h5 (Nat.lt_succ_self _) (by omega) F1 (fun f y h5 hy _ => R5 f y h5 hy) (by rw [R5 _ _ (by decide) a2, if_neg z]) L5 B5 I5 (fun i hi => ?_) (fun i => A_ladd los)
    rw [if_neg (by omega), show hA h5 (hR h f_HostType_over a) i = _ from A_ladd lo]; exact (e4 i hi).1
  · rw [I5 _ _ (by decide) sa2, sb3] at z
    refine lp _ 0 _ (Nat.lt_succ_self _) (by omega) (Fr.wR (Or.inr (by simp [PR])) (fun c => absurd (show ownF.elem f_HostType_above = true from c) (by decide)) F1) (fun f y h5 hy hn => ?_) ?_ L5 B5 I5 (fun i hi => ?_) (fun i => A_ladd los)
    · rw [g_hR_sR, if_neg hn]; exact R5 f y h5 hy
    · rw [g_hR_sR, if_pos ⟨rfl, rfl⟩, if_pos z]
    · rw [if_neg (by omega)]
      show hA h5 (hR h f_HostType_over a) i = _
      rw [show hA h5 (hR h f_HostType_over a) i = _ from A_ladd lo]; exact (e4 i hi).1
end
