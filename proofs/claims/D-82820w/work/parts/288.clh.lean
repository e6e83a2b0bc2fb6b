/-! C: a look at a host: names that are not there; getters -/
set_option maxRecDepth 20000
section
variable {ρ : Nat → Nat} {d : Nat} {Q : QT} {Γ : GH} {h h' h1 h2 B : ah} {C ho k n m i j N M a b z s x y nw r f o kn ac e c D : Nat} {g : HG} {v p es lo sb st kd nm κ : Int} {ws hw : List (List Int)} {L ts cl pf bs Wd : List Int} {S : SS} {X X' : X3} {Y Y' : Y3} {w : Nat → Bool}
theorem HCX.nmw (H : HCX ρ h ho g N M hw) (hm : m < M) (n2 : ¬ g.1 6 m = 2) : g.2 3 m ∈ hw := by
  obtain ⟨-, -, -, -, -, -, -, -, -, m6, -⟩ := H.me hm
  rcases m6 with ⟨c, -⟩ | ⟨-, w, w1, w2, -⟩
  · exact absurd c n2
  · rw [← w2]
    simp only [List.getD, List.getElem?_eq_getElem w1, Option.getD_some]
    exact List.getElem_mem w1
theorem ord_lt (W : HGW g N) (hc : c < N) : ∀ x, x ∈ ordG g c → x < N := fun x hx => by
  obtain ⟨r, e, pr⟩ := ord_ext W hc
  rw [e] at hx
  rcases List.mem_append.mp hx with c1 | c1
  · exact chn_lt W 61 (c : Int) (by omega) (by omega) x c1
  · exact (pr x c1).2
/-- no method of a name that the host does not have -/
theorem col_none (W : HGW g N) (W2 : HMW g N M) (H : HCX ρ h ho g N M hw) (hc : c < N) (hn : Wd ∉ hw) : colG g (wtB g st Wd p) (ordG g c) = [] := by
  have := colG_no (g := g) (w := wtB g st Wd p) (o := []) (r := ordG g c) (fun k hk m hm => by
    have mM := mem_lt W2 (ord_lt W hc k hk) m hm
    unfold wtB
    by_cases k1 : g.1 6 m = 1
    · have : ¬ g.2 3 m = Wd := fun e => hn (by rw [← e]; exact H.nmw mM (by omega))
      rw [decide_eq_false this]; simp
    · rw [decide_eq_false k1]; rfl)
  rw [List.nil_append] at this
  rw [this]; rfl
theorem fld_none (W : HGW g N) (W2 : HMW g N M) (H : HCX ρ h ho g N M hw) (hc : c < N) (hn : Wd ∉ hw) : fldG g st Wd b (c : Int) = none := by
  unfold fldG
  rw [List.findSome?_eq_none_iff]
  intro k hk
  rw [List.find?_eq_none]
  intro m hm z
  have mM := mem_lt W2 (chn_lt W b (c : Int) (by omega) (by omega) k hk) m hm
  unfold fbB at z
  simp only [Bool.and_eq_true, decide_eq_true_eq] at z
  exact hn (by rw [← z.2.2]; exact H.nmw mM (by omega))
/-- what C knows as it looks at a host -/
def LHP (ρ : Nat → Nat) (Γ : GH) (g : HG) (h : ah) (C ho : Nat) (X : X3) (Y : Y3) (S : SS) (N M : Nat) (ws hw : List (List Int)) (k c : Nat) (L : List Int) (st : Int) : Prop := CORE Γ h C ho X Y S N ∧ NMR h C S ws ∧ HCX ρ h ho g N M hw ∧ Y 98 f_Lookup_host 0 = ho ∧ STM ρ h ∧ (HGW g N ∧ HMW g N M ∧ HPW g N M ∧ HWX g N M) ∧ (k < 4000 → k < ws.length ∧ ws.getD k [] = L ∧ 1 ≤ L.length ∧ ∀ i, i < L.length → 0 ≤ L.getD i 0 ∧ L.getD i 0 ≤ 127) ∧ (c < N ∧ Y 53 f_Found_type 0 = hB h (ho + 2) c) ∧ ((st = 0 ∨ st = 1) ∧ (st = 0 → g.1 1 c = 0))
theorem LHP.chf (A : LHP ρ Γ g h C ho X Y S N M ws hw k c L st) (B : CHF h C ho e h1) (eX : EXX LXA X X') (y1 : Y' 98 f_Lookup_host 0 = Y 98 f_Lookup_host 0) (y2 : Y' 53 f_Found_type 0 = Y 53 f_Found_type 0) (eY : ∀ o f, L7.elem f = true → ∀ i, Y' o f i = Y o f i) : LHP ρ Γ g h1 C ho X' Y' S N M ws hw k c L st := by
  obtain ⟨a1, a2, a3, a4, a5, a6, a7, ⟨a8, a9⟩, a10⟩ := A
  obtain ⟨b2, b3, HB⟩ := B.bb a3
  have co := (a1.chf B EXS.rf (Int.le_refl _) eX eY).1.1
  obtain ⟨⟨z, s, fr⟩, -⟩ := B
  refine ⟨co, ?_, HB, by rw [y1]; exact a4, a5.fr fr PMN0, a6, a7, ⟨a8, by rw [y2, b2]; exact a9⟩, a10⟩
  exact a2.fr fr (djL (by decide +kernel)) PMN0 EXS.rf
/-- the getter of a name with letters ahead -/
theorem r_getw {KK : Nat → ah → Prop} {E1 E2 : Nat → ah → Prop} (A : LHP ρ Γ g h C ho X Y S N M ws hw k c L st) (k4 : k < 4000) (hD : 72 ≤ D) (sk : SOK h r pf) (p1 : pf ≠ []) (p3 : pf.length ≤ 3) (pr : ∀ i, i < pf.length → 0 ≤ pf.getD i 0 ∧ pf.getD i 0 ≤ 127) (q : ∀ h1 bs a, CHF h C ho 0 h1 → ((∃ m l, colG g (wtB g st (wtL pf L) 0) (ordG g c) = m :: l ∧ m < M ∧ a = hB h1 (ho + 3) m) ∨ (colG g (wtB g st (wtL pf L) 0) (ordG g c) = [] ∧ a = 0)) → KK a (cc h1 C (wdX X bs) Y)) : wpB PGm ρ D m_Lookup_hostName 0 [(0, vR (C + 98)), (1, vR r), (2, vI (k : Int))] [] (cc h C X Y) (cI (fun x10 h5 => ((0 ≤ x10 → hK h5 (C + 98) = k_Lookup ∧ hK h5 (C + 53) = k_Found ∧ hK h5 (hR h5 f_Lookup_host (C + 98)) = k_Host ∧ wpB PGm ρ D m_Host_getter 0 [(0, vR (hR h5 f_Lookup_host (C + 98))), (1, vR (hR h5 f_Found_type (C + 53))), (2, vI st), (3, vI x10)] [] h5 (cR KK E1)) ∧ (x10 < 0 → KK 0 h5))) E2) := by
  obtain ⟨a1, a2, a3, a4, a5, ⟨w1, w2, w3, w4⟩, bb, ⟨a8, a9⟩, a10, a11⟩ := A
  obtain ⟨b1, b2, b3, b4⟩ := bb k4
  have F := a1.1.2
  have G := a1.1.1
  refine r_hostName a1 a2 a3 a4 (by omega) sk p3 pr b1 b2 b3 b4 (fun v fw bs => ?_)
  show (0 ≤ v → _) ∧ (v < 0 → _)
  have yh : hR (cc h C (wdX X bs) Y) f_Lookup_host (C + 98) = ho := by rw [ccR (by decide)]; exact a4
  have yt : hR (cc h C (wdX X bs) Y) f_Found_type (C + 53) = hB h (ho + 2) c := by rw [ccR (by decide)]; exact a9
  have HXc : HCX ρ (cc h C (wdX X bs) Y) ho g N M hw := a3.fr (cc_fr G) (by unfold DJ; decide) (by simp)
  have bc : hB (cc h C (wdX X bs) Y) (ho + 2) c = hB h (ho + 2) c := by
    have := ccBo (X := wdX X bs) (Y := Y) (i := c) (f := f_Host_types) (b := ho) G (by decide) a3.hh.2.1
    rw [a3.hh.2.2.1] at this; exact this
  rw [yh, yt]
  refine ⟨fun v0 => ⟨F.1.2.2.2.2.2.2.2.2, F.1.2.2.2.2.2.2.1, a3.hh.1, ?_⟩, fun v0 => ?_⟩
  · rcases fw with ⟨nw, ev, n1, n2⟩ | ⟨ev, -⟩
    · rw [ev, ← bc]
      refine wp_d (show D - 72 + 72 = D by omega) (c_getter (d := D - 72) w1 w2 w4 a8 a10 a11 n1 n2 HXc (fun h1 m l MF em mM => ?_) (fun h1 MF em => ?_))
      · obtain ⟨CF, EB⟩ := MF.mac G F
        have := q h1 bs _ CF (Or.inl ⟨m, l, em, mM, rfl⟩)
        rw [EB] at this; exact this
      · obtain ⟨CF, EB⟩ := MF.mac G F
        have := q h1 bs 0 CF (Or.inr ⟨em, rfl⟩)
        rw [EB] at this; exact this
    · omega
  · rcases fw with ⟨nw, ev, n1, n2⟩ | ⟨ev, nn⟩
    · omega
    · exact q h bs 0 (CHF.rf G F) (Or.inr ⟨col_none w1 w2 a3 a8 nn, rfl⟩)
/-- the field of a name -/
theorem r_fldw {KK : Nat → ah → Prop} {E1 E2 : Nat → ah → Prop} (A : LHP ρ Γ g h C ho X Y S N M ws hw k c L st) (k4 : k < 4000) (hD : 14 ≤ D) (sk : SOK h r []) (q : ∀ bs a, ((∃ m, fldG g st L 61 (c : Int) = some m ∧ m < M ∧ a = hB h (ho + 3) m) ∨ (fldG g st L 61 (c : Int) = none ∧ a = 0)) → KK a (cc h C (wdX X bs) Y)) : wpB PGm ρ D m_Lookup_hostName 0 [(0, vR (C + 98)), (1, vR r), (2, vI (k : Int))] [] (cc h C X Y) (cI (fun x14 h9 => hK h9 (C + 98) = k_Lookup ∧ wpB PGm ρ D m_Lookup_field 0 [(0, vR (C + 98)), (1, vR (C + 53)), (2, vI st), (3, vI x14)] [] h9 (cR KK E1)) E2) := by
  obtain ⟨a1, a2, a3, a4, a5, ⟨w1, w2, w3, w4⟩, bb, ⟨a8, a9⟩, a10, a11⟩ := A
  obtain ⟨b1, b2, b3, b4⟩ := bb k4
  have F := a1.1.2
  have G := a1.1.1
  refine r_hostName a1 a2 a3 a4 (by omega) sk (by decide) (fun i hi => absurd hi (Nat.not_lt_zero _)) b1 b2 b3 b4 (fun v fw bs => ?_)
  have eW : wtL [] L = L := by unfold wtL; rw [if_pos rfl]
  rw [eW] at fw
  have yt : hR (cc h C (wdX X bs) Y) f_Found_type (C + 53) = hB h (ho + 2) c := by rw [ccR (by decide)]; exact a9
  have HXc : HCX ρ (cc h C (wdX X bs) Y) ho g N M hw := a3.fr (cc_fr G) (by unfold DJ; decide) (by simp)
  have bc : ∀ i, hB (cc h C (wdX X bs) Y) (ho + 2) i = hB h (ho + 2) i := fun i => by
    have := ccBo (X := wdX X bs) (Y := Y) (i := i) (f := f_Host_types) (b := ho) G (by decide) a3.hh.2.1
    rw [a3.hh.2.2.1] at this; exact this
  have bc3 : ∀ i, hB (cc h C (wdX X bs) Y) (ho + 3) i = hB h (ho + 3) i := fun i => by
    have := ccBo (X := wdX X bs) (Y := Y) (i := i) (f := f_Host_members) (b := ho) G (by decide) a3.hh.2.1
    rw [a3.hh.2.2.2.1] at this; exact this
  refine ⟨F.1.2.2.2.2.2.2.2.2, b_Lookup_field_0 ⟨fun v0 => ⟨F.1.2.2.2.2.2.2.1, ?_⟩, fun v0 => ?_⟩⟩
  · rw [yt]
    rcases fw with ⟨nw, ev, n1, n2⟩ | ⟨ev, -⟩
    · rw [ev]
      have eh : hB h (ho + 2) c = hcA (cc h C (wdX X bs) Y) ho (c : Int) := by
        unfold hcA
        rw [if_neg (by omega), Int.toNat_natCast, bc]
      rw [eh]
      have N60 := a3.hh.2.2.2.2.2.2.2.2.2.1
      refine wp_d (show D - 11 + 11 = D by omega) (c_lfield (d := D - 11) (b := 60) w1 w2 w4 a10 n1 n2 HXc (fun m em mM => ?_) (fun em => ?_) (by omega) (by omega) (by omega))
      · rw [bc3]; exact q bs _ (Or.inl ⟨m, em, mM, rfl⟩)
      · exact q bs 0 (Or.inr ⟨em, rfl⟩)
    · omega
  · rcases fw with ⟨nw, ev, n1, n2⟩ | ⟨ev, nn⟩
    · omega
    · exact q bs 0 (Or.inr ⟨fld_none w1 w2 a3 a8 nn, rfl⟩)
end
