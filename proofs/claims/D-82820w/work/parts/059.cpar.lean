/-! C reads parameters -/
set_option maxRecDepth 20000
section
variable {ρ : Nat → Nat} {d : Nat} {h h' h0 : ah} {F : Int → ah → Prop} {FR : Nat → ah → Prop} {G : ah → Prop} {E : Nat → ah → Prop} {Q : QT} {C ho a : Nat} {tp : List Int} {t t' : TKN} {g : HG} {n m : Nat} {ws : List (List Int)} {by_ fr sz nx_ : Nat}
theorem HZ_frm {L : List Nat} {P : List (Nat × Nat)} {z s : Nat} (W : WD h (ho + 4) 512 15360 ws by_ fr sz nx_ (ho + 9)) (W' : WD h' (ho + 4) 512 15360 ws by_ fr sz nx_ (ho + 9)) (hf : Fr L P z s h h') : HZ h' ho ≤ HZ h ho + z ∧ HSl h' ho ≤ HSl h ho + s := by
  have e1 := W.words
  have e2 := W'.words
  have ad := W.addr
  have m1 := hf.la ad.1 (by rw [W.2.2.1.1]; decide)
  have m2 := hf.la ad.2.1 (by rw [W.2.2.1.2.1]; decide)
  have zz := hf.1
  unfold HZ HSl wpz wps
  rw [e1.1, e1.2, e2.1, e2.2, m1, m2]
  omega
theorem RC.frm {L : List Nat} {P : List (Nat × Nat)} {z s : Nat} (H : RC ρ h0 h C ho tp g n m ws t) (hf : Fr L P z s h h') (hN : nHC L P ho) (K : CK h' C tp 1 t') (le : t.1 ≤ t'.1) (hL : ∀ f, f ∈ L → f ∈ LH) (hP : ∀ q, q ∈ P → q ∈ PH ho ∨ (5 ≤ q.1 ∧ q.1 ∈ LH) ∨ (5 ≤ q.1 ∧ hz h0 ≤ q.2)) (hz1 : z ≤ 12 * (t'.1 - t.1)) (hs1 : s ≤ 3000 * (t'.1 - t.1)) : RC ρ h0 h' C ho tp g n m ws t' := by
  obtain ⟨⟨by_, fr, sz, nx, H1⟩, H2, H3, H4, H5, H6, H6', H7, H8, H9⟩ := H
  have H1' := H1.frm hf hN
  have zz := HZ_frm H1.2.2.2.2.2.2.2 H1'.2.2.2.2.2.2.2 hf
  refine ⟨⟨by_, fr, sz, nx, H1'⟩, K, H3.frm ⟨_, _, hf⟩ hN.2.1 H4, fun i hi => ?_, H5.into ⟨_, _, hf⟩ hL hP, H6, H6', H7.mono le, by omega, by omega⟩
  obtain ⟨r1, r2, r3⟩ := H4 i hi
  exact ⟨hf.lt r1, r2, r3.fr r1 r2 hf⟩
/-- the draft -/
def DR (h : ah) (ho : Nat) (ps : List Int) (va : Int) : Prop := hI h f_Host_drafted ho = (ps.length : Int) ∧ hI h f_Host_draftVariable ho = va ∧ ps.length ≤ 8 ∧ ∀ i, i < ps.length → hA h (ho + 10) i = ps.getD i 0
def LDr : List Nat := [f_Host_drafted, f_Host_draftVariable]
def PDr (ho : Nat) : List (Nat × Nat) := [(f_Host_draft + 1, ho)]
theorem nDr : nHC LDr (PDr ho) ho := ⟨⟨nokAll rfl, fun f hm c => by
  have : f ∈ fhos → (LDr.elem f = false) ∧ ((PDr ho).map Prod.fst).elem f = false := fun hm => by
    simp only [fhos, List.mem_cons, List.not_mem_nil, or_false] at hm
    rcases hm with e | e | e | e | e | e | e <;> subst e <;> exact ⟨rfl, rfl⟩
  exact nokW (this hm).1 (this hm).2 c⟩, nP0 rfl, fun f hm => nokAll (L := LDr) (P := PDr ho) (fs := [f_Words_most, f_Words_mostBytes, f_Words_many, f_Words_used, f_Words_bytes, f_Words_from, f_Words_size, f_Words_next, f_Words_heads]) rfl f hm _⟩
theorem RC.dr (H : RC ρ h0 h C ho tp g n m ws t) (hf : Fr LDr (PDr ho) 0 0 h h') : RC ρ h0 h' C ho tp g n m ws t :=
  H.frm hf nDr (H.2.1.fr hf (fun x f hm => nokAll (L := LDr) (P := PDr ho) rfl f hm x) (nP0 rfl)) (Nat.le_refl _) (fun f hm => by simp [LDr] at hm; rcases hm with e | e <;> subst e <;> decide) (fun q hq => Or.inl (by simp [PDr] at hq; subst hq; simp [PH])) (Nat.zero_le _) (Nat.zero_le _)
theorem DR.scm {ps : List Int} {va : Int} (D : DR h ho ps va) (H : RC ρ h0 h C ho tp g n m ws t) (hf : Fr SCM [] 0 0 h h') : DR h' ho ps va := by
  obtain ⟨⟨by_, fr, sz, nx, H1⟩, -⟩ := H
  have l := H1.1.2.1
  have c1 := H1.1.2.2.2.2.2.2.2.2.2.1.1
  have s := hf.ar H1.1.2.2.1 (own_of (f := f_Host_draft) rfl) l c1 (by omega) (nok rfl rfl rfl rfl) (fun c => by cases c)
  exact ⟨by rw [hf.I l (by decide) (nokW rfl rfl)]; exact D.1, by rw [hf.I l (by decide) (nokW rfl rfl)]; exact D.2.1, D.2.2.1, fun i hi => by rw [s.2.1]; exact D.2.2.2 i hi⟩
theorem RC.tysame (H : RC ρ h0 h C ho tp g n m ws t) (hf : Fr SCM [] 0 0 h h') (i : Nat) : hB h' (ho + 2) i = hB h (ho + 2) i := by
  obtain ⟨⟨_, _, _, _, H1⟩, -⟩ := H
  exact (hf.ar H1.1.2.2.1 (own_of (f := f_Host_types) rfl) H1.1.2.1 H1.1.2.2.2.1 (by omega) (nok rfl rfl rfl rfl) (fun c => by cases c)).2.2 i
theorem DR.tysame {L : List Nat} {z s : Nat} (H : RC ρ h0 h C ho tp g n m ws t) (hf : Fr L (PDr ho) z s h h') (hL : (!(L.elem f_Host_types) && !(L.elem (f_Host_types + 1))) = true) (i : Nat) : hB h' (ho + 2) i = hB h (ho + 2) i := by
  obtain ⟨⟨_, _, _, _, H1⟩, -⟩ := H
  simp only [Bool.and_eq_true, Bool.not_eq_true'] at hL
  exact (hf.ar H1.1.2.2.1 (own_of (f := f_Host_types) rfl) H1.1.2.1 H1.1.2.2.2.1 (by omega) (nok hL.1 hL.2 rfl rfl) (nP0 rfl _)).2.2 i
theorem RC.hc (H : RC ρ h0 h C ho tp g n m ws t) : hK h ho = k_Host ∧ hK h (C + 3) = k_Scanner ∧ ho < hz h ∧ INJ h := ⟨by obtain ⟨⟨_, _, _, _, H1⟩, -⟩ := H; exact H1.1.1, H.2.1.1.1.1, by obtain ⟨⟨_, _, _, _, H1⟩, -⟩ := H; exact H1.1.2.1, by obtain ⟨⟨_, _, _, _, H1⟩, -⟩ := H; exact H1.1.2.2.1⟩
theorem tyV_of {l : List Int} {k : Int} (df : difN g n) (hnr : ∀ i, i < n → g.2 0 i ∉ plainW) (H : tyOf g n l k) : tyV g n l = some k := by
  unfold tyV
  rcases H with ⟨a, b⟩ | ⟨a, i, hi, e, b⟩
  · rw [if_pos a, b]
  · rw [if_neg (by omega), idxN_e df hi e, b]
theorem tyV_no {l : List Int} (a : plc plainW l < 0) (b : ∀ i, i < n → g.2 0 i ≠ l) : tyV g n l = none := by
  unfold tyV
  rw [if_neg (by omega), idxN_0 b]
theorem c_pars {B : Nat → Nat} (df : difN g n) (hnr : ∀ i, i < n → g.2 0 i ∉ plainW) (hd : 10 ≤ d) : ∀ f ps t h, tp.length - t.1 < f → RC ρ h0 h C ho tp g n m ws t → DR h ho ps 0 → (∀ i, hB h (ho + 2) i = B i) →
    (∀ h' ps' va t', rdPars tp g n f ps t = Sum.inr (ps', va, t') → RC ρ h0 h' C ho tp g n m ws t' → DR h' ho ps' va → (va = 0 ∨ va = 1) → t.1 ≤ t'.1 → t'.2.1 = 41 → (∀ i, hB h' (ho + 2) i = B i) → G h') →
    (∀ h' w p, rdPars tp g n f ps t = Sum.inl (w, p) → FQ tp h0 h' ho → hI h' f_Fault_told (C + 2) = w + 16 * (p : Int) → E (C + 2) h') →
    wpB PGm ρ (d + 4) m_Host_readParameters 22 [(0, vR ho), (1, vR (C + 3)), (2, vI 1)] [] h (cV G E) := by
  intro f
  induction f with
  | zero => intro ps t h hm; omega
  | succ f ih =>
    intro ps t h hm H D hb q1 q2
    obtain ⟨a1, k1, lho, hi⟩ := H.hc
    obtain ⟨⟨by_, fr, sz, nx0, H1⟩, K, S1, -⟩ := id H
    refine b_Host_readParameters_22 ⟨fun z => absurd z (by decide), fun _ => ⟨a1, c_type H1 K S1 (by omega) (fun k e1 tk => ?_) (fun ne h' x y => ⟨kF K x, q2 h' 1 t.1 (by rw [rdPars, if_pos ne]) (H.fx x) y⟩) (fun e1 e2 e3 h' x y => ⟨kF K x, q2 h' 3 t.1 (by rw [rdPars, if_neg (by rw [e1]; simp), tyV_no e2 e3]) (H.fx x) y⟩)⟩⟩
    have tv := tyV_of df hnr tk
    have eq0 : rdPars tp g n (f + 1) ps t = if k = 0 then Sum.inl (3, t.1) else if ps.length = 8 then Sum.inl (5, t.1) else
      if (nx tp 1 t).2.1 = 136 then (if (nx tp 1 (nx tp 1 t)).2.1 = 41 then Sum.inr (ps ++ [k], 1, nx tp 1 (nx tp 1 t)) else Sum.inl (1, (nx tp 1 (nx tp 1 t)).1)) else
      if (nx tp 1 t).2.1 = 44 then rdPars tp g n f (ps ++ [k]) (nx tp 1 (nx tp 1 t)) else
      if (nx tp 1 t).2.1 = 41 then Sum.inr (ps ++ [k], 0, nx tp 1 t) else Sum.inl (1, (nx tp 1 t).1) := by
      rw [rdPars, if_neg (by rw [e1]; simp), tv]
    refine ⟨fun nk => ?_, fun ek => ⟨k1, c_fl K (by omega) (fun h' x y => ⟨kF K x, q2 h' 3 t.1 (by rw [eq0, if_pos ek]) (H.fx x) y⟩)⟩⟩
    rw [if_neg nk] at eq0
    refine b_Host_readParameters_41 ⟨a1, fun n8 => ?_, fun e8 => ⟨k1, c_fl K (by omega) (fun h' x y => ⟨kF K x, q2 h' 5 t.1 (by rw [eq0, if_pos (by have := D.1; omega)]) (H.fx x) y⟩)⟩⟩
    rw [D.1] at n8
    have n8' : ¬ ps.length = 8 := by omega
    rw [if_neg n8'] at eq0
    have l8 := D.2.2.1
    obtain ⟨c1, c2, c3⟩ := H1.1.2.2.2.2.2.2.2.2.2.1
    refine b_Host_readParameters_55 ⟨a1, ?_⟩
    rw [c1, D.1, Int.toNat_natCast]
    refine ⟨⟨c2, by omega, by rw [c3]; omega⟩, ?_⟩
    intro h3
    have p9 : ps.length ≤ 2000000000 := by omega
    rw [show hI h3 f_Host_drafted ho = (ps.length : Int) from D.1, w32_s p9]
    intro h4
    have F4 : Fr LDr (PDr ho) 0 0 h h4 := Fr.wI (by decide) (Or.inl (by simp [LDr])) (Fr.wA (Or.inr (Or.inr (Or.inr ⟨f_Host_draft, ho, lho, own_of rfl, c1, Or.inr (Or.inr (by simp [PDr]))⟩))) Fr.r0)
    have R4 := H.dr F4
    have hb4 : ∀ i, hB h4 (ho + 2) i = B i := fun i => (DR.tysame H F4 rfl i).trans (hb i)
    have D4 : DR h4 ho (ps ++ [k]) 0 := by
      refine ⟨by simp only [List.length_append, List.length_cons, List.length_nil]; exact I_I _ _ _ _, ?_, by simp; omega, fun i hi => ?_⟩
      · show hI (sI h3 f_Host_drafted ho _) f_Host_draftVariable ho = 0
        rw [g_hI_sI, if_neg (fun c => absurd c.1 (by decide))]; exact D.2.1
      · simp only [List.length_append, List.length_cons, List.length_nil] at hi
        show hA h3 (ho + 10) i = _
        rw [app_getD1 (by omega), show hA h3 (ho + 10) i = if ho + 10 = ho + 10 ∧ i = ps.length then k else hA h (ho + 10) i from rfl]
        by_cases c : i = ps.length
        · rw [if_pos ⟨rfl, c⟩, if_pos c]
        · rw [if_neg (fun x => c x.2), if_neg c]; exact D.2.2.2 i (by omega)
    have K4 := R4.2.1
    have tl := tkB_len K e1
    refine ⟨K4.1.1.1, c_nxf K4 (fun h7 f7 n7 b7 K7 => ?_) (fun h7 f7 n7 b7 e7 => ⟨kF K4 f7, q2 h7 1 _ (by rw [eq0, if_neg (by omega), if_neg (by omega), if_neg (by omega)]) (R4.fx f7) e7⟩)⟩
    have R7 := R4.nxt f7 n7 K7
    have D7 := D4.scm R4 f7
    have hb7 : ∀ i, hB h7 (ho + 2) i = B i := fun i => (R4.tysame f7 i).trans (hb4 i)
    have le7 := nxT_le K4 n7
    have kk7 := K7.2.2.2.1.1
    obtain ⟨a17, k17, lho7, hi7⟩ := R7.hc
    have to7 : (nx tp 1 t).1 ≤ tp.length := le7.2.2
    -- the variable one
    have var : ∀ v : Int, (v = 0 ∨ v = 1) → ∀ h8, Fr LDr (PDr ho) 0 0 h7 h8 → h8 = sI h7 f_Host_draftVariable ho v → DR h8 ho (ps ++ [k]) v := fun v hv h8 _ e8 => by
      subst e8
      refine ⟨?_, I_I _ _ _ _, D7.2.2.1, D7.2.2.2⟩
      rw [g_hI_sI, if_neg (fun c => absurd c.1 (by decide))]; exact D7.1
    refine ⟨k17, fun z => ?_, fun z => ?_⟩
    · rw [kk7] at z
      rw [if_neg z] at eq0
      refine b_Host_readParameters_95 ⟨a17, Or.inl rfl, ?_⟩
      intro h8
      have F8 : Fr LDr (PDr ho) 0 0 h7 h8 := Fr.wI (by decide) (Or.inl (by simp [LDr])) Fr.r0
      have R8 := R7.dr F8
      have D8 := var 0 (Or.inl rfl) h8 F8 rfl
      have dv : hI h8 f_Host_draftVariable ho = 0 := D8.2.1
      refine ⟨a17, fun _ => b_Host_readParameters_109 ⟨a17, fun y => absurd dv y, fun _ => ⟨k17, fun y => ?_, fun y => ?_⟩⟩, fun y => absurd dv y⟩
      · rw [show hI h8 f_Scanner_kind (C + 3) = (nx tp 1 t).2.1 from kk7] at y
        rw [if_neg y] at eq0
        refine b_Host_readParameters_130 ⟨fun _ => b_Host_readParameters_22 ⟨fun _ => ⟨k17, c_dem R8.2.1 (fun e => ?_) (fun ne h' x y => ⟨kF R8.2.1 x, ?_⟩)⟩, fun z => absurd rfl z⟩, fun z => absurd rfl z⟩
        · exact q1 h8 (ps ++ [k]) 0 (nx tp 1 t) (by rw [eq0, if_pos e]) R8 D8 (Or.inl rfl) le7.2.1 e hb7
        · exact q2 h' 1 (nx tp 1 t).1 (by rw [eq0, if_neg ne]) (R8.fx x) y
      · rw [show hI h8 f_Scanner_kind (C + 3) = (nx tp 1 t).2.1 from kk7] at y
        rw [if_pos y] at eq0
        refine b_Host_readParameters_130 ⟨fun z => absurd z (by decide), fun _ => ⟨k17, c_nxf R8.2.1 (fun h9 f9 n9 b9 K9 => ?_) (fun h9 f9 n9 b9 e9 => ⟨kF R8.2.1 f9, ?_⟩)⟩⟩
        · have R9 := R8.nxt f9 n9 K9
          have le9 := nxT_le R8.2.1 n9
          refine ih (ps ++ [k]) (nx tp 1 (nx tp 1 t)) h9 (by omega) R9 (D8.scm R8 f9) (fun i => (R8.tysame f9 i).trans (hb7 i)) (fun h' ps' va t' e x1 x2 x3 x4 x5 x6 => q1 h' ps' va t' (eq0.trans e) x1 x2 x3 (by omega) x5 x6) (fun h' w p e => q2 h' w p (eq0.trans e))
        · refine q2 h9 1 _ ?_ (R8.fx f9) e9
          cases f with
          | zero => omega
          | succ f => rw [eq0, rdPars, if_pos (by omega)]
    · rw [kk7] at z
      rw [if_pos z] at eq0
      refine b_Host_readParameters_95 ⟨a17, Or.inr rfl, ?_⟩
      intro h8
      have F8 : Fr LDr (PDr ho) 0 0 h7 h8 := Fr.wI (by decide) (Or.inl (by simp [LDr])) Fr.r0
      have R8 := R7.dr F8
      have D8 := var 1 (Or.inr rfl) h8 F8 rfl
      have dv : hI h8 f_Host_draftVariable ho = 1 := D8.2.1
      refine ⟨a17, fun y => by rw [dv] at y; exact absurd y (by decide), fun _ => ⟨k17, c_nxf R8.2.1 (fun h9 f9 n9 b9 K9 => ?_) (fun h9 f9 n9 b9 e9 => ⟨kF R8.2.1 f9, q2 h9 1 _ (by rw [eq0, if_neg (by omega)]) (R8.fx f9) e9⟩)⟩⟩
      have R9 := R8.nxt f9 n9 K9
      have D9 := D8.scm R8 f9
      have le9 := nxT_le R8.2.1 n9
      obtain ⟨a19, k19, -, -⟩ := R9.hc
      refine b_Host_readParameters_109 ⟨a19, fun y => b_Host_readParameters_130 ⟨fun _ => b_Host_readParameters_22 ⟨fun _ => ⟨k19, c_dem K9 (fun e => ?_) (fun ne h' x y => ⟨kF K9 x, ?_⟩)⟩, fun z => absurd rfl z⟩, fun z => absurd rfl z⟩, fun y => by rw [D9.2.1] at y; exact absurd y (by decide)⟩
      · exact q1 h9 (ps ++ [k]) 1 (nx tp 1 (nx tp 1 t)) (by rw [eq0, if_pos e]) R9 D9 (Or.inr rfl) (by omega) e (fun i => (R8.tysame f9 i).trans (hb7 i))
      · exact q2 h' 1 (nx tp 1 (nx tp 1 t)).1 (by rw [eq0, if_neg ne]) (R9.fx x) y
theorem c_par0 {B : Nat → Nat} (df : difN g n) (hnr : ∀ i, i < n → g.2 0 i ∉ plainW) (hd : 10 ≤ d) (H : RC ρ h0 h C ho tp g n m ws t) (hb : ∀ i, hB h (ho + 2) i = B i)
    (q1 : ∀ h' ps' va t', rdPar0 tp g n t = Sum.inr (ps', va, t') → RC ρ h0 h' C ho tp g n m ws t' → DR h' ho ps' va → (va = 0 ∨ va = 1) → t.1 ≤ t'.1 → t'.2.1 = 41 → (∀ i, hB h' (ho + 2) i = B i) → G h')
    (q2 : ∀ h' w p, rdPar0 tp g n t = Sum.inl (w, p) → FQ tp h0 h' ho → hI h' f_Fault_told (C + 2) = w + 16 * (p : Int) → E (C + 2) h') : wpB PGm ρ (d + 4) m_Host_readParameters 0 [(0, vR ho), (1, vR (C + 3))] [] h (cV G E) := by
  obtain ⟨a1, k1, lho, hi⟩ := H.hc
  refine b_Host_readParameters_0 ⟨a1, ?_⟩
  intro h1 h4
  have F4 : Fr LDr (PDr ho) 0 0 h h4 := Fr.wI (by decide) (Or.inl (by simp [LDr])) (Fr.wI (by decide) (Or.inl (by simp [LDr])) Fr.r0)
  have R4 := H.dr F4
  have D4 : DR h4 ho [] 0 := ⟨by show hI (sI (sI h f_Host_drafted ho 0) f_Host_draftVariable ho 0) f_Host_drafted ho = 0; rw [g_hI_sI, if_neg (fun c => absurd c.1 (by decide))]; exact I_I _ _ _ _, I_I _ _ _ _, by simp, fun i hi => by simp at hi⟩
  have kk := R4.2.1.2.2.2.1.1
  refine ⟨R4.hc.2.1, fun z => ?_, fun z => ?_⟩
  · rw [kk] at z
    have e : rdPar0 tp g n t = rdPars tp g n (tp.length + 1) [] t := by rw [rdPar0, if_neg z]
    exact c_pars df hnr hd _ [] t h4 (by omega) R4 D4 hb (fun h' ps va t' x => q1 h' ps va t' (e.trans x)) (fun h' w p x => q2 h' w p (e.trans x))
  · rw [kk] at z
    exact q1 h4 [] 0 t (by rw [rdPar0, if_pos z]) R4 D4 (Or.inl rfl) (Nat.le_refl _) z hb
end
