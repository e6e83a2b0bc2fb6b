/-! C: a class; all classes -/
set_option maxRecDepth 20000
def gOK (g : HG) (n m : Nat) : Prop := fOK g n m ∧ difN g n ∧ ∀ i, i < n → g.2 0 i ∉ plainW
def PT (ho : Nat) : List (Nat × Nat) := [(f_Host_types + 1, ho)]
section
variable {ρ : Nat → Nat} {d : Nat} {h h' h0 : ah} {F : Int → ah → Prop} {FR : Nat → ah → Prop} {G : ah → Prop} {E : Nat → ah → Prop} {Q : QT} {C ho a : Nat} {tp : List Int} {t t' : TKN} {g : HG} {n m c : Nat} {ws : List (List Int)} {so st ty va iF : Int} {ps nm : List Int}
theorem RC.addT (H : RC ρ h0 h C ho tp g n m ws t) (TY : TYO h ho g ws n a) (hn60 : n < 60) (hfo : fOK g n m) (hf0 : (g.1 3 n).toNat + (g.1 4 n).toNat ≤ m) (h' : ah) (e : h' = ladd h (ho + 2) a) : RCp ρ h0 h' C ho tp g (n + 1) m ws t ∧ hB h' (ho + 2) n = a := by
  obtain ⟨⟨by_, fr, sz, nx0, H1⟩, K, S, Hr, fx, h6, h6', hwi, hz1, hs1⟩ := H
  obtain ⟨b0, b1, b2, b3, b4, b5, b6, b7⟩ := id H1
  have hi := b0.2.2.1
  have lt2 : ho + 2 < hz h := b0.2.2.2.2.2.2.1.2.2
  have lt3 : ho + 3 < hz h := b0.2.2.2.2.2.2.2.1.2.2
  have k2 : hK h (ho + 2) = 190 := b0.2.2.2.2.2.2.1.1.1
  have FF : Fr [] (PT ho) 1 130 h h' := by
    rw [e]
    exact (FX.ofadd (x := a) (Fr.r0 (h := h)) (f := f_Host_types) (o := ho) (by simp [PT]) (own_of rfl) b0.2.1 b0.2.2.2.1 (by rw [k2]; decide)).le (by omega) (by rw [b1]; omega)
  have nP : ∀ y, (0, y) ∉ PT ho := nP0 rfl
  have B' : ∀ y i, y < hz h → hB h' y i = if y = ho + 2 ∧ i = n then a else hB h y i := fun y i hy => by rw [e, B_ladd lt2 hy, b1]
  have L' : ∀ y, y < hz h → hl h' y = if y = ho + 2 then n + 1 else hl h y := fun y hy => by rw [e, l_ladd lt2 hy, b1]
  have t2 : ∀ k, k < n → hB h' (ho + 2) k = hB h (ho + 2) k := fun k hk => by rw [B' _ _ lt2, if_neg (by omega)]
  have tn : hB h' (ho + 2) n = a := by rw [B' _ _ lt2, if_pos ⟨rfl, rfl⟩]
  have t3 : ∀ k, hB h' (ho + 3) k = hB h (ho + 3) k := fun k => by rw [B' _ _ lt3, if_neg (by omega)]
  have W' := b7.frm FF (fun f hm => nokAll (L := []) (P := PT ho) (fs := [f_Words_most, f_Words_mostBytes, f_Words_many, f_Words_used, f_Words_bytes, f_Words_from, f_Words_size, f_Words_next, f_Words_heads]) rfl f hm _) ⟨nP _, nP _, nP _, nP _, nP _⟩
  have zz := HZ_frm b7 W' FF
  refine ⟨⟨⟨by_, fr, sz, nx0, b0.frm FF (fun f hm c => by
      simp only [fhos, List.mem_cons, List.not_mem_nil, or_false] at hm
      rcases hm with e | e | e | e | e | e | e <;> subst e <;> exact nokW rfl rfl c) (nP _), by rw [L' _ lt2, if_pos rfl], by rw [L' _ lt3, if_neg (by omega)]; exact b2, by omega, b4, fun i hi2 => ?_, fun j hj => ?_, W'⟩, K.fr FF (fun x f hm => nokAll (L := []) (P := PT ho) rfl f hm x) nP, S.frm ⟨_, _, FF⟩ nP Hr, fun i hi2 => ?_, fx.into ⟨_, _, FF⟩ (fun f c => by cases c) (fun q hq => Or.inl (by simp [PT] at hq; subst hq; simp [PH])), h6, h6', hwi.mono K.2.2.2.2.2.2.1, by omega, by omega⟩, tn⟩
  · by_cases ci : i = n
    · subst ci
      rw [tn]
      exact TY.frm hi FF (fun f hm => nokAll (L := []) (P := PT ho) rfl f hm _) nP (fun k hk => t2 k hk) (fun k _ => t3 _)
    · rw [t2 i (by omega)]
      exact (b5 i (by omega)).frm hi FF (fun f hm => nokAll (L := []) (P := PT ho) rfl f hm _) nP (fun k hk => t2 k (by omega)) (fun k _ => t3 _)
  · rw [t3]
    obtain ⟨x0, x1, x2, x3, x4, x5, ⟨x6, x7, x8⟩, x9⟩ := (b6 j hj).frm FF (fun f hm c => nokAll (L := []) (P := PT ho) rfl f hm _ (Or.inl c)) nP (fun k hk => t2 k hk)
    exact ⟨x0, x1, x2, x3, x4, ⟨x5.1, by omega⟩, ⟨x6, by omega, x8⟩, x9⟩
  · obtain ⟨r1, r2, r3⟩ := Hr i hi2
    exact ⟨FF.lt r1, r2, r3.fr r1 r2 FF⟩
theorem RCp.tyn (H : RCp ρ h0 h C ho tp g n m ws t) (TY : TYO h ho g ws n a) (hf : Fr SCM [] 0 0 h h') : TYO h' ho g ws n a := by
  obtain ⟨⟨by_, fr, sz, nx, H1⟩, -⟩ := H
  have hi2 := H1.1.2.2.1
  have s1 := hf.ar hi2 (own_of (f := f_Host_types) rfl) H1.1.2.1 H1.1.2.2.2.1 (by omega) (nok rfl rfl rfl rfl) (fun c => by cases c)
  have s2 := hf.ar hi2 (own_of (f := f_Host_members) rfl) H1.1.2.1 H1.1.2.2.2.2.1 (by omega) (nok rfl rfl rfl rfl) (fun c => by cases c)
  exact TY.frm hi2 hf (fun f hm => nokAll rfl f hm _) (fun y c => by cases c) (fun k _ => s1.2.2 k) (fun k _ => s2.2.2 _)
theorem c_cls (H : RC ρ h0 h C ho tp g n m ws t) (ok : gOK g n m) (hif : iF = 0 ∨ iF = 1) (hd : 10 ≤ d) (hw2 : 2 * ws.length ≤ t.1)
    (q1 : ∀ h' g' m' t' ws', rdCls tp g n m iF t = Sum.inr (g', m', t') → RC ρ h0 h' C ho tp g' (n + 1) m' ws' t' → gOK g' (n + 1) m' → t.1 < t'.1 → G h')
    (q2 : ∀ h' w p, (rdCls tp g n m iF t = Sum.inl (w, p) ∨ ∃ r t', rdCls tp g n m iF t = Sum.inr (r, t') ∧ t'.2.2.1 = -1 ∧ w = 1 ∧ p = t'.2.1) → FQ tp h0 h' ho → hI h' f_Fault_told (C + 2) = w + 16 * (p : Int) → E (C + 2) h') :
    wpB PGm ρ (d + 6) m_Host_readType 0 [(0, vR ho), (1, vR (C + 3)), (2, vI iF)] [] h (cV G E) := by
  obtain ⟨fo, df, hnr⟩ := ok
  obtain ⟨a1, k1, lho, hi⟩ := H.hc
  obtain ⟨⟨by_, fr, sz, nx0, H1⟩, K, S, Hr, fx, h6, h6', hwi, hz1, hs1⟩ := id H
  refine b_Host_readType_0 ⟨a1, c_newName H1 K S (by omega) (by omega) hwi.1 hw2 (fun e1 nr h3 ws' by3 fr3 sz3 nx3 v H3 K3 F3 z3 s3 N3 w1 w2 mono => ?_) (fun ne h' x y => ⟨kF K x, q2 h' 1 _ (Or.inl (by rw [rdCls, if_pos ne])) (H.fx x) y⟩) (fun e1 r h' x y => ⟨kF K x, q2 h' 2 _ (Or.inl (by rw [rdCls, if_neg (by rw [e1]; simp), if_pos (Or.inl r)])) (H.fx x) y⟩)⟩
  obtain ⟨r1, r2, r3⟩ := K3.args
  have fx3 : FX LH (PH ho) h0 h3 := fx.into F3 (fun f c => by cases c) (fun q hq => Or.inl (by unfold PH; exact List.mem_append_left _ hq))
  have fxS : ∀ {h'}, Fr SCM [] 0 0 h3 h' → FQ tp h0 h' ho := fun hf => FQ.mk' fx3 H3.2.2.2.2.2.2.2 (by have := K.2.2.2.2.2.2.1; have := K.2.2.2.2.2.2.2.1; omega) (by have := K.2.2.2.2.2.2.1; have := K.2.2.2.2.2.2.2.1; omega) hf
  refine ⟨K3.1.1.1, H3.1.1, ?_⟩
  rw [r1, r3, r2]
  refine c_hfind H3 K3 (by omega) (fun i hi e => ⟨fun z => absurd z (H3.ty hi).2, fun _ => ⟨K3.1.1.1, c_fl K3 (by omega) (fun h' x y => ⟨kF K3 x, q2 h' 2 _ (Or.inl (by rw [rdCls, if_neg (by rw [e1]; simp), if_pos (Or.inr ⟨i, hi, e⟩)])) (fxS x) y⟩)⟩⟩) (fun no => ⟨fun _ => ?_, fun z => absurd rfl z⟩)
  have eq0 : rdCls tp g n m iF t = if n = 60 then Sum.inl (5, t.1) else
    match (if (nx tp 1 t).2.1 = 58 then rdSups tp n (tp.length + 1) (gCls g n m (tkB tp t) iF) (nx tp 1 t) else Sum.inr (gCls g n m (tkB tp t) iF, nx tp 1 t)) with
    | Sum.inl e => Sum.inl e
    | Sum.inr (g1, t1) => if ¬ t1.2.1 = 123 then Sum.inl (1, t1.1) else rdTail tp (n + 1) n (tp.length + 1) g1 m (nx tp 1 t1) := by
    rw [rdCls, if_neg (by rw [e1]; simp), if_neg (fun x => x.elim nr (fun ⟨i, hi, e⟩ => no i hi e))]
    rfl
  refine b_Host_readType_35 (by omega) ⟨H3.1.1, by rw [H3.1.2.2.2.1]; exact H3.1.2.2.2.2.2.2.1.1.1, by rw [H3.1.2.2.2.1]; exact H3.1.2.2.2.2.2.2.1.1, fun z => ?_, fun z => ⟨K3.1.1.1, c_fl K3 (by omega) (fun h' x y => ⟨kF K3 x, q2 h' 5 _ (Or.inl (by rw [eq0, if_pos (by rw [H3.1.2.2.2.1, H3.2.1] at z; omega)])) (fxS x) y⟩)⟩⟩
  rw [H3.1.2.2.2.1, H3.2.1] at z
  have hn60 : n < 60 := by have := H3.2.2.2.1; omega
  rw [if_neg (by omega)] at eq0
  have lho3 := H3.1.2.1
  have lt2 : ho + 2 < hz h3 := H3.1.2.2.2.2.2.2.1.2.2
  have lt3 : ho + 3 < hz h3 := H3.1.2.2.2.2.2.2.2.1.2.2
  refine b_Host_readType_52 (by omega) ?_
  intro h1
  have K1' : ∀ y, y < hz h3 → hK h1 y = hK h3 y := fun y hy => if_neg (by omega)
  have R1' : ∀ f, hR h1 f ho = hR h3 f ho := fun f => if_neg (by omega)
  have I1' : ∀ f y, y < hz h3 → hI h1 f y = hI h3 f y := fun f y hy => if_neg (by omega)
  have L1' : ∀ y, y < hz h3 → hl h1 y = hl h3 y := fun y hy => if_neg (by omega)
  rw [R1', R1', H3.1.2.2.2.1, H3.1.2.2.2.2.1, L1' _ lt2, L1' _ lt3, H3.2.1, H3.2.2.1]
  refine ⟨by rw [K1' _ lho3]; exact H3.1.1, by rw [K1' _ lt2]; exact H3.1.2.2.2.2.2.2.1.1.1, ⟨by rw [K1' _ lt2]; exact H3.1.2.2.2.2.2.2.1.1.1, by rw [I1' _ _ lt2]; exact H3.1.2.2.2.2.2.2.1.1.2⟩, by rw [K1' _ lt3]; exact H3.1.2.2.2.2.2.2.2.1.1.1, ⟨by rw [K1' _ lt3]; exact H3.1.2.2.2.2.2.2.2.1.1.1, by rw [I1' _ _ lt3]; exact H3.1.2.2.2.2.2.2.2.1.1.2⟩, c_tinit H3 N3 hn60 hif (by omega) (fun h4 F4 TY4 => ?_)⟩
  have nN : nHC [] [] ho := ⟨⟨nokAll rfl, fun f hm c => by rcases c with c | c <;> cases c⟩, (fun y c => by cases c), fun f hm => nokAll (L := []) (P := []) (fs := [f_Words_most, f_Words_mostBytes, f_Words_many, f_Words_used, f_Words_bytes, f_Words_from, f_Words_size, f_Words_next, f_Words_heads]) rfl f hm _⟩
  have HC4 := H3.frm F4 nN
  have K4 : CK h4 C tp 1 t := K3.fr F4 (fun x f hm => nokAll (L := []) (P := []) rfl f hm x) (fun y c => by cases c)
  have zz4 := HZ_frm H3.2.2.2.2.2.2.2 HC4.2.2.2.2.2.2.2 F4
  have S3 : SHO ρ h3 := S.frm F3 (nP0 rfl) Hr
  have Hr3 : ∀ i, i ≤ 12 → ρ i < hz h3 ∧ ρ i ≠ 0 ∧ UNO h3 (ρ i) := fun i hi => by
    obtain ⟨z, s, F3'⟩ := F3
    obtain ⟨r1, r2, r3⟩ := Hr i hi
    exact ⟨F3'.lt r1, r2, r3.fr r1 r2 F3'⟩
  have RP4 : RCp ρ h0 h4 C ho tp (gCls g n m (tkB tp t) iF) n m ws' t := by
    refine ⟨⟨by3, fr3, sz3, nx3, HC4.cls⟩, K4, S3.frm ⟨_, _, F4⟩ (fun y c => by cases c) Hr3, fun i hi => ?_, fx3.into ⟨_, _, F4⟩ (fun f c => by cases c) (fun q c => by cases c), h6, h6', ⟨w1, w2⟩, by omega, by omega⟩
    obtain ⟨r1, r2, r3⟩ := Hr3 i hi
    exact ⟨F4.lt r1, r2, r3.fr r1 r2 F4⟩
  have pos := tkB_len K e1
  have ha : hz h0 ≤ hz h3 := by obtain ⟨z, s, ff⟩ := fx3; exact ff.1.1
  have bad5 : (nx tp 1 t).2.1 = -1 → rdCls tp g n m iF t = Sum.inl (1, (nx tp 1 t).1) := fun b5 => by rw [eq0, if_neg (by rw [b5]; decide)]; simp only; rw [if_pos (by rw [b5]; decide)]
  refine ⟨K4.1.1.1, c_nxf K4 (fun h5 f5 n5 b5 K5 => ?_) (fun h5 f5 n5 b5 e5 => ⟨kF K4 f5, q2 h5 1 _ (Or.inl (bad5 b5)) (RP4.fx f5) e5⟩)⟩
  have R5 := RP4.nxt f5 n5 (by omega) K5
  have TY5 := RP4.tyn TY4 f5
  have kk5 := K5.2.2.2.1.1
  have le5 := nxT_le K4 n5
  obtain ⟨g1c, g2c, g3c, g4c, g10c, l0c, l1c, goc⟩ := gCls_n (g := g) (n := n) (m := m) (nm := tkB tp t) (iF := iF)
  have k3 : ∀ i, i < n → (gCls g n m (tkB tp t) iF).1 3 i = g.1 3 i := fun i hi => gCls_o ⟨by omega, by omega⟩
  have k4 : ∀ i, i < n → (gCls g n m (tkB tp t) iF).1 4 i = g.1 4 i := fun i hi => gCls_o ⟨by omega, by omega⟩
  have kn : ∀ i, i < n → (gCls g n m (tkB tp t) iF).2 0 i = g.2 0 i := fun i hi => gCls_2 (by omega)
  -- the rest, from the list of classes on
  have rest : ∀ h8 gX t8, RC ρ h0 h8 C ho tp gX n m ws' t8 → TYO h8 ho gX ws' n (hz h3) → kept (gCls g n m (tkB tp t) iF) gX n → t.1 < t8.1 → rdCls tp g n m iF t = (if ¬ t8.2.1 = 123 then Sum.inl (1, t8.1) else rdTail tp (n + 1) n (tp.length + 1) gX m (nx tp 1 t8)) → wpB PGm ρ (d + 6) m_Host_readType 97 [(0, vR ho), (1, vR (C + 3)), (4, vR (hz h3))] [] h8 (cV G E) := by
    intro h8 gX t8 R8 TY8 kp lt8 eq8
    obtain ⟨a18, k18, lho8, hi8⟩ := R8.hc
    obtain ⟨⟨by8, fr8, sz8, nx8, H8⟩, -⟩ := id R8
    have x3 : ∀ i, gX.1 3 i = (gCls g n m (tkB tp t) iF).1 3 i := fun i => kp.1 3 i (by omega) (by omega)
    have x4 : ∀ i, gX.1 4 i = (gCls g n m (tkB tp t) iF).1 4 i := fun i => kp.1 4 i (by omega) (by omega)
    have xn : ∀ i, gX.2 0 i = (gCls g n m (tkB tp t) iF).2 0 i := fun i => kp.2 0 i (by omega)
    have fo8 : fOK gX n m := fun i hi => by rw [x3, x4, k3 i hi, k4 i hi]; exact fo i hi
    have f08 : (gX.1 3 n).toNat + (gX.1 4 n).toNat ≤ m := by rw [x3, x4, g3c, g4c]; simp
    have mk : mOK gX (n + 1) n m := by
      refine ⟨fun i hi => ?_, by omega, by rw [x3, x4, g3c, g4c]; simp, fun i j hi hj e => ?_, fun i hi => ?_, ?_, fun i hi ne => ?_⟩
      · by_cases c : i = n
        · rw [c, x3, x4, g3c, g4c]; omega
        · exact fo8 i (by omega)
      · rw [xn, xn] at e
        by_cases ci : i = n
        · by_cases cj : j = n
          · omega
          · rw [ci, l0c, kn j (by omega)] at e
            exact absurd e.symm (no j (by omega))
        · by_cases cj : j = n
          · rw [cj, l0c, kn i (by omega)] at e
            exact absurd e (no i (by omega))
          · rw [kn i (by omega), kn j (by omega)] at e
            exact df i j (by omega) (by omega) e
      · rw [xn]
        by_cases c : i = n
        · rw [c, l0c]; exact fun x => nr (Or.inl x)
        · rw [kn i (by omega)]; exact hnr i (by omega)
      · rw [kp.1 10 n (by omega) (by omega)]; exact g10c
      · have := fo i (by omega)
        rw [x3, x4, x3, g3c, k3 i (by omega), k4 i (by omega)]; exact this.2.2
    refine b_Host_readType_97 (by omega) ⟨a18, by rw [H8.1.2.2.2.1]; exact H8.1.2.2.2.2.2.2.1.1.1, by rw [H8.1.2.2.2.1]; exact ⟨H8.1.2.2.2.2.2.2.1.1, by rw [H8.2.1]; omega, Or.inr (by rw [TY8.1.1]; decide)⟩, ?_⟩
    rw [H8.1.2.2.2.1]
    intro h9
    obtain ⟨RP9, hBn⟩ := R8.addT TY8 hn60 fo8 f08 h9 rfl
    refine ⟨RP9.2.1.1.1.1, c_tk RP9.2.1 (fun h10 t10 e123 f10 n10 K10 => ?_) (fun ne h10 f10 e10 => ⟨kF RP9.2.1 f10, q2 h10 1 _ (Or.inl (by rw [eq8, if_pos ne])) (RP9.fx f10) e10⟩) (fun h10 t10 e123 f10 n10 b10 e10 => ⟨kF RP9.2.1 f10, ?_⟩)⟩
    · rw [if_neg (by rw [e123]; simp)] at eq8
      have pos8 := tkE_pos RP9.2.1.2.2.2.2.1 (by rw [e123]; decide) (by rw [e123]; decide)
      have R10 := (RP9.nxt f10 n10 pos8 K10).tr (nx_same n10) (nx_of n10).2
      have hB10 : hB h10 (ho + 2) n = hz h3 := (RP9.tysame f10 n).trans hBn
      have le10 := nxT_le RP9.2.1 n10
      have e10 := (nx_same n10).1
      rw [← hB10]
      refine c_tail hd (tp.length + 1) gX m ws' (nx tp 1 t8) h10 (by omega) R10 mk (by rw [hB10]; exact ha) (fun h' g' m' t' ws'' e R ⟨g2, y1, y2, y3⟩ lt => q1 h' g' m' t' ws'' (eq8.trans e) R ?_ (by omega)) (fun h' w p e => q2 h' w p (by rw [eq8]; exact e))
      obtain ⟨z1, z2, z3, z4, z5, -⟩ := y2
      refine ⟨fun i hi => ?_, fun i j hi hj e => ?_, fun i hi => ?_⟩
      · rw [y1, gSet_1 (by decide), gSet_1 (by decide)]; exact z1 i hi
      · rw [y1] at e; exact z4 i j hi hj e
      · rw [y1]; exact z5 i hi
    · rw [if_neg (by rw [e123]; simp)] at eq8
      have sm := nx_same n10
      refine q2 h10 1 t10.1 (Or.inl ?_) (RP9.fx f10) e10
      have kb : (nx tp 1 t8).2.1 = -1 := by rw [← sm.2.1]; exact b10
      rw [eq8, rdTail, rdMems, if_neg (by rw [kb]; decide), rdMem, if_pos (by rw [kb]; decide), ← sm.1]
  refine ⟨K5.1.1.1, fun z => ?_, fun z => ⟨R5.hc.1, b_Host_readSupers_0 ?_⟩⟩
  · rw [kk5] at z
    rw [if_neg z] at eq0
    exact rest h5 _ _ R5 TY5 ⟨fun _ _ _ _ => rfl, fun _ _ _ => rfl⟩ (by omega) eq0
  · rw [kk5] at z
    rw [if_pos z] at eq0
    have pos5 := tkE_pos K5.2.2.2.2.1 (by rw [z]; decide) (by rw [z]; decide)
    refine c_sups (d := d + 1) (tp.length + 1) _ _ h5 (by omega) R5 TY5 g10c (by rw [g3c, g4c]; simp) ⟨by rw [l1c]; exact List.nodup_nil, fun x hx => by rw [l1c] at hx; cases hx⟩ (fun i j hi hj e => df i j hi hj (by rw [kn i hi, kn j hj] at e; exact e)) (fun i hi => by rw [kn i hi]; exact hnr i hi) pos5 ha (by omega) (by omega) (fun h8 g8 t8 e8 R8 TY8 ok8 kp8 lt8 => ?_) (fun h8 w p e8 fx8 told => ⟨H.ke fx8, q2 h8 w p (Or.inl (by rw [eq0, e8])) fx8 told⟩)
    rw [e8] at eq0
    exact rest h8 g8 t8 R8 TY8 kp8 (by omega) eq0
end
